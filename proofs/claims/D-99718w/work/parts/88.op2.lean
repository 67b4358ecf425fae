/-! PURE 15: more calls that only look -/
set_option maxRecDepth 100000
theorem zMk_ext {p : Nat → Bool} {n m : Nat} (hnm : n ≤ m) (h : ∀ i, n ≤ i → i < m → p i = false) : zMk p m = zMk p n := by
  apply Nat.eq_of_testBit_eq
  intro i
  rw [zMk_tb, zMk_tb]
  by_cases h1 : i < n
  · simp [h1, show i < m by omega]
  · by_cases h2 : i < m
    · simp [h1, h2, h i (by omega) h2]
    · simp [h1, h2]
theorem zCt_mk (p : Nat → Bool) (n : Nat) : zCt (zMk p n).testBit n = zCt p n := zCt_eq (fun i hi => by rw [zMk_tb, decide_eq_true hi, Bool.true_and])
theorem zbk : ∀ m, m < 64 → m ≠ 0 → (m &&& (m - 1)) < m ∧ zCt (m &&& (m - 1)).testBit 6 + 1 = zCt m.testBit 6 := by decide +kernel
theorem zd_bits {N : Nat} {H : jH} : ∀ (m n d : Nat), m < 64 → m < n → (fX1_bits_4 N n (nI d) (nI m)).1 H = some (nI (d + zCt m.testBit 6), H) := by
  intro m
  induction m using Nat.strongRecOn with
  | ind m ih =>
    intro n d hm hn
    cases n with
    | zero => omega
    | succ n =>
      rw [fX1_bits_4]
      by_cases hz : m = 0
      · subst hz
        rw [if_pos (show nI 0 = 0 from rfl)]
        rfl
      · obtain ⟨h1, h2⟩ := zbk m hm hz
        rw [if_neg (nI_ne0 (by omega) (by omega)), zc1_da, zc1_sb (by omega), zand, ih _ h1 n (d + 1) (by omega) (by omega), ← h2]
        rw [show d + 1 + zCt (m &&& (m - 1)).testBit 6 = d + (zCt (m &&& (m - 1)).testBit 6 + 1) by omega]
theorem zd_bitsR {N : Nat} {H : jH} {m : Nat} (hm : m < 64) : ∀ (j n i : Nat), i + j = 6 → j < n → (fX7_bits_4 N n (nI m) (nI (zCt m.testBit i)) (nI i)).1 H = some (nI (zCt m.testBit 6), H)
  | 0, n + 1, i, hi, hn => by
    have e : i = 6 := by omega
    subst e
    rw [fX7_bits_4, if_pos (by decide)]
    rfl
  | j + 1, n + 1, i, hi, hn => by
    rw [fX7_bits_4, if_neg (fun q => by have := (zc6_le (by omega)).mp q; omega), zbit (by omega) (by omega), nI_add, zc1_da]
    exact zd_bitsR hm j n (i + 1) (by omega) (by omega)
theorem zix_nI {c n : Nat} (h : c < n) (hn : n < 2 ^ 31) : zix (nI c) n = some c := by
  unfold zix
  rw [if_neg, nI_clamp (by omega)]
  rintro (h1 | h1)
  · exact nI_pos (by omega) h1
  · exact nI_ge h hn h1
theorem zix_no {w : Int32} {n : Nat} (hn : n < 2 ^ 31) (h : zix w n = none) {c : Nat} (hc : c < n) : ¬ w = nI c := by
  intro e
  rw [e, zix_nI hc hn] at h
  cases h
/-- a line reads something, or such a text -/
def zRp (y r : Option Nat) : Bool := match r with
  | none => false
  | some u => match y with
    | none => true
    | some t => decide (u = t)
def zMa (B : zLB) (S : zMS) (t : Nat) (d : Int32) : Nat → Nat
  | 0 => 0
  | s + 1 => zMa B S t d s + zCt (fun l => decide (zRd B S s l d = some t)) 6
theorem zRp_n (y : Option Nat) : zRp y none = false := rfl
theorem zRp_s (u : Nat) : zRp none (some u) = true := rfl
theorem zRp_t (t : Nat) (r : Option Nat) : zRp (some t) r = decide (r = some t) := by
  cases r with
  | none => rfl
  | some u => simp [zRp]
section
variable {N a : Nat} {B : zLB} {S : zMS} {k : zKA}
theorem zC_bits (hN : 3000 ≤ N) {m : Nat} (hm : m < 64) : zCO N k B S (fX1_bits N (nI m)) (nI (zCt m.testBit 6)) := zCO.of fun h X f R hX => by
  have := zd_bits (N := N) (H := cH h k (X, f, R)) m N 0 hm (by omega)
  rw [Nat.zero_add] at this
  exact this
theorem zR_bits (hN : 3000 ≤ N) {m : Nat} (hm : m < 64) : zRO N a B S (fX7_bits N (nI m)) (nI (zCt m.testBit 6)) := zRO.of fun h F L A M _ hX => zd_bitsR hm 6 N 0 rfl (by omega)
theorem zR_readIn5 (hB : zLok B) (hS : zSok B S) {s : Nat} (hs : s < zS B) (y : Option Nat) (hy : ∀ t, y = some t → t < 2 ^ 31) : ∀ (j n l : Nat), l + j = zLi B s → j < n → zRO N a B S (fX7_readIn_5 N a n (nI s) (zo y) (nI (zMk (fun l => zRp y (zRd B S s l (nI (zDp B (zWk S))))) l)) (nI l)) (nI (zMk (fun l => zRp y (zRd B S s l (nI (zDp B (zWk S))))) (zLi B s)))
  | 0, n + 1, l, hl, hn => by
    have h6 := (hB.2.2.2.1 s hs).1.2
    have e : l = zLi B s := by omega
    rw [fX7_readIn_5]
    refine zRO.bind zR_o13 (zRO.bind (zR_Li hs) (zRO.ifp (nI_le (by omega) (by omega)) ?_))
    rw [e]
    exact zRO.ret _
  | j + 1, n + 1, l, hl, hn => by
    have h6 := (hB.2.2.2.1 s hs).1.2
    have hs3 := hB.1
    have hT := hB.2.1
    have hw := hS.1
    have ih := zR_readIn5 hB hS hs y hy j n (l + 1) (by omega) (by omega)
    rw [fX7_readIn_5]
    refine zRO.bind zR_o13 (zRO.bind (zR_Li hs) (zRO.ifn (nI_ge (by omega) (by omega)) (zRO.bind zR_o48 (zRO.bind zR_wk (zRO.bind (zR_damp (by omega)) (zRO.bind (zR_read (by omega) (by omega) _) ?_))))))
    rw [zMk_s] at ih
    unfold fX7_readIn_58 fX7_readIn_51 fX7_readIn_59
    rw [zshl (by omega), zor, zc1_da, show (0 : Int32) = nI 0 from rfl, zor, Nat.or_zero]
    have hr31 : ∀ u, zRd B S s l (nI (zDp B (zWk S))) = some u → u < 2 ^ 31 := fun u hu => by
      have := zRd_lt hS (show s < 3 by omega) (show l < 6 by omega) hu
      omega
    cases hr : zRd B S s l (nI (zDp B (zWk S))) with
    | none =>
      rw [hr, zRp_n, if_neg (by decide)] at ih
      exact zRO.ifp (by decide) ih
    | some u =>
      refine zRO.ifn (nI_pos (hr31 u hr)) ?_
      cases y with
      | none =>
        rw [hr, zRp_s, if_pos rfl] at ih
        exact zRO.ifp (by decide) ih
      | some t =>
        refine zRO.ifn (nI_pos (hy t rfl)) ?_
        rw [hr, zRp_t] at ih
        by_cases e : u = t
        · rw [if_pos (decide_eq_true (congrArg some e))] at ih
          exact zRO.ifp (congrArg nI e) ih
        · rw [if_neg (fun q => e (Option.some.inj (of_decide_eq_true q)))] at ih
          exact zRO.ifn (fun q => e ((nI_eq (hr31 u hr) (hy t rfl)).mp q)) ih
theorem zR_readIn {s : Nat} (hs : s < zS B) (y : Option Nat) (hy : ∀ t, y = some t → t < 2 ^ 31) : zRO N a B S (fX7_readIn N a (nI s) (zo y)) (nI (zMk (fun l => zRp y (zRd B S s l (nI (zDp B (zWk S))))) 6)) := by
  refine zRO.have_ fun hN hB hS => ?_
  have h6 := (hB.2.2.2.1 s hs).1.2
  have hs3 := hB.1
  rw [zMk_ext (n := zLi B s) h6 (fun i h1 h2 => by rw [zRd_out hS (by omega) h2 (Or.inr h1)]; rfl)]
  exact zR_readIn5 hB hS hs y hy (zLi B s) N 0 (by omega) (by omega)
theorem zR_made4 (hB : zLok B) (hS : zSok B S) (hN : 3000 ≤ N) {t : Nat} (ht : t < zT B) : ∀ (j n s : Nat), s + j = zS B → j < n → zRO N a B S (fX7_madeOf_4 N a n (nI t) (nI (zMa B S t (nI (zDp B (zWk S))) s)) (nI s)) (nI (zMa B S t (nI (zDp B (zWk S))) (zS B)))
  | 0, n + 1, s, hs, hn => by
    have hs3 := hB.1
    have e : s = zS B := by omega
    rw [fX7_madeOf_4]
    refine zRO.bind zR_o10 (zRO.bind zR_S (zRO.ifp (nI_le (by omega) (by omega)) ?_))
    rw [e]
    exact zRO.ret _
  | j + 1, n + 1, s, hs, hn => by
    have hs3 := hB.1
    have hT := hB.2.1
    rw [fX7_madeOf_4]
    refine zRO.bind zR_o10 (zRO.bind zR_S (zRO.ifn (nI_ge (by omega) (by omega)) (zRO.bind (zR_readIn (show s < zS B by omega) (some t) (fun u hu => by cases hu; omega)) (zRO.bind (zR_bits hN (zMk_lt _ 6)) ?_))))
    rw [zCt_mk, zc1_da, nI_add]
    have ih := zR_made4 hB hS hN ht j n (s + 1) (by omega) (by omega)
    rw [zMa] at ih
    simp only [zRp_t]
    exact ih
theorem zR_made {t : Nat} (ht : t < zT B) : zRO N a B S (fX7_madeOf N a (nI t)) (nI (zMa B S t (nI (zDp B (zWk S))) (zS B))) := by
  refine zRO.have_ fun hN hB hS => ?_
  have hs3 := hB.1
  exact zR_made4 hB hS hN ht (zS B) N 0 (by omega) (by omega)
theorem zC_readIn4 (hB : zLok B) (hS : zSok B S) {s : Nat} (hs : s < zS B) : ∀ (j n l : Nat), l + j = 6 → j < n → zCO N k B S (fX1_readIn_4 N (k.1 0) n (nI s) (nI (zMk (fun l => zRp none (zRd B S s l (nI (zDp B (zWk S))))) l)) (nI l)) (nI (zMk (fun l => zRp none (zRd B S s l (nI (zDp B (zWk S))))) 6))
  | 0, n + 1, l, hl, hn => by
    have e : l = 6 := by omega
    subst e
    rw [fX1_readIn_4]
    exact zCO.ifp (by decide) (zCO.ret _)
  | j + 1, n + 1, l, hl, hn => by
    have hs3 := hB.1
    have hT := hB.2.1
    have ih := zC_readIn4 hB hS hs j n (l + 1) (by omega) (by omega)
    rw [fX1_readIn_4]
    refine zCO.ifn (fun q => by have := (zc6_le (by omega)).mp q; omega) (zCO.bind zC_w1 (zCO.bind zC_w1 (zCO.bind (zC_r2 true) (zCO.bind zC_damp (zCO.bind (zC_r2 true) (zCO.bind (zC_read hs (by omega) _) ?_))))))
    rw [zMk_s] at ih
    unfold fX1_readIn_36
    rw [zshl (by omega), zor, zc1_da]
    have hr31 : ∀ u, zRd B S s l (nI (zDp B (zWk S))) = some u → u < 2 ^ 31 := fun u hu => by
      have := zRd_lt hS (show s < 3 by omega) (show l < 6 by omega) hu
      omega
    cases hr : zRd B S s l (nI (zDp B (zWk S))) with
    | none =>
      rw [hr, zRp_n, if_neg (by decide)] at ih
      exact zCO.ifp rfl ih
    | some u =>
      rw [hr, zRp_s, if_pos rfl] at ih
      exact zCO.ifn (zneg1 (hr31 u hr)) ih
theorem zC_made17 (hB : zLok B) (hS : zSok B S) {t s : Nat} (ht : t < zT B) (hs : s < zS B) (d : Int32) (k5 : Int32 → Int32 → Int32 → Int32 → jM Int32) (v : Int32) (c0 : Nat) (hk : zCO N k B S (k5 (nI t) d (nI (c0 + zCt (fun l => decide (zRd B S s l d = some t)) 6)) (nI (s + 1))) v) : ∀ (j n l : Nat), l + j = 6 → j < n → zCO N k B S (fX1_made_2_17 N k5 (k.1 0) n (nI t) d (nI (c0 + zCt (fun l => decide (zRd B S s l d = some t)) l)) (nI s) (nI l)) v
  | 0, n + 1, l, hl, hn => by
    have e : l = 6 := by omega
    subst e
    rw [fX1_made_2_17]
    unfold fX1_made_2_49
    rw [zc1_da]
    exact zCO.ifp (by decide) hk
  | j + 1, n + 1, l, hl, hn => by
    have hs3 := hB.1
    have hT := hB.2.1
    have ih := zC_made17 hB hS ht hs d k5 v c0 hk j n (l + 1) (by omega) (by omega)
    rw [fX1_made_2_17]
    refine zCO.ifn (fun q => by have := (zc6_le (by omega)).mp q; omega) (zCO.bind zC_w1 (zCO.bind (zC_r2 true) (zCO.bind (zC_read hs (by omega) _) ?_)))
    rw [zCt, ← Nat.add_assoc] at ih
    unfold fX1_made_2_43
    rw [zc1_da, zc1_da]
    have hr31 : ∀ u, zRd B S s l d = some u → u < 2 ^ 31 := fun u hu => by
      have := zRd_lt hS (show s < 3 by omega) (show l < 6 by omega) hu
      omega
    by_cases hr : zRd B S s l d = some t
    · rw [if_pos (decide_eq_true hr)] at ih
      exact zCO.ifp ((zo_nI hr31 (by omega)).mpr hr) ih
    · rw [if_neg (fun q => hr (of_decide_eq_true q))] at ih
      exact zCO.ifn (fun q => hr ((zo_nI hr31 (by omega)).mp q)) ih
theorem zC_made5 (hB : zLok B) (hS : zSok B S) (hN : 3000 ≤ N) {t : Nat} (ht : t < zT B) (d : Int32) : ∀ (j n s : Nat), s + j = zS B → j < n → zCO N k B S (fX1_made_2_5 N (k.1 0) n (nI t) d (nI (zMa B S t d s)) (nI s)) (nI (zMa B S t d (zS B)))
  | 0, n + 1, s, hs, hn => by
    have hs3 := hB.1
    have e : s = zS B := by omega
    rw [fX1_made_2_5]
    refine zCO.bind zC_skins (zCO.ifp (nI_le (by omega) (by omega)) ?_)
    rw [e]
    exact zCO.ret _
  | j + 1, n + 1, s, hs, hn => by
    have hs3 := hB.1
    rw [fX1_made_2_5]
    refine zCO.bind zC_skins (zCO.ifn (nI_ge (by omega) (by omega)) ?_)
    exact zC_made17 hB hS ht (show s < zS B by omega) d _ _ (zMa B S t d s) (zC_made5 hB hS hN ht d j n (s + 1) (by omega) (by omega)) 6 N 0 rfl (by omega)
theorem zC_made {t : Nat} (ht : t < zT B) (d : Int32) : zCO N k B S (fX1_made_2 N (k.1 0) (nI t) d) (nI (zMa B S t d (zS B))) := by
  refine zCO.have_ fun hN hB hS => ?_
  have hs3 := hB.1
  exact zC_made5 hB hS hN ht d (zS B) N 0 (by omega) (by omega)
/-! skin -/
def zO_skin (B : zLB) (S : zMS) (x w : Int32) : Int32 := match zix x (zS B) with
  | none => -1
  | some s => match zix w 5 with
    | none => -1
    | some j => if j = 0 then nI (zLi B s) else if j = 1 then nI (zTh S s) else if j = 2 then nI (zHo B s) else if j = 3 then nI (zOp S s) else nI (zMk (fun l => zRp none (zRd B S s l (nI (zDp B (zWk S))))) 6)
theorem z5 {j : Nat} (h : j < 5) : j = 0 ∨ j = 1 ∨ j = 2 ∨ j = 3 ∨ j = 4 := by omega
theorem zR_op_skin (x w : Int32) : zRW N a B S (fX7_skin N a x w) (zO_skin B S x w) := by
  refine zRW.have_ fun hN hB hS => ?_
  have hs3 := hB.1
  unfold zO_skin
  refine zRW.thr (zRO.bind (zR_isSkin x) ?_)
  rcases zix_cases x (n := zS B) (by omega) with ⟨h3, -⟩ | ⟨s, h3, h4, rfl⟩
  · rw [h3]; exact zRO.ifp rfl (zRO.ret _)
  · rw [h4]
    refine zRO.ifn zb1n (zRO.bind (zR_within _ _ _) ?_)
    rw [show (4 : Int32) = nI 4 from rfl, zix_in w (by decide)]
    rcases zix_cases w (n := 5) (by decide) with ⟨h5, -⟩ | ⟨j, h5, h6, rfl⟩
    · rw [h5]; exact zRO.ifp rfl (zRO.ret _)
    · rw [h6]
      refine zRO.ifn zb1n ?_
      rcases z5 h5 with rfl | rfl | rfl | rfl | rfl
      · exact zRO.ifn (by decide) (zRO.ifp (by decide) (zRO.bind zR_o13 (zRO.bind (zR_Li h3) (zRO.ret _))))
      · exact zRO.ifn (by decide) (zRO.ifn (by decide) (zRO.bind zR_o48 (zRO.bind (zR_th (by omega)) (zRO.ret _))))
      · exact zRO.ifp (by decide) (zRO.ifp (by decide) (zRO.bind zR_o15 (zRO.bind (zR_Ho h3) (zRO.ret _))))
      · exact zRO.ifp (by decide) (zRO.ifn (by decide) (zRO.ifp (by decide) (zRO.bind zR_o48 (zRO.bind (zR_op (by omega)) (zRO.ret _)))))
      · exact zRO.ifp (by decide) (zRO.ifn (by decide) (zRO.ifn (by decide) (zRO.bind (zR_readIn h3 none (fun t h => by cases h)) (zRO.ret _))))
theorem zC_op_skin (x w : Int32) : zCO N k B S (fX1_skin N (k.1 0) x w) (zO_skin B S x w) := by
  refine zCO.have_ fun hN hB hS => ?_
  have hs3 := hB.1
  unfold zO_skin
  refine zCO.bind (zC_isSkin x) ?_
  rcases zix_cases x (n := zS B) (by omega) with ⟨h3, -⟩ | ⟨s, h3, h4, rfl⟩
  · rw [h3]; exact zCO.ifp rfl (zCO.ret _)
  · rw [h4]
    refine zCO.ifn zb1n ?_
    rcases zix_cases w (n := 5) (by decide) with ⟨h5, -⟩ | ⟨j, h5, h6, rfl⟩
    · have hno := fun c hc => zix_no (n := 5) (by decide) h5 (c := c) hc
      rw [h5]
      exact zCO.ifn (hno 0 (by decide)) (zCO.ifn (hno 1 (by decide)) (zCO.ifn (hno 2 (by decide)) (zCO.ifn (hno 3 (by decide)) (zCO.ifn (hno 4 (by decide)) (zCO.ret _)))))
    · rw [h6]
      rcases z5 h5 with rfl | rfl | rfl | rfl | rfl
      · exact zCO.ifp (by decide) (zCO.bind zC_w1 (zCO.bind (zC_r2 true) (zCO.bind (zC_skin h3) (zCO.bind (zC_g12_0 h3) (zCO.ret _)))))
      · exact zCO.ifn (by decide) (zCO.ifp (by decide) (zCO.bind zC_w1 (zCO.bind (zC_s3 true) (zCO.bind (zC_th h3) (zCO.ret _)))))
      · exact zCO.ifn (by decide) (zCO.ifn (by decide) (zCO.ifp (by decide) (zCO.bind zC_w1 (zCO.bind (zC_r2 true) (zCO.bind (zC_skin h3) (zCO.bind (zC_g12_2 h3) (zCO.ret _)))))))
      · exact zCO.ifn (by decide) (zCO.ifn (by decide) (zCO.ifn (by decide) (zCO.ifp (by decide) (zCO.bind zC_w1 (zCO.bind (zC_r2 true) (zCO.bind (zC_open (by omega)) (zCO.ret _)))))))
      · exact zCO.ifn (by decide) (zCO.ifn (by decide) (zCO.ifn (by decide) (zCO.ifn (by decide) (zCO.ifp (by decide) (zCO.bind (zC_readIn4 hB hS h3 6 N 0 rfl (by omega)) (zCO.ret _))))))
/-! text -/
def zO_text (B : zLB) (S : zMS) (x w : Int32) : Int32 := match zix x (zT B) with
  | none => -2
  | some t => match zix w 5 with
    | none => -2
    | some j => if j = 0 then nI (zKi B t) else if j = 1 then nI (zGa B t) else if j = 2 then nI (zLo B t) else if j = 3 then zb (zWh B S t (nI (zDp B (zWk S)))) else nI (zMa B S t (nI (zDp B (zWk S))) (zS B))
theorem zR_op_text (x w : Int32) : zRW N a B S (fX7_text N a x w) (zO_text B S x w) := by
  refine zRW.have_ fun hN hB hS => ?_
  have hT := hB.2.1
  unfold zO_text
  refine zRW.thr (zRO.bind (zR_isText x) ?_)
  rcases zix_cases x (n := zT B) (by omega) with ⟨h3, -⟩ | ⟨t, h3, h4, rfl⟩
  · rw [h3]; exact zRO.ifp rfl (zRO.ret _)
  · rw [h4]
    refine zRO.ifn zb1n (zRO.bind (zR_within _ _ _) ?_)
    rw [show (4 : Int32) = nI 4 from rfl, zix_in w (by decide)]
    rcases zix_cases w (n := 5) (by decide) with ⟨h5, -⟩ | ⟨j, h5, h6, rfl⟩
    · rw [h5]; exact zRO.ifp rfl (zRO.ret _)
    · rw [h6]
      refine zRO.ifn zb1n ?_
      rcases z5 h5 with rfl | rfl | rfl | rfl | rfl
      · exact zRO.ifn (by decide) (zRO.ifp (by decide) (zRO.bind zR_o16 (zRO.bind (zR_Ki h3) (zRO.ret _))))
      · exact zRO.ifn (by decide) (zRO.ifn (by decide) (zRO.ifp (by decide) (zRO.bind zR_o17 (zRO.bind (zR_Ga h3) (zRO.ret _)))))
      · exact zRO.ifn (by decide) (zRO.ifn (by decide) (zRO.ifn (by decide) (zRO.bind zR_o18 (zRO.bind (zR_Lo h3) (zRO.ret _)))))
      · refine zRO.ifp (by decide) (zRO.ifp (by decide) (zRO.bind zR_wholeNow ?_))
        have hlt := zWl_lt hB S (nI (zDp B (zWk S)))
        rw [zbit (by omega) (by omega), zWl_tb h3, ← zb_nI]
        exact zRO.ret _
      · exact zRO.ifp (by decide) (zRO.ifn (by decide) (zRO.bind (zR_made h3) (zRO.ret _)))
theorem zC_op_text (x w : Int32) : zCO N k B S (fX1_text N (k.1 0) x w) (zO_text B S x w) := by
  refine zCO.have_ fun hN hB hS => ?_
  have hT := hB.2.1
  unfold zO_text
  refine zCO.bind (zC_isText x) ?_
  rcases zix_cases x (n := zT B) (by omega) with ⟨h3, -⟩ | ⟨t, h3, h4, rfl⟩
  · rw [h3]; exact zCO.ifp rfl (zCO.ret _)
  · rw [h4]
    refine zCO.ifn zb1n (zCO.bind zC_w1 (zCO.bind (zC_r2 true) (zCO.bind (zC_text h3) ?_)))
    rcases zix_cases w (n := 5) (by decide) with ⟨h5, -⟩ | ⟨j, h5, h6, rfl⟩
    · have hno := fun c hc => zix_no (n := 5) (by decide) h5 (c := c) hc
      rw [h5]
      exact zCO.ifn (hno 0 (by decide)) (zCO.ifn (hno 1 (by decide)) (zCO.ifn (hno 2 (by decide)) (zCO.ifn (hno 3 (by decide)) (zCO.ifn (hno 4 (by decide)) (zCO.ret _)))))
    · rw [h6]
      rcases z5 h5 with rfl | rfl | rfl | rfl | rfl
      · exact zCO.ifp (by decide) (zCO.bind (zCO.nn _) (zCO.bind (zC_kind h3) (zCO.ret _)))
      · refine zCO.ifn (by decide) (zCO.ifp (by decide) (zCO.bind (zC_g13_0 h3) ?_))
        have hg := (hB.2.2.2.2.1 t h3).2.1
        have : zGa B t = 0 ∨ zGa B t = 1 := by omega
        show zCO N k B S _ (nI (zGa B t))
        rcases this with e | e
        · rw [e]; exact zCO.ifp (by decide) (zCO.ret _)
        · rw [e]; exact zCO.ifn (by decide) (zCO.ret _)
      · exact zCO.ifn (by decide) (zCO.ifn (by decide) (zCO.ifp (by decide) (zCO.bind (zC_g13_1 h3) (zCO.ret _))))
      · refine zCO.ifn (by decide) (zCO.ifn (by decide) (zCO.ifn (by decide) (zCO.ifp (by decide) (zCO.bind zC_w1 (zCO.bind zC_w1 (zCO.bind (zC_r2 true) (zCO.bind zC_damp (zCO.bind (zC_r2 true) (zCO.bind (zC_isWhole h3 _) ?_)))))))))
        show zCO N k B S _ (zb (zWh B S t (nI (zDp B (zWk S)))))
        cases zWh B S t (nI (zDp B (zWk S))) with
        | true => exact zCO.ifn zb1n (zCO.ret _)
        | false => exact zCO.ifp rfl (zCO.ret _)
      · exact zCO.ifn (by decide) (zCO.ifn (by decide) (zCO.ifn (by decide) (zCO.ifn (by decide) (zCO.ifp (by decide) (zCO.bind zC_w1 (zCO.bind (zC_r2 true) (zCO.bind zC_damp (zCO.bind (zC_made h3 _) (zCO.ret _)))))))))
end
