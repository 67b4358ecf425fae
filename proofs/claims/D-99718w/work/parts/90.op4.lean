/-! PURE 17: lost, chance, sums -/
set_option maxRecDepth 100000
def zLa (S : zMS) (t : Nat) : Bool := zAny (fun q => decide (t ∈ zPl S q)) 18
def zLs (B : zLB) (S : zMS) (t : Nat) : Bool := zLa S t && zAl (fun d => decide (zMa B S t (nI d) (zS B) = 0)) 10 0
def zOrL : List Nat → Nat → Nat
  | [], m => m
  | u :: r, m => zOrL r (m ||| 2 ^ u)
theorem zOrL_tb (x : Nat) : ∀ (r : List Nat) (m : Nat), (zOrL r m).testBit x = true ↔ m.testBit x = true ∨ x ∈ r
  | [], m => by simp [zOrL]
  | u :: r, m => by
    rw [zOrL, zOrL_tb x r, Nat.testBit_or, Bool.or_eq_true, Nat.testBit_two_pow, decide_eq_true_eq, List.mem_cons, or_assoc]
    constructor
    · rintro (h | h | h)
      · exact Or.inl h
      · exact Or.inr (Or.inl h.symm)
      · exact Or.inr (Or.inr h)
    · rintro (h | h | h)
      · exact Or.inl h
      · exact Or.inr (Or.inl h.symm)
      · exact Or.inr (Or.inr h)
theorem zOrL_lt : ∀ (r : List Nat) (m : Nat), m < 64 → (∀ u ∈ r, u < 6) → zOrL r m < 64
  | [], _, h, _ => h
  | u :: r, m, h, hr => zOrL_lt r _ (Nat.or_lt_two_pow (n := 6) h (Nat.pow_lt_pow_right (a := 2) (by decide) (hr u List.mem_cons_self))) (fun x hx => hr x (List.mem_cons_of_mem _ hx))
def zFd (B : zLB) (S : zMS) (s l : Nat) : Nat → Nat → Nat → Nat
  | 0, _, m => m
  | j + 1, d, m => zFd B S s l j (d + 1) (match zRd B S s l (nI d) with
    | none => m
    | some t => m ||| 2 ^ t)
theorem zFd_tb (B : zLB) (S : zMS) (s l x : Nat) : ∀ (j d m : Nat), (zFd B S s l j d m).testBit x = true ↔ m.testBit x = true ∨ ∃ e, d ≤ e ∧ e < d + j ∧ zRd B S s l (nI e) = some x
  | 0, d, m => by
    constructor
    · exact Or.inl
    · rintro (h | ⟨e, h1, h2, _⟩)
      · exact h
      · omega
  | j + 1, d, m => by
    rw [zFd, zFd_tb B S s l x j (d + 1)]
    have key : (match zRd B S s l (nI d) with
      | none => m
      | some t => m ||| 2 ^ t).testBit x = true ↔ m.testBit x = true ∨ zRd B S s l (nI d) = some x := by
      cases zRd B S s l (nI d) with
      | none => simp
      | some t =>
        show (m ||| 2 ^ t).testBit x = true ↔ _
        rw [Nat.testBit_or, Bool.or_eq_true, Nat.testBit_two_pow, decide_eq_true_eq, Option.some.injEq]
    rw [key]
    constructor
    · rintro ((h | h) | ⟨e, h1, h2, h3⟩)
      · exact Or.inl h
      · exact Or.inr ⟨d, by omega, by omega, h⟩
      · exact Or.inr ⟨e, by omega, by omega, h3⟩
    · rintro (h | ⟨e, h1, h2, h3⟩)
      · exact Or.inl (Or.inl h)
      · by_cases q : e = d
        · subst q; exact Or.inl (Or.inr h3)
        · exact Or.inr ⟨e, by omega, by omega, h3⟩
theorem zFd_lt {B : zLB} {S : zMS} {s l : Nat} (h6 : ∀ d t, zRd B S s l d = some t → t < 6) : ∀ (j d m : Nat), m < 64 → zFd B S s l j d m < 64
  | 0, _, _, h => h
  | j + 1, d, m, h => by
    rw [zFd]
    refine zFd_lt h6 j (d + 1) _ ?_
    cases hr : zRd B S s l (nI d) with
    | none => exact h
    | some t => exact Nat.or_lt_two_pow (n := 6) h (Nat.pow_lt_pow_right (a := 2) (by decide) (h6 _ t hr))
def zTl (S : zMS) (s : Nat) : Nat → Nat → Nat → Nat
  | 0, _, m => m
  | j + 1, l, m => zTl S s j (l + 1) (zOrL (zPl S (6 * s + l)) m)
def zFl (B : zLB) (S : zMS) (s : Nat) : Nat → Nat → Nat → Nat
  | 0, _, m => m
  | j + 1, l, m => zFl B S s j (l + 1) (zFd B S s l 10 0 m)
def zTS (B : zLB) (S : zMS) : Nat → Nat → Nat → Nat
  | 0, _, m => m
  | j + 1, s, m => zTS B S j (s + 1) (zTl S s (zLi B s) 0 m)
def zFS (B : zLB) (S : zMS) : Nat → Nat → Nat → Nat
  | 0, _, m => m
  | j + 1, s, m => zFS B S j (s + 1) (zFl B S s (zLi B s) 0 m)
theorem zTl_tb (S : zMS) (s x : Nat) : ∀ (j l m : Nat), (zTl S s j l m).testBit x = true ↔ m.testBit x = true ∨ ∃ e, l ≤ e ∧ e < l + j ∧ x ∈ zPl S (6 * s + e)
  | 0, l, m => by
    constructor
    · exact Or.inl
    · rintro (h | ⟨e, h1, h2, _⟩)
      · exact h
      · omega
  | j + 1, l, m => by
    rw [zTl, zTl_tb S s x j (l + 1), zOrL_tb]
    constructor
    · rintro ((h | h) | ⟨e, h1, h2, h3⟩)
      · exact Or.inl h
      · exact Or.inr ⟨l, by omega, by omega, h⟩
      · exact Or.inr ⟨e, by omega, by omega, h3⟩
    · rintro (h | ⟨e, h1, h2, h3⟩)
      · exact Or.inl (Or.inl h)
      · by_cases q : e = l
        · subst q; exact Or.inl (Or.inr h3)
        · exact Or.inr ⟨e, by omega, by omega, h3⟩
theorem zFl_tb (B : zLB) (S : zMS) (s x : Nat) : ∀ (j l m : Nat), (zFl B S s j l m).testBit x = true ↔ m.testBit x = true ∨ ∃ e, l ≤ e ∧ e < l + j ∧ ∃ d, d < 10 ∧ zRd B S s e (nI d) = some x
  | 0, l, m => by
    constructor
    · exact Or.inl
    · rintro (h | ⟨e, h1, h2, _⟩)
      · exact h
      · omega
  | j + 1, l, m => by
    rw [zFl, zFl_tb B S s x j (l + 1), zFd_tb]
    constructor
    · rintro ((h | ⟨d, h1, h2, h3⟩) | ⟨e, h1, h2, h3⟩)
      · exact Or.inl h
      · exact Or.inr ⟨l, by omega, by omega, d, by omega, h3⟩
      · exact Or.inr ⟨e, by omega, by omega, h3⟩
    · rintro (h | ⟨e, h1, h2, d, h3, h4⟩)
      · exact Or.inl (Or.inl h)
      · by_cases q : e = l
        · subst q; exact Or.inl (Or.inr ⟨d, by omega, by omega, h4⟩)
        · exact Or.inr ⟨e, by omega, by omega, d, h3, h4⟩
theorem zTS_tb (B : zLB) (S : zMS) (x : Nat) : ∀ (j s m : Nat), (zTS B S j s m).testBit x = true ↔ m.testBit x = true ∨ ∃ r, s ≤ r ∧ r < s + j ∧ ∃ e, e < zLi B r ∧ x ∈ zPl S (6 * r + e)
  | 0, l, m => by
    constructor
    · exact Or.inl
    · rintro (h | ⟨e, h1, h2, _⟩)
      · exact h
      · omega
  | j + 1, s, m => by
    rw [zTS, zTS_tb B S x j (s + 1), zTl_tb]
    constructor
    · rintro ((h | ⟨e, h1, h2, h3⟩) | ⟨r, h1, h2, h3⟩)
      · exact Or.inl h
      · exact Or.inr ⟨s, by omega, by omega, e, by omega, h3⟩
      · exact Or.inr ⟨r, by omega, by omega, h3⟩
    · rintro (h | ⟨r, h1, h2, e, h3, h4⟩)
      · exact Or.inl (Or.inl h)
      · by_cases q : r = s
        · subst q; exact Or.inl (Or.inr ⟨e, by omega, by omega, h4⟩)
        · exact Or.inr ⟨r, by omega, by omega, e, h3, h4⟩
theorem zFS_tb (B : zLB) (S : zMS) (x : Nat) : ∀ (j s m : Nat), (zFS B S j s m).testBit x = true ↔ m.testBit x = true ∨ ∃ r, s ≤ r ∧ r < s + j ∧ ∃ e, e < zLi B r ∧ ∃ d, d < 10 ∧ zRd B S r e (nI d) = some x
  | 0, l, m => by
    constructor
    · exact Or.inl
    · rintro (h | ⟨e, h1, h2, _⟩)
      · exact h
      · omega
  | j + 1, s, m => by
    rw [zFS, zFS_tb B S x j (s + 1), zFl_tb]
    constructor
    · rintro ((h | ⟨e, h1, h2, h3⟩) | ⟨r, h1, h2, h3⟩)
      · exact Or.inl h
      · exact Or.inr ⟨s, by omega, by omega, e, by omega, h3⟩
      · exact Or.inr ⟨r, by omega, by omega, h3⟩
    · rintro (h | ⟨r, h1, h2, e, h3, h4⟩)
      · exact Or.inl (Or.inl h)
      · by_cases q : r = s
        · subst q; exact Or.inl (Or.inr ⟨e, by omega, by omega, h4⟩)
        · exact Or.inr ⟨r, by omega, by omega, e, h3, h4⟩
theorem zCt_0 {p : Nat → Bool} : ∀ {n : Nat}, zCt p n = 0 ↔ ∀ i, i < n → p i = false
  | 0 => ⟨fun _ i h => by omega, fun _ => rfl⟩
  | n + 1 => by
    rw [zCt]
    constructor
    · intro h i hi
      by_cases e : i = n
      · subst e
        rw [Bool.eq_false_iff]
        intro hp
        rw [if_pos hp] at h
        omega
      · exact zCt_0.mp (show zCt p n = 0 by omega) i (by omega)
    · intro h
      rw [zCt_0.mpr (fun i hi => h i (by omega)), h n (by omega)]
      rfl
theorem zMa_0 {B : zLB} {S : zMS} {t : Nat} {d : Int32} : ∀ {n : Nat}, zMa B S t d n = 0 ↔ ∀ s, s < n → ∀ l, l < 6 → ¬ zRd B S s l d = some t
  | 0 => ⟨fun _ i h => by omega, fun _ => rfl⟩
  | n + 1 => by
    rw [zMa]
    constructor
    · intro h i hi
      by_cases e : i = n
      · subst e
        intro l hl
        exact of_decide_eq_false (zCt_0.mp (show zCt (fun l => decide (zRd B S i l d = some t)) 6 = 0 by omega) l hl)
      · exact zMa_0.mp (show zMa B S t d n = 0 by omega) i (by omega)
    · intro h
      rw [zMa_0.mpr (fun i hi => h i (by omega)), zCt_0.mpr (fun l hl => decide_eq_false (h n (by omega) l hl))]
theorem zLost_eq {B : zLB} {S : zMS} (hB : zLok B) (hS : zSok B S) : zan (zTS B S (zS B) 0 0) (zFS B S (zS B) 0 0) = zMk (zLs B S) (zT B) := by
  have hs3 := hB.1
  apply Nat.eq_of_testBit_eq
  intro x
  rw [zan_tb, zMk_tb, Bool.eq_iff_iff, Bool.and_eq_true, Bool.not_eq_true', Bool.and_eq_true, decide_eq_true_eq, Bool.eq_false_iff, Ne, zTS_tb, zFS_tb]
  unfold zLs zLa
  rw [Bool.and_eq_true, zAny_t, zAl_t]
  constructor
  · rintro ⟨h0 | ⟨r, h1, h2, e, h3, h4⟩, h5⟩
    · simp at h0
    · have he := (hB.2.2.2.1 r (by omega)).1.2
      refine ⟨(hS.2.2.1 r e (by omega) (by omega)).2 x h4, ⟨6 * r + e, by omega, decide_eq_true h4⟩, fun q _ hq => decide_eq_true (zMa_0.mpr (fun s hs l hl hr => h5 (Or.inr ⟨s, by omega, by omega, l, ?_, q, by omega, hr⟩)))⟩
      rcases Nat.lt_or_ge l (zLi B s) with h | h
      · exact h
      · rw [zRd_out hS (by omega) hl (Or.inr h)] at hr; cases hr
  · rintro ⟨hx, ⟨q, hq, hm⟩, ha⟩
    have hm := of_decide_eq_true hm
    have e1 : 6 * (q / 6) + q % 6 = q := by omega
    have hin : ¬ (zS B ≤ q / 6 ∨ zLi B (q / 6) ≤ q % 6) := by
      intro h
      have := hS.2.2.2.2.1 (q / 6) (q % 6) (by omega) (by omega) h
      rw [e1] at this
      rw [this] at hm
      cases hm
    refine ⟨Or.inr ⟨q / 6, by omega, by omega, q % 6, by omega, by rw [e1]; exact hm⟩, ?_⟩
    rintro (h | ⟨r, h1, h2, e, h3, d, h4, h5⟩)
    · simp at h
    · have he := (hB.2.2.2.1 r (by omega)).1.2
      exact zMa_0.mp (of_decide_eq_true (ha d (by omega) (by omega))) r (by omega) e (by omega) h5
section
variable {N a : Nat} {B : zLB} {S : zMS} {k : zKA}
theorem zR_lost82 (hB : zLok B) (hS : zSok B S) {s l th : Nat} (hs : s < 3) (hl : l < 6) (k24 : Int32 → Int32 → Int32 → Int32 → jM Int32) (v : Int32) : ∀ (j n d fo : Nat), d + j = 10 → j < n → zRO N a B S (k24 (nI th) (nI (zFd B S s l j d fo)) (nI s) (nI (l + 1))) v → zRO N a B S (fX7_lost_82 N k24 a n (nI th) (nI fo) (nI s) (nI l) (nI d)) v
  | 0, n + 1, d, fo, hd, hn, hk => by
    rw [fX7_lost_82]
    unfold fX7_lost_122
    rw [zc1_da]
    exact zRO.ifp ((zc10_le (by omega)).mpr (by omega)) hk
  | j + 1, n + 1, d, fo, hd, hn, hk => by
    have hT := hB.2.1
    rw [fX7_lost_82]
    refine zRO.ifn (fun qq => by have := (zc10_le (by omega)).mp qq; omega) (zRO.bind (zR_read hs hl _) ?_)
    unfold fX7_lost_114
    rw [zc1_da, show (0 : Int32) = nI 0 from rfl, zor, Nat.or_zero]
    rw [zFd] at hk
    cases hr : zRd B S s l (nI d) with
    | none =>
      rw [hr] at hk
      exact zRO.ifn (by decide) (zR_lost82 hB hS hs hl k24 v j n (d + 1) fo (by omega) (by omega) hk)
    | some t =>
      have ht := zRd_lt hS hs hl hr
      rw [hr] at hk
      refine zRO.ifp (show nI 0 ≤ nI t from nI_le (by omega) (by omega)) ?_
      rw [show zo (some t) = nI t from rfl, zshl (by omega), zor]
      exact zR_lost82 hB hS hs hl k24 v j n (d + 1) _ (by omega) (by omega) hk
theorem zR_lost52 {s l fo : Nat} (k24 : Int32 → Int32 → Int32 → Int32 → jM Int32) (v : Int32) : ∀ (r : List Nat) (n th : Nat), (∀ u ∈ r, u < 6) → r.length ≤ 9 → r.length < n → zRO N a B S (fX7_lost_82 N k24 a N (nI (zOrL r th)) (nI fo) (nI s) (nI l) 0) v → zRO N a B S (fX7_lost_52 N k24 a n (nI th) (nI fo) (nI s) (nI l) (nI (z7 r))) v
  | [], n + 1, th, h6, hl, hn, hk => by
    rw [fX7_lost_52]
    exact zRO.ifp (by decide) hk
  | u :: r, n + 1, th, h6, hl, hn, hk => by
    have hu := h6 u List.mem_cons_self
    have hp : z7 (u :: r) < 2 ^ 31 := Nat.lt_trans (z7_big h6 hl) (by decide)
    simp only [List.length_cons] at hl hn
    rw [fX7_lost_52, z7_m hu hp, z7_d hu hp, zshl (by omega), zor]
    exact zRO.ifn (z7_p hp) (zRO.bind (zRO.nz (by decide)) (zRO.bind (zRO.nz (by decide)) (zR_lost52 k24 v r n _ (fun x hx => h6 x (List.mem_cons_of_mem _ hx)) (by omega) (by omega) hk)))
theorem zR_lost24 (hB : zLok B) (hS : zSok B S) (hN : 3000 ≤ N) {s : Nat} (hs : s < zS B) (k11 : Int32 → Int32 → Int32 → jM Int32) (v : Int32) : ∀ (j n l th fo : Nat), l + j = zLi B s → j < n → zRO N a B S (k11 (nI (zTl S s j l th)) (nI (zFl B S s j l fo)) (nI (s + 1))) v → zRO N a B S (fX7_lost_24 N k11 a n (nI th) (nI fo) (nI s) (nI l)) v
  | 0, n + 1, l, th, fo, hl, hn, hk => by
    have h6 := (hB.2.2.2.1 s hs).1.2
    rw [fX7_lost_24]
    unfold fX7_lost_128
    rw [zc1_da]
    exact zRO.bind zR_o13 (zRO.bind (zR_Li hs) (zRO.ifp (nI_le (by omega) (by omega)) hk))
  | j + 1, n + 1, l, th, fo, hl, hn, hk => by
    have h6 := (hB.2.2.2.1 s hs).1.2
    have hs3 := hB.1
    have p1 := zPl_ok hB hS (q := 6 * s + l) (by omega)
    rw [fX7_lost_24]
    refine zRO.bind zR_o13 (zRO.bind (zR_Li hs) (zRO.ifn (nI_ge (by omega) (by omega)) (zRO.bind zR_o48 (zRO.bind (zR_pl (by omega) (by omega)) ?_))))
    refine zR_lost52 _ _ _ N _ p1.2.2.1 p1.1 (by omega) ?_
    refine zR_lost82 hB hS (by omega) (by omega) _ _ 10 N 0 _ rfl (by omega) ?_
    exact zR_lost24 hB hS hN hs k11 v j n (l + 1) _ _ (by omega) (by omega) hk
theorem zR_lost11 (hB : zLok B) (hS : zSok B S) (hN : 3000 ≤ N) : ∀ (j n s th fo : Nat), s + j = zS B → j < n → zRO N a B S (fX7_lost_11 N a n (nI th) (nI fo) (nI s)) (nI (zan (zTS B S j s th) (zFS B S j s fo)))
  | 0, n + 1, s, th, fo, hs, hn => by
    have hs3 := hB.1
    rw [fX7_lost_11]
    unfold fX7_lost_134
    rw [zandn]
    exact zRO.bind zR_o10 (zRO.bind zR_S (zRO.ifp (nI_le (by omega) (by omega)) (zRO.ret _)))
  | j + 1, n + 1, s, th, fo, hs, hn => by
    have hs3 := hB.1
    have h6 := (hB.2.2.2.1 s (by omega)).1.2
    rw [fX7_lost_11]
    refine zRO.bind zR_o10 (zRO.bind zR_S (zRO.ifn (nI_ge (by omega) (by omega)) ?_))
    exact zR_lost24 hB hS hN (show s < zS B by omega) _ _ (zLi B s) N 0 _ _ (by omega) (by omega) (zR_lost11 hB hS hN j n (s + 1) _ _ (by omega) (by omega))
theorem zR_op_lost : zRW N a B S (fX7_lost N a) (nI (zMk (zLs B S) (zT B))) := by
  refine zRW.have_ fun hN hB hS => ?_
  have hs3 := hB.1
  rw [← zLost_eq hB hS]
  exact zRW.thr (zR_lost11 hB hS hN (zS B) N 0 0 0 (by omega) (by omega))
theorem zC_isL10 (hB : zLok B) (hS : zSok B S) {t q : Nat} (ht : t < 6) (hq : q < 18) (k2 : Int32 → Int32 → jM Int32) (v : Int32) (hv : t ∈ zPl S q → v = 1) (hk : ¬ t ∈ zPl S q → zCO N k B S (k2 (nI t) (nI (q + 1))) v) : ∀ (l s : List Nat) (n : Nat), zPl S q = l.reverse ++ s → ¬ t ∈ s → l.length < n → zCO N k B S (fX1_isLayer_10 N k2 (k.1 0) n (nI t) (nI q) (nI s.length)) v
  | [], s, n + 1, hp, hs, hn => by
    have p1 := zPl_ok hB hS hq
    have hlen : (zPl S q).length = s.length := by rw [hp]; simp
    rw [fX1_isLayer_10]
    refine zCO.bind zC_w1 (zCO.bind (zC_s5 true) (zCO.bind (zC_many hq) (zCO.ifp (nI_le (by omega) (by omega)) ?_)))
    unfold fX1_isLayer_44
    rw [zc1_da]
    exact hk (by rw [hp]; simpa using hs)
  | u :: l, s, n + 1, hp, hs, hn => by
    have p1 := zPl_ok hB hS hq
    have hp' : zPl S q = l.reverse ++ u :: s := by rw [hp]; simp
    have hlen : (zPl S q).length = l.length + (s.length + 1) := by rw [hp']; simp
    have hu := p1.2.2.1 u (by rw [hp']; simp)
    rw [fX1_isLayer_10]
    refine zCO.bind zC_w1 (zCO.bind (zC_s5 true) (zCO.bind (zC_many hq) (zCO.ifn (nI_ge (by omega) (by omega)) (zCO.bind zC_w1 (zCO.bind (zC_r2 true) (zCO.bind (zC_layerq hq hp') ?_))))))
    by_cases e : u = t
    · rw [hv (by rw [hp', e]; simp)]
      exact zCO.ifp (congrArg nI e) zCO.rn1
    · refine zCO.ifn (fun qq => e ((nI_eq (by omega) (by omega)).mp qq)) ?_
      rw [zc1_da]
      exact zC_isL10 hB hS ht hq k2 v hv hk l (u :: s) n hp' (by
        intro h
        rcases List.mem_cons.mp h with h | h
        · exact e h.symm
        · exact hs h) (by simp only [List.length_cons] at hn; omega)
theorem zC_isL2 (hB : zLok B) (hS : zSok B S) (hN : 3000 ≤ N) {t : Nat} (ht : t < 6) : ∀ (j n q : Nat), q + j = 18 → j < n → (∀ i, i < q → ¬ t ∈ zPl S i) → zCO N k B S (fX1_isLayer_2 N (k.1 0) n (nI t) (nI q)) (zb (zLa S t))
  | 0, n + 1, q, hq, hn, hno => by
    have e : zLa S t = false := zAny_f.mpr (fun i hi => decide_eq_false (hno i (by omega)))
    rw [fX1_isLayer_2, e]
    exact zCO.ifp ((zc18_le (by omega)).mpr (by omega)) zCO.rn0
  | j + 1, n + 1, q, hq, hn, hno => by
    have p1 := zPl_ok hB hS (q := q) (by omega)
    rw [fX1_isLayer_2]
    refine zCO.ifn (fun qq => by have := (zc18_le (by omega)).mp qq; omega) ?_
    refine zC_isL10 hB hS ht (show q < 18 by omega) _ _ (fun h => ?_) (fun h => zC_isL2 hB hS hN ht j n (q + 1) (by omega) (by omega) (fun i hi => ?_)) (zPl S q).reverse [] N (by simp) (by simp) (by simp; omega)
    · have e : zLa S t = true := zAny_t.mpr ⟨q, by omega, decide_eq_true h⟩
      rw [e]; rfl
    · by_cases e : i = q
      · subst e; exact h
      · exact hno i (by omega)
theorem zC_lost21 (hB : zLok B) {t st : Nat} (ht : t < zT B) (k4 : Int32 → Int32 → jM Int32) (v : Int32) : ∀ (j n d : Nat) (fl : Bool), d + j = 10 → j < n → zCO N k B S (k4 (nI (if (fl && zAl (fun d => decide (zMa B S t (nI d) (zS B) = 0)) j d) = true then st ||| 2 ^ t else st)) (nI (t + 1))) v → zCO N k B S (fX1_lost_21 N k4 (k.1 0) n (nI st) (nI t) (zb fl) (nI d)) v
  | 0, n + 1, d, fl, hd, hn, hk => by
    have hT := hB.2.1
    rw [fX1_lost_21]
    refine zCO.ifp ((zc9_gt (by omega)).mpr (by omega)) ?_
    unfold fX1_lost_54 fX1_lost_64
    rw [zc1_da, zshl (by omega), zor]
    rw [show zAl (fun d => decide (zMa B S t (nI d) (zS B) = 0)) 0 d = true from rfl, Bool.and_true] at hk
    cases fl with
    | true => rw [if_pos rfl] at hk; exact zCO.ifn zb1n hk
    | false => rw [if_neg (by decide)] at hk; exact zCO.ifp rfl hk
  | j + 1, n + 1, d, fl, hd, hn, hk => by
    rw [fX1_lost_21]
    refine zCO.ifn (fun qq => by have := (zc9_gt (by omega)).mp qq; omega) ?_
    unfold fX1_lost_46 fX1_lost_47
    rw [zc1_da]
    rw [show zAl (fun d => decide (zMa B S t (nI d) (zS B) = 0)) (j + 1) d = (decide (zMa B S t (nI d) (zS B) = 0) && zAl (fun d => decide (zMa B S t (nI d) (zS B) = 0)) j (d + 1)) from rfl] at hk
    cases fl with
    | false => exact zCO.ifp rfl (zC_lost21 hB ht k4 v j n (d + 1) false (by omega) (by omega) (by simpa using hk))
    | true =>
      refine zCO.ifn zb1n (zCO.bind (zC_made ht _) ?_)
      have hle : zMa B S t (nI d) (zS B) < 2 ^ 31 := by
        have : ∀ m, zMa B S t (nI d) m ≤ 6 * m := by
          intro m
          induction m with
          | zero => simp [zMa]
          | succ m ih =>
            have := zCt_le (fun l => decide (zRd B S m l (nI d) = some t)) 6
            rw [zMa]; omega
        have := this (zS B)
        have := hB.1
        omega
      by_cases hz : zMa B S t (nI d) (zS B) = 0
      · refine zCO.ifp (by rw [hz]; rfl) (zC_lost21 hB ht k4 v j n (d + 1) true (by omega) (by omega) ?_)
        rw [decide_eq_true hz, Bool.true_and, Bool.true_and] at hk
        rw [Bool.true_and]
        exact hk
      · refine zCO.ifn (nI_ne0 (by omega) hle) (zC_lost21 hB ht k4 v j n (d + 1) false (by omega) (by omega) ?_)
        rw [decide_eq_false hz] at hk
        simpa using hk
theorem zC_lost4 (hB : zLok B) (hS : zSok B S) (hN : 3000 ≤ N) : ∀ (j n t : Nat), t + j = zT B → j < n → zCO N k B S (fX1_lost_4 N (k.1 0) n (nI (zMk (zLs B S) t)) (nI t)) (nI (zMk (zLs B S) (zT B)))
  | 0, n + 1, t, ht, hn => by
    have hT := hB.2.1
    rw [fX1_lost_4, show t = zT B by omega]
    exact zCO.bind zC_texts (zCO.ifp (nI_le (by omega) (by omega)) (zCO.ret _))
  | j + 1, n + 1, t, ht, hn => by
    have hT := hB.2.1
    rw [fX1_lost_4]
    refine zCO.bind zC_texts (zCO.ifn (nI_ge (by omega) (by omega)) (zCO.bind (zC_isL2 hB hS hN (show t < 6 by omega) 18 N 0 rfl (by omega) (fun i hi => by omega)) ?_))
    refine zC_lost21 hB (show t < zT B by omega) _ _ 10 N 0 _ rfl (by omega) ?_
    have ih := zC_lost4 hB hS hN j n (t + 1) (by omega) (by omega)
    rw [zMk_s] at ih
    exact ih
theorem zC_op_lost : zCO N k B S (fX1_lost N (k.1 0)) (nI (zMk (zLs B S) (zT B))) := by
  refine zCO.have_ fun hN hB hS => ?_
  have hT := hB.2.1
  exact zC_lost4 hB hS hN (zT B) N 0 (by omega) (by omega)
end
