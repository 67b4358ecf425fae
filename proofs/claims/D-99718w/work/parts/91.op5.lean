/-! PURE 18: chance, sums, counts -/
set_option maxRecDepth 100000
def zPw (x : Int64) : Nat → Int64
  | 0 => 1
  | n + 1 => zPw x n * x
theorem zPw10 : ∀ w, w < 7 → ¬ zPw 10 w = 0 := by decide +kernel
def zCh (nv : Int64) (w : Nat) : Int32 := (((zPw 10 w - zPw nv w) * 1000000) / zPw 10 w).toInt32
def zir (x : Int32) (lo n : Nat) : Option Nat := if x < nI lo ∨ nI n < x then none else some x.toNatClampNeg
theorem zir_cases (x : Int32) {lo n : Nat} (hlo : lo < 2 ^ 30) (hn : n < 2 ^ 30) : (zir x lo n = none ∧ (!decide (x < nI lo) && !decide (nI n < x)) = false) ∨ ∃ j, lo ≤ j ∧ j ≤ n ∧ zir x lo n = some j ∧ x = nI j ∧ (!decide (x < nI lo) && !decide (nI n < x)) = true := by
  unfold zir
  by_cases h1 : x < nI lo
  · exact Or.inl ⟨if_pos (Or.inl h1), by simp [h1]⟩
  · by_cases h2 : nI n < x
    · exact Or.inl ⟨if_pos (Or.inr h2), by simp [h2]⟩
    · have h0 : ¬ x < 0 := fun h => h1 (by
        rw [fa_lt_] at h ⊢
        rw [nI_toInt (by omega)]
        have : (0 : Int32).toInt = 0 := by decide
        omega)
      obtain ⟨j, hj, rfl⟩ := nI_of h0
      rw [nI_ltI hj (by omega)] at h1
      rw [nI_ltI (by omega) hj] at h2
      refine Or.inr ⟨j, by omega, by omega, ?_, rfl, ?_⟩
      · rw [if_neg, nI_clamp hj]
        rw [nI_ltI hj (by omega), nI_ltI (by omega) hj]
        omega
      · have a1 : ¬ nI j < nI lo := by rw [nI_ltI hj (by omega)]; omega
        have a2 : ¬ nI n < nI j := by rw [nI_ltI (by omega) hj]; omega
        simp [a1, a2]
def zNv (B : zLB) (S : zMS) (t : Nat) (o : Int32) : Int64 := ((if zWh B S t 9 = true then 0 else o) + (if zWh B S t 0 = true then 0 else 10 - o)).toInt64
def zO_chance (B : zLB) (S : zMS) (x w o : Int32) : Int32 := match zix x (zT B) with
  | none => -1
  | some t => match zir w 1 6 with
    | none => -1
    | some n => match zix o 11 with
      | none => -1
      | some _ => zCh (zNv B S t o) n
def zLn (S : zMS) : Nat → Nat
  | 0 => 0
  | q + 1 => zLn S q + (zPl S q).length
section
variable {N a : Nat} {B : zLB} {S : zMS} {k : zKA}
theorem zR_ch88 (nv : Int64) {w : Nat} (hw : w < 7) : ∀ (j n i : Nat), i + j = w → j < n → zRO N a B S (fX7_chance_88 N a n (nI w) nv (zPw nv i) (zPw 10 i) (nI i)) (zCh nv w)
  | 0, n + 1, i, hi, hn => by
    rw [fX7_chance_88, show i = w by omega]
    exact zRO.ifp (nI_le (by omega) (by omega)) (zRO.bind (zRO.nzL (zPw10 w hw)) (zRO.ret _))
  | j + 1, n + 1, i, hi, hn => by
    rw [fX7_chance_88, zc1_da]
    exact zRO.ifn (nI_ge (by omega) (by omega)) (zR_ch88 nv hw j n (i + 1) (by omega) (by omega))
theorem zR_op_chance (x w o : Int32) : zRW N a B S (fX7_chance N a x w o) (zO_chance B S x w o) := by
  refine zRW.have_ fun hN hB hS => ?_
  have hT := hB.2.1
  unfold zO_chance
  refine zRW.thr (zRO.bind (zR_isText x) ?_)
  rcases zix_cases x (n := zT B) (by omega) with ⟨h3, -⟩ | ⟨t, h3, h4, rfl⟩
  · rw [h3]; exact zRO.ifp rfl (zRO.ret _)
  · rw [h4]
    refine zRO.ifn zb1n (zRO.bind (zR_within _ _ _) ?_)
    show zRO N a B S (if zb (!decide (w < nI 1) && !decide (nI 6 < w)) = 0 then _ else _) (match zir w 1 6 with
      | none => (-1 : Int32)
      | some n => match zix o 11 with
        | none => (-1 : Int32)
        | some _ => zCh (zNv B S t o) n)
    rcases zir_cases w (lo := 1) (n := 6) (by decide) (by decide) with ⟨h5, h6⟩ | ⟨j, h5, h6, h7, rfl, h8⟩
    · rw [h5, h6]; exact zRO.ifp rfl (zRO.ret _)
    · rw [h7, h8]
      refine zRO.ifn zb1n (zRO.bind (zR_within _ _ _) ?_)
      rw [show (10 : Int32) = nI 10 from rfl, zix_in o (by decide)]
      rcases zix_cases o (n := 11) (by decide) with ⟨h9, -⟩ | ⟨q, h9, h10, rfl⟩
      · rw [h9]; exact zRO.ifp rfl (zRO.ret _)
      · rw [h10]
        refine zRO.ifn zb1n (zRO.bind (zR_whole _) ?_)
        have l9 := zWl_lt hB S 9
        have l0 := zWl_lt hB S 0
        have e9 := zWl_tb (S := S) h3 9
        have e0 := zWl_tb (S := S) h3 0
        have fin : ∀ v0 : Int32, zRO N a B S (fX7_chance_54 N a (nI t) (nI j) (nI q) v0) (zCh ((v0 + (if zWh B S t 0 = true then 0 else nI 10 - nI q)).toInt64) j) := by
          intro v0
          refine zRO.bind (zR_whole _) ?_
          cases hc : zWh B S t 0 with
          | true => exact zRO.ifp ((zbit1 (by omega) (by omega)).mpr (e0.trans hc)) (zR_ch88 _ (by omega) j N 0 (by omega) (by omega))
          | false =>
            refine zRO.ifn (fun qq => ?_) (zR_ch88 _ (by omega) j N 0 (by omega) (by omega))
            have := (zbit1 (by omega) (by omega)).mp qq
            rw [e0, hc] at this
            cases this
        show zRO N a B S _ (zCh (zNv B S t (nI q)) j)
        unfold zNv
        cases hc : zWh B S t 9 with
        | true => exact zRO.ifp ((zbit1 (by omega) (by omega)).mpr (e9.trans hc)) (fin 0)
        | false =>
          refine zRO.ifn (fun qq => ?_) (fin (nI q))
          have := (zbit1 (by omega) (by omega)).mp qq
          rw [e9, hc] at this
          cases this
theorem zC_ch62 {w : Nat} (hw : w < 7) (o : Int32) (b1 b2 : Bool) : ∀ (j n i : Nat), i + j = w → j < n → zCO N k B S (fX1_chance_62 N (k.1 0) n (nI w) o (zb b1) (zb b2) (zPw 10 i) (zPw (((if b1 = true then 0 else o) + (if b2 = true then 0 else 10 - o)).toInt64) i) (nI i)) (zCh (((if b1 = true then 0 else o) + (if b2 = true then 0 else 10 - o)).toInt64) w)
  | 0, n + 1, i, hi, hn => by
    rw [fX1_chance_62, show i = w by omega]
    exact zCO.ifp (nI_le (by omega) (by omega)) (zCO.bind (zCO.nzL (zPw10 w hw)) (zCO.ret _))
  | j + 1, n + 1, i, hi, hn => by
    have ih := zC_ch62 hw o b1 b2 j n (i + 1) (by omega) (by omega)
    rw [fX1_chance_62]
    unfold fX1_chance_88 fX1_chance_101
    rw [zc1_da]
    refine zCO.ifn (nI_ge (by omega) (by omega)) ?_
    cases b1 with
    | true =>
      refine zCO.ifn zb1n ?_
      cases b2 with
      | true => exact zCO.ifn zb1n ih
      | false => exact zCO.ifp rfl ih
    | false =>
      refine zCO.ifp rfl ?_
      cases b2 with
      | true => exact zCO.ifn zb1n ih
      | false => exact zCO.ifp rfl ih
theorem zC_op_chance (x w o : Int32) : zCO N k B S (fX1_chance N (k.1 0) x w o) (zO_chance B S x w o) := by
  refine zCO.have_ fun hN hB hS => ?_
  have hT := hB.2.1
  unfold zO_chance
  refine zCO.bind (zC_isText x) ?_
  rcases zix_cases x (n := zT B) (by omega) with ⟨h3, -⟩ | ⟨t, h3, h4, rfl⟩
  · rw [h3]; exact zCO.ifp rfl (zCO.ret _)
  · rw [h4]
    refine zCO.ifn zb1n (zCO.bind (zC_within _ _ _) ?_)
    show zCO N k B S (if zb (!decide (w < nI 1) && !decide (nI 6 < w)) = 0 then _ else _) (match zir w 1 6 with
      | none => (-1 : Int32)
      | some n => match zix o 11 with
        | none => (-1 : Int32)
        | some _ => zCh (zNv B S t o) n)
    rcases zir_cases w (lo := 1) (n := 6) (by decide) (by decide) with ⟨h5, h6⟩ | ⟨j, h5, h6, h7, rfl, h8⟩
    · rw [h5, h6]; exact zCO.ifp rfl (zCO.ret _)
    · rw [h7, h8]
      refine zCO.ifn zb1n (zCO.bind (zC_within _ _ _) ?_)
      rw [show (10 : Int32) = nI 10 from rfl, zix_in o (by decide)]
      rcases zix_cases o (n := 11) (by decide) with ⟨h9, -⟩ | ⟨q, h9, h10, rfl⟩
      · rw [h9]; exact zCO.ifp rfl (zCO.ret _)
      · rw [h10]
        refine zCO.ifn zb1n (zCO.bind zC_w1 (zCO.bind (zC_r2 true) (zCO.bind (zC_isWhole h3 _) (zCO.bind zC_w1 (zCO.bind (zC_r2 true) (zCO.bind (zC_isWhole h3 _) ?_))))))
        exact zC_ch62 (by omega) (nI q) (zWh B S t 9) (zWh B S t 0) j N 0 (by omega) (by omega)
/-! gone, thick, layers -/
theorem zR_gones4 (hB : zLok B) (hS : zSok B S) : ∀ (j n s : Nat), s + j = zS B → j < n → zRO N a B S (fX7_gones_4 N a n (nI (zMk (fun k => decide (zTh S k = 0)) s)) (nI s)) (nI (zGo B S))
  | 0, n + 1, s, hs, hn => by
    have hs3 := hB.1
    rw [fX7_gones_4, show s = zS B by omega]
    exact zRO.bind zR_o10 (zRO.bind zR_S (zRO.ifp (nI_le (by omega) (by omega)) (zRO.ret _)))
  | j + 1, n + 1, s, hs, hn => by
    have hs3 := hB.1
    have hth := (hS.2.1 s (by omega)).1
    have ih := zR_gones4 hB hS j n (s + 1) (by omega) (by omega)
    rw [zMk_s] at ih
    rw [fX7_gones_4]
    unfold fX7_gones_33
    rw [zc1_da, zshl (by omega), zor]
    refine zRO.bind zR_o10 (zRO.bind zR_S (zRO.ifn (nI_ge (by omega) (by omega)) (zRO.bind zR_o48 (zRO.bind (zR_th (by omega)) ?_))))
    rw [show (nI (zMk (fun k => decide (zTh S k = 0)) s) ||| (0 : Int32)) = nI (zMk (fun k => decide (zTh S k = 0)) s) from (zor _ 0).trans (by rw [Nat.or_zero])]
    by_cases hz : zTh S s = 0
    · rw [if_pos (decide_eq_true hz)] at ih
      exact zRO.ifp (by rw [hz]; rfl) ih
    · rw [if_neg (fun q => hz (of_decide_eq_true q))] at ih
      exact zRO.ifn (nI_ne0 (by omega) (by omega)) ih
theorem zR_gones : zRO N a B S (fX7_gones N a) (nI (zGo B S)) := by
  refine zRO.have_ fun hN hB hS => ?_
  have hs3 := hB.1
  exact zR_gones4 hB hS (zS B) N 0 (by omega) (by omega)
def zT0 (B : zLB) (S : zMS) : Prop := ∀ k, k < 3 → zS B ≤ k → zTh S k = 0
theorem zTs_3 (hB : zLok B) (h0 : zT0 B S) : zTs S (zS B) = zTh S 0 + zTh S 1 + zTh S 2 := by
  have hs3 := hB.1
  have : zS B = 0 ∨ zS B = 1 ∨ zS B = 2 ∨ zS B = 3 := by omega
  rcases this with e | e | e | e
  · rw [e, h0 0 (by omega) (by omega), h0 1 (by omega) (by omega), h0 2 (by omega) (by omega)]; rfl
  · rw [e, h0 1 (by omega) (by omega), h0 2 (by omega) (by omega)]; simp [zTs]
  · rw [e, h0 2 (by omega) (by omega)]; simp [zTs]
  · rw [e]; simp [zTs]
theorem zR_allThick (h0 : zT0 B S) : zRO N a B S (fX7_allThick a) (nI (zTs S (zS B))) := by
  refine zRO.have_ fun hN hB hS => ?_
  rw [zTs_3 hB h0, ← nI_add, ← nI_add]
  exact zRO.bind zR_o48 (zRO.bind (zR_th (j := 0) (by decide)) (zRO.bind zR_o48 (zRO.bind (zR_th (j := 1) (by decide)) (zRO.bind zR_o48 (zRO.bind (zR_th (j := 2) (by decide)) (zRO.ret _))))))
theorem zR_allLayers4 (hB : zLok B) (hS : zSok B S) (hN : 3000 ≤ N) : ∀ (j n q : Nat), q + j = 18 → j < n → zRO N a B S (fX7_allLayers_4 N a n (nI (zLn S q)) (nI q)) (nI (zLn S 18))
  | 0, n + 1, q, hq, hn => by
    rw [fX7_allLayers_4, show q = 18 by omega]
    exact zRO.ifp (by decide) (zRO.ret _)
  | j + 1, n + 1, q, hq, hn => by
    rw [fX7_allLayers_4, zc1_da]
    refine zRO.ifn (fun qq => by have := (zc18_le (by omega)).mp qq; omega) (zRO.bind zR_o48 (zRO.bind (zR_plk (by omega)) (zRO.bind (zR_deep hB hS hN (by omega)) ?_)))
    rw [nI_add]
    exact zR_allLayers4 hB hS hN j n (q + 1) (by omega) (by omega)
theorem zR_allLayers : zRO N a B S (fX7_allLayers N a) (nI (zLn S 18)) := by
  refine zRO.have_ fun hN hB hS => ?_
  exact zR_allLayers4 hB hS hN 18 N 0 rfl (by omega)
theorem zC_layersAll4 : ∀ (j n q : Nat), q + j = 18 → j < n → zCO N k B S (fX1_layersAll_4 N (k.1 0) n (nI (zLn S q)) (nI q)) (nI (zLn S 18))
  | 0, n + 1, q, hq, hn => by
    rw [fX1_layersAll_4, show q = 18 by omega]
    exact zCO.ifp (by decide) (zCO.ret _)
  | j + 1, n + 1, q, hq, hn => by
    rw [fX1_layersAll_4, zc1_da]
    refine zCO.ifn (fun qq => by have := (zc18_le (by omega)).mp qq; omega) (zCO.bind zC_w1 (zCO.bind (zC_s5 true) (zCO.bind (zC_many (by omega)) ?_)))
    rw [nI_add]
    exact zC_layersAll4 j n (q + 1) (by omega) (by omega)
theorem zC_layersAll : zCO N k B S (fX1_layersAll N (k.1 0)) (nI (zLn S 18)) := by
  refine zCO.have_ fun hN hB hS => ?_
  exact zC_layersAll4 18 N 0 rfl (by omega)
section
variable {h : jH} {X : Bool → zSS} {f : Nat → Int32} {R : zCR} {b : Bool}
theorem zs_gone4 (hX : zCX N h k b B S X) : ∀ (j n s : Nat), s + j = zS B → j < n → (fX3_gone_4 N (zka k b) n (nI (zMk (fun k => decide (zTh S k = 0)) s)) (nI s)).1 (cH h k (X, f, R)) = some (nI (zGo B S), cH h k (X, f, R))
  | 0, n + 1, s, hs, hn => by
    have hs3 := hX.2.2.1.1
    rw [fX3_gone_4, show s = zS B by omega, zs_skins hX.2.1 hX.2.2.2.2.1 hX.2.2.2.2.2.2.1.1, if_pos (nI_le (by omega) (by omega))]
    rfl
  | j + 1, n + 1, s, hs, hn => by
    have hs3 := hX.2.2.1.1
    have ih := zs_gone4 hX j n (s + 1) (by omega) (by omega)
    rw [zMk_s] at ih
    rw [fX3_gone_4, zs_skins hX.2.1 hX.2.2.2.2.1 hX.2.2.2.2.2.2.1.1, if_neg (nI_ge (by omega) (by omega)), jB_eq (zs_isGone hX (by omega)), zI]
    unfold fX3_gone_26
    rw [zc1_da, zshl (by omega), zor]
    by_cases hz : zTh S s = 0
    · rw [if_pos (decide_eq_true hz)] at ih
      rw [decide_eq_true hz, if_neg (by decide)]
      exact ih
    · rw [if_neg (fun q => hz (of_decide_eq_true q))] at ih
      rw [decide_eq_false hz, if_pos zb_f]
      exact ih
theorem zs_gone (hX : zCX N h k b B S X) : (fX3_gone N (zka k b)).1 (cH h k (X, f, R)) = some (nI (zGo B S), cH h k (X, f, R)) := by
  have hN := hX.1
  have hs3 := hX.2.2.1.1
  exact zs_gone4 hX (zS B) N 0 (by omega) (by omega)
theorem zs_thick4 (hX : zCX N h k b B S X) : ∀ (j n s : Nat), s + j = zS B → j < n → (fX3_thickness_4 N (zka k b) n (nI (zTs S s)) (nI s)).1 (cH h k (X, f, R)) = some (nI (zTs S (zS B)), cH h k (X, f, R))
  | 0, n + 1, s, hs, hn => by
    have hs3 := hX.2.2.1.1
    rw [fX3_thickness_4, show s = zS B by omega, zs_skins hX.2.1 hX.2.2.2.2.1 hX.2.2.2.2.2.2.1.1, if_pos (nI_le (by omega) (by omega))]
    rfl
  | j + 1, n + 1, s, hs, hn => by
    have hs3 := hX.2.2.1.1
    have ih := zs_thick4 hX j n (s + 1) (by omega) (by omega)
    rw [fX3_thickness_4, zs_skins hX.2.1 hX.2.2.2.2.1 hX.2.2.2.2.2.2.1.1, if_neg (nI_ge (by omega) (by omega)), zc_g2_3 hX.2.1, zc_a1 hX.2.1 (by omega), hX.2.2.2.2.2.2.1.2.2.2.1 s (by omega), nI_add, zc1_da]
    exact ih
theorem zs_thick (hX : zCX N h k b B S X) : (fX3_thickness N (zka k b)).1 (cH h k (X, f, R)) = some (nI (zTs S (zS B)), cH h k (X, f, R)) := by
  have hN := hX.1
  have hs3 := hX.2.2.1.1
  exact zs_thick4 hX (zS B) N 0 (by omega) (by omega)
end
/-! count, but for what isn't the shelf's -/
def zO_count8 (B : zLB) (S : zMS) (c : Nat) : Int32 := if c = 0 then nI (zS B) else if c = 1 then nI (zT B) else if c = 2 then nI (zWk S) else if c = 3 then nI (zDp B (zWk S)) else if c = 4 then nI (zTs S (zS B)) else if c = 5 then nI (zGo B S) else if c = 6 then nI (zLn S 18) else nI (zWl B S (nI (zDp B (zWk S))))
theorem z8c {j : Nat} (h : j < 8) : j = 0 ∨ j = 1 ∨ j = 2 ∨ j = 3 ∨ j = 4 ∨ j = 5 ∨ j = 6 ∨ j = 7 := by omega
theorem zR_count8 (h0 : zT0 B S) {c : Nat} (hc : c < 8) : zRW N a B S (fX7_count N a (nI c)) (zO_count8 B S c) := by
  refine zRW.have_ fun hN hB hS => ?_
  have hw := hS.1
  refine zRW.thr (zRO.bind (zR_within _ _ _) ?_)
  rcases z8c hc with rfl | rfl | rfl | rfl | rfl | rfl | rfl | rfl
  · exact zRO.ifn (by decide) (zRO.ifn (by decide) (zRO.bind zR_o10 (zRO.bind zR_S (zRO.ret _))))
  · exact zRO.ifn (by decide) (zRO.ifn (by decide) (zRO.bind zR_o10 (zRO.bind zR_T (zRO.ret _))))
  · exact zRO.ifn (by decide) (zRO.ifp (by decide) (zRO.ifn (by decide) (zRO.ifp (by decide) (zRO.bind zR_o48 (zRO.bind zR_wk (zRO.ret _))))))
  · exact zRO.ifn (by decide) (zRO.ifp (by decide) (zRO.ifn (by decide) (zRO.ifn (by decide) (zRO.ifp (by decide) (zRO.bind zR_o48 (zRO.bind zR_wk (zRO.bind (zR_damp (by omega)) (zRO.ret _))))))))
  · exact zRO.ifn (by decide) (zRO.ifp (by decide) (zRO.ifn (by decide) (zRO.ifn (by decide) (zRO.ifn (by decide) (zRO.bind (zR_allThick h0) (zRO.ret _))))))
  · exact zRO.ifn (by decide) (zRO.ifp (by decide) (zRO.ifp (by decide) (zRO.ifn (by decide) (zRO.ifp (by decide) (zRO.bind zR_gones (zRO.ret _))))))
  · exact zRO.ifn (by decide) (zRO.ifp (by decide) (zRO.ifp (by decide) (zRO.ifn (by decide) (zRO.ifn (by decide) (zRO.ifp (by decide) (zRO.bind zR_allLayers (zRO.ret _)))))))
  · exact zRO.ifn (by decide) (zRO.ifp (by decide) (zRO.ifp (by decide) (zRO.ifn (by decide) (zRO.ifn (by decide) (zRO.ifn (by decide) (zRO.bind zR_wholeNow (zRO.ret _)))))))
theorem zC_count8 {c : Nat} (hc : c < 8) : zCO N k B S (fX1_count N (k.1 0) (nI c)) (zO_count8 B S c) := by
  refine zCO.have_ fun hN hB hS => ?_
  unfold fX1_count
  rcases z8c hc with rfl | rfl | rfl | rfl | rfl | rfl | rfl | rfl
  · exact zCO.ifp (by decide) (zCO.bind zC_skins (zCO.ret _))
  · exact zCO.ifn (by decide) (zCO.ifp (by decide) (zCO.bind zC_texts (zCO.ret _)))
  · exact zCO.ifn (by decide) (zCO.ifn (by decide) (zCO.ifp (by decide) (zCO.bind zC_w1 (zCO.bind zC_wk (zCO.ret _)))))
  · exact zCO.ifn (by decide) (zCO.ifn (by decide) (zCO.ifn (by decide) (zCO.ifp (by decide) (zCO.bind zC_w1 (zCO.bind (zC_r2 true) (zCO.bind zC_damp (zCO.ret _)))))))
  · exact zCO.ifn (by decide) (zCO.ifn (by decide) (zCO.ifn (by decide) (zCO.ifn (by decide) (zCO.ifp (by decide) (zCO.bind zC_w1 (zCO.bind (zC_r2 true) (zCO.bind (zCO.of fun h X f R hX => zs_thick hX) (zCO.ret _))))))))
  · exact zCO.ifn (by decide) (zCO.ifn (by decide) (zCO.ifn (by decide) (zCO.ifn (by decide) (zCO.ifn (by decide) (zCO.ifp (by decide) (zCO.bind zC_w1 (zCO.bind (zC_r2 true) (zCO.bind (zCO.of fun h X f R hX => zs_gone hX) (zCO.ret _)))))))))
  · exact zCO.ifn (by decide) (zCO.ifn (by decide) (zCO.ifn (by decide) (zCO.ifn (by decide) (zCO.ifn (by decide) (zCO.ifn (by decide) (zCO.ifp (by decide) (zCO.bind zC_layersAll (zCO.ret _))))))))
  · exact zCO.ifn (by decide) (zCO.ifn (by decide) (zCO.ifn (by decide) (zCO.ifn (by decide) (zCO.ifn (by decide) (zCO.ifn (by decide) (zCO.ifn (by decide) (zCO.ifp (by decide) (zCO.bind zC_w1 (zCO.bind zC_w1 (zCO.bind (zC_r2 true) (zCO.bind zC_damp (zCO.bind (zC_r2 true) (zCO.bind (zC_whole _) (zCO.ret _))))))))))))))
end
