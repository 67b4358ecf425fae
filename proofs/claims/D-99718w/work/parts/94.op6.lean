/-! PURE 21: giveup, years -/
set_option maxRecDepth 100000
def zGn (B : zLB) (S : zMS) (wh s : Nat) : Nat := zCt (zan wh (zWl B (zSc B S s 63) (nI (zDp B (zWk (zSc B S s 63)))))).testBit 6
def zGv (B : zLB) (S : zMS) (wh : Nat) : Nat → Nat → Option Nat → Nat → Option Nat
  | 0, _, b, _ => b
  | j + 1, s, b, f => if zOp S s &&& 63 = 0 then zGv B S wh j (s + 1) b f else if zGn B S wh s < f then zGv B S wh j (s + 1) (some s) (zGn B S wh s) else zGv B S wh j (s + 1) b f
theorem zff : ¬ (false = true) := by decide
theorem zAA {α β γ : Type} (m : jM α) (k : α → jM β) (n : β → jM γ) : jB (jB m k) n = jB m (fun x => jB (k x) n) := Subtype.ext (funext fun h => jB_assoc m k n h)
/-- what a week's draws do, but for the week; the draws; whether one was written -/
def zYd (B : zLB) (S : zMS) (g : Nat) : zMS × Nat × Bool := if zT B = 0 ∨ zS B = 0 then (S, g, false)
  else if zCw B S (zG g / 65536 % zT B) (zG (zG g) / 65536 % zS B) (zG (zG (zG g)) / 65536 % 6) = true then (zWr B S (zG g / 65536 % zT B) (zG (zG g) / 65536 % zS B) (zG (zG (zG g)) / 65536 % 6), zG (zG (zG g)), true)
  else if zG (zG (zG (zG g))) / 65536 % 3 < 2 ∧ ¬ zOp S (zG (zG g) / 65536 % zS B) &&& zw (decide (zG (zG (zG (zG g))) / 65536 % 3 = 1)) = 0 then (zSc B S (zG (zG g) / 65536 % zS B) (zw (decide (zG (zG (zG (zG g))) / 65536 % 3 = 1))), zG (zG (zG (zG g))), false)
  else (S, zG (zG (zG (zG g))), false)
def zYs (B : zLB) : Nat → zMS → Nat → Nat → zMS × Nat × Nat
  | 0, S, g, o => (S, g, o)
  | n + 1, S, g, o => zYs B n (zNx (zYd B S g).1) (zYd B S g).2.1 (o + if (zYd B S g).2.2 = true then 1 else 0)
theorem zYd_g {B : zLB} {S : zMS} {g : Nat} (hg : g < 2147483648) : (zYd B S g).2.1 < 2147483648 := by
  unfold zYd
  split
  · exact hg
  · split
    · exact zG_lt _
    · split <;> exact zG_lt _
theorem zWr_wk (B : zLB) (S : zMS) (t k l : Nat) : zWk (zWr B S t k l) = zWk S := by unfold zWr; rw [zWi_wk]
theorem zSc_wk (B : zLB) (S : zMS) (k w : Nat) : zWk (zSc B S k w) = zWk S := by unfold zSc; split <;> rfl
theorem zYd_ok {B : zLB} {S : zMS} (hB : zLok B) (hS : zSok B S) (g : Nat) : zSok B (zYd B S g).1 ∧ zWk (zYd B S g).1 = zWk S := by
  have hs3 := hB.1
  unfold zYd
  split
  · exact ⟨hS, rfl⟩
  · rename_i hz
    have ht : zG g / 65536 % zT B < zT B := Nat.mod_lt _ (by omega)
    have hs : zG (zG g) / 65536 % zS B < zS B := Nat.mod_lt _ (by omega)
    split
    · rename_i hw
      exact ⟨zSok_wr hB hS ht hs hw, zWr_wk _ _ _ _ _⟩
    · split
      · exact ⟨zSok_sc hS (by omega), zSc_wk _ _ _ _⟩
      · exact ⟨hS, rfl⟩
theorem zT0_wr {B : zLB} {S : zMS} (h : zT0 B S) (t k l : Nat) : zT0 B (zWr B S t k l) := fun q h1 h2 => by
  unfold zWr
  rw [zWi_th]
  exact h q h1 h2
theorem zT0_sc {B : zLB} {S : zMS} (h : zT0 B S) (k w : Nat) : zT0 B (zSc B S k w) := fun q h1 h2 => by
  have := h q h1 h2
  unfold zSc
  split
  · show (if q = k then 0 else zTh S q) = 0
    split
    · rfl
    · exact this
  · show (if q = k then zTh S k - zSb B S k w else zTh S q) = 0
    split
    · rename_i e
      subst e
      omega
    · exact this
theorem zT0_nx {B : zLB} {S : zMS} (h : zT0 B S) : zT0 B (zNx S) := h
theorem zT0_yd {B : zLB} {S : zMS} (h : zT0 B S) (g : Nat) : zT0 B (zYd B S g).1 := by
  unfold zYd
  split
  · exact h
  · split
    · exact zT0_wr h _ _ _
    · split
      · exact zT0_sc h _ _
      · exact h
def zO_years (B : zLB) (S : zMS) (x w q : Int32) : Int32 := match zix x 10000 with
  | none => -1
  | some sd => match zir w 1 99 with
    | none => -1
    | some n => match zix q 3 with
      | none => -1
      | some j => if j = 0 then nI (zYs B n S sd 0).2.2 else if j = 1 then nI (zWl B (zYs B n S sd 0).1 (nI (zDp B (zWk (zYs B n S sd 0).1)))) else nI (zTs (zYs B n S sd 0).1 (zS B))
section
variable {N a : Nat} {k : zKA} {B : zLB} {S St : zMS}
theorem zGn_le (B : zLB) (S : zMS) (wh s : Nat) : zGn B S wh s ≤ 6 := zCt_le _ _
theorem zR_giveup18 (hB : zLok B) (hS : zSok B S) (hN : 3000 ≤ N) {wh : Nat} (hwh : wh < 64) : ∀ (j n s f : Nat) (b : Option Nat), s + j = zS B → f < 8 → j < n → zRW N a B S (fX7_giveup_18 N a n (zo b) (nI f) (nI wh) (nI s)) (zo (zGv B S wh j s b f))
  | 0, n + 1, s, f, b, hs, hf, hn => by
    have hs3 := hB.1
    rw [fX7_giveup_18]
    exact zRW.bo zR_o10 (zRW.bo zR_S (zRW.ifp (nI_le (by omega) (by omega)) (zRW.ret _)))
  | j + 1, n + 1, s, f, b, hs, hf, hn => by
    have hs3 := hB.1
    have hj : (50 : Nat) = 49 ∨ (50 : Nat) = 50 := Or.inr rfl
    have hle := zGn_le B S wh s
    rw [fX7_giveup_18, zGv]
    unfold fX7_giveup_105
    rw [zc1_da]
    refine zRW.bo zR_o10 (zRW.bo zR_S (zRW.ifn (nI_ge (by omega) (by omega)) (zRW.bo (zR_scraped (w := 63) (by omega)) ?_)))
    by_cases hz : zOp S s &&& 63 = 0
    · rw [if_pos hz, (zSb_0 B S s 63).mpr hz]
      exact zRW.ifp rfl (zR_giveup18 hB hS hN hwh j n (s + 1) f b (by omega) hf (by omega))
    · have h3 := zSb_3 B S s 63
      rw [if_neg hz]
      refine zRW.ifn (nI_ne0 (Nat.pos_of_ne_zero fun q => hz ((zSb_0 B S s 63).mp q)) (by omega)) (zRW.bo zR_o48 (zRW.bo zR_o50 (zRW.aside50 fun g => zRK.bind hj (zT_scrapes (w := 63) (by omega)) (zRK.bo hj zR_wholeNow ?_))))
      rw [zandn]
      refine zRK.bo hj (zR_bits hN (zan_lt (n := 6) hwh)) (zRK.bo hj zR_o50 (zRK.bo hj zR_o48 (zRK.back50 ?_)))
      show zRW N a B S (if nI (zGn B S wh s) < nI f then _ else _) _
      by_cases hc : zGn B S wh s < f
      · rw [if_pos hc]
        exact zRW.ifp (nI_lt hc (by omega)) (zR_giveup18 hB hS hN hwh j n (s + 1) (zGn B S wh s) (some s) (by omega) (by omega) (by omega))
      · rw [if_neg hc]
        exact zRW.ifn (nI_nlt (by omega) (by omega)) (zR_giveup18 hB hS hN hwh j n (s + 1) f b (by omega) hf (by omega))
theorem zR_op_giveup : zRW N a B S (fX7_giveup N a) (zo (zGv B S (zWl B S (nI (zDp B (zWk S)))) (zS B) 0 none 7)) := by
  refine zRW.have_ fun hN hB hS => ?_
  have hs3 := hB.1
  exact zRW.thw (zRW.bo zR_wholeNow (zR_giveup18 hB hS hN (zWl_lt hB S _) (zS B) N 0 7 none (by omega) (by omega) (by omega)))
theorem zC_giveup23 (hB : zLok B) (hS : zSok B S) (hN : 3000 ≤ N) {wh : Nat} (hwh : wh < 64) : ∀ (j n s f : Nat) (b : Option Nat), s + j = zS B → f < 8 → j < n → zCW N k B S (fX1_giveup_23 N (k.1 0) n (nI wh) (zo b) (nI f) (nI s)) (zo (zGv B S wh j s b f))
  | 0, n + 1, s, f, b, hs, hf, hn => by
    have hs3 := hB.1
    rw [fX1_giveup_23]
    exact zCW.bo zC_skins (zCW.ifp (nI_le (by omega) (by omega)) (zCW.ret _))
  | j + 1, n + 1, s, f, b, hs, hf, hn => by
    have hs3 := hB.1
    have hle := zGn_le B S wh s
    rw [fX1_giveup_23, zGv]
    unfold fX1_giveup_108
    rw [zc1_da]
    refine zCW.bo zC_skins (zCW.ifn (nI_ge (by omega) (by omega)) (zCW.bo zC_w1 (zCW.bo (zC_r2 true) (zCW.bo (zC_mayS (by omega) false) ?_))))
    by_cases hz : zOp S s &&& 63 = 0
    · have hz' : zOp S s &&& zw false = 0 := hz
      rw [if_pos hz, decide_eq_true hz']
      exact zCW.ifp rfl (zC_giveup23 hB hS hN hwh j n (s + 1) f b (by omega) hf (by omega))
    · have hz' : ¬ zOp S s &&& zw false = 0 := hz
      rw [if_neg hz, decide_eq_false hz']
      refine zCW.ifn zb1n (zCW.bo zC_w2 (zCW.bo zC_w1 (zCW.bo (zC_r2 false) ?_)))
      intro h X f0 R hX
      obtain ⟨X1, x1, n1, e1⟩ := zs_copies (b := false) (f := f0) (R := R) hX (by decide)
      have t1 : zCT N k B S S R.1 (jB (jgR [0] 2 (some (k.1 0))) fun y9 => jB (jrc 2 y9) fun b11 => jB (fX3_scrapes N b11 (nI s) 0) fun _ => jB (jgR [0] 2 (some (k.1 0))) fun y12 => jB (jgR [0] 2 (some (k.1 0))) fun y13 => jB (jrc 2 y13) fun b15 => jB (fX3_damp b15) fun y14 => jB (jrc 2 y12) fun b17 => jB (fX3_whole N b17 y14) fun y16 => fX1_bits N (nI wh &&& (y16 ^^^ (-1)))) (nI (zGn B S wh s)) (zSc B S s 63) R.1 := by
        refine zCT.bo zC_w2 (zCT.bo (zC_r2 false) (zCT.bind (zV_scrapes (by omega) false hz') (zCT.bo zC_w2 (zCT.bo zC_w2 (zCT.bo (zC_r2 false) (zCT.bind zV_damp (zCT.bo (zC_r2 false) (zCT.bind (zV_whole _) ?_))))))))
        rw [zandn]
        exact (zC_bits hN (zan_lt (n := 6) hwh)).t
      obtain ⟨X2, f2, R2, a2, b2, c2, d2, e2⟩ := t1 h X1 f0 R (hX.sh (n1 true (by decide))) x1 rfl
      have a3 : X2 true = X true := a2.trans (n1 true (by decide))
      have fin : zCW N k B S (if nI (zGn B S wh s) < nI f then fX1_giveup_23 N (k.1 0) n (nI wh) (nI s) (nI (zGn B S wh s)) (nI (s + 1)) else fX1_giveup_23 N (k.1 0) n (nI wh) (zo b) (nI f) (nI (s + 1))) (zo (if zGn B S wh s < f then zGv B S wh j (s + 1) (some s) (zGn B S wh s) else zGv B S wh j (s + 1) b f)) := by
        by_cases hc : zGn B S wh s < f
        · rw [if_pos hc]
          exact zCW.ifp (nI_lt hc (by omega)) (zC_giveup23 hB hS hN hwh j n (s + 1) _ (some s) (by omega) (by omega) (by omega))
        · rw [if_neg hc]
          exact zCW.ifn (nI_nlt (by omega) (by omega)) (zC_giveup23 hB hS hN hwh j n (s + 1) f b (by omega) hf (by omega))
      obtain ⟨X4, f4, R4, a4, b4, e4⟩ := fin h X2 f2 R2 (hX.sh a3)
      refine ⟨X4, f4, R4, a4.trans a3, b4.trans (by rw [d2]), ?_⟩
      have e5 := (jB_eq (k := fun y18 => if y18 < nI f then fX1_giveup_23 N (k.1 0) n (nI wh) (nI s) y18 (nI (s + 1)) else fX1_giveup_23 N (k.1 0) n (nI wh) (zo b) (nI f) (nI (s + 1))) e2).trans e4
      simp only [zAA] at e5
      rw [jB_eq e1]
      exact e5
theorem zC_op_giveup : zCW N k B S (fX1_giveup N (k.1 0)) (zo (zGv B S (zWl B S (nI (zDp B (zWk S)))) (zS B) 0 none 7)) := by
  refine zCW.have_ fun hN hB hS => ?_
  have hs3 := hB.1
  exact zCW.bo zC_w1 (zCW.bo zC_w1 (zCW.bo (zC_r2 true) (zCW.bo zC_damp (zCW.bo (zC_r2 true) (zCW.bo (zC_whole _) (zC_giveup23 hB hS hN (zWl_lt hB S _) (zS B) N 0 7 none (by omega) (by omega) (by omega)))))))
/-! years -/
theorem zR_lw129 (b : Bool) (g : Int64) (hw : zWk S + 1 < 1000000) : zRT N a B S g (fX7_livesWeek_129 N a (zb b)) (zb b) (zNx S) g := zRT.bo zR_o48 (zRT.bo zR_wk (zRT.bind (zT_week hw) (zRO.rnb b).t))
theorem zG_w (g : Nat) {m : Nat} (hm : 0 < m) : zG g / 65536 % m < m := Nat.mod_lt _ hm
theorem zR_livesWeek {g : Nat} (hg : g < 2147483648) (hw : zWk S + 1 < 1000000) : zRT N a B S (lN g) (fX7_livesWeek N a) (zb (zYd B S g).2.2) (zNx (zYd B S g).1) (lN (zYd B S g).2.1) := by
  refine zRT.have_ fun hN hB hS => ?_
  have hs3 := hB.1
  have hT := hB.2.1
  unfold zYd
  refine zRT.bo zR_o10 (zRT.bo zR_T ?_)
  by_cases h1 : zT B = 0
  · rw [if_pos (Or.inl h1), h1]
    exact zRT.ifp (by decide) (zR_lw129 false _ hw)
  · refine zRT.ifn (nI_nle (by omega) (by omega)) (zRT.bo zR_o10 (zRT.bo zR_S ?_))
    by_cases h2 : zS B = 0
    · rw [if_pos (Or.inr h2), h2]
      exact zRT.ifp (by decide) (zR_lw129 false _ hw)
    · rw [if_neg (show ¬ (zT B = 0 ∨ zS B = 0) by omega)]
      have ht := zG_w g (m := zT B) (by omega)
      have hs := zG_w (zG g) (m := zS B) (by omega)
      have hl := zG_w (zG (zG g)) (m := 6) (by decide)
      refine zRT.ifn (nI_nle (by omega) (by omega)) (zRT.bo zR_o10 (zRT.bo zR_T (zRT.bind (zT_draw (m := zT B) hg (by omega) (by omega)) (zRT.bo zR_o10 (zRT.bo zR_S (zRT.bind (zT_draw (m := zS B) (zG_lt _) (by omega) (by omega)) (zRT.bind (zT_draw (m := 6) (zG_lt _) (by decide) (by decide)) (zRT.bo (zR_can ht hs hl) ?_))))))))
      cases hc : zCw B S (zG g / 65536 % zT B) (zG (zG g) / 65536 % zS B) (zG (zG (zG g)) / 65536 % 6) with
      | true =>
        rw [if_pos rfl]
        refine zRT.ifn zb1n (zRT.ifn zb1n (zRT.bind (zT_writes ht hs hc) (zRT.ifp (by decide) ?_)))
        exact zR_lw129 true _ (by rw [zWr_wk]; exact hw)
      | false =>
        rw [if_neg zff]
        refine zRT.ifp rfl (zRT.bind (zT_draw (m := 3) (zG_lt _) (by decide) (by decide)) (zRT.ifp rfl ?_))
        have hq := zG_w (zG (zG (zG g))) (m := 3) (by decide)
        generalize zG (zG (zG (zG g))) / 65536 % 3 = q at hq ⊢
        generalize zG (zG g) / 65536 % zS B = s at hs ⊢
        have h106 : ∀ (d : Bool) (x5 : Int32), (x5 = 0 ↔ d = false) → zRT N a B S (lN (zG (zG (zG (zG g))))) (fX7_livesWeek_106 N a (zb false) (nI s) x5 (nI s) (nI (zw d))) (zb false) (zNx (if ¬ zOp S s &&& zw d = 0 then zSc B S s (zw d) else S)) (lN (zG (zG (zG (zG g))))) := by
          intro d x5 hx
          have h3 := zSb_3 B S s (zw d)
          refine zRT.bo (zR_scraped (by omega)) ?_
          by_cases hz : zOp S s &&& zw d = 0
          · rw [if_neg (show ¬ ¬ zOp S s &&& zw d = 0 from fun q => q hz), (zSb_0 B S s (zw d)).mpr hz]
            exact zRT.ifp (by decide) (zR_lw129 false _ hw)
          · rw [if_pos hz]
            refine zRT.ifn (nI_nle (Nat.pos_of_ne_zero fun q => hz ((zSb_0 B S s (zw d)).mp q)) (by omega)) ?_
            cases d with
            | false => exact zRT.ifp (hx.mpr rfl) (zRT.bind (zT_scrapes (w := 63) (by omega)) (zR_lw129 false _ (by rw [zSc_wk]; exact hw)))
            | true => exact zRT.ifn (fun q => by cases hx.mp q) (zRT.bind (zT_scrapes (w := 9) (by omega)) (zR_lw129 false _ (by rw [zSc_wk]; exact hw)))
        have : q = 0 ∨ q = 1 ∨ q = 2 := by omega
        rcases this with rfl | rfl | rfl
        · have := h106 false 0 (by decide)
          by_cases hz : zOp S s &&& zw (decide ((0 : Nat) = 1)) = 0
          · rw [if_neg (show ¬ ((0 : Nat) < 2 ∧ ¬ zOp S s &&& zw (decide ((0 : Nat) = 1)) = 0) from fun qq => qq.2 hz)]
            rw [if_neg (show ¬ ¬ zOp S s &&& zw false = 0 from fun qq => qq hz)] at this
            exact zRT.ifn (by decide) (zRT.ifp (by decide) this)
          · rw [if_pos (show (0 : Nat) < 2 ∧ ¬ zOp S s &&& zw (decide ((0 : Nat) = 1)) = 0 from ⟨by decide, hz⟩)]
            rw [if_pos (show ¬ zOp S s &&& zw false = 0 from hz)] at this
            exact zRT.ifn (by decide) (zRT.ifp (by decide) this)
        · have := h106 true (nI 1) (by decide)
          by_cases hz : zOp S s &&& zw (decide ((1 : Nat) = 1)) = 0
          · rw [if_neg (show ¬ ((1 : Nat) < 2 ∧ ¬ zOp S s &&& zw (decide ((1 : Nat) = 1)) = 0) from fun qq => qq.2 hz)]
            rw [if_neg (show ¬ ¬ zOp S s &&& zw true = 0 from fun qq => qq hz)] at this
            exact zRT.ifn (by decide) (zRT.ifn (by decide) this)
          · rw [if_pos (show (1 : Nat) < 2 ∧ ¬ zOp S s &&& zw (decide ((1 : Nat) = 1)) = 0 from ⟨by decide, hz⟩)]
            rw [if_pos (show ¬ zOp S s &&& zw true = 0 from hz)] at this
            exact zRT.ifn (by decide) (zRT.ifn (by decide) this)
        · rw [if_neg (show ¬ ((2 : Nat) < 2 ∧ ¬ zOp S s &&& zw (decide ((2 : Nat) = 1)) = 0) by omega)]
          exact zRT.ifp (by decide) (zR_lw129 false _ hw)
theorem zR_years62 {Sk : zMS} (hB : zLok B) {w j0 : Nat} (hw : w < 100) (hj : j0 < 3) : ∀ (j n i g o : Nat) (S : zMS), zSok B S → zT0 B S → zWk S + j < 900100 → g < 2147483648 → i + j = w → j < n →
    zRK N a B 49 Sk S (lN g) (fX7_years_62 N a n (nI w) (nI j0) (nI o) (nI i)) (if j0 = 0 then nI (zYs B j S g o).2.2 else if j0 = 1 then nI (zWl B (zYs B j S g o).1 (nI (zDp B (zWk (zYs B j S g o).1)))) else nI (zTs (zYs B j S g o).1 (zS B)))
  | 0, n + 1, i, g, o, S, hS, h0, hwk, hg, hi, hn => by
    have h49 : (49 : Nat) = 49 ∨ (49 : Nat) = 50 := Or.inl rfl
    rw [fX7_years_62]
    refine zRK.ifp (nI_le (by omega) (by omega)) (zRK.bo h49 zR_wholeNow (zRK.bo h49 (zR_allThick h0) (zRK.bo h49 zR_o49 (zRK.bo h49 zR_o48 (zRK.back49 ?_)))))
    have : j0 = 0 ∨ j0 = 1 ∨ j0 = 2 := by omega
    rcases this with rfl | rfl | rfl
    · exact zRW.ifp (by decide) (zRW.ret _)
    · exact zRW.ifn (by decide) (zRW.ifp (by decide) (zRW.ret _))
    · exact zRW.ifn (by decide) (zRW.ifn (by decide) (zRW.ret _))
  | j + 1, n + 1, i, g, o, S, hS, h0, hwk, hg, hi, hn => by
    have h49 : (49 : Nat) = 49 ∨ (49 : Nat) = 50 := Or.inl rfl
    obtain ⟨y1, y2⟩ := zYd_ok hB hS g
    have ih := zR_years62 (Sk := Sk) hB hw hj j n (i + 1) (zYd B S g).2.1 (o + if (zYd B S g).2.2 = true then 1 else 0) (zNx (zYd B S g).1) (zSok_nx y1 (by rw [y2]; omega)) (zT0_yd h0 g) (by show zWk (zYd B S g).1 + 1 + j < _; rw [y2]; omega) (zYd_g hg) (by omega) (by omega)
    rw [fX7_years_62]
    refine zRK.ifn (nI_ge (by omega) (by omega)) (zRK.bind h49 (zR_livesWeek hg (by omega)) ?_)
    unfold fX7_years_82
    rw [zc1_da]
    rw [show zYs B (j + 1) S g o = zYs B j (zNx (zYd B S g).1) (zYd B S g).2.1 (o + if (zYd B S g).2.2 = true then 1 else 0) from rfl]
    cases hc : (zYd B S g).2.2 with
    | true =>
      rw [hc, if_pos rfl] at ih
      refine zRK.ifn zb1n ?_
      rw [if_pos rfl, zc1_da]
      exact ih
    | false =>
      rw [hc, if_neg zff] at ih
      refine zRK.ifp rfl ?_
      rw [if_neg zff, show (nI o + (0 : Int32)) = nI (o + 0) from nI_add o 0]
      exact ih
theorem zR_op_years (h0 : zT0 B S) (hwk : zWk S < 900000) (x w q : Int32) : zRW N a B S (fX7_years N a x w q) (zO_years B S x w q) := by
  refine zRW.have_ fun hN hB hS => ?_
  unfold zO_years
  refine zRW.thw (zRW.bo (zR_within _ _ _) ?_)
  rw [show (9999 : Int32) = nI 9999 from rfl, zix_in x (by decide)]
  rcases zix_cases x (n := 10000) (by decide) with ⟨h3, -⟩ | ⟨sd, h3, h4, rfl⟩
  · rw [h3]; exact zRW.ifp rfl (zRW.ret _)
  · rw [h4]
    refine zRW.ifn zb1n (zRW.bo (zR_within _ _ _) ?_)
    show zRW N a B S (if zb (!decide (w < nI 1) && !decide (nI 99 < w)) = 0 then _ else _) (match zir w 1 99 with
      | none => (-1 : Int32)
      | some n => match zix q 3 with
        | none => (-1 : Int32)
        | some j => if j = 0 then nI (zYs B n S sd 0).2.2 else if j = 1 then nI (zWl B (zYs B n S sd 0).1 (nI (zDp B (zWk (zYs B n S sd 0).1)))) else nI (zTs (zYs B n S sd 0).1 (zS B)))
    rcases zir_cases w (lo := 1) (n := 99) (by decide) (by decide) with ⟨h5, h6⟩ | ⟨n, h5, h6, h7, rfl, h8⟩
    · rw [h5, h6]; exact zRW.ifp rfl (zRW.ret _)
    · rw [h7, h8]
      refine zRW.ifn zb1n (zRW.bo (zR_within _ _ _) ?_)
      rw [show (2 : Int32) = nI 2 from rfl, zix_in q (by decide)]
      rcases zix_cases q (n := 3) (by decide) with ⟨h9, -⟩ | ⟨j, h9, h10, rfl⟩
      · rw [h9]; exact zRW.ifp rfl (zRW.ret _)
      · rw [h10]
        refine zRW.ifn zb1n ?_
        intro h F L A M hb hX
        have k1 : zRX N a B S A := hX
        obtain ⟨F2, L2, A2, f2, s2, x2, e2⟩ := zRW.aside49g (F := F) (L := vp_updL L 58 (lN sd)) (M := M) (K := fun _ => fX7_years_62 N a N (nI n) (nI j) 0 0) hb hX (by
          rw [pk_uLs]
          exact zR_years62 hB (by omega) h9 n N 0 sd 0 S hS h0 (by omega) (by omega) (by omega) (by omega))
        refine ⟨F2, L2, A2, f2, s2, x2, ?_⟩
        rw [nI_l (by omega), zr_p58 hb, zr_g48, zr_g49]
        exact e2
theorem zC_drawsText {g : Nat} (hg : g < 2147483648) (hT0 : ¬ zT B = 0) (hS0 : ¬ zS B = 0) : zCT N k B S St (lN g) (fX1_drawsText N (k.1 0)) (zb (zYd B St g).2.2) (zYd B St g).1 (lN (zYd B St g).2.1) := by
  refine zCT.have_ fun hN hB _ hS => ?_
  have hs3 := hB.1
  have hT := hB.2.1
  unfold zYd
  rw [if_neg (show ¬ (zT B = 0 ∨ zS B = 0) by omega)]
  have ht := zG_w g (m := zT B) (by omega)
  have hs := zG_w (zG g) (m := zS B) (by omega)
  have hl := zG_w (zG (zG g)) (m := 6) (by decide)
  refine zCT.bo zC_texts (zCT.bind (zV_draw (m := zT B) hg (by omega) (by omega)) (zCT.bo zC_skins (zCT.bind (zV_draw (m := zS B) (zG_lt _) (by omega) (by omega)) (zCT.bind (zV_draw (m := 6) (zG_lt _) (by decide) (by decide)) (zCT.bo zC_w2 (zCT.bo (zC_r2 false) (zCT.bind (zV_may ht hs hl) ?_)))))))
  cases hc : zCw B St (zG g / 65536 % zT B) (zG (zG g) / 65536 % zS B) (zG (zG (zG g)) / 65536 % 6) with
  | true =>
    rw [if_pos rfl]
    exact zCT.ifn zb1n (zCT.bo zC_w2 (zCT.bo (zC_r2 false) (zCT.bind (zV_writes ht hs hc) zCO.rn1.t)))
  | false =>
    rw [if_neg zff]
    refine zCT.ifp rfl (zCT.bind (zV_draw (m := 3) (zG_lt _) (by decide) (by decide)) ?_)
    have hq := zG_w (zG (zG (zG g))) (m := 3) (by decide)
    generalize zG (zG (zG (zG g))) / 65536 % 3 = q at hq ⊢
    generalize zG (zG g) / 65536 % zS B = s at hs ⊢
    have h79 : ∀ (d : Bool) (x4 : Int32), (x4 = 1 ↔ d = true) → zCT N k B S St (lN (zG (zG (zG (zG g))))) (fX1_drawsText_79 N (k.1 0) (nI s) x4 (some (zka k false)) (nI s) (zb d)) (zb false) (if ¬ zOp St s &&& zw d = 0 then zSc B St s (zw d) else St) (lN (zG (zG (zG (zG g))))) := by
      intro d x4 hx
      refine zCT.bo (zC_r2 false) (zCT.bind (zV_mayS (by omega) d) ?_)
      by_cases hz : zOp St s &&& zw d = 0
      · rw [if_neg (show ¬ ¬ zOp St s &&& zw d = 0 from fun q => q hz), decide_eq_true hz]
        exact zCT.ifp rfl zCO.rn0.t
      · rw [if_pos hz, decide_eq_false hz]
        refine zCT.ifn zb1n (zCT.bo zC_w2 ?_)
        cases d with
        | true => exact zCT.ifp (hx.mpr rfl) (zCT.bo (zC_r2 false) (zCT.bind (zV_scrapes hs true hz) zCO.rn0.t))
        | false => exact zCT.ifn (fun q => by cases hx.mp q) (zCT.bo (zC_r2 false) (zCT.bind (zV_scrapes hs false hz) zCO.rn0.t))
    have : q = 0 ∨ q = 1 ∨ q = 2 := by omega
    rcases this with rfl | rfl | rfl
    · have := h79 false (nI 0) (by decide)
      by_cases hz : zOp St s &&& zw (decide ((0 : Nat) = 1)) = 0
      · rw [if_neg (show ¬ ((0 : Nat) < 2 ∧ ¬ zOp St s &&& zw (decide ((0 : Nat) = 1)) = 0) from fun qq => qq.2 hz)]
        rw [if_neg (show ¬ ¬ zOp St s &&& zw false = 0 from fun qq => qq hz)] at this
        exact zCT.ifn (by decide) (zCT.bo zC_w2 (zCT.ifn (by decide) this))
      · rw [if_pos (show (0 : Nat) < 2 ∧ ¬ zOp St s &&& zw (decide ((0 : Nat) = 1)) = 0 from ⟨by decide, hz⟩)]
        rw [if_pos (show ¬ zOp St s &&& zw false = 0 from hz)] at this
        exact zCT.ifn (by decide) (zCT.bo zC_w2 (zCT.ifn (by decide) this))
    · have := h79 true (nI 1) (by decide)
      by_cases hz : zOp St s &&& zw (decide ((1 : Nat) = 1)) = 0
      · rw [if_neg (show ¬ ((1 : Nat) < 2 ∧ ¬ zOp St s &&& zw (decide ((1 : Nat) = 1)) = 0) from fun qq => qq.2 hz)]
        rw [if_neg (show ¬ ¬ zOp St s &&& zw true = 0 from fun qq => qq hz)] at this
        exact zCT.ifn (by decide) (zCT.bo zC_w2 (zCT.ifp (by decide) this))
      · rw [if_pos (show (1 : Nat) < 2 ∧ ¬ zOp St s &&& zw (decide ((1 : Nat) = 1)) = 0 from ⟨by decide, hz⟩)]
        rw [if_pos (show ¬ zOp St s &&& zw true = 0 from hz)] at this
        exact zCT.ifn (by decide) (zCT.bo zC_w2 (zCT.ifp (by decide) this))
    · rw [if_neg (show ¬ ((2 : Nat) < 2 ∧ ¬ zOp St s &&& zw (decide ((2 : Nat) = 1)) = 0) by omega)]
      exact zCT.ifp (by decide) zCO.rn0.t
theorem zC_years56 (hB : zLok B) {w j0 : Nat} (hw : w < 100) (hj : j0 < 3) : ∀ (j n i g o : Nat) (St : zMS), zSok B St → zWk St + j < 900100 → g < 2147483648 → i + j = w → j < n →
    ∃ St' g', zCT N k B S St (lN g) (fX1_years_56 N (k.1 0) n (nI w) (nI j0) (nI o) (nI i)) (if j0 = 0 then nI (zYs B j St g o).2.2 else if j0 = 1 then nI (zWl B (zYs B j St g o).1 (nI (zDp B (zWk (zYs B j St g o).1)))) else nI (zTs (zYs B j St g o).1 (zS B))) St' g'
  | 0, n + 1, i, g, o, St, hS, hwk, hg, hi, hn => by
    rw [fX1_years_56]
    refine ⟨St, lN g, zCT.ifp (nI_le (by omega) (by omega)) ?_⟩
    have : j0 = 0 ∨ j0 = 1 ∨ j0 = 2 := by omega
    rcases this with rfl | rfl | rfl
    · exact zCT.ifp (by decide) (zCT.ret _)
    · exact zCT.ifn (by decide) (zCT.ifp (by decide) (zCT.bo zC_w2 (zCT.bo zC_w2 (zCT.bo (zC_r2 false) (zCT.bind zV_damp (zCT.bo (zC_r2 false) (zCT.bind (zV_whole _) (zCT.ret _))))))))
    · exact zCT.ifn (by decide) (zCT.ifn (by decide) (zCT.bo zC_w2 (zCT.bo (zC_r2 false) (zCT.bind zV_thick (zCT.ret _)))))
  | j + 1, n + 1, i, g, o, St, hS, hwk, hg, hi, hn => by
    have hs3 := hB.1
    have hT := hB.2.1
    obtain ⟨y1, y2⟩ := zYd_ok hB hS g
    obtain ⟨St', g', ih⟩ := zC_years56 hB hw hj j n (i + 1) (zYd B St g).2.1 (o + if (zYd B St g).2.2 = true then 1 else 0) (zNx (zYd B St g).1) (zSok_nx y1 (by rw [y2]; omega)) (by show zWk (zYd B St g).1 + 1 + j < _; rw [y2]; omega) (zYd_g hg) (by omega) (by omega)
    refine ⟨St', g', ?_⟩
    rw [fX1_years_56]
    rw [show zYs B (j + 1) St g o = zYs B j (zNx (zYd B St g).1) (zYd B St g).2.1 (o + if (zYd B St g).2.2 = true then 1 else 0) from rfl]
    have h87 : zCT N k B S (zYd B St g).1 (lN (zYd B St g).2.1) (fX1_years_86 N (fX1_years_56 N (k.1 0) n) (k.1 0) (nI w) (nI j0) (nI (o + if (zYd B St g).2.2 = true then 1 else 0)) (nI i)) (if j0 = 0 then nI (zYs B j (zNx (zYd B St g).1) (zYd B St g).2.1 (o + if (zYd B St g).2.2 = true then 1 else 0)).2.2 else if j0 = 1 then nI (zWl B (zYs B j (zNx (zYd B St g).1) (zYd B St g).2.1 (o + if (zYd B St g).2.2 = true then 1 else 0)).1 (nI (zDp B (zWk (zYs B j (zNx (zYd B St g).1) (zYd B St g).2.1 (o + if (zYd B St g).2.2 = true then 1 else 0)).1)))) else nI (zTs (zYs B j (zNx (zYd B St g).1) (zYd B St g).2.1 (o + if (zYd B St g).2.2 = true then 1 else 0)).1 (zS B))) St' g' := by
      unfold fX1_years_86
      rw [zc1_da]
      exact zCT.bo zC_w2 (zCT.bind zV_wk (zCT.bind (zV_week (by rw [y2]; omega)) ih))
    refine zCT.ifn (nI_ge (by omega) (by omega)) (zCT.bo zC_texts ?_)
    by_cases h1 : zT B = 0
    · have e : zYd B St g = (St, g, false) := if_pos (Or.inl h1)
      rw [e] at h87 ⊢
      exact zCT.ifp (by rw [h1]; decide) h87
    · refine zCT.ifn (nI_nle (by omega) (by omega)) (zCT.bo zC_skins ?_)
      by_cases h2 : zS B = 0
      · have e : zYd B St g = (St, g, false) := if_pos (Or.inr h2)
        rw [e] at h87 ⊢
        exact zCT.ifp (by rw [h2]; decide) h87
      · refine zCT.ifn (nI_nle (by omega) (by omega)) (zCT.bind (zC_drawsText hg h1 h2) ?_)
        cases hc : (zYd B St g).2.2 with
        | true =>
          rw [hc, if_pos rfl] at h87
          rw [if_pos rfl]
          refine zCT.ifn zb1n ?_
          rw [zc1_da]
          exact h87
        | false =>
          rw [hc, if_neg zff] at h87
          rw [if_neg zff]
          exact zCT.ifp rfl h87
theorem zC_op_years (hwk : zWk S < 900000) (x w q : Int32) : zCW N k B S (fX1_years N (k.1 0) x w q) (zO_years B S x w q) := by
  refine zCW.have_ fun hN hB hS => ?_
  unfold zO_years
  refine zCW.bo (zC_within _ _ _) ?_
  rw [show (9999 : Int32) = nI 9999 from rfl, zix_in x (by decide)]
  rcases zix_cases x (n := 10000) (by decide) with ⟨h3, -⟩ | ⟨sd, h3, h4, rfl⟩
  · rw [h3]; exact zCW.ifp rfl (zCW.ret _)
  · rw [h4]
    refine zCW.ifn zb1n (zCW.bo (zC_within _ _ _) ?_)
    show zCW N k B S (if zb (!decide (w < nI 1) && !decide (nI 99 < w)) = 0 then _ else _) (match zir w 1 99 with
      | none => (-1 : Int32)
      | some n => match zix q 3 with
        | none => (-1 : Int32)
        | some j => if j = 0 then nI (zYs B n S sd 0).2.2 else if j = 1 then nI (zWl B (zYs B n S sd 0).1 (nI (zDp B (zWk (zYs B n S sd 0).1)))) else nI (zTs (zYs B n S sd 0).1 (zS B)))
    rcases zir_cases w (lo := 1) (n := 99) (by decide) (by decide) with ⟨h5, h6⟩ | ⟨n, h5, h6, h7, rfl, h8⟩
    · rw [h5, h6]; exact zCW.ifp rfl (zCW.ret _)
    · rw [h7, h8]
      refine zCW.ifn zb1n (zCW.bo (zC_within _ _ _) ?_)
      rw [show (2 : Int32) = nI 2 from rfl, zix_in q (by decide)]
      rcases zix_cases q (n := 3) (by decide) with ⟨h9, -⟩ | ⟨j, h9, h10, rfl⟩
      · rw [h9]; exact zCW.ifp rfl (zCW.ret _)
      · rw [h10]
        refine zCW.ifn zb1n (zCW.bo zC_w2 (zCW.bo zC_w1 (zCW.bo (zC_r2 false) ?_)))
        intro h X f R hX
        obtain ⟨X1, x1, n1, e1⟩ := zs_copies (b := false) (f := f) (R := R) hX (by decide)
        have hX1 := hX.sh (n1 true (by decide))
        obtain ⟨St', g', t1⟩ := zC_years56 (N := N) (k := k) (S := S) hB (w := n) (by omega) h9 n N 0 sd 0 S hS (by omega) (by omega) (by omega) (by omega)
        obtain ⟨X2, f2, R2, a2, b2, c2, d2, e2⟩ := t1 h X1 f (lN sd, R.2) hX1 x1 rfl
        refine ⟨X2, f2, R2, a2.trans (n1 true (by decide)), by rw [d2], ?_⟩
        rw [jB_eq e1, nI_l (by omega), show (R : zCR) = (R.1, R.2) from rfl, zc_p0_7 (R := R) hX.2.1 hX.2.2.2.2.2.2.2]
        exact e2
end
