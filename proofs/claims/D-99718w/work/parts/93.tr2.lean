/-! PURE 20: the component's triples; cost, bears, giveup -/
set_option maxRecDepth 100000
/-- the shelf is S all through; the trial goes from St to St', g from g to g' -/
def zCT {α : Type} (N : Nat) (k : zKA) (B : zLB) (S St : zMS) (g : Int64) (m : jM α) (v : α) (St' : zMS) (g' : Int64) : Prop := ∀ (h : jH) (X : Bool → zSS) (f : Nat → Int32) (R : zCR), zCX N h k true B S X → zCX N h k false B St X → R.1 = g →
  ∃ X' f' R', X' true = X true ∧ zCX N h k false B St' X' ∧ R'.1 = g' ∧ R'.2 = R.2 ∧ m.1 (cH h k (X, f, R)) = some (v, cH h k (X', f', R'))
section
variable {α β : Type} {N : Nat} {k : zKA} {B : zLB} {S St St1 St2 : zMS} {g g1 g2 : Int64}
theorem zCT.ret (v : α) : zCT N k B S St g (jR v) v St g := fun h X f R _ h2 hg => ⟨X, f, R, rfl, h2, hg, rfl, rfl⟩
theorem zCT.bind {m : jM α} {K : α → jM β} {v : α} {w : β} (h1 : zCT N k B S St g m v St1 g1) (h2 : zCT N k B S St1 g1 (K v) w St2 g2) : zCT N k B S St g (jB m K) w St2 g2 := by
  intro h X f R hX hY hg
  obtain ⟨X1, f1, R1, a1, b1, c1, d1, e1⟩ := h1 h X f R hX hY hg
  obtain ⟨X2, f2, R2, a2, b2, c2, d2, e2⟩ := h2 h X1 f1 R1 (hX.sh a1) b1 c1
  exact ⟨X2, f2, R2, a2.trans a1, b2, c2, d2.trans d1, by rw [jB_eq e1, e2]⟩
theorem zCO.t {m : jM α} {v : α} (h1 : zCO N k B S m v) : zCT N k B S St g m v St g := fun h X f R hX hY hg => by
  obtain ⟨f', e⟩ := h1 h X f R hX
  exact ⟨X, f', R, rfl, hY, hg, rfl, e⟩
theorem zCT.bo {m : jM α} {K : α → jM β} {v : α} {w : β} (h1 : zCO N k B S m v) (h2 : zCT N k B S St g (K v) w St2 g2) : zCT N k B S St g (jB m K) w St2 g2 := zCT.bind h1.t h2
theorem zCT.ifp {c : Prop} {d : Decidable c} {A1 A2 : jM α} {v : α} (hc : c) (h1 : zCT N k B S St g A1 v St2 g2) : zCT N k B S St g (@ite _ c d A1 A2) v St2 g2 := by rw [if_pos hc]; exact h1
theorem zCT.ifn {c : Prop} {d : Decidable c} {A1 A2 : jM α} {v : α} (hc : ¬ c) (h1 : zCT N k B S St g A2 v St2 g2) : zCT N k B S St g (@ite _ c d A1 A2) v St2 g2 := by rw [if_neg hc]; exact h1
theorem zCT.have_ {m : jM α} {v : α} (h1 : 3000 ≤ N → zLok B → zSok B S → zSok B St → zCT N k B S St g m v St2 g2) : zCT N k B S St g m v St2 g2 := fun h X f R hX hY hg => h1 hX.1 hX.2.2.1 hX.2.2.2.1 hY.2.2.2.1 h X f R hX hY hg
theorem zCT.ofF {m : jM α} {v : α} (h1 : ∀ (h : jH) (X : Bool → zSS) (f : Nat → Int32) (R : zCR), zCX N h k false B St X → ∃ f', m.1 (cH h k (X, f, R)) = some (v, cH h k (X, f', R))) : zCT N k B S St g m v St g := fun h X f R hX hY hg => by
  obtain ⟨f', e⟩ := h1 h X f R hY
  exact ⟨X, f', R, rfl, hY, hg, rfl, e⟩
theorem zCT.of {m : jM α} {v : α} (h1 : ∀ (h : jH) (X : Bool → zSS) (f : Nat → Int32) (R : zCR), zCX N h k false B St X → m.1 (cH h k (X, f, R)) = some (v, cH h k (X, f, R))) : zCT N k B S St g m v St g := zCT.ofF fun h X f R hX => ⟨f, h1 h X f R hX⟩
theorem zCT.ofB {m : jM α} {v : α} (h1 : ∀ (h : jH) (X : Bool → zSS) (f : Nat → Int32) (R : zCR), zCX N h k false B St X → (jB m jR).1 (cH h k (X, f, R)) = (jR v).1 (cH h k (X, f, R))) : zCT N k B S St g m v St g := by
  refine zCT.of fun h X f R hX => ?_
  have := h1 h X f R hX
  rw [jB_run] at this
  cases hx : m.1 (cH h k (X, f, R)) with
  | none => rw [hx] at this; cases this
  | some z => rw [hx] at this; exact this
theorem zCT.ofX {m : jM α} {v : α} (h1 : ∀ (h : jH) (X : Bool → zSS) (f : Nat → Int32) (R : zCR), zCX N h k false B St X → ∃ X', zCX N h k false B St2 X' ∧ (∀ b', b' ≠ false → X' b' = X b') ∧ m.1 (cH h k (X, f, R)) = some (v, cH h k (X', f, R))) : zCT N k B S St g m v St2 g := fun h X f R hX hY hg => by
  obtain ⟨X', a1, a2, e⟩ := h1 h X f R hY
  exact ⟨X', f, R, a2 true (by decide), a1, hg, rfl, e⟩
theorem zV_mayS {s : Nat} (hs : s < 3) (d : Bool) : zCT N k B S St g (fX3_mayScrape (zka k false) (nI s) (zb d)) (zb (!decide (zOp St s &&& zw d = 0))) St g := zCT.of fun h X f R hX => zs_mayScrape hX hs d
theorem zV_scrapes {s : Nat} (hs : s < zS B) (d : Bool) (hm : ¬ zOp St s &&& zw d = 0) : zCT N k B S St g (fX3_scrapes N (zka k false) (nI s) (zb d)) () (zSc B St s (zw d)) g := zCT.ofX fun h X f R hX => zs_scrapes hX hs d hm
theorem zV_place {t s : Nat} (ht : t < zT B) (hs : s < zS B) : zCT N k B S St g (fX3_place N (zka k false) (nI t) (nI s)) (zo (zPc B St t s)) St g := zCT.of fun h X f R hX => zs_place hX ht hs
theorem zV_may {t s l : Nat} (ht : t < zT B) (hs : s < zS B) (hl : l < 6) : zCT N k B S St g (fX3_mayWrite N (zka k false) (nI t) (nI s) (nI l)) (zb (zCw B St t s l)) St g := zCT.of fun h X f R hX => zs_mayWrite hX ht hs hl
theorem zV_writes {t s l : Nat} (ht : t < zT B) (hs : s < zS B) (hw : zCw B St t s l = true) : zCT N k B S St g (fX3_writes N (zka k false) (nI t) (nI s) (nI l)) () (zWr B St t s l) g := zCT.ofX fun h X f R hX => zs_writes hX ht hs hw
theorem zV_whole (damp : Int32) : zCT N k B S St g (fX3_whole N (zka k false) damp) (nI (zWl B St damp)) St g := zCT.ofF fun h X f R hX => zs_whole hX damp f
theorem zV_damp : zCT N k B S St g (fX3_damp (zka k false)) (nI (zDp B (zWk St))) St g := zCT.of fun h X f R hX => zs_damp hX
theorem zV_gone : zCT N k B S St g (fX3_gone N (zka k false)) (nI (zGo B St)) St g := zCT.of fun h X f R hX => zs_gone hX
theorem zV_thick : zCT N k B S St g (fX3_thickness N (zka k false)) (nI (zTs St (zS B))) St g := zCT.of fun h X f R hX => zs_thick hX
theorem zV_th {s : Nat} (hs : s < zS B) : zCT N k B S St g (jaI 0 (some (zka k false + 1)) (nI s)) (nI (zTh St s)) St g := zCT.ofB fun h X f R hX => by
  have := hX.2.2.1.1
  rw [zc_a1 hX.2.1 (by omega), hX.2.2.2.2.2.2.1.2.2.2.1 s hs]
theorem zV_wk : zCT N k B S St g (jgI [2] 1 (some (zka k false))) (nI (zWk St)) St g := zCT.ofB fun h X f R hX => by rw [zc_g2_1 hX.2.1, hX.2.2.2.2.2.2.1.2.1]
theorem zV_week (hw : zWk St + 1 < 1000000) : zCT N k B S St g (jpI [2] 1 (some (zka k false)) (nI (zWk St) + 1)) () (zNx St) g := zCT.ofX fun h X f R hX => by
  refine ⟨zX X false (((X false).1.1, nI (zWk St) + 1, (X false).1.2.2), (X false).2), ⟨hX.1, hX.2.1, hX.2.2.1, zSok_nx hX.2.2.2.1 hw, hX.2.2.2.2.1, hX.2.2.2.2.2.1, ?_, hX.2.2.2.2.2.2.2⟩, fun b' hb' => zX_ne _ _ hb', ?_⟩
  · rw [zX_eq]
    have hx := hX.2.2.2.2.2.2.1
    exact ⟨hx.1, zc1_da _, hx.2.2.1, hx.2.2.2.1, hx.2.2.2.2⟩
  · have := zc_p2_1 (X := X) (f := f) (R := R) (b := false) hX.2.1 hX.2.2.2.2.2.2.2 (nI (zWk St) + 1) (fun _ => jR ())
    rw [jB_run] at this
    cases hx : (jpI [2] 1 (some (zka k false)) (nI (zWk St) + 1)).1 (cH h k (X, f, R)) with
    | none => rw [hx] at this; cases this
    | some z => rw [hx] at this; exact this
theorem zV_draw {x m : Nat} (hx : x < 2147483648) (hm : 0 < m) (hm2 : m < 2 ^ 31) : zCT N k B S St (lN x) (fX1_draw (k.1 0) (nI m)) (nI (zG x / 65536 % m)) St (lN (zG x)) := fun h X f R hX hY hg => by
  have hnz : ¬ (nI m).toInt64 = 0 := by
    rw [nI_l hm2, show (0 : Int64) = lN 0 from rfl, lN_eq hm2 (by decide)]
    omega
  refine ⟨X, f, (lN (zG x), R.2), rfl, hY, rfl, rfl, ?_⟩
  unfold fX1_draw
  rw [zc_g0_7 hX.2.1, hg, znzL (by decide), zdrawL hx]
  rw [show (R : zCR) = (R.1, R.2) from rfl, zc_p0_7 (R := R) hX.2.1 hX.2.2.2.2.2.2.2, zc_g0_7 hX.2.1]
  rw [znzL (by decide), znzL hnz, zdrawV (zG_lt x) hm hm2]
  rfl
theorem zCW.bo {m : jM α} {K : α → jM β} {v : α} {w : β} (h1 : zCO N k B S m v) (h2 : zCW N k B S (K v) w) : zCW N k B S (jB m K) w := by
  intro h X f R hX
  obtain ⟨f1, e1⟩ := h1 h X f R hX
  obtain ⟨X2, f2, R2, a2, b2, e2⟩ := h2 h X f1 R hX
  exact ⟨X2, f2, R2, a2, b2, by rw [jB_eq e1, e2]⟩
theorem zCW.bind {m : jM α} {K : α → jM β} {v : α} {w : β} (h1 : zCW N k B S m v) (h2 : zCW N k B S (K v) w) : zCW N k B S (jB m K) w := by
  intro h X f R hX
  obtain ⟨X1, f1, R1, a1, b1, e1⟩ := h1 h X f R hX
  obtain ⟨X2, f2, R2, a2, b2, e2⟩ := h2 h X1 f1 R1 (hX.sh a1)
  exact ⟨X2, f2, R2, a2.trans a1, b2.trans b1, by rw [jB_eq e1, e2]⟩
theorem zCW.ifp {c : Prop} {d : Decidable c} {A1 A2 : jM α} {v : α} (hc : c) (h1 : zCW N k B S A1 v) : zCW N k B S (@ite _ c d A1 A2) v := by rw [if_pos hc]; exact h1
theorem zCW.ifn {c : Prop} {d : Decidable c} {A1 A2 : jM α} {v : α} (hc : ¬ c) (h1 : zCW N k B S A2 v) : zCW N k B S (@ite _ c d A1 A2) v := by rw [if_neg hc]; exact h1
theorem zCW.ret (v : α) : zCW N k B S (jR v) v := (zCO.ret v).w
theorem zCW.have_ {m : jM α} {v : α} (h1 : 3000 ≤ N → zLok B → zSok B S → zCW N k B S m v) : zCW N k B S m v := fun h X f R hX => h1 hX.1 hX.2.2.1 hX.2.2.2.1 h X f R hX
/-- the trial becomes a copy of the shelf -/
theorem zCW.copies {K : Option Nat → jM α} {w : α} (h2 : ∀ g, ∃ St' g', zCT N k B S S g (K (some (zka k false))) w St' g') : zCW N k B S (jB (fX3_copies (zka k false) (some (zka k true))) K) w := by
  intro h X f R hX
  obtain ⟨X1, x1, n1, e1⟩ := zs_copies (b := false) (f := f) (R := R) hX (by decide)
  obtain ⟨St', g', h3⟩ := h2 R.1
  obtain ⟨X2, f2, R2, a2, b2, c2, d2, e2⟩ := h3 h X1 f R (hX.sh (n1 true (by decide))) x1 rfl
  exact ⟨X2, f2, R2, a2.trans (n1 true (by decide)), by rw [d2], by rw [jB_eq e1, e2]⟩
theorem zRW.ifp {a : Nat} {c : Prop} {d : Decidable c} {A1 A2 : jM α} {v : α} (hc : c) (h1 : zRW N a B S A1 v) : zRW N a B S (@ite _ c d A1 A2) v := by rw [if_pos hc]; exact h1
theorem zRW.ifn {a : Nat} {c : Prop} {d : Decidable c} {A1 A2 : jM α} {v : α} (hc : ¬ c) (h1 : zRW N a B S A2 v) : zRW N a B S (@ite _ c d A1 A2) v := by rw [if_neg hc]; exact h1
theorem zRW.ret {a : Nat} (v : α) : zRW N a B S (jR v) v := (zRO.ret v).w
theorem zRW.bind {a : Nat} {m : jM α} {K : α → jM β} {v : α} {w : β} (h1 : zRW N a B S m v) (h2 : zRW N a B S (K v) w) : zRW N a B S (jB m K) w := by
  intro h F L A M hb hX
  obtain ⟨F1, L1, A1, f1, s1, x1, e1⟩ := h1 h F L A M hb hX
  obtain ⟨F2, L2, A2, f2, s2, x2, e2⟩ := h2 h F1 L1 A1 M hb x1
  exact ⟨F2, L2, A2, ⟨f2.1.trans f1.1, f2.2.trans f1.2⟩, s1.tr s2, x2, by rw [jB_eq e1, e2]⟩
theorem zRW.bo {a : Nat} {m : jM α} {K : α → jM β} {v : α} {w : β} (h1 : zRO N a B S m v) (h2 : zRW N a B S (K v) w) : zRW N a B S (jB m K) w := zRW.bind h1.w h2
/-- a shelf is kept aside (array 49 or 50) while another is at hand; it ends with the kept one -/
def zRK (N a : Nat) (B : zLB) (j : Nat) (Sk S : zMS) (g : Int64) (m : jM α) (v : α) : Prop := ∀ (h : jH) (F : Nat → Int32) (L : Nat → Int64) (A : Nat → Nat → Int32) (M : Nat → Nat → Int64), h.2.2.2.2 0 ≤ a → zRX N a B S A → zRow Sk (A j) → zSok B Sk → L 58 = g →
  ∃ F' L' A', (F' 1 = F 1 ∧ F' 54 = F 54) ∧ zSc2 A A' ∧ zRX N a B Sk A' ∧ m.1 (rH h a (F, L, A, M)) = some (v, rH h a (F', L', A', M))
theorem zRK.bind {a j : Nat} (hj : j = 49 ∨ j = 50) {Sk S1 : zMS} {m : jM α} {K : α → jM β} {v : α} {w : β} (h1 : zRT N a B S g m v S1 g1) (h2 : zRK N a B j Sk S1 g1 (K v) w) : zRK N a B j Sk S g (jB m K) w := by
  intro h F L A M hb hX hr hk hg
  obtain ⟨L1, A1, g1, f1, x1, e1⟩ := h1 h F L A M hb hX hg
  obtain ⟨F2, L2, A2, f2, s2, x2, e2⟩ := h2 h F L1 A1 M hb x1 (by rw [f1 j (by omega) (by omega)]; exact hr) hk g1
  exact ⟨F2, L2, A2, f2, fun q hq => (s2 q hq).trans (f1 q (by omega) (by omega)), x2, by rw [jB_eq e1, e2]⟩
theorem zRK.bo {a j : Nat} (hj : j = 49 ∨ j = 50) {Sk : zMS} {m : jM α} {K : α → jM β} {v : α} {w : β} (h1 : zRO N a B S m v) (h2 : zRK N a B j Sk S g (K v) w) : zRK N a B j Sk S g (jB m K) w := zRK.bind hj h1.t h2
theorem zRK.ifp {a j : Nat} {Sk : zMS} {c : Prop} {d : Decidable c} {A1 A2 : jM α} {v : α} (hc : c) (h1 : zRK N a B j Sk S g A1 v) : zRK N a B j Sk S g (@ite _ c d A1 A2) v := by rw [if_pos hc]; exact h1
theorem zRK.ifn {a j : Nat} {Sk : zMS} {c : Prop} {d : Decidable c} {A1 A2 : jM α} {v : α} (hc : ¬ c) (h1 : zRK N a B j Sk S g A2 v) : zRK N a B j Sk S g (@ite _ c d A1 A2) v := by rw [if_neg hc]; exact h1
theorem zRK.have_ {a j : Nat} {Sk : zMS} {m : jM α} {v : α} (h1 : 3000 ≤ N → zLok B → zSok B S → zRK N a B j Sk S g m v) : zRK N a B j Sk S g m v := fun h F L A M hb hX => h1 hX.1 hX.2.1 hX.2.2.1 h F L A M hb hX
theorem zRK.back50 {a : Nat} {Sk : zMS} {K : Unit → jM α} {v : α} (h1 : zRW N a B Sk (K ()) v) : zRK N a B 50 Sk S g (jB (fX7_copies N (some (a + 39)) 0 (some (a + 37)) 0) K) v := by
  intro h F L A M hb hX hr hk hg
  obtain ⟨F2, L2, A2, f2, s2, x2, e2⟩ := h1 h F L (zuA A 48 (va_cpy (A 50) (A 48) 0 0 25)) M hb (hX.to (fun q _ b => zuA_ne _ _ (by omega)) hk (by
    show zRow _ _
    rw [zuA_eq]
    exact zRow_cp0 hr))
  exact ⟨F2, L2, A2, f2, fun q hq => (s2 q hq).trans (zuA_ne _ _ (by omega)), x2, by rw [jB_eq (zr_cp50_48 hb hX.1), e2]⟩
theorem zRK.back49 {a : Nat} {Sk : zMS} {K : Unit → jM α} {v : α} (h1 : zRW N a B Sk (K ()) v) : zRK N a B 49 Sk S g (jB (fX7_copies N (some (a + 38)) 0 (some (a + 37)) 0) K) v := by
  intro h F L A M hb hX hr hk hg
  obtain ⟨F2, L2, A2, f2, s2, x2, e2⟩ := h1 h F L (zuA A 48 (va_cpy (A 49) (A 48) 0 0 25)) M hb (hX.to (fun q _ b => zuA_ne _ _ (by omega)) hk (by
    show zRow _ _
    rw [zuA_eq]
    exact zRow_cp0 hr))
  exact ⟨F2, L2, A2, f2, fun q hq => (s2 q hq).trans (zuA_ne _ _ (by omega)), x2, by rw [jB_eq (zr_cp49_48 hb hX.1), e2]⟩
theorem zRW.aside50 {a : Nat} {K : Unit → jM α} {v : α} (h1 : ∀ g, zRK N a B 50 S S g (K ()) v) : zRW N a B S (jB (fX7_copies N (some (a + 37)) 0 (some (a + 39)) 0) K) v := by
  intro h F L A M hb hX
  have hr := hX.2.2.2.2.1
  obtain ⟨F2, L2, A2, f2, s2, x2, e2⟩ := h1 (L 58) h F L (zuA A 50 (va_cpy (A 48) (A 50) 0 0 25)) M hb (hX.to (fun q _ b => zuA_ne _ _ (by omega)) hX.2.2.1 (by
    show zRow _ _
    rw [zuA_ne _ _ (by decide)]
    exact hr)) (by rw [zuA_eq]; exact zRow_cp0 hr) hX.2.2.1 rfl
  exact ⟨F2, L2, A2, f2, fun q hq => (s2 q hq).trans (zuA_ne _ _ (by omega)), x2, by rw [jB_eq (zr_cp48_50 hb hX.1), e2]⟩
theorem zRW.aside49g {a : Nat} {K : Unit → jM α} {v : α} {h : jH} {F : Nat → Int32} {L : Nat → Int64} {A : Nat → Nat → Int32} {M : Nat → Nat → Int64} (hb : h.2.2.2.2 0 ≤ a) (hX : zRX N a B S A) (h1 : zRK N a B 49 S S (L 58) (K ()) v) :
    ∃ F' L' A', (F' 1 = F 1 ∧ F' 54 = F 54) ∧ zSc2 A A' ∧ zRX N a B S A' ∧ (jB (fX7_copies N (some (a + 37)) 0 (some (a + 38)) 0) K).1 (rH h a (F, L, A, M)) = some (v, rH h a (F', L', A', M)) := by
  have hr := hX.2.2.2.2.1
  obtain ⟨F2, L2, A2, f2, s2, x2, e2⟩ := h1 h F L (zuA A 49 (va_cpy (A 48) (A 49) 0 0 25)) M hb (hX.to (fun q _ b => zuA_ne _ _ (by omega)) hX.2.2.1 (by
    show zRow _ _
    rw [zuA_ne _ _ (by decide)]
    exact hr)) (by rw [zuA_eq]; exact zRow_cp0 hr) hX.2.2.1 rfl
  exact ⟨F2, L2, A2, f2, fun q hq => (s2 q hq).trans (zuA_ne _ _ (by omega)), x2, by rw [jB_eq (zr_cp48_49 hb hX.1), e2]⟩
theorem zRW.aside49 {a : Nat} {K : Unit → jM α} {v : α} (h1 : ∀ g, zRK N a B 49 S S g (K ()) v) : zRW N a B S (jB (fX7_copies N (some (a + 37)) 0 (some (a + 38)) 0) K) v := fun h F L A M hb hX => zRW.aside49g hb hX (h1 (L 58))
end
/-! cost -/
def zCs (B : zLB) (S : zMS) (t s w : Nat) : Option Nat := if zOp S s &&& w = 0 then none else match zPc B (zSc B S s w) t s with
  | none => none
  | some _ => some (zTh S s - zTh (zSc B S s w) s)
def zMn (x y : Option Nat) : Option Nat := match x, y with
  | none, y => y
  | some x, none => some x
  | some x, some y => some (if y < x then y else x)
def zO_cost (B : zLB) (S : zMS) (x y : Int32) : Int32 := match zix x (zT B) with
  | none => -1
  | some t => match zix y (zS B) with
    | none => -1
    | some s => match zPc B S t s with
      | some _ => 0
      | none => zo (zMn (zCs B S t s 9) (zCs B S t s 63))
theorem zSb_0 (B : zLB) (S : zMS) (s w : Nat) : zSb B S s w = 0 ↔ zOp S s &&& w = 0 := by
  unfold zSb
  split
  · rename_i h; exact ⟨fun _ => h, fun _ => rfl⟩
  · rename_i h; exact ⟨fun q => absurd q (by omega), fun q => absurd q h⟩
theorem zSb_3 (B : zLB) (S : zMS) (s w : Nat) : zSb B S s w ≤ 3 := by
  unfold zSb
  split
  · omega
  · split <;> split <;> omega
theorem zSc_th (B : zLB) (S : zMS) (s w : Nat) : zTh (zSc B S s w) s = zTh S s - zSb B S s w := by
  unfold zSc
  by_cases h : zTh S s - zSb B S s w = 0
  · rw [if_pos h, h]; exact if_pos rfl
  · rw [if_neg h]; exact if_pos rfl
theorem zPc_0 {B : zLB} {S : zMS} {t s : Nat} (h : zTh S s = 0) : zPc B S t s = none := zFs_no.mpr (fun l _ _ => by simp [zCw, h])
theorem zPc_lt {B : zLB} {S : zMS} {t s l : Nat} (h : zPc B S t s = some l) : l < 6 ∧ zCw B S t s l = true := by
  have := zFs_lt h
  exact ⟨by omega, this.2.2⟩
theorem zPc_31 {B : zLB} {S : zMS} {t s : Nat} : ∀ l, zPc B S t s = some l → l < 2 ^ 31 := fun l h => by have := (zPc_lt h).1; omega
theorem zCs_31 {B : zLB} {S : zMS} {t s w : Nat} (hS : zSok B S) (hs : s < 3) : ∀ l, zCs B S t s w = some l → l < 31 := fun l h => by
  have := (hS.2.1 s hs).1
  unfold zCs at h
  split at h
  · cases h
  · split at h
    · cases h
    · cases h; omega
section
variable {α β : Type} {N a : Nat} {k : zKA} {B : zLB} {S : zMS}
theorem zR_costBy {t s : Nat} (ht : t < zT B) (hs : s < zS B) (w : Nat) : zRW N a B S (fX7_costBy N a (nI t) (nI s) (nI w)) (zo (zCs B S t s w)) := by
  refine zRW.have_ fun hN hB hS => ?_
  have hs3 := hB.1
  have hth := (hS.2.1 s (by omega)).1
  have h3 := zSb_3 B S s w
  refine zRW.bo (zR_scraped (by omega)) ?_
  by_cases hz : zOp S s &&& w = 0
  · have e : zCs B S t s w = none := if_pos hz
    rw [e, (zSb_0 B S s w).mpr hz]
    exact zRW.ifp rfl (zRW.ret _)
  · have hne : ¬ zSb B S s w = 0 := fun q => hz ((zSb_0 B S s w).mp q)
    refine zRW.ifn (nI_ne0 (by omega) (by omega)) (zRW.bo zR_o48 (zRW.bo (zR_th (by omega)) ?_))
    by_cases hlt : zSb B S s w < zTh S s
    · refine zRW.ifp (nI_lt hlt (by omega)) (zRW.bo zR_o48 (zRW.bo zR_o50 ?_))
      refine zRW.aside50 fun g => zRK.bind (Or.inr rfl) (zT_scrapes (by omega)) (zRK.bo (Or.inr rfl) (zR_place ht hs) ?_)
      unfold zCs
      rw [if_neg hz]
      cases hp : zPc B (zSc B S s w) t s with
      | none => exact zRK.ifp (by decide) (zRK.bo (Or.inr rfl) zR_o50 (zRK.bo (Or.inr rfl) zR_o48 (zRK.back50 (zRW.ifp rfl (zRW.ret _)))))
      | some l =>
        have := zPc_31 l hp
        show zRK N a B 50 S _ g _ (nI (zTh S s - zTh (zSc B S s w) s))
        rw [zSc_th, show zTh S s - (zTh S s - zSb B S s w) = zSb B S s w by omega]
        exact zRK.ifn (nI_pos this) (zRK.bo (Or.inr rfl) zR_o50 (zRK.bo (Or.inr rfl) zR_o48 (zRK.back50 (zRW.ifn (by decide) (zRW.ret _)))))
    · refine zRW.ifn (fun q => hlt ((nI_ltI (by omega) (by omega)).mp q)) ?_
      have e : zCs B S t s w = none := by
        unfold zCs
        rw [if_neg hz, zPc_0 (by rw [zSc_th]; omega)]
      rw [e]
      exact zRW.ret _
theorem zR_op_cost (x y : Int32) : zRW N a B S (fX7_cost N a x y) (zO_cost B S x y) := by
  refine zRW.have_ fun hN hB hS => ?_
  have hT := hB.2.1
  have hs3 := hB.1
  unfold zO_cost
  refine zRW.thw (zRW.bo (zR_isText x) ?_)
  rcases zix_cases x (n := zT B) (by omega) with ⟨h3, -⟩ | ⟨t, h3, h4, rfl⟩
  · rw [h3]; exact zRW.ifp rfl (zRW.ret _)
  · rw [h4]
    refine zRW.ifn zb1n (zRW.bo (zR_isSkin y) ?_)
    rcases zix_cases y (n := zS B) (by omega) with ⟨h5, -⟩ | ⟨s, h5, h6, rfl⟩
    · rw [h5]; exact zRW.ifp rfl (zRW.ret _)
    · rw [h6]
      refine zRW.ifn zb1n (zRW.bo (zR_place h3 h5) ?_)
      show zRW N a B S _ (match zPc B S t s with
        | some _ => 0
        | none => zo (zMn (zCs B S t s 9) (zCs B S t s 63)))
      cases hp : zPc B S t s with
      | some l => exact zRW.ifn (nI_pos (zPc_31 l hp)) (zRW.ret _)
      | none =>
        refine zRW.ifp (by decide) (zRW.bind (zR_costBy h3 h5 9) (zRW.bind (zR_costBy h3 h5 63) ?_))
        have b1 := zCs_31 (t := t) (w := 9) hS (show s < 3 by omega)
        have b2 := zCs_31 (t := t) (w := 63) hS (show s < 3 by omega)
        cases h9 : zCs B S t s 9 with
        | none => exact zRW.ifn (by decide) (zRW.ret _)
        | some u =>
          have := b1 u h9
          refine zRW.ifp (nI_pos' (by omega)) ?_
          cases h63 : zCs B S t s 63 with
          | none => exact zRW.ifn (by decide) (zRW.ret _)
          | some v =>
            have := b2 v h63
            refine zRW.ifp (nI_pos' (by omega)) ?_
            have e : jmin (nI u) (nI v) = nI (if v < u then v else u) := by
              unfold jmin
              by_cases hc : v < u
              · rw [if_pos hc, if_pos (nI_lt hc (by omega))]
              · rw [if_neg hc, if_neg (nI_nlt (by omega) (by omega))]
            show zRW N a B S (fX7_cost_77 N a (jmin (nI u) (nI v))) _
            rw [e]
            exact zRW.ret _
theorem zC_costBy {t s : Nat} (ht : t < zT B) (hs : s < zS B) (d : Bool) : zCW N k B S (fX1_costBy N (k.1 0) (nI t) (nI s) (zb d)) (zo (zCs B S t s (zw d))) := by
  refine zCW.have_ fun hN hB hS => ?_
  have hs3 := hB.1
  refine zCW.bo zC_w2 (zCW.bo zC_w1 (zCW.bo (zC_r2 false) (zCW.copies fun g => ?_)))
  unfold zCs
  by_cases hz : zOp S s &&& zw d = 0
  · refine ⟨S, g, zCT.bo zC_w2 (zCT.bo (zC_r2 false) (zCT.bind (zV_mayS (by omega) d) ?_))⟩
    rw [decide_eq_true hz, if_pos hz]
    exact zCT.ifp rfl (zCT.ret _)
  · refine ⟨zSc B S s (zw d), g, zCT.bo zC_w2 (zCT.bo (zC_r2 false) (zCT.bind (zV_mayS (by omega) d) ?_))⟩
    rw [decide_eq_false hz, if_neg hz]
    refine zCT.ifn zb1n (zCT.bo zC_w2 (zCT.bo (zC_r2 false) (zCT.bind (zV_scrapes hs d hz) (zCT.bo zC_w2 (zCT.bo (zC_r2 false) (zCT.bind (zV_place ht hs) ?_))))))
    cases hp : zPc B (zSc B S s (zw d)) t s with
    | none => exact zCT.ifp rfl (zCT.ret _)
    | some l =>
      refine zCT.ifn (zneg1 (zPc_31 l hp)) (zCT.bo zC_w1 (zCT.bo (zC_s3 true) (zCT.bo (zC_th hs) (zCT.bo zC_w2 (zCT.bo (zC_s3 false) (zCT.bind (zV_th hs) ?_))))))
      rw [pk_sub (by rw [zSc_th]; omega)]
      exact zCT.ret _
theorem zC_op_cost (x y : Int32) : zCW N k B S (fX1_cost N (k.1 0) x y) (zO_cost B S x y) := by
  refine zCW.have_ fun hN hB hS => ?_
  have hT := hB.2.1
  have hs3 := hB.1
  unfold zO_cost
  refine zCW.bo (zC_isText x) ?_
  rcases zix_cases x (n := zT B) (by omega) with ⟨h3, -⟩ | ⟨t, h3, h4, rfl⟩
  · rw [h3]; exact zCW.ifp rfl (zCW.ret _)
  · rw [h4]
    refine zCW.ifn zb1n (zCW.bo (zC_isSkin y) ?_)
    rcases zix_cases y (n := zS B) (by omega) with ⟨h5, -⟩ | ⟨s, h5, h6, rfl⟩
    · rw [h5]; exact zCW.ifp rfl (zCW.ret _)
    · rw [h6]
      refine zCW.ifn zb1n (zCW.bo zC_w1 (zCW.bo (zC_r2 true) (zCW.bo (zC_place h3 h5) ?_)))
      show zCW N k B S _ (match zPc B S t s with
        | some _ => 0
        | none => zo (zMn (zCs B S t s 9) (zCs B S t s 63)))
      cases hp : zPc B S t s with
      | some l => exact zCW.ifn (zneg1 (zPc_31 l hp)) (zCW.ret _)
      | none =>
        refine zCW.ifp rfl (zCW.bind (zC_costBy h3 h5 true) (zCW.bind (zC_costBy h3 h5 false) ?_))
        have b1 := zCs_31 (t := t) (w := 9) hS (show s < 3 by omega)
        have b2 := zCs_31 (t := t) (w := 63) hS (show s < 3 by omega)
        show zCW N k B S (if zo (zCs B S t s 9) = -1 then fX1_cost_67 N (k.1 0) (zo (zCs B S t s 63)) else if zo (zCs B S t s 63) = -1 then fX1_cost_72 N (k.1 0) (zo (zCs B S t s 9)) else if zo (zCs B S t s 9) ≤ zo (zCs B S t s 63) then fX1_cost_72 N (k.1 0) (zo (zCs B S t s 9)) else fX1_cost_67 N (k.1 0) (zo (zCs B S t s 63))) _
        cases h9 : zCs B S t s 9 with
        | none => exact zCW.ifp rfl (zCW.ret _)
        | some u =>
          have := b1 u h9
          refine zCW.ifn (zneg1 (by omega)) ?_
          cases h63 : zCs B S t s 63 with
          | none => exact zCW.ifp rfl (zCW.ret _)
          | some v =>
            have := b2 v h63
            refine zCW.ifn (zneg1 (by omega)) ?_
            show zCW N k B S _ (nI (if v < u then v else u))
            by_cases hc : v < u
            · rw [if_pos hc]
              exact zCW.ifn (nI_ge hc (by omega)) (zCW.ret _)
            · rw [if_neg hc]
              exact zCW.ifp (nI_le (by omega) (by omega)) (zCW.ret _)
/-! bears -/
def zBe (B : zLB) (t s : Nat) : Nat → zMS → Nat
  | 0, _ => 0
  | f + 1, S => match zPc B S t s with
    | none => 0
    | some l => 1 + zBe B t s f (zSc B (zWr B S t s l) s 63)
def zO_bears (B : zLB) (S : zMS) (x y : Int32) : Int32 := match zix x (zS B) with
  | none => -1
  | some s => match zix y (zT B) with
    | none => -1
    | some t => nI (zBe B t s 31 S)
theorem zWr_op (hB : zLok B) (hS : zSok B S) {t s l : Nat} (ht : t < zT B) (hs : s < zS B) (hw : zCw B S t s l = true) : ¬ zOp (zWr B S t s l) s &&& 63 = 0 := by
  have hs3 := hB.1
  have hli := (hB.2.2.2.1 s hs).1.2
  have hlo := (hB.2.2.2.2.1 t ht).2.2.1
  have w2 := ((zCw_spec hB ht).mp hw).2.1
  have h64 := (zSok_wr hB hS ht hs hw).2.1 s (by omega)
  rw [zand_63 h64.2]
  intro h
  have : (zOp (zWr B S t s l) s).testBit l = true := by
    unfold zWr
    rw [zWi_op, decide_eq_true (by omega)]
    simp
  rw [h] at this
  simp at this
theorem zBe_dec (hB : zLok B) (hS : zSok B S) {t s l : Nat} (ht : t < zT B) (hs : s < zS B) (hw : zCw B S t s l = true) : zTh (zSc B (zWr B S t s l) s 63) s < zTh S s := by
  have h0 := ((zCw_spec hB ht).mp hw).1
  rw [zSc_th]
  have e : zTh (zWr B S t s l) s = zTh S s := by unfold zWr; rw [zWi_th]
  have : ¬ zSb B (zWr B S t s l) s 63 = 0 := fun q => zWr_op hB hS ht hs hw ((zSb_0 _ _ _ _).mp q)
  omega
theorem zR_bears46 {Sk : zMS} {t s : Nat} (ht : t < zT B) (hs : s < zS B) (hB : zLok B) (g : Int64) : ∀ (f n c : Nat) (S : zMS), zSok B S → zTh S s ≤ f → f < n → zRK N a B 50 Sk S g (fX7_bears_46 N a n (nI s) (nI t) (nI c) (zo (zPc B S t s))) (nI (c + zBe B t s (f + 1) S))
  | f, n + 1, c, S, hS, hf, hn => by
    have hs3 := hB.1
    have hj : (50 : Nat) = 49 ∨ (50 : Nat) = 50 := Or.inr rfl
    rw [fX7_bears_46, zBe]
    cases hp : zPc B S t s with
    | none => exact zRK.ifp (by decide) (zRK.bo hj zR_o50 (zRK.bo hj zR_o48 (zRK.back50 (zRW.ret _))))
    | some l =>
      obtain ⟨hl, hw⟩ := zPc_lt hp
      have hd := zBe_dec hB hS ht hs hw
      refine zRK.ifn (nI_pos (by omega)) (zRK.bind hj (zT_writes ht hs hw) (zRK.bind hj (zT_scrapes (w := 63) (by omega)) (zRK.bo hj (zR_place ht hs) ?_)))
      rw [zc1_da]
      show zRK N a B 50 Sk _ g _ (nI (c + (1 + zBe B t s f (zSc B (zWr B S t s l) s 63))))
      rw [← Nat.add_assoc]
      cases f with
      | zero => omega
      | succ f => exact zR_bears46 ht hs hB g f n (c + 1) _ (zSok_sc (zSok_wr hB hS ht hs hw) (by omega)) (by omega) (by omega)
theorem zR_op_bears (x y : Int32) : zRW N a B S (fX7_bears N a x y) (zO_bears B S x y) := by
  refine zRW.have_ fun hN hB hS => ?_
  have hT := hB.2.1
  have hs3 := hB.1
  unfold zO_bears
  refine zRW.thw (zRW.bo (zR_isSkin x) ?_)
  rcases zix_cases x (n := zS B) (by omega) with ⟨h3, -⟩ | ⟨s, h3, h4, rfl⟩
  · rw [h3]; exact zRW.ifp rfl (zRW.ret _)
  · rw [h4]
    refine zRW.ifn zb1n (zRW.bo (zR_isText y) ?_)
    rcases zix_cases y (n := zT B) (by omega) with ⟨h5, -⟩ | ⟨t, h5, h6, rfl⟩
    · rw [h5]; exact zRW.ifp rfl (zRW.ret _)
    · rw [h6]
      have hth := (hS.2.1 s (by omega)).1
      refine zRW.ifn zb1n (zRW.bo zR_o48 (zRW.bo zR_o50 (zRW.aside50 fun g => zRK.bo (Or.inr rfl) (zR_place h5 h3) ?_)))
      have := zR_bears46 (N := N) (a := a) (Sk := S) h5 h3 hB g 30 N 0 S hS hth (by omega)
      rw [Nat.zero_add] at this
      exact this
theorem zC_bears32 {t s : Nat} (ht : t < zT B) (hs : s < zS B) (hB : zLok B) (g : Int64) : ∀ (f n c : Nat) (St : zMS), zSok B St → zTh St s ≤ f → f < n → ∃ St' g', zCT N k B S St g (fX1_bears_32 N (k.1 0) n (nI s) (nI t) (nI c)) (nI (c + zBe B t s (f + 1) St)) St' g'
  | f, n + 1, c, St, hS, hf, hn => by
    have hs3 := hB.1
    rw [fX1_bears_32, zBe]
    cases hp : zPc B St t s with
    | none =>
      refine ⟨St, g, zCT.bo zC_w2 (zCT.bo (zC_r2 false) (zCT.bind (zV_place ht hs) ?_))⟩
      rw [hp]
      exact zCT.ifp rfl (zCT.ret _)
    | some l =>
      obtain ⟨hl, hw⟩ := zPc_lt hp
      have hd := zBe_dec hB hS ht hs hw
      have hop := zWr_op hB hS ht hs hw
      cases f with
      | zero => omega
      | succ f =>
        obtain ⟨St', g', h1⟩ := zC_bears32 ht hs hB g f n (c + 1) (zSc B (zWr B St t s l) s 63) (zSok_sc (zSok_wr hB hS ht hs hw) (by omega)) (by omega) (by omega)
        refine ⟨St', g', zCT.bo zC_w2 (zCT.bo (zC_r2 false) (zCT.bind (zV_place ht hs) ?_))⟩
        rw [hp]
        refine zCT.ifn (zneg1 (by omega)) (zCT.bo zC_w2 (zCT.bo zC_w2 (zCT.bo (zC_r2 false) (zCT.bind (zV_place ht hs) (zCT.bo (zC_r2 false) ?_)))))
        rw [hp]
        refine zCT.bind (zV_writes ht hs hw) (zCT.bo zC_w2 (zCT.bo (zC_r2 false) (zCT.bind (zV_scrapes hs false hop) ?_)))
        rw [zc1_da]
        show zCT N k B S _ g _ (nI (c + (1 + zBe B t s (f + 1) (zSc B (zWr B St t s l) s 63)))) St' g'
        rw [← Nat.add_assoc]
        exact h1
theorem zC_op_bears (x y : Int32) : zCW N k B S (fX1_bears N (k.1 0) x y) (zO_bears B S x y) := by
  refine zCW.have_ fun hN hB hS => ?_
  have hT := hB.2.1
  have hs3 := hB.1
  unfold zO_bears
  refine zCW.bo (zC_isText y) ?_
  rcases zix_cases y (n := zT B) (by omega) with ⟨h5, -⟩ | ⟨t, h5, h6, rfl⟩
  · rw [h5]
    refine zCW.ifp rfl ?_
    cases zix x (zS B) <;> exact zCW.ret _
  · rw [h6]
    refine zCW.ifn zb1n (zCW.bo (zC_isSkin x) ?_)
    rcases zix_cases x (n := zS B) (by omega) with ⟨h3, -⟩ | ⟨s, h3, h4, rfl⟩
    · rw [h3]; exact zCW.ifp rfl (zCW.ret _)
    · rw [h4]
      have hth := (hS.2.1 s (by omega)).1
      refine zCW.ifn zb1n (zCW.bo zC_w2 (zCW.bo zC_w1 (zCW.bo (zC_r2 false) (zCW.copies fun g => ?_))))
      have := zC_bears32 (N := N) (k := k) (S := S) h5 h3 hB g 30 N 0 S hS hth (by omega)
      rw [Nat.zero_add] at this
      exact this
end
