/-! PURE 61: years judged, on both sides -/
set_option maxRecDepth 100000
/-- a line is gone with: whether it can be, the shelf behind it -/
def zGs (B : zLB) (S : zMS) (x : zLine) : Bool × zMS :=
  if x.1 = 3 then (true, zNx S)
  else if x.1 = 0 then (if zCw B S x.2.1 x.2.2.1 x.2.2.2 = true then (true, zWr B S x.2.1 x.2.2.1 x.2.2.2) else (false, S))
  else if zOp S x.2.2.1 &&& zw (decide (x.1 = 2)) = 0 then (false, S) else (true, zSc B S x.2.2.1 (zw (decide (x.1 = 2))))
def zJb (i : Nat) (b : Option Nat) (c : Bool) : Option Nat := if b = none ∧ c = true then some i else b
def zJg (B : zLB) (Y : zYy) : Nat → Nat → zMS → Option Nat → Option Nat → zMS × Option Nat × Option Nat
  | 0, _, S, b, g => (S, b, g)
  | j + 1, i, S, b, g => zJg B Y j (i + 1) (zGs B S (Y.2 i)).2 (zJb i b (!(zGs B S (Y.2 i)).1)) (zJb i g (!decide (zGo B (zGs B S (Y.2 i)).2 = 0)))
def zJv (B : zLB) (r : zMS × Option Nat × Option Nat) (j : Nat) : Int32 := if j = 0 then zo r.2.1 else if j = 1 then zo r.2.2 else nI (zCt (zWl B r.1 (nI (zDp B (zWk r.1)))).testBit 6)
def zO_judged (B : zLB) (Y : zYy) (x : Int32) : Int32 := match zix x 3 with
  | none => -2
  | some j => zJv B (zJg B Y Y.1 0 (z00 B) none none) j
theorem zGo_00 {B : zLB} (hB : zLok B) : zGo B (z00 B) = 0 := by
  have : zGo B (z00 B) = zMk (fun _ => false) (zS B) := zMk_eq (fun i hi => by
    refine decide_eq_false ?_
    show ¬ (if i < zS B then zTh0 B i else 0) = 0
    rw [if_pos hi]
    have := (hB.2.2.2.1 i hi).2.1.1
    omega)
  rw [this]
  exact (zMk_of (p := fun _ => false) (n := zS B) (x := 0) (Nat.two_pow_pos _) (fun i _ => Nat.zero_testBit i)).symm
theorem zGo_lt {B : zLB} (hB : zLok B) (S : zMS) : zGo B S < 8 := Nat.lt_of_lt_of_le (zMk_lt _ _) (Nat.pow_le_pow_right (by decide) hB.1 : 2 ^ zS B ≤ 2 ^ 3)
theorem zWk_sc (B : zLB) (S : zMS) (s w : Nat) : zWk (zSc B S s w) = zWk S := by
  unfold zSc
  split <;> rfl
theorem zWk_gs (B : zLB) (S : zMS) (x : zLine) : zWk (zGs B S x).2 ≤ zWk S + 1 := by
  unfold zGs
  split
  · exact Nat.le_refl _
  · split
    · split
      · show zWk (zWi _ _ _ _ _) ≤ _
        rw [zWi_wk]
        exact Nat.le_succ _
      · exact Nat.le_succ _
    · split
      · exact Nat.le_succ _
      · show zWk (zSc _ _ _ _) ≤ _
        rw [zWk_sc]
        exact Nat.le_succ _
/-! the reference -/
section
variable {N a : Nat} {h : jH} {F : Nat → Int32} {L : Nat → Int64} {A : Nat → Nat → Int32} {M : Nat → Nat → Int64} {B : zLB} {S S' : zMS} {nm : (Nat → Nat) × (Nat → Nat)} {T : (Nat → Nat) × Nat} {Y : zYy} {E : zEy} {U : zUy} {Mk : Nat → Option (zMS × zYy × zEy)}
theorem zRG.rt2 {α : Type} {m : jM α} {v : α} {g g' : Int64} (hT : zRT N a B S g m v S' g') (hb : h.2.2.2.2 0 ≤ a) (hg : L 58 = g) (hG : zRG N a ((B, S), nm, T, Y, E, U, Mk) F A M) : ∃ L' A', m.1 (rH h a (F, L, A, M)) = some (v, rH h a (F, L', A', M)) ∧ zRG N a ((B, S'), nm, T, Y, E, U, Mk) F A' M ∧ A' 49 = A 49 := by
  obtain ⟨L', A', -, hs, hX, e⟩ := hT h F L A M hb hG.1 hg
  exact ⟨L', A', e, hG.sh hX rfl rfl (fun k k1 k2 _ _ _ _ => hs k k1 k2), hs 49 (by omega) (by omega)⟩
theorem zRG.ro2 {α : Type} {m : jM α} {v : α} (hT : zRO N a B S m v) (hb : h.2.2.2.2 0 ≤ a) (hG : zRG N a ((B, S), nm, T, Y, E, U, Mk) F A M) : ∃ A', m.1 (rH h a (F, L, A, M)) = some (v, rH h a (F, L, A', M)) ∧ zRG N a ((B, S), nm, T, Y, E, U, Mk) F A' M ∧ A' 49 = A 49 := by
  obtain ⟨A', hs, e⟩ := hT h F L A M hb hG.1
  exact ⟨A', e, hG.sh (hG.1.scr hs) rfl rfl (fun k k1 k2 _ _ _ _ => hs k k1), hs 49 (by omega)⟩
theorem zRG_goes (hb : h.2.2.2.2 0 ≤ a) (hB : zLok B) (hY : zYok (zS B) (zT B) Y) (hG : zRG N a ((B, S), nm, T, Y, E, U, Mk) F A M) {i : Nat} (hi : i < Y.1) (hw : zWk S + 1 < 1000000) : ∃ L' A', (fX7_goes N a (nI i)).1 (rH h a (F, L, A, M)) = some (zb (zGs B S (Y.2 i)).1, rH h a (F, L', A', M)) ∧ zRG N a ((B, (zGs B S (Y.2 i)).2), nm, T, Y, E, U, Mk) F A' M ∧ A' 49 = A 49 := by
  have h40 := hY.1
  have hs3 := hB.1
  obtain ⟨y1, y2, y3⟩ := hY.2 i hi
  have hl : ∀ {A' : Nat → Nat → Int32}, zRG N a ((B, S), nm, T, Y, E, U, Mk) F A' M → A' 39 i = nI (Y.2 i).1 ∧ ((Y.2 i).1 = 0 → A' 40 i = nI (Y.2 i).2.1 ∧ A' 42 i = nI (Y.2 i).2.2.2) ∧ ((Y.2 i).1 ≠ 3 → A' 41 i = nI (Y.2 i).2.2.1) := fun hG' => by
    have := hG'.2.2.2.2.1.2 i hi
    rw [show 40 * 0 + i = i by omega] at this
    exact this
  obtain ⟨l1, l2, l3⟩ := hl hG
  unfold fX7_goes fX7_goes_116 fX7_goes_98
  rw [zr_g41, zr_a41 (by omega), zr_g39, zr_a39 (by omega), l1, zI]
  unfold zGs
  by_cases c3 : (Y.2 i).1 = 3
  · rw [if_pos c3, if_pos (show nI (Y.2 i).1 = 3 by rw [c3]; rfl)]
    have hT : zRT N a B S (L 58) (jB (jgR [7] 48 (some a)) fun y19 => jB (jaI 0 y19 0) fun y20 => jB (jsI 0 y19 0 (y20 + 1)) fun _ => jRn .boolean 1) 1 (zNx S) (L 58) := zRT.bo zR_o48 (zRT.bo zR_wk (zRT.bind (zT_week hw) zRO.rn1.t))
    obtain ⟨L2, A2, e2, g2, e49⟩ := hG.rt2 (L := L) hT hb rfl
    exact ⟨L2, A2, e2, g2, e49⟩
  · rw [if_neg c3, if_neg (show ¬ nI (Y.2 i).1 = 3 from fun q => c3 ((nI_eq (b := 3) (by omega) (by decide)).mp q)), zr_g39, zr_a39 (by omega), l1, zI, l3 c3]
    have hs := y3 c3
    by_cases c0 : (Y.2 i).1 = 0
    · obtain ⟨ht, hln⟩ := y2 c0
      obtain ⟨m1, m2⟩ := l2 c0
      rw [if_pos c0, if_pos (show nI (Y.2 i).1 = 0 by rw [c0]; rfl), zr_g40, zr_a40 (by omega), m1, zr_g42, zr_a42 (by omega), m2]
      obtain ⟨A2, e2, g2, e49⟩ := hG.ro2 (L := L) (zR_can ht hs (show (Y.2 i).2.2.2 < 6 by omega)) hb
      rw [jB_eq e2, zI]
      cases hc : zCw B S (Y.2 i).2.1 (Y.2 i).2.2.1 (Y.2 i).2.2.2 with
      | false =>
        rw [if_pos zb_f, if_neg zff]
        exact ⟨L, A2, rfl, g2, e49⟩
      | true =>
        obtain ⟨-, q2, -⟩ := hl g2
        obtain ⟨n1, n2⟩ := q2 c0
        rw [if_neg zb1n, if_pos rfl, zr_g40, zr_a40 (by omega), n1, zr_g42, zr_a42 (by omega), n2]
        have hT : zRT N a B S (L 58) (jB (fX7_writes N a (nI (Y.2 i).2.1) (nI (Y.2 i).2.2.1) (nI (Y.2 i).2.2.2)) fun _ => jRn .boolean 1) 1 (zWr B S (Y.2 i).2.1 (Y.2 i).2.2.1 (Y.2 i).2.2.2) (L 58) := zRT.bind (zT_writes ht hs hc) zRO.rn1.t
        obtain ⟨L3, A3, e3, g3, f49⟩ := g2.rt2 (L := L) hT hb rfl
        exact ⟨L3, A3, e3, g3, f49.trans e49⟩
    · rw [if_neg c0, if_neg (show ¬ nI (Y.2 i).1 = 0 from fun q => c0 ((nI_eq (b := 0) (by omega) (by decide)).mp q)), zr_g39, zr_a39 (by omega), l1, zI]
      have key : ∀ w : Nat, ∃ L' A', (jB (fX7_scrapedBy N a (nI (Y.2 i).2.2.1) (nI w)) fun y1 => if y1 = 0 then (jRn .boolean 0) else (jB (fX7_scrapes N a (nI (Y.2 i).2.2.1) (nI w)) fun _ => jRn .boolean 1)).1 (rH h a (F, L, A, M)) = some (zb (if zOp S (Y.2 i).2.2.1 &&& w = 0 then (false, S) else (true, zSc B S (Y.2 i).2.2.1 w)).1, rH h a (F, L', A', M)) ∧ zRG N a ((B, (if zOp S (Y.2 i).2.2.1 &&& w = 0 then (false, S) else (true, zSc B S (Y.2 i).2.2.1 w)).2), nm, T, Y, E, U, Mk) F A' M ∧ A' 49 = A 49 := by
        intro w
        obtain ⟨A2, e2, g2, e49⟩ := hG.ro2 (L := L) (zR_scraped (w := w) (show (Y.2 i).2.2.1 < 3 by omega)) hb
        have h3 := zSb_3 B S (Y.2 i).2.2.1 w
        rw [jB_eq e2, zI]
        by_cases c : zOp S (Y.2 i).2.2.1 &&& w = 0
        · rw [if_pos c, if_pos (show nI (zSb B S (Y.2 i).2.2.1 w) = 0 by rw [(zSb_0 B S _ w).mpr c]; rfl)]
          exact ⟨L, A2, rfl, g2, e49⟩
        · rw [if_neg c, if_neg (show ¬ nI (zSb B S (Y.2 i).2.2.1 w) = 0 from fun q => c ((zSb_0 B S _ w).mp ((nI_eq (b := 0) (by omega) (by decide)).mp q)))]
          have hT : zRT N a B S (L 58) (jB (fX7_scrapes N a (nI (Y.2 i).2.2.1) (nI w)) fun _ => jRn .boolean 1) 1 (zSc B S (Y.2 i).2.2.1 w) (L 58) := zRT.bind (zT_scrapes (w := w) (show (Y.2 i).2.2.1 < 3 by omega)) zRO.rn1.t
          obtain ⟨L3, A3, e3, g3, f49⟩ := g2.rt2 (L := L) hT hb rfl
          exact ⟨L3, A3, e3, g3, f49.trans e49⟩
      by_cases c2 : (Y.2 i).1 = 2
      · rw [if_neg (show ¬ nI (Y.2 i).1 = 1 by rw [c2]; decide), decide_eq_true c2]
        exact key 9
      · rw [if_pos (show nI (Y.2 i).1 = 1 by rw [show (Y.2 i).1 = 1 by omega]; rfl), decide_eq_false c2]
        exact key 63
theorem zRG_j41 (hb : h.2.2.2.2 0 ≤ a) (hB : zLok B) (hY : zYok (zS B) (zT B) Y) {Sk : zMS} (hk : zSok B Sk) {x : Nat} (hx : x < 3) : ∀ (j n i : Nat) (S : zMS) (b g : Option Nat) (L : Nat → Int64) (A : Nat → Nat → Int32), i + j = Y.1 → j < n → zWk S ≤ i → (g = none → zGo B S = 0) → (∀ q, b = some q → q < 40) → (∀ q, g = some q → q < 40) → zRG N a ((B, S), nm, T, Y, E, U, Mk) F A M → zRw0 (A 49) 0 Sk →
    ∃ L' A', (fX7_judged_41 N a n (nI x) (zo b) (zo g) (nI i)).1 (rH h a (F, L, A, M)) = some (zJv B (zJg B Y j i S b g) x, rH h a (F, L', A', M)) ∧ zRG N a ((B, Sk), nm, T, Y, E, U, Mk) F A' M
  | 0, n + 1, i, S, b, g, L, A, hi, hn, hw, hg0, hb40, hg40, hG, h49 => by
    have h40 := hY.1
    have e38 : A 38 0 = nI Y.1 := hG.2.2.2.2.1.1
    have hN := hG.1.1
    rw [fX7_judged_41, zr_g38, zr_a38_0, e38, zI, if_pos (nI_le (by omega) (by omega))]
    unfold fX7_judged_96 fX7_judged_137
    obtain ⟨A2, e2, g2, e49⟩ := hG.ro2 (L := L) (zR_wholeNow) hb
    have hlt := zWl_lt hB S (nI (zDp B (zWk S)))
    obtain ⟨A3, e3, g3, f49⟩ := g2.ro2 (L := L) (zR_bits hN hlt) hb
    have h49' : zRw0 (A3 49) 0 Sk := by rw [f49, e49]; exact h49
    have eA : ∀ k, k ≠ 48 → zuA A3 48 (va_cpy (A3 49) (A3 48) 0 0 25) k = A3 k := fun k hk => zuA_ne _ _ hk
    refine ⟨L, zuA A3 48 (va_cpy (A3 49) (A3 48) 0 0 25), ?_, g3.sh (g3.1.to (fun k k1 k2 => eA k (by omega)) hk ?_) rfl rfl (fun k _ k48 _ _ _ _ => eA k k48)⟩
    · rw [jB_eq e2, jB_eq e3, zr_g49, zr_g48, jB_eq (zr_cp49_48 hb hN), zI, zI]
      unfold zJv zJg
      have : x = 0 ∨ x = 1 ∨ x = 2 := by omega
      rcases this with e | e | e <;> rw [e] <;> rfl
    · rw [zRw0_s, zuA_eq]
      exact h49'.cp
  | j + 1, n + 1, i, S, b, g, L, A, hi, hn, hw, hg0, hb40, hg40, hG, h49 => by
    have h40 := hY.1
    have e38 : A 38 0 = nI Y.1 := hG.2.2.2.2.1.1
    rw [fX7_judged_41, zr_g38, zr_a38_0, e38, zI, if_neg (nI_ge (by omega) (by omega))]
    obtain ⟨A2, e2, g2, e49⟩ := hG.ro2 (L := L) zR_gones hb
    obtain ⟨L3, A3, e3, g3, f49⟩ := zRG_goes (L := L) hb hB hY g2 (show i < Y.1 by omega) (by omega)
    obtain ⟨A4, e4, g4, d49⟩ := g3.ro2 (L := L3) zR_gones hb
    have h49' : zRw0 (A4 49) 0 Sk := by rw [d49, f49, e49]; exact h49
    have hlt1 := zGo_lt hB S
    have hlt2 := zGo_lt hB (zGs B S (Y.2 i)).2
    have hwk := zWk_gs B S (Y.2 i)
    have ih := fun b g g0 b40 g40 => zRG_j41 hb hB hY hk hx j n (i + 1) (zGs B S (Y.2 i)).2 b g L3 A4 (by omega) (by omega) (by omega) g0 b40 g40 g4 h49'
    have key : ∀ b' : Option Nat, (∀ q, b' = some q → q < 40) → ∃ L' A', (fX7_judged_74 N (fX7_judged_41 N a n) a (nI x) (zo b') (zo g) (nI i) (nI (zGo B S))).1 (rH h a (F, L3, A3, M)) = some (zJv B (zJg B Y j (i + 1) (zGs B S (Y.2 i)).2 b' (zJb i g (!decide (zGo B (zGs B S (Y.2 i)).2 = 0)))) x, rH h a (F, L', A', M)) ∧ zRG N a ((B, Sk), nm, T, Y, E, U, Mk) F A' M := by
      intro b' hb'
      unfold fX7_judged_74 fX7_judged_90
      rw [jB_eq e4, zI, zc1_da, zI]
      cases g with
      | none =>
        have hz := hg0 rfl
        by_cases c : zGo B (zGs B S (Y.2 i)).2 = 0
        · rw [if_pos (show nI (zGo B (zGs B S (Y.2 i)).2) = nI (zGo B S) by rw [c, hz]), decide_eq_true c]
          exact ih b' none (fun _ => c) hb' (fun q hq => by cases hq)
        · rw [if_neg (show ¬ nI (zGo B (zGs B S (Y.2 i)).2) = nI (zGo B S) from fun q => c (((nI_eq (by omega) (by omega)).mp q).trans hz)), if_neg (show ¬ 0 ≤ zo none by decide), decide_eq_false c]
          exact ih b' (some i) (fun q => by cases q) hb' (fun q hq => by cases hq; omega)
      | some q =>
        have hq := hg40 q rfl
        have e0 : zJb i (some q) (!decide (zGo B (zGs B S (Y.2 i)).2 = 0)) = some q := if_neg (fun c => by cases c.1)
        have hp : (0 : Int32) ≤ zo (some q) := (nI_le (Nat.zero_le q) (by omega) : nI 0 ≤ nI q)
        rw [if_pos hp, ite_self, e0]
        exact ih b' (some q) (fun q => by cases q) hb' hg40
    rw [jB_eq e2, jB_eq e3, zI, zJg]
    cases hc : (zGs B S (Y.2 i)).1 with
    | true =>
      rw [if_neg zb1n, show zJb i b (!true) = b from if_neg (fun c => by cases c.2)]
      exact key b hb40
    | false =>
      rw [if_pos zb_f, zI]
      cases b with
      | none =>
        rw [if_neg (show ¬ 0 ≤ zo none by decide)]
        exact key (some i) (fun q hq => by cases hq; omega)
      | some q =>
        have hq := hb40 q rfl
        rw [if_pos (show (0 : Int32) ≤ zo (some q) from (nI_le (Nat.zero_le q) (by omega) : nI 0 ≤ nI q)), show zJb i (some q) (!false) = some q from if_neg (fun c => by cases c.1)]
        exact key (some q) hb40
theorem zRG_judged {c : Nat} (hb : h.2.2.2.2 0 ≤ a) (hok : zGok c ((B, S), nm, T, Y, E, U, Mk)) (hG : zRG N a ((B, S), nm, T, Y, E, U, Mk) F A M) (x : Int32) : ∃ F' L' A', (fX7_judged N a x).1 (rH h a (F, L, A, M)) = some (zO_judged B Y x, rH h a (F', L', A', M)) ∧ zRG N a ((B, S), nm, T, Y, E, U, Mk) F' A' M := by
  have hB : zLok B := hok.1
  have hY : zYok (zS B) (zT B) Y := hok.2.2.2.1
  have hN := hG.1.1
  have h40 := hY.1
  obtain ⟨A1, e1, g1, -⟩ := hG.f0.ro2 (L := L) (zR_within x 0 2) hb
  unfold fX7_judged zO_judged
  rw [zr_p0 hb, jB_eq e1, zI, show (2 : Int32) = nI 2 from rfl, zix_in x (by decide)]
  rcases zix_cases x (n := 3) (by decide) with ⟨h3, -⟩ | ⟨j, h3, h4, rfl⟩
  · rw [h3, if_pos (show zb (none : Option Nat).isSome = 0 from rfl)]
    exact ⟨_, _, _, rfl, g1⟩
  · rw [h4, if_neg (show ¬ zb (some j).isSome = 0 from zb1n)]
    have hS0 : zRw0 (A1 48) 0 S := zRw0_s.mp g1.1.2.2.2.2.1
    have eA : ∀ k, k ≠ 49 → zuA A1 49 (va_cpy (A1 48) (A1 49) 0 0 25) k = A1 k := fun k hk => zuA_ne _ _ hk
    obtain ⟨A2, hA2⟩ : ∃ A2, A2 = zuA A1 49 (va_cpy (A1 48) (A1 49) 0 0 25) := ⟨_, rfl⟩
    rw [← hA2] at eA
    have e10 : A2 10 0 = nI (zS B) := by rw [eA 10 (by decide)]; exact g1.1.2.2.2.1.1
    have e14 : ∀ k, k < zS B → A2 14 k = nI (zTh0 B k) := fun k hk => by
      rw [eA 14 (by decide)]
      exact (g1.1.2.2.2.1.2.2.2.1 k hk).2.1
    have hX3 : zRG N a ((B, z00 B), nm, T, Y, E, U, Mk) (upd F 0 0) (zuA A2 48 (zF48 (A2 48) (A2 14) (zS B) (zS B))) M := by
      refine g1.sh (g1.1.to (fun k k1 k2 => by rw [zuA_ne _ _ (by omega)]; exact eA k (by omega)) (zSok_00 hB) (zF48_rs _ e14 hB.1 _)) rfl rfl (fun k _ k48 k49 _ _ _ => by rw [zuA_ne _ _ k48]; exact eA k k49)
    have h49 : zRw0 (zuA A2 48 (zF48 (A2 48) (A2 14) (zS B) (zS B)) 49) 0 S := by
      rw [zuA_ne _ _ (by decide), hA2, zuA_eq]
      exact hS0.cp
    obtain ⟨L4, A4, e4, g4⟩ := zRG_j41 hb hB hY hG.1.2.2.1 h3 Y.1 N 0 (z00 B) none none L _ (by omega) (by omega) (Nat.le_refl _) (fun _ => zGo_00 hB) (fun q hq => by cases hq) (fun q hq => by cases hq) hX3 h49
    refine ⟨_, L4, A4, ?_, g4⟩
    rw [zr_g48, zr_g49, jB_eq (zr_cp48_49 hb hN), ← hA2, zR_fresh0 hb hN e10 hB.1]
    exact e4
end
