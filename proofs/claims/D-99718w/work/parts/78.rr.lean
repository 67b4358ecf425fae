/-! PURE 5: the reference's reading -/
set_option maxRecDepth 100000
theorem zuA_eq {α : Type} (A : Nat → Nat → α) (k : Nat) (f : Nat → α) : zuA A k f k = f := if_pos rfl
theorem zuA_ne {α : Type} (A : Nat → Nat → α) {k j : Nat} (f : Nat → α) (h : j ≠ k) : zuA A k f j = A j := if_neg h
theorem zuA_zuA {α : Type} (A : Nat → Nat → α) (k : Nat) (f g : Nat → α) : zuA (zuA A k f) k g = zuA A k g := by
  funext j
  unfold zuA
  by_cases e : j = k
  · rw [if_pos e, if_pos e]
  · rw [if_neg e, if_neg e, if_neg e]
theorem zu_eq (f : Nat → Int32) (k : Nat) (x : Int32) : upd f k x k = x := if_pos rfl
theorem zu_ne (f : Nat → Int32) {k j : Nat} (x : Int32) (h : j ≠ k) : upd f k x j = f j := if_neg h
def zRb (B : zLB) (A : Nat → Nat → Int32) : Prop := A 10 0 = nI (zS B) ∧ A 10 1 = nI (zT B) ∧ A 10 2 = nI (zD B) ∧
  (∀ k, k < zS B → A 13 k = nI (zLi B k) ∧ A 14 k = nI (zTh0 B k) ∧ A 15 k = nI (zHo B k)) ∧
  (∀ t, t < zT B → A 16 t = nI (zKi B t) ∧ A 17 t = nI (zGa B t) ∧ A 18 t = nI (zLo B t)) ∧ ∀ i, i < zD B → A 19 i = nI (zDa B i)
def zRs (S : zMS) (A : Nat → Nat → Int32) : Prop := A 48 0 = nI (zWk S) ∧ (∀ k, k < 3 → A 48 (1 + k) = nI (zTh S k) ∧ A 48 (4 + k) = nI (zOp S k)) ∧ ∀ q, q < 18 → A 48 (7 + q) = nI (z7 (zPl S q))
/-- what the law of what shows comes to -/
def zRe (N a : Nat) (B : zLB) (A : Nat → Nat → Int32) : Prop := match zEv B with
  | none => A 21 0 = A 20 0
  | some v => ¬ A 21 0 = A 20 0 ∧ ∀ (h : jH) (F : Nat → Int32) (L : Nat → Int64) (A' : Nat → Nat → Int32) (M : Nat → Nat → Int64), h.2.2.2.2 0 ≤ a → A' 20 0 = A 20 0 → A' 21 0 = A 21 0 → (∀ q, q < 1000 → A' 22 q = A 22 q) →
      ∃ A'' : Nat → Nat → Int32, (∀ k, k < 26 ∨ 34 < k → A'' k = A' k) ∧ (fX7_worked N a 0).1 (rH h a (F, L, A', M)) = some (v (A' 35 1) (A' 35 2) (A' 35 3) (A' 35 4), rH h a (F, L, A'', M))
def zScr (A A' : Nat → Nat → Int32) : Prop := ∀ k, k < 26 ∨ 35 < k → A' k = A k
theorem zScr.rf (A : Nat → Nat → Int32) : zScr A A := fun _ _ => rfl
theorem zScr.tr {A A' A'' : Nat → Nat → Int32} (h1 : zScr A A') (h2 : zScr A' A'') : zScr A A'' := fun k hk => (h2 k hk).trans (h1 k hk)
def zRX (N a : Nat) (B : zLB) (S : zMS) (A : Nat → Nat → Int32) : Prop := 3000 ≤ N ∧ zLok B ∧ zSok B S ∧ zRb B A ∧ zRs S A ∧ zRe N a B A
theorem zRb.to {B : zLB} {A A' : Nat → Nat → Int32} (h : zRb B A) (hs : ∀ k, 10 ≤ k → k < 20 → A' k = A k) : zRb B A' := by
  unfold zRb at h ⊢
  rw [hs 10 (by omega) (by omega), hs 13 (by omega) (by omega), hs 14 (by omega) (by omega), hs 15 (by omega) (by omega), hs 16 (by omega) (by omega), hs 17 (by omega) (by omega), hs 18 (by omega) (by omega), hs 19 (by omega) (by omega)]
  exact h
theorem zRe.to {N a : Nat} {B : zLB} {A A' : Nat → Nat → Int32} (h : zRe N a B A) (h1 : A' 20 = A 20) (h2 : A' 21 = A 21) (h3 : A' 22 = A 22) : zRe N a B A' := by
  unfold zRe at h ⊢
  rw [h1, h2, h3]
  exact h
theorem zRX.to {N a : Nat} {B : zLB} {S S' : zMS} {A A' : Nat → Nat → Int32} (h : zRX N a B S A) (hs : ∀ k, 10 ≤ k → k < 23 → A' k = A k) (h1 : zSok B S') (h2 : zRs S' A') : zRX N a B S' A' :=
  ⟨h.1, h.2.1, h1, h.2.2.2.1.to (fun k a b => hs k a (by omega)), h2, h.2.2.2.2.2.to (hs 20 (by omega) (by omega)) (hs 21 (by omega) (by omega)) (hs 22 (by omega) (by omega))⟩
theorem zRX.scr {N a : Nat} {B : zLB} {S : zMS} {A A' : Nat → Nat → Int32} (h : zRX N a B S A) (hs : zScr A A') : zRX N a B S A' := by
  refine h.to (fun k _ b => hs k (by omega)) h.2.2.1 ?_
  have e := hs 48 (by omega)
  have := h.2.2.2.2.1
  unfold zRs at this ⊢
  rw [e]
  exact this
/-- which one a number is -/
def zix (x : Int32) (n : Nat) : Option Nat := if x < 0 ∨ nI n ≤ x then none else some x.toNatClampNeg
theorem zix_cases (x : Int32) {n : Nat} (hn : n < 2 ^ 31) : (zix x n = none ∧ (x < 0 ∨ (¬ x < 0 ∧ nI n ≤ x))) ∨ ∃ j, j < n ∧ zix x n = some j ∧ x = nI j := by
  rcases pk_ix x hn with h | h | ⟨j, h1, h2⟩
  · exact Or.inl ⟨if_pos (Or.inl h), Or.inl h⟩
  · by_cases h0 : x < 0
    · exact Or.inl ⟨if_pos (Or.inl h0), Or.inl h0⟩
    · exact Or.inl ⟨if_pos (Or.inr h), Or.inr ⟨h0, h⟩⟩
  · refine Or.inr ⟨j, h1, ?_, h2⟩
    subst h2
    unfold zix
    rw [if_neg, nI_clamp (by omega)]
    rintro (h | h)
    · exact nI_pos (by omega) h
    · exact nI_ge h1 hn h
section
variable {N : Nat} {h : jH} {a : Nat} {F : Nat → Int32} {L : Nat → Int64} {A : Nat → Nat → Int32} {M : Nat → Nat → Int64} {B : zLB} {S : zMS}
theorem zr_isSkin (hX : zRX N a B S A) (x : Int32) : (fX7_isSkin a x).1 (rH h a (F, L, A, M)) = some (zb (zix x (zS B)).isSome, rH h a (F, L, A, M)) := by
  have hs3 := hX.2.1.1
  have e0 := hX.2.2.2.1.1
  rcases zix_cases x (n := zS B) (by omega) with ⟨h1, h2 | ⟨h2, h3⟩⟩ | ⟨j, h1, h2, rfl⟩
  · simp only [fX7_isSkin, fX7_isSkin_18, fX7_isSkin_19, zr_g10, zr_a10, zr_a10_0, zr_a10_1, zr_a10_2, zr_a10_3, zr_a10_4, zr_a10_5, zc0_le, zc0_ge, zc0_lt, zc0_gt, zc0_eq, zc1_le, zc1_ge, zc1_lt, zc1_gt, zc1_eq, zc1_ad, zc1_da, zc1_mu, zc1_um, zc1_sb, zI, zR, zRn0, zRn1, zRnb, jR_run, zRn0B, zRn1B, zRnbB, znn, nI_add, pk_mul, nI_leI, nI_ltI, nI_eq, if_true, if_false, ite_true, ite_false, h1, h2]
    rfl
  · simp only [fX7_isSkin, fX7_isSkin_18, fX7_isSkin_19, zr_g10, zr_a10, zr_a10_0, zr_a10_1, zr_a10_2, zr_a10_3, zr_a10_4, zr_a10_5, zc0_le, zc0_ge, zc0_lt, zc0_gt, zc0_eq, zc1_le, zc1_ge, zc1_lt, zc1_gt, zc1_eq, zc1_ad, zc1_da, zc1_mu, zc1_um, zc1_sb, zI, zR, zRn0, zRn1, zRnb, jR_run, zRn0B, zRn1B, zRnbB, znn, nI_add, pk_mul, nI_leI, nI_ltI, nI_eq, if_true, if_false, ite_true, ite_false, h1, h2, e0, h3]
    rfl
  · have h3 : ¬ nI j < 0 := nI_pos (by omega)
    have h4 : ¬ nI (zS B) ≤ nI j := nI_ge h1 (by omega)
    simp only [fX7_isSkin, fX7_isSkin_18, fX7_isSkin_19, zr_g10, zr_a10, zr_a10_0, zr_a10_1, zr_a10_2, zr_a10_3, zr_a10_4, zr_a10_5, zc0_le, zc0_ge, zc0_lt, zc0_gt, zc0_eq, zc1_le, zc1_ge, zc1_lt, zc1_gt, zc1_eq, zc1_ad, zc1_da, zc1_mu, zc1_um, zc1_sb, zI, zR, zRn0, zRn1, zRnb, jR_run, zRn0B, zRn1B, zRnbB, znn, nI_add, pk_mul, nI_ltI, nI_eq, if_true, if_false, ite_true, ite_false, h2, h3, e0, h4]
    rfl
theorem zr_isText (hX : zRX N a B S A) (x : Int32) : (fX7_isText a x).1 (rH h a (F, L, A, M)) = some (zb (zix x (zT B)).isSome, rH h a (F, L, A, M)) := by
  have hs3 := hX.2.1.2.1
  have e0 := hX.2.2.2.1.2.1
  rcases zix_cases x (n := zT B) (by omega) with ⟨h1, h2 | ⟨h2, h3⟩⟩ | ⟨j, h1, h2, rfl⟩
  · simp only [fX7_isText, fX7_isText_18, fX7_isText_19, zr_g10, zr_a10, zr_a10_0, zr_a10_1, zr_a10_2, zr_a10_3, zr_a10_4, zr_a10_5, zc0_le, zc0_ge, zc0_lt, zc0_gt, zc0_eq, zc1_le, zc1_ge, zc1_lt, zc1_gt, zc1_eq, zc1_ad, zc1_da, zc1_mu, zc1_um, zc1_sb, zI, zR, zRn0, zRn1, zRnb, jR_run, zRn0B, zRn1B, zRnbB, znn, nI_add, pk_mul, nI_leI, nI_ltI, nI_eq, if_true, if_false, ite_true, ite_false, h1, h2]
    rfl
  · simp only [fX7_isText, fX7_isText_18, fX7_isText_19, zr_g10, zr_a10, zr_a10_0, zr_a10_1, zr_a10_2, zr_a10_3, zr_a10_4, zr_a10_5, zc0_le, zc0_ge, zc0_lt, zc0_gt, zc0_eq, zc1_le, zc1_ge, zc1_lt, zc1_gt, zc1_eq, zc1_ad, zc1_da, zc1_mu, zc1_um, zc1_sb, zI, zR, zRn0, zRn1, zRnb, jR_run, zRn0B, zRn1B, zRnbB, znn, nI_add, pk_mul, nI_leI, nI_ltI, nI_eq, if_true, if_false, ite_true, ite_false, h1, h2, e0, h3]
    rfl
  · have h3 : ¬ nI j < 0 := nI_pos (by omega)
    have h4 : ¬ nI (zT B) ≤ nI j := nI_ge h1 (by omega)
    simp only [fX7_isText, fX7_isText_18, fX7_isText_19, zr_g10, zr_a10, zr_a10_0, zr_a10_1, zr_a10_2, zr_a10_3, zr_a10_4, zr_a10_5, zc0_le, zc0_ge, zc0_lt, zc0_gt, zc0_eq, zc1_le, zc1_ge, zc1_lt, zc1_gt, zc1_eq, zc1_ad, zc1_da, zc1_mu, zc1_um, zc1_sb, zI, zR, zRn0, zRn1, zRnb, jR_run, zRn0B, zRn1B, zRnbB, znn, nI_add, pk_mul, nI_ltI, nI_eq, if_true, if_false, ite_true, ite_false, h2, h3, e0, h4]
    rfl
def zil (B : zLB) (x y : Int32) : Option (Nat × Nat) := match zix x (zS B) with
  | none => none
  | some k => match zix y (zLi B k) with
    | none => none
    | some l => some (k, l)
theorem zr_isLine (hX : zRX N a B S A) (x y : Int32) : (fX7_isLine a x y).1 (rH h a (F, L, A, M)) = some (zb (zil B x y).isSome, rH h a (F, L, A, M)) := by
  have hs3 := hX.2.1.1
  unfold fX7_isLine zil
  rw [jB_eq (zr_isSkin hX x)]
  rcases zix_cases x (n := zS B) (by omega) with ⟨h1, h2⟩ | ⟨k, hk, h1, rfl⟩
  · rw [h1]
    rfl
  · have hl := (hX.2.1.2.2.2.1 k hk).1
    have e1 := (hX.2.2.2.1.2.2.2.1 k hk).1
    rw [h1]
    rcases zix_cases y (n := zLi B k) (by omega) with ⟨h1, h2 | ⟨h2, h3⟩⟩ | ⟨l, h1, h2, rfl⟩
    · simp (disch := omega) only [fX7_isLine, fX7_isLine_26, fX7_isLine_27, zr_g13, zr_a13, zc0_le, zc0_ge, zc0_lt, zc0_gt, zc0_eq, zc1_le, zc1_ge, zc1_lt, zc1_gt, zc1_eq, zc1_ad, zc1_da, zc1_mu, zc1_um, zc1_sb, zI, zR, zRn0, zRn1, zRnb, jR_run, zRn0B, zRn1B, zRnbB, znn, nI_add, pk_mul, nI_leI, nI_ltI, nI_eq, if_true, if_false, ite_true, ite_false, Option.isSome, zb_t, zc1_ne0, h1, h2]
      rfl
    · simp (disch := omega) only [fX7_isLine, fX7_isLine_26, fX7_isLine_27, zr_g13, zr_a13, zc0_le, zc0_ge, zc0_lt, zc0_gt, zc0_eq, zc1_le, zc1_ge, zc1_lt, zc1_gt, zc1_eq, zc1_ad, zc1_da, zc1_mu, zc1_um, zc1_sb, zI, zR, zRn0, zRn1, zRnb, jR_run, zRn0B, zRn1B, zRnbB, znn, nI_add, pk_mul, nI_leI, nI_ltI, nI_eq, if_true, if_false, ite_true, ite_false, Option.isSome, zb_t, zc1_ne0, h1, h2, e1, h3]
      rfl
    · have h3 : ¬ nI l < 0 := nI_pos (by omega)
      have h4 : ¬ nI (zLi B k) ≤ nI l := nI_ge h1 (by omega)
      simp (disch := omega) only [fX7_isLine, fX7_isLine_26, fX7_isLine_27, zr_g13, zr_a13, zc0_le, zc0_ge, zc0_lt, zc0_gt, zc0_eq, zc1_le, zc1_ge, zc1_lt, zc1_gt, zc1_eq, zc1_ad, zc1_da, zc1_mu, zc1_um, zc1_sb, zI, zR, zRn0, zRn1, zRnb, jR_run, zRn0B, zRn1B, zRnbB, znn, nI_add, pk_mul, nI_ltI, nI_eq, if_true, if_false, ite_true, ite_false, Option.isSome, zb_t, zc1_ne0, h2, h3, e1, h4]
theorem zDp_le (hB : zLok B) (w : Nat) : zDp B w ≤ 9 := by
  unfold zDp
  split
  · omega
  · exact hB.2.2.2.2.2 _ (Nat.mod_lt _ (by omega))
theorem zr_damp (hX : zRX N a B S A) {w : Nat} (hw : w < 2 ^ 31) : (fX7_dampOf a (nI w)).1 (rH h a (F, L, A, M)) = some (nI (zDp B w), rH h a (F, L, A, M)) := by
  have hd := hX.2.1.2.2.1
  have e0 := hX.2.2.2.1.2.2.1
  unfold zDp
  by_cases hz : zD B = 0
  · simp (disch := omega) only [fX7_dampOf, fX7_dampOf_26, zr_g10, zr_a10, zr_a10_0, zr_a10_1, zr_a10_2, zr_a10_3, zr_a10_4, zr_a10_5, zr_g19, zr_a19, zc0_le, zc0_ge, zc0_lt, zc0_gt, zc0_eq, zc2_le, zc2_ge, zc2_lt, zc2_gt, zc2_eq, zc2_ad, zc2_da, zc2_mu, zc2_um, zc2_sb, zI, zR, zRn0, zRn1, zRnb, jR_run, zRn0B, zRn1B, zRnbB, znn, nI_add, pk_mul, nI_leI, nI_ltI, nI_eq, if_true, if_false, ite_true, ite_false, znz7, znz6, e0, hz]
    rfl
  · have hz' : ¬ nI (zD B) = 0 := nI_ne0 (by omega) (by omega)
    have hm : w % zD B < zD B := Nat.mod_lt _ (by omega)
    have e1 := hX.2.2.2.1.2.2.2.2.2 _ hm
    have e2 : nI w - nI w / nI (zD B) * nI (zD B) = nI (w % zD B) := pk_rem hw (by omega) (by omega)
    simp (disch := omega) only [fX7_dampOf, fX7_dampOf_26, zr_g10, zr_a10, zr_a10_0, zr_a10_1, zr_a10_2, zr_a10_3, zr_a10_4, zr_a10_5, zr_g19, zr_a19, zc0_le, zc0_ge, zc0_lt, zc0_gt, zc2_le, zc2_ge, zc2_lt, zc2_gt, zc2_eq, zc2_ad, zc2_da, zc2_mu, zc2_um, zc2_sb, zI, zR, zRn0, zRn1, zRnb, jR_run, zRn0B, zRn1B, zRnbB, znn, nI_add, pk_mul, nI_leI, nI_ltI, nI_eq, if_true, if_false, ite_true, ite_false, znz7, znz6, e0, hz, hz', e2, e1, znz hz']
theorem zr_shows38 (hX : zRX N a B S A) (hb : h.2.2.2.2 0 ≤ a) {t : Nat} (ht : t < zT B) (x3 x5 v0 : Int32) : ∃ A', zScr A A' ∧ (fX7_showsBy_38 N a (nI t) x3 x5 v0).1 (rH h a (F, L, A, M)) = some (zb (match zEv B with
    | none => decide (v0 * 2 - nI (zGa B t) < x5)
    | some v => decide (¬ v x5 v0 (nI (zGa B t)) x3 = 0)), rH h a (F, L, A', M)) := by
  have hT := hX.2.1.2.1
  have e17 := (hX.2.2.2.1.2.2.2.2.1 t ht).2.1
  have hE := hX.2.2.2.2.2
  unfold zRe at hE
  cases hv : zEv B with
  | none =>
    rw [hv] at hE
    have hE : A 21 0 = A 20 0 := hE
    refine ⟨A, zScr.rf A, ?_⟩
    simp (disch := omega) only [fX7_showsBy_38, fX7_showsBy_76, fX7_showsBy_125, zr_g17, zr_a17, zr_s17 hb, zr_g20, zr_a20, zr_s20 hb, zr_a20_0, zr_a20_1, zr_g21, zr_a21, zr_s21 hb, zr_a21_0, zr_a21_1, zr_g35, zr_a35, zr_s35 hb, zr_s35_1 hb, zr_s35_2 hb, zr_s35_3 hb, zr_s35_4 hb, zc0_le, zc0_ge, zc0_lt, zc0_gt, zc0_eq, zc1_le, zc1_ge, zc1_lt, zc1_gt, zc1_eq, zc1_ad, zc1_da, zc1_mu, zc1_um, zc1_sb, zc2_le, zc2_ge, zc2_lt, zc2_gt, zc2_eq, zc2_ad, zc2_da, zc2_mu, zc2_um, zc2_sb, zc3_le, zc3_ge, zc3_lt, zc3_gt, zc3_eq, zc3_ad, zc3_da, zc3_mu, zc3_um, zc3_sb, zc4_le, zc4_ge, zc4_lt, zc4_gt, zc4_eq, zc4_ad, zc4_da, zc4_mu, zc4_um, zc4_sb, zI, zR, zRn0, zRn1, zRnb, jR_run, zRn0B, zRn1B, zRnbB, znn, nI_add, pk_mul, nI_leI, nI_ltI, nI_eq, if_true, if_false, ite_true, ite_false, e17, hE]
    by_cases hc : x5 ≤ v0 * 2 - nI (zGa B t)
    · rw [if_pos hc, decide_eq_false (Int32.not_lt.mpr hc)]; rfl
    · rw [if_neg hc, decide_eq_true (Int32.not_le.mp hc)]; rfl
  | some v =>
    rw [hv] at hE
    obtain ⟨hE, hw⟩ := hE
    have key : ∀ A1 : Nat → Nat → Int32, (∀ k, k ≠ 35 → A1 k = A k) → A1 35 1 = x5 → A1 35 2 = v0 → A1 35 3 = nI (zGa B t) → A1 35 4 = x3 → ∃ A', zScr A A' ∧ (jB (fX7_worked N a 0) fun y11 => if y11 = 0 then fX7_showsBy_125 N a 0 else fX7_showsBy_125 N a 1).1 (rH h a (F, L, A1, M)) = some (zb (decide (¬ v x5 v0 (nI (zGa B t)) x3 = 0)), rH h a (F, L, A', M)) := by
      intro A1 h1 h2 h3 h4 h5
      obtain ⟨A2, h6, ew⟩ := hw h F L A1 M hb (congrFun (h1 20 (by decide)) 0) (congrFun (h1 21 (by decide)) 0) (fun q _ => congrFun (h1 22 (by decide)) q)
      refine ⟨A2, fun k hk => (h6 k (by omega)).trans (h1 k (by omega)), ?_⟩
      rw [jB_eq ew, h2, h3, h4, h5]
      by_cases hz : v x5 v0 (nI (zGa B t)) x3 = 0
      · rw [if_pos hz, decide_eq_false (fun q => q hz)]; rfl
      · rw [if_neg hz, decide_eq_true hz]; rfl
    simp (disch := omega) only [fX7_showsBy_38, fX7_showsBy_76, zr_g17, zr_a17, zr_s17 hb, zr_g20, zr_a20, zr_s20 hb, zr_a20_0, zr_a20_1, zr_g21, zr_a21, zr_s21 hb, zr_a21_0, zr_a21_1, zr_g35, zr_a35, zr_s35 hb, zr_s35_1 hb, zr_s35_2 hb, zr_s35_3 hb, zr_s35_4 hb, zc0_le, zc0_ge, zc0_lt, zc0_gt, zc0_eq, zc1_le, zc1_ge, zc1_lt, zc1_gt, zc1_eq, zc1_ad, zc1_da, zc1_mu, zc1_um, zc1_sb, zc2_le, zc2_ge, zc2_lt, zc2_gt, zc2_eq, zc2_ad, zc2_da, zc2_mu, zc2_um, zc2_sb, zc3_le, zc3_ge, zc3_lt, zc3_gt, zc3_eq, zc3_ad, zc3_da, zc3_mu, zc3_um, zc3_sb, zc4_le, zc4_ge, zc4_lt, zc4_gt, zc4_eq, zc4_ad, zc4_da, zc4_mu, zc4_um, zc4_sb, zI, zR, zRn0, zRn1, zRnb, jR_run, zRn0B, zRn1B, zRnbB, znn, nI_add, pk_mul, nI_leI, nI_ltI, nI_eq, if_true, if_false, ite_true, ite_false, hE, zuA_eq, zuA_ne, e17]
    refine key _ (fun k hk => ?_) ?_ ?_ ?_ ?_
    · simp (disch := omega) only [zuA_ne]
    · simp (disch := omega) only [zuA_eq, zu_eq, zu_ne]
    · simp (disch := omega) only [zuA_eq, zu_eq, zu_ne]
    · simp (disch := omega) only [zuA_eq, zu_eq, zu_ne]
    · simp (disch := omega) only [zuA_eq, zu_eq, zu_ne]
theorem zr_shows (hX : zRX N a B S A) (hb : h.2.2.2.2 0 ≤ a) {t : Nat} (ht : t < zT B) (deep thin wet : Int32) : ∃ A', zScr A A' ∧ (fX7_showsBy N a (nI t) deep thin wet).1 (rH h a (F, L, A, M)) = some (zb (zShow B t deep wet thin), rH h a (F, L, A', M)) := by
  have hT := hX.2.1.2.1
  have e16 := (hX.2.2.2.1.2.2.2.2.1 t ht).1
  have hk := (hX.2.1.2.2.2.2.1 t ht).1
  obtain ⟨A', hs, e⟩ := zr_shows38 (F := F) (L := L) (M := M) hX hb ht thin (if zKi B t = 1 then wet + 1 else wet) (if zKi B t = 2 then deep - 1 else deep)
  refine ⟨A', hs, ?_⟩
  have e2 : (fX7_showsBy N a (nI t) deep thin wet).1 (rH h a (F, L, A, M)) = (fX7_showsBy_38 N a (nI t) thin (if zKi B t = 1 then wet + 1 else wet) (if zKi B t = 2 then deep - 1 else deep)).1 (rH h a (F, L, A, M)) := by
    by_cases k1 : zKi B t = 1
    · have k2 : ¬ zKi B t = 2 := by omega
      simp (disch := omega) only [fX7_showsBy, fX7_showsBy_19, fX7_showsBy_76, fX7_showsBy_125, zr_g16, zr_a16, zr_s16 hb, zr_g17, zr_a17, zr_s17 hb, zr_g20, zr_a20, zr_s20 hb, zr_a20_0, zr_a20_1, zr_g21, zr_a21, zr_s21 hb, zr_a21_0, zr_a21_1, zr_g35, zr_a35, zr_s35 hb, zr_s35_1 hb, zr_s35_2 hb, zr_s35_3 hb, zr_s35_4 hb, zc0_le, zc0_ge, zc0_lt, zc0_gt, zc0_eq, zc1_le, zc1_ge, zc1_lt, zc1_gt, zc1_eq, zc1_ad, zc1_da, zc1_mu, zc1_um, zc1_sb, zc2_le, zc2_ge, zc2_lt, zc2_gt, zc2_eq, zc2_ad, zc2_da, zc2_mu, zc2_um, zc2_sb, zc3_le, zc3_ge, zc3_lt, zc3_gt, zc3_eq, zc3_ad, zc3_da, zc3_mu, zc3_um, zc3_sb, zc4_le, zc4_ge, zc4_lt, zc4_gt, zc4_eq, zc4_ad, zc4_da, zc4_mu, zc4_um, zc4_sb, zI, zR, zRn0, zRn1, zRnb, jR_run, zRn0B, zRn1B, zRnbB, znn, nI_add, pk_mul, nI_leI, nI_ltI, nI_eq, if_true, if_false, ite_true, ite_false, e16, k1, k2]
      rfl
    · by_cases k2 : zKi B t = 2
      · simp (disch := omega) only [fX7_showsBy, fX7_showsBy_19, fX7_showsBy_76, fX7_showsBy_125, zr_g16, zr_a16, zr_s16 hb, zr_g17, zr_a17, zr_s17 hb, zr_g20, zr_a20, zr_s20 hb, zr_a20_0, zr_a20_1, zr_g21, zr_a21, zr_s21 hb, zr_a21_0, zr_a21_1, zr_g35, zr_a35, zr_s35 hb, zr_s35_1 hb, zr_s35_2 hb, zr_s35_3 hb, zr_s35_4 hb, zc0_le, zc0_ge, zc0_lt, zc0_gt, zc0_eq, zc1_le, zc1_ge, zc1_lt, zc1_gt, zc1_eq, zc1_ad, zc1_da, zc1_mu, zc1_um, zc1_sb, zc2_le, zc2_ge, zc2_lt, zc2_gt, zc2_eq, zc2_ad, zc2_da, zc2_mu, zc2_um, zc2_sb, zc3_le, zc3_ge, zc3_lt, zc3_gt, zc3_eq, zc3_ad, zc3_da, zc3_mu, zc3_um, zc3_sb, zc4_le, zc4_ge, zc4_lt, zc4_gt, zc4_eq, zc4_ad, zc4_da, zc4_mu, zc4_um, zc4_sb, zI, zR, zRn0, zRn1, zRnb, jR_run, zRn0B, zRn1B, zRnbB, znn, nI_add, pk_mul, nI_leI, nI_ltI, nI_eq, if_true, if_false, ite_true, ite_false, e16, k1, k2]
        rfl
      · simp (disch := omega) only [fX7_showsBy, fX7_showsBy_19, fX7_showsBy_76, fX7_showsBy_125, zr_g16, zr_a16, zr_s16 hb, zr_g17, zr_a17, zr_s17 hb, zr_g20, zr_a20, zr_s20 hb, zr_a20_0, zr_a20_1, zr_g21, zr_a21, zr_s21 hb, zr_a21_0, zr_a21_1, zr_g35, zr_a35, zr_s35 hb, zr_s35_1 hb, zr_s35_2 hb, zr_s35_3 hb, zr_s35_4 hb, zc0_le, zc0_ge, zc0_lt, zc0_gt, zc0_eq, zc1_le, zc1_ge, zc1_lt, zc1_gt, zc1_eq, zc1_ad, zc1_da, zc1_mu, zc1_um, zc1_sb, zc2_le, zc2_ge, zc2_lt, zc2_gt, zc2_eq, zc2_ad, zc2_da, zc2_mu, zc2_um, zc2_sb, zc3_le, zc3_ge, zc3_lt, zc3_gt, zc3_eq, zc3_ad, zc3_da, zc3_mu, zc3_um, zc3_sb, zc4_le, zc4_ge, zc4_lt, zc4_gt, zc4_eq, zc4_ad, zc4_da, zc4_mu, zc4_um, zc4_sb, zI, zR, zRn0, zRn1, zRnb, jR_run, zRn0B, zRn1B, zRnbB, znn, nI_add, pk_mul, nI_leI, nI_ltI, nI_eq, if_true, if_false, ite_true, ite_false, e16, k1, k2]
  rw [e2, e]
  unfold zShow
  cases zEv B <;> rfl
end
