/-! PURE 83: a shelf is copied; one is taken out of a list -/
set_option maxRecDepth 100000
section
variable {H : jH}
theorem zcpI_ {α : Type} {kd a b n1 n2 m : Nat} {f g : Nat → Int32} (h1 : H.1 a = some (.inr (kd, n1, .inl f))) (h2 : H.1 b = some (.inr (kd, n2, .inl g))) (hb : H.2.2.2.2 0 ≤ b) (hi : m ≤ n1) (hj : m ≤ n2) (hm : m < 2 ^ 31) (K : Unit → jM α) : (jB (jcpI kd (some a) 0 (some b) 0 (nI m)) K).1 H = (K ()).1 (jset H b (.inr (kd, n2, .inl (va_cpy f g 0 0 m)))) := by
  have a3 : ¬ nI m < 0 := nI_pos hm
  have b3 : (nI m).toNatClampNeg = m := nI_clamp (by omega)
  have b0 : (0 : Int32).toNatClampNeg = 0 := by decide
  have a0 : ¬ (0 : Int32) < 0 := by decide
  refine zBW ?_ K
  unfold jcpIg
  simp only [h1, h2, b3, b0]
  rw [if_pos ⟨⟨trivial, trivial, hb⟩, ⟨a0, a0, a3⟩, by omega, by omega⟩]
theorem zsh_cp {b : Nat} {x : zSS} (hx : ∀ i, i < 4 → H.1 (b + i) = zS4 b x (b + i)) (hbl : b + 4 ≤ H.2.1) (hK : H.2.2.2.2 0 ≤ H.2.1) : ∃ H' x', (fX3_copied b).1 H = some (some H.2.1, H') ∧ (∀ i, i < 4 → H'.1 (H.2.1 + i) = zS4 H.2.1 x' (H.2.1 + i)) ∧ x'.1 = x.1 ∧ (∀ i, i < 3 → x'.2.1 i = x.2.1 i) ∧ (∀ i, i < 18 → x'.2.2.1 i = x.2.2.1 i ∧ x'.2.2.2 i = x.2.2.2 i) ∧ zFm (fun _ => False) H H' ∧ H'.2.1 = H.2.1 + 4 ∧ H'.2.2.2.1 = H.2.2.2.1 + 45 ∧ jLe H H' := by
  have b0 : H.1 b = some (.inl (2, [va_rf x.1.1, .int x.1.2.1, .int x.1.2.2, .ref (b + 1), .ref (b + 2), .ref (b + 3)])) := by
    have := hx 0 (by decide)
    rw [Nat.add_zero] at this
    rw [this]
    unfold zS4
    rw [if_pos rfl]
  have b1 : H.1 (b + 1) = some (.inr (0, 3, .inl x.2.1)) := by
    rw [hx 1 (by decide)]
    unfold zS4
    rw [if_neg (by omega), if_pos rfl]
  have b2 : H.1 (b + 2) = some (.inr (0, 18, .inl x.2.2.1)) := by
    rw [hx 2 (by decide)]
    unfold zS4
    rw [if_neg (by omega), if_neg (by omega), if_pos rfl]
  have b3 : H.1 (b + 3) = some (.inr (0, 18, .inl x.2.2.2)) := by
    rw [hx 3 (by decide)]
    unfold zS4
    rw [if_neg (by omega), if_neg (by omega), if_neg (by omega), if_pos rfl]
  -- it is made
  obtain ⟨H1, hH1⟩ : ∃ H1, H1 = jnew H (.inl (2, [.null, .int 0, .int 0, .null, .null, .null])) 6 := ⟨_, rfl⟩
  have q1 : H1.1 H.2.1 = some (.inl (2, [.null, .int 0, .int 0, .null, .null, .null])) := by rw [hH1]; exact znw_e _ _ _
  obtain ⟨H2, hH2⟩ : ∃ H2, H2 = jnew H1 (.inr (0, 3, .inl fun _ => 0)) 3 := ⟨_, rfl⟩
  have s1 : H1.2.1 = H.2.1 + 1 := by rw [hH1]; rfl
  have q2 : H2.1 H.2.1 = some (.inl (2, [.null, .int 0, .int 0, .null, .null, .null])) := by rw [hH2]; exact (znw_n _ _ _ (by omega)).trans q1
  have r2 : H2.1 (H.2.1 + 1) = some (.inr (0, 3, .inl fun _ => 0)) := by rw [hH2, ← s1]; exact znw_e _ _ _
  obtain ⟨H3, hH3⟩ : ∃ H3, H3 = jset H2 H.2.1 (.inl (2, [.null, .int 0, .int 0, .ref (H.2.1 + 1), .null, .null])) := ⟨_, rfl⟩
  have q3 : H3.1 H.2.1 = some (.inl (2, [.null, .int 0, .int 0, .ref (H.2.1 + 1), .null, .null])) := by rw [hH3]; exact zse_e _ _ _
  have s3 : H3.2.1 = H.2.1 + 2 := by rw [hH3, hH2]; show H1.2.1 + 1 = _; omega
  obtain ⟨H4, hH4⟩ : ∃ H4, H4 = jnew H3 (.inr (0, 18, .inl fun _ => 0)) 18 := ⟨_, rfl⟩
  have q4 : H4.1 H.2.1 = some (.inl (2, [.null, .int 0, .int 0, .ref (H.2.1 + 1), .null, .null])) := by rw [hH4]; exact (znw_n _ _ _ (by omega)).trans q3
  have r4 : H4.1 (H.2.1 + 2) = some (.inr (0, 18, .inl fun _ => 0)) := by rw [hH4, ← s3]; exact znw_e _ _ _
  obtain ⟨H5, hH5⟩ : ∃ H5, H5 = jset H4 H.2.1 (.inl (2, [.null, .int 0, .int 0, .ref (H.2.1 + 1), .ref (H.2.1 + 2), .null])) := ⟨_, rfl⟩
  have q5 : H5.1 H.2.1 = some (.inl (2, [.null, .int 0, .int 0, .ref (H.2.1 + 1), .ref (H.2.1 + 2), .null])) := by rw [hH5]; exact zse_e _ _ _
  have s5 : H5.2.1 = H.2.1 + 3 := by rw [hH5, hH4]; show H3.2.1 + 1 = _; omega
  obtain ⟨H6, hH6⟩ : ∃ H6, H6 = jnew H5 (.inr (0, 18, .inl fun _ => 0)) 18 := ⟨_, rfl⟩
  have q6 : H6.1 H.2.1 = some (.inl (2, [.null, .int 0, .int 0, .ref (H.2.1 + 1), .ref (H.2.1 + 2), .null])) := by rw [hH6]; exact (znw_n _ _ _ (by omega)).trans q5
  have r6 : H6.1 (H.2.1 + 3) = some (.inr (0, 18, .inl fun _ => 0)) := by rw [hH6, ← s5]; exact znw_e _ _ _
  obtain ⟨H7, hH7⟩ : ∃ H7, H7 = jset H6 H.2.1 (.inl (2, [.null, .int 0, .int 0, .ref (H.2.1 + 1), .ref (H.2.1 + 2), .ref (H.2.1 + 3)])) := ⟨_, rfl⟩
  have q7 : H7.1 H.2.1 = some (.inl (2, [.null, .int 0, .int 0, .ref (H.2.1 + 1), .ref (H.2.1 + 2), .ref (H.2.1 + 3)])) := by rw [hH7]; exact zse_e _ _ _
  have o7 : ∀ y, y < H.2.1 → H7.1 y = H.1 y := fun y hy => by
    rw [hH7, hH6, hH5, hH4, hH3, hH2, hH1]
    exact (zse_n _ _ (by omega)).trans ((znw_n _ _ _ (by rw [← hH1, ← hH2, ← hH3, ← hH4, ← hH5, s5]; omega)).trans ((zse_n _ _ (by omega)).trans ((znw_n _ _ _ (by rw [← hH1, ← hH2, ← hH3, s3]; omega)).trans ((zse_n _ _ (by omega)).trans ((znw_n _ _ _ (by rw [← hH1, s1]; omega)).trans (znw_n _ _ _ (by omega)))))))
  have a7 : H7.1 (H.2.1 + 1) = some (.inr (0, 3, .inl fun _ => 0)) := by
    rw [hH7, hH6, hH5, hH4, hH3]
    exact (zse_n _ _ (by omega)).trans ((znw_n _ _ _ (by rw [← hH3, ← hH4, ← hH5, s5]; omega)).trans ((zse_n _ _ (by omega)).trans ((znw_n _ _ _ (by rw [← hH3, s3]; omega)).trans ((zse_n _ _ (by omega)).trans r2))))
  have c7 : H7.1 (H.2.1 + 2) = some (.inr (0, 18, .inl fun _ => 0)) := by
    rw [hH7, hH6, hH5]
    exact (zse_n _ _ (by omega)).trans ((znw_n _ _ _ (by rw [← hH5, s5]; omega)).trans ((zse_n _ _ (by omega)).trans r4))
  have d7 : H7.1 (H.2.1 + 3) = some (.inr (0, 18, .inl fun _ => 0)) := by
    rw [hH7]
    exact (zse_n _ _ (by omega)).trans r6
  have k7 : H7.2.2.2.2 = H.2.2.2.2 := by rw [hH7, hH6, hH5, hH4, hH3, hH2, hH1]; rfl
  have s7 : H7.2.1 = H.2.1 + 4 := by rw [hH7, hH6]; show H5.2.1 + 1 = _; omega
  have t7 : H7.2.2.2.1 = H.2.2.2.1 + 45 := by rw [hH7, hH6, hH5, hH4, hH3, hH2, hH1]; rfl
  have f7 : zFm (fun _ => False) H H7 := by
    rw [hH7, hH6, hH5, hH4, hH3, hH2, hH1]
    exact ((((((zFm.rf _ _).nw.nw.set (Or.inl (Nat.le_refl _))).nw).set (Or.inl (Nat.le_refl _))).nw).set (Or.inl (Nat.le_refl _)))
  have l7 : jLe H H7 := by
    rw [hH7, hH6, hH5, hH4, hH3, hH2, hH1]
    exact jLe.tr (jnew_le _ _ _) (jLe.tr (jnew_le _ _ _) (jLe.tr (jsetO_le (by rw [← hH1, ← hH2]; exact q2)) (jLe.tr (jnew_le _ _ _) (jLe.tr (jsetO_le (by rw [← hH1, ← hH2, ← hH3, ← hH4]; exact q4)) (jLe.tr (jnew_le _ _ _) (jsetO_le (by rw [← hH1, ← hH2, ← hH3, ← hH4, ← hH5, ← hH6]; exact q6)))))))
  have mk : (fX3_init H.2.1).1 H1 = some ((), H7) := by
    unfold fX3_init jpR
    rw [show (3 : Int32) = nI 3 from rfl, znaIB (by decide), ← hH2, s1]
    refine (zpV q2 (by decide) (by rw [hH2, hH1]; exact hK) (by show 3 < 6; decide) _).trans ?_
    rw [show jset H2 H.2.1 (.inl (2, List.set [.null, .int 0, .int 0, .null, .null, .null] 3 (va_rf (some (H.2.1 + 1))))) = H3 from hH3.symm, show (18 : Int32) = nI 18 from rfl, znaIB (by decide), ← hH4, s3]
    refine (zpV q4 (by decide) (by rw [hH4, hH3, hH2, hH1]; exact hK) (by show 4 < 6; decide) _).trans ?_
    rw [show jset H4 H.2.1 (.inl (2, List.set [.null, .int 0, .int 0, .ref (H.2.1 + 1), .null, .null] 4 (va_rf (some (H.2.1 + 2))))) = H5 from hH5.symm, znaIB (by decide), ← hH6, s5]
    refine (zpV q6 (by decide) (by rw [hH6, hH5, hH4, hH3, hH2, hH1]; exact hK) (by show 5 < 6; decide) _).trans ?_
    rw [show jset H6 H.2.1 (.inl (2, List.set [.null, .int 0, .int 0, .ref (H.2.1 + 1), .ref (H.2.1 + 2), .null] 5 (va_rf (some (H.2.1 + 3))))) = H7 from hH7.symm]
    rfl
  -- it is filled
  obtain ⟨H8, hH8⟩ : ∃ H8, H8 = jset (jset (jset H7 H.2.1 (.inl (2, [va_rf x.1.1, .int 0, .int 0, .ref (H.2.1 + 1), .ref (H.2.1 + 2), .ref (H.2.1 + 3)]))) H.2.1 (.inl (2, [va_rf x.1.1, .int x.1.2.1, .int 0, .ref (H.2.1 + 1), .ref (H.2.1 + 2), .ref (H.2.1 + 3)]))) H.2.1 (.inl (2, [va_rf x.1.1, .int x.1.2.1, .int x.1.2.2, .ref (H.2.1 + 1), .ref (H.2.1 + 2), .ref (H.2.1 + 3)])) := ⟨_, rfl⟩
  have q8 : H8.1 H.2.1 = some (.inl (2, [va_rf x.1.1, .int x.1.2.1, .int x.1.2.2, .ref (H.2.1 + 1), .ref (H.2.1 + 2), .ref (H.2.1 + 3)])) := by rw [hH8]; exact zse_e _ _ _
  have o8 : ∀ y, y ≠ H.2.1 → H8.1 y = H7.1 y := fun y hy => by rw [hH8]; exact (zse_n _ _ hy).trans ((zse_n _ _ hy).trans (zse_n _ _ hy))
  have k8 : H8.2 = H7.2 := by rw [hH8]; rfl
  have l8 : jLe H7 H8 := by rw [hH8]; exact jLe.tr (jsetO_le q7) (jLe.tr (jsetO_le (zse_e _ _ _)) (jsetO_le (zse_e _ _ _)))
  obtain ⟨H9, hH9⟩ : ∃ H9, H9 = jset H8 (H.2.1 + 1) (.inr (0, 3, .inl (va_cpy x.2.1 (fun _ => 0) 0 0 3))) := ⟨_, rfl⟩
  have o9 : ∀ y, y ≠ H.2.1 + 1 → H9.1 y = H8.1 y := fun y hy => by rw [hH9]; exact zse_n _ _ hy
  obtain ⟨HA, hHA⟩ : ∃ HA, HA = jset H9 (H.2.1 + 2) (.inr (0, 18, .inl (va_cpy x.2.2.1 (fun _ => 0) 0 0 18))) := ⟨_, rfl⟩
  have oA : ∀ y, y ≠ H.2.1 + 2 → HA.1 y = H9.1 y := fun y hy => by rw [hHA]; exact zse_n _ _ hy
  obtain ⟨HB, hHB⟩ : ∃ HB, HB = jset HA (H.2.1 + 3) (.inr (0, 18, .inl (va_cpy x.2.2.2 (fun _ => 0) 0 0 18))) := ⟨_, rfl⟩
  have oB : ∀ y, y ≠ H.2.1 + 3 → HB.1 y = HA.1 y := fun y hy => by rw [hHB]; exact zse_n _ _ hy
  have a9 : H9.1 (H.2.1 + 1) = some (.inr (0, 3, .inl (va_cpy x.2.1 (fun _ => 0) 0 0 3))) := by rw [hH9]; exact zse_e _ _ _
  have aA : HA.1 (H.2.1 + 2) = some (.inr (0, 18, .inl (va_cpy x.2.2.1 (fun _ => 0) 0 0 18))) := by rw [hHA]; exact zse_e _ _ _
  have aB : HB.1 (H.2.1 + 3) = some (.inr (0, 18, .inl (va_cpy x.2.2.2 (fun _ => 0) 0 0 18))) := by rw [hHB]; exact zse_e _ _ _
  have kB : HB.2 = H7.2 := by rw [hHB, hHA, hH9]; exact k8
  have c8 : H8.1 (H.2.1 + 1) = some (.inr (0, 3, .inl fun _ => 0)) := (o8 _ (by omega)).trans a7
  have c9 : H9.1 (H.2.1 + 2) = some (.inr (0, 18, .inl fun _ => 0)) := (o9 _ (by omega)).trans ((o8 _ (by omega)).trans c7)
  have cA : HA.1 (H.2.1 + 3) = some (.inr (0, 18, .inl fun _ => 0)) := (oA _ (by omega)).trans ((o9 _ (by omega)).trans ((o8 _ (by omega)).trans d7))
  have lB : jLe H8 HB := by
    rw [hHB, hHA, hH9]
    exact jLe.tr (jsetA_le c8) (jLe.tr (jsetA_le (by rw [← hH9]; exact c9)) (jsetA_le (by rw [← hH9, ← hHA]; exact cA)))
  have old : ∀ y, y < H.2.1 → HB.1 y = H.1 y := fun y hy => (oB _ (by omega)).trans ((oA _ (by omega)).trans ((o9 _ (by omega)).trans ((o8 _ (by omega)).trans (o7 y hy))))
  have old8 : ∀ y, y < H.2.1 → H8.1 y = H.1 y := fun y hy => (o8 _ (by omega)).trans (o7 y hy)
  refine ⟨HB, (x.1, va_cpy x.2.1 (fun _ => 0) 0 0 3, va_cpy x.2.2.1 (fun _ => 0) 0 0 18, va_cpy x.2.2.2 (fun _ => 0) 0 0 18), ?_, fun i hi => ?_, rfl, fun i hi => ?_, fun i hi => ⟨?_, ?_⟩, ⟨fun y hy _ => old y hy, by rw [kB]; exact f7.2.1, by rw [kB]; exact f7.2.2.1, by rw [kB]; exact f7.2.2.2.1, by rw [kB]; exact k7⟩, by rw [kB]; exact s7, by rw [kB]; exact t7, jLe.tr l7 (jLe.tr l8 lB)⟩
  · unfold fX3_copied
    rw [znwB, ← hH1, jB_eq mk, zrc (c := 2) (by unfold jcd; rw [q7]; rfl)]
    unfold fX3_copies jpR jpI
    have g7 : ∀ y, y < H.2.1 → H7.1 y = H.1 y := o7
    rw [zA, zgR (x := x.1.1) ((g7 b (by omega)).trans b0) (by decide) rfl, zA]
    refine (zpV q7 (by decide) (by rw [k7]; exact hK) (by show 0 < 6; decide) _).trans ?_
    have w1 : (jset H7 H.2.1 (.inl (2, [va_rf x.1.1, .int 0, .int 0, .ref (H.2.1 + 1), .ref (H.2.1 + 2), .ref (H.2.1 + 3)]))).1 H.2.1 = some (.inl (2, [va_rf x.1.1, .int 0, .int 0, .ref (H.2.1 + 1), .ref (H.2.1 + 2), .ref (H.2.1 + 3)])) := zse_e _ _ _
    have w1b : (jset H7 H.2.1 (.inl (2, [va_rf x.1.1, .int 0, .int 0, .ref (H.2.1 + 1), .ref (H.2.1 + 2), .ref (H.2.1 + 3)]))).1 b = some (.inl (2, [va_rf x.1.1, .int x.1.2.1, .int x.1.2.2, .ref (b + 1), .ref (b + 2), .ref (b + 3)])) := (zse_n _ _ (by omega)).trans ((g7 b (by omega)).trans b0)
    rw [zA]
    refine (zgI w1b (by decide) rfl _).trans ?_
    rw [zA]
    refine (zpV w1 (by decide) (by show H7.2.2.2.2 0 ≤ _; rw [k7]; exact hK) (by show 1 < 6; decide) _).trans ?_
    have w2 : (jset (jset H7 H.2.1 (.inl (2, [va_rf x.1.1, .int 0, .int 0, .ref (H.2.1 + 1), .ref (H.2.1 + 2), .ref (H.2.1 + 3)]))) H.2.1 (.inl (2, [va_rf x.1.1, .int x.1.2.1, .int 0, .ref (H.2.1 + 1), .ref (H.2.1 + 2), .ref (H.2.1 + 3)]))).1 H.2.1 = some (.inl (2, [va_rf x.1.1, .int x.1.2.1, .int 0, .ref (H.2.1 + 1), .ref (H.2.1 + 2), .ref (H.2.1 + 3)])) := zse_e _ _ _
    have w2b : (jset (jset H7 H.2.1 (.inl (2, [va_rf x.1.1, .int 0, .int 0, .ref (H.2.1 + 1), .ref (H.2.1 + 2), .ref (H.2.1 + 3)]))) H.2.1 (.inl (2, [va_rf x.1.1, .int x.1.2.1, .int 0, .ref (H.2.1 + 1), .ref (H.2.1 + 2), .ref (H.2.1 + 3)]))).1 b = some (.inl (2, [va_rf x.1.1, .int x.1.2.1, .int x.1.2.2, .ref (b + 1), .ref (b + 2), .ref (b + 3)])) := (zse_n _ _ (by omega)).trans w1b
    rw [zA]
    refine (zgI w2b (by decide) rfl _).trans ?_
    rw [zA]
    refine (zpV w2 (by decide) (by show H7.2.2.2.2 0 ≤ _; rw [k7]; exact hK) (by show 2 < 6; decide) _).trans ?_
    rw [show jset (jset (jset H7 H.2.1 (.inl (2, [va_rf x.1.1, .int 0, .int 0, .ref (H.2.1 + 1), .ref (H.2.1 + 2), .ref (H.2.1 + 3)]))) H.2.1 (.inl (2, [va_rf x.1.1, .int x.1.2.1, .int 0, .ref (H.2.1 + 1), .ref (H.2.1 + 2), .ref (H.2.1 + 3)]))) H.2.1 (.inl (2, List.set [va_rf x.1.1, .int x.1.2.1, .int 0, .ref (H.2.1 + 1), .ref (H.2.1 + 2), .ref (H.2.1 + 3)] 2 (.int x.1.2.2))) = H8 from hH8.symm]
    rw [zA, zgRs ((old8 b (by omega)).trans b0) (by decide) rfl, zA, zgRs q8 (by decide) rfl, zA, show (3 : Int32) = nI 3 from rfl, zcpI_ ((old8 _ (by omega)).trans b1) c8 (by rw [k8, k7]; omega) (by decide) (by decide) (by decide), ← hH9]
    rw [zA, zgRs ((o9 b (by omega)).trans ((old8 b (by omega)).trans b0)) (by decide) rfl, zA, zgRs ((o9 _ (by omega)).trans q8) (by decide) rfl, zA, show (18 : Int32) = nI 18 from rfl, zcpI_ ((o9 _ (by omega)).trans ((old8 _ (by omega)).trans b2)) c9 (by rw [hH9]; show H8.2.2.2.2 0 ≤ _; rw [k8, k7]; omega) (by decide) (by decide) (by decide), ← hHA]
    rw [zA, zgRs ((oA b (by omega)).trans ((o9 b (by omega)).trans ((old8 b (by omega)).trans b0))) (by decide) rfl, zA, zgRs ((oA _ (by omega)).trans ((o9 _ (by omega)).trans q8)) (by decide) rfl, zA, zcpI_ ((oA _ (by omega)).trans ((o9 _ (by omega)).trans ((old8 _ (by omega)).trans b3))) cA (by rw [hHA, hH9]; show H8.2.2.2.2 0 ≤ _; rw [k8, k7]; omega) (by decide) (by decide) (by decide), ← hHB]
    rfl
  · have : i = 0 ∨ i = 1 ∨ i = 2 ∨ i = 3 := by omega
    unfold zS4
    rcases this with e | e | e | e <;> subst e
    · rw [if_pos (by omega)]
      exact (oB _ (by omega)).trans ((oA _ (by omega)).trans ((o9 _ (by omega)).trans q8))
    · rw [if_neg (by omega), if_pos rfl]
      exact (oB _ (by omega)).trans ((oA _ (by omega)).trans a9)
    · rw [if_neg (by omega), if_neg (by omega), if_pos rfl]
      exact (oB _ (by omega)).trans aA
    · rw [if_neg (by omega), if_neg (by omega), if_neg (by omega), if_pos rfl]
      exact aB
  · show va_cpy x.2.1 (fun _ => 0) 0 0 3 i = _
    unfold va_cpy
    rw [if_pos (by omega)]
    exact congrArg _ (by omega)
  · show va_cpy x.2.2.1 (fun _ => 0) 0 0 18 i = _
    unfold va_cpy
    rw [if_pos (by omega)]
    exact congrArg _ (by omega)
  · show va_cpy x.2.2.2 (fun _ => 0) 0 0 18 i = _
    unfold va_cpy
    rw [if_pos (by omega)]
    exact congrArg _ (by omega)
theorem zSm.cp {k : zKA} {B : zLB} {S : zMS} {x x' : zSS} (h : zSm k B S x) (hB : zS B ≤ 3) (h1 : x'.1 = x.1) (h2 : ∀ i, i < 3 → x'.2.1 i = x.2.1 i) (h3 : ∀ i, i < 18 → x'.2.2.1 i = x.2.2.1 i ∧ x'.2.2.2 i = x.2.2.2 i) : zSm k B S x' := by
  obtain ⟨a1, a2, a3, a4, a5⟩ := h
  refine ⟨by rw [h1]; exact a1, by rw [h1]; exact a2, by rw [h1]; exact a3, fun s hs => (h2 s (by omega)).trans (a4 s hs), fun q hq => ⟨(h3 q hq).1.trans (a5 q hq).1, (h3 q hq).2.trans (a5 q hq).2⟩⟩
/-- the last one is taken out of a list -/
theorem zAL_pop {p arr cap n : Nat} {f : Nat → Option Nat} (hL : zAL H p arr cap (n + 1) f) : ∃ H', (fJ2_remove p (nI n)).1 H = some (f n, H') ∧ zAL H' p arr cap n (va_up f n none) ∧ (∀ q, q ≠ p → q ≠ arr → H'.1 q = H.1 q) ∧ H'.2 = H.2 ∧ jLe H H' := by
  obtain ⟨⟨mc, h1⟩, h2, hpa, hnc, hc, ⟨hp, ha⟩, hb, hK, hb2, hok⟩ := hL
  obtain ⟨H1, hH1⟩ : ∃ H1, H1 = jset H p (.inl (4, [.int (mc + 1), .ref arr, .int (nI (n + 1))])) := ⟨_, rfl⟩
  have q1 : H1.1 p = some (.inl (4, [.int (mc + 1), .ref arr, .int (nI (n + 1))])) := by rw [hH1]; exact zse_e _ _ _
  obtain ⟨H2, hH2⟩ : ∃ H2, H2 = jset H1 p (.inl (4, [.int (mc + 1), .ref arr, .int (nI n)])) := ⟨_, rfl⟩
  have q2 : H2.1 p = some (.inl (4, [.int (mc + 1), .ref arr, .int (nI n)])) := by rw [hH2]; exact zse_e _ _ _
  have a2 : H2.1 arr = some (.inr (4, cap, zRf f)) := by rw [hH2, hH1]; exact (zse_n _ _ (Ne.symm hpa)).trans ((zse_n _ _ (Ne.symm hpa)).trans h2)
  obtain ⟨H3, hH3⟩ : ∃ H3, H3 = jset H2 arr (.inr (4, cap, zRf (va_up f n none))) := ⟨_, rfl⟩
  have l3 : jLe H H3 := by rw [hH3, hH2, hH1]; exact jLe.tr (jsetO_le h1) (jLe.tr (jsetO_le (zse_e _ _ _)) (jsetA_le (by rw [← hH1, ← hH2]; exact a2)))
  have s3 : H3.2 = H.2 := by rw [hH3, hH2, hH1]; rfl
  refine ⟨H3, ?_, ⟨⟨mc + 1, by rw [hH3]; exact (zse_n _ _ hpa).trans q2⟩, by rw [hH3]; exact zse_e _ _ _, hpa, by omega, hc, by rw [s3]; exact ⟨hp, ha⟩, by rw [s3]; exact hb, fun c => by rw [s3]; exact hK c, fun c => by rw [s3]; exact hb2 c, fun i hi => by rw [va_up_ne _ _ (by omega)]; exact (hok i (by omega)).le l3⟩, fun q h1 h2 => by rw [hH3, hH2, hH1]; exact (zse_n _ _ h2).trans ((zse_n _ _ h1).trans (zse_n _ _ h1)), s3, l3⟩
  have e1 : (fJ3_checkIndex (nI n) (nI (n + 1))).1 H = some (nI n, H) := by
    unfold fJ3_checkIndex fJ4_checkIndex
    rw [zIB, if_neg (nI_pos (by omega)), zIB, if_pos (nI_lt (by omega) (by omega))]
    rfl
  have e2 : (fJ2_fastRemove p (some arr) (nI n)).1 H = some ((), H3) := by
    unfold fJ2_fastRemove fJ2_fastRemove_34
    rw [zgI h1 (by decide) rfl, zl_p0 h1 hb, ← hH1, zgI q1 (by decide) rfl, zc1_sb (by omega), Nat.add_sub_cancel, zI, if_pos (nI_le (Nat.le_refl _) (by omega)), zl_p2 q1 (by rw [hH1]; exact hb), ← hH2, zsR a2 (by rw [hH2, hH1]; exact hb2 (by omega)) (by omega) (by omega) rfl, ← hH3]
    rfl
  unfold fJ2_remove
  rw [zgI h1 (by decide) rfl, jB_eq e1, zgRs h1 (by decide) rfl, zaR h2 (by omega) (by omega), jB_eq e2]
  rfl
/-- the first one is taken out of a list -/
theorem zAL_shift {p arr cap n : Nat} {f : Nat → Option Nat} (hL : zAL H p arr cap (n + 2) f) : ∃ H' g, (fJ2_remove p 0).1 H = some (f 0, H') ∧ zAL H' p arr cap (n + 1) g ∧ (∀ i, i < n + 1 → g i = f (i + 1)) ∧ (∀ q, q ≠ p → q ≠ arr → H'.1 q = H.1 q) ∧ H'.2 = H.2 ∧ jLe H H' := by
  obtain ⟨⟨mc, h1⟩, h2, hpa, hnc, hc, ⟨hp, ha⟩, hb, hK, hb2, hok⟩ := hL
  obtain ⟨H1, hH1⟩ : ∃ H1, H1 = jset H p (.inl (4, [.int (mc + 1), .ref arr, .int (nI (n + 2))])) := ⟨_, rfl⟩
  have q1 : H1.1 p = some (.inl (4, [.int (mc + 1), .ref arr, .int (nI (n + 2))])) := by rw [hH1]; exact zse_e _ _ _
  have l1 : jLe H H1 := by rw [hH1]; exact jsetO_le h1
  have a1 : H1.1 arr = some (.inr (4, cap, zRf f)) := by rw [hH1]; exact (zse_n _ _ (Ne.symm hpa)).trans h2
  obtain ⟨H1b, hH1b⟩ : ∃ H1b, H1b = jset H1 arr (.inr (4, cap, zRf (va_cpy f f 1 0 (n + 1)))) := ⟨_, rfl⟩
  have q1b : H1b.1 p = some (.inl (4, [.int (mc + 1), .ref arr, .int (nI (n + 2))])) := by rw [hH1b]; exact (zse_n _ _ hpa).trans q1
  have a1b : H1b.1 arr = some (.inr (4, cap, zRf (va_cpy f f 1 0 (n + 1)))) := by rw [hH1b]; exact zse_e _ _ _
  obtain ⟨H2, hH2⟩ : ∃ H2, H2 = jset H1b p (.inl (4, [.int (mc + 1), .ref arr, .int (nI (n + 1))])) := ⟨_, rfl⟩
  have q2 : H2.1 p = some (.inl (4, [.int (mc + 1), .ref arr, .int (nI (n + 1))])) := by rw [hH2]; exact zse_e _ _ _
  have a2 : H2.1 arr = some (.inr (4, cap, zRf (va_cpy f f 1 0 (n + 1)))) := by rw [hH2]; exact (zse_n _ _ (Ne.symm hpa)).trans a1b
  obtain ⟨H3, hH3⟩ : ∃ H3, H3 = jset H2 arr (.inr (4, cap, zRf (va_up (va_cpy f f 1 0 (n + 1)) (n + 1) none))) := ⟨_, rfl⟩
  have l3 : jLe H H3 := by
    refine jLe.tr l1 ?_
    rw [hH3, hH2, hH1b]
    exact jLe.tr (jsetA_le a1) (jLe.tr (jsetO_le (by rw [← hH1b]; exact q1b)) (jsetA_le (by rw [← hH1b, ← hH2]; exact a2)))
  have s3 : H3.2 = H.2 := by rw [hH3, hH2, hH1b, hH1]; rfl
  have hg : ∀ i, i < n + 1 → va_up (va_cpy f f 1 0 (n + 1)) (n + 1) none i = f (i + 1) := fun i hi => by
    rw [va_up_ne _ _ (by omega)]
    exact (pk_cpy_in (by omega) (by omega)).trans (by congr 1; omega)
  refine ⟨H3, _, ?_, ⟨⟨mc + 1, by rw [hH3]; exact (zse_n _ _ hpa).trans q2⟩, by rw [hH3]; exact zse_e _ _ _, hpa, by omega, hc, by rw [s3]; exact ⟨hp, ha⟩, by rw [s3]; exact hb, fun c => by rw [s3]; exact hK c, fun c => by rw [s3]; exact hb2 c, fun i hi => by rw [hg i hi]; exact (hok (i + 1) (by omega)).le l3⟩, hg, fun q h1 h2 => by rw [hH3, hH2, hH1b, hH1]; exact (zse_n _ _ h2).trans ((zse_n _ _ h1).trans ((zse_n _ _ h2).trans (zse_n _ _ h1))), s3, l3⟩
  have e1 : (fJ3_checkIndex 0 (nI (n + 2))).1 H = some (0, H) := by
    unfold fJ3_checkIndex fJ4_checkIndex
    rw [zIB, if_neg (by decide), zIB, if_pos (show (0 : Int32) < nI (n + 2) from nI_lt (a := 0) (by omega) (by omega))]
    rfl
  have e2 : (fJ2_fastRemove p (some arr) 0).1 H = some ((), H3) := by
    unfold fJ2_fastRemove fJ2_fastRemove_34
    rw [zgI h1 (by decide) rfl, zl_p0 h1 hb, ← hH1, zgI q1 (by decide) rfl, zc1_sb (by omega), show n + 2 - 1 = n + 1 by omega, zI, if_neg (fun q => by have := (zc0_ge (by omega)).mp q; omega), show (0 : Int32) + 1 = nI 1 from by decide, show nI (n + 1) - 0 = nI (n + 1) from Int32.sub_zero _, show (0 : Int32) = nI 0 from rfl, zcpR a1 a1 (by rw [hH1]; exact hb2 (by omega)) (by omega) (by omega) (by omega) (by omega) (fun q hq => ((hok (1 + q) (by omega)).le l1).jk), ← hH1b, zl_p2 q1b (by rw [hH1b, hH1]; exact hb), ← hH2, zsR a2 (by rw [hH2, hH1b, hH1]; exact hb2 (by omega)) (by omega) (by omega) rfl, ← hH3]
    rfl
  unfold fJ2_remove
  rw [zgI h1 (by decide) rfl, jB_eq e1, zgRs h1 (by decide) rfl]
  refine (zaR (i := 0) h2 (by omega) (by omega) _).trans ?_
  rw [jB_eq e2]
  rfl
end
