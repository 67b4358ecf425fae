/-! PURE A5: the component is made -/
set_option maxRecDepth 100000
section
variable {N : Nat}
theorem zw_p {α : Type} {H : jH} {w i x : Nat} {fs : List Value} (h : H.1 w = some (.inl (0, fs))) (hK : H.2.2.2.2 0 ≤ w) (hi : i < fs.length) (K : Unit → jM α) : (jB (jpR [0] i (some w) (some x)) K).1 H = (K ()).1 (jset H w (.inl (0, fs.set i (.ref x)))) := zpV h (by decide) hK hi K
/-- a list without an array of its own -/
theorem zal_0 {H : jH} (hb : H.2.2.2.2 0 ≤ H.2.1) (hK : H.2.2.2.2 52 < H.2.2.2.2 0) {f : Nat → Option Nat} (h52 : H.1 (H.2.2.2.2 52) = some (.inr (4, 0, zRf f))) : ∃ H', (∀ {α : Type} (K : Nat → jM α), (jB (jnw 4 3 [.int 0, .null, .int 0]) fun q => jB (fJ2_init_2 q) fun _ => K q).1 H = (K H.2.1).1 H') ∧ zAL H' H.2.1 (H.2.2.2.2 52) 0 0 f ∧ zFm (fun _ => False) H H' ∧ H'.2.1 = H.2.1 + 1 ∧ H'.2.2.2.1 = H.2.2.2.1 + 3 ∧ jLe H H' := by
  obtain ⟨H1, hH1⟩ : ∃ H1, H1 = jnew H (.inl (4, [.int 0, .null, .int 0])) 3 := ⟨_, rfl⟩
  have e1 : H1.1 H.2.1 = some (.inl (4, [.int 0, .null, .int 0])) := by rw [hH1]; exact znw_e _ _ _
  obtain ⟨H2, hH2⟩ : ∃ H2, H2 = jset (jset H1 H.2.1 (.inl (4, [.int 0, .null, .int 0]))) H.2.1 (.inl (4, [.int 0, .ref (H.2.2.2.2 52), .int 0])) := ⟨_, rfl⟩
  have e2 : H2.1 H.2.1 = some (.inl (4, [.int 0, .ref (H.2.2.2.2 52), .int 0])) := by rw [hH2]; exact zse_e _ _ _
  have f2 : zFm (fun _ => False) H H2 := by rw [hH2, hH1]; exact ((zFm.rf _ _).nw.set (Or.inl (Nat.le_refl _))).set (Or.inl (Nat.le_refl _))
  have s2 : H2.2 = (H.2.1 + 1, H.2.2.1 + 1, H.2.2.2.1 + 3, H.2.2.2.2) := by rw [hH2, hH1]; rfl
  have l2 : jLe H H2 := by rw [hH2, hH1]; exact jLe.tr (jnew_le _ _ _) (jLe.tr (jsetO_le (znw_e _ _ _)) (jsetO_le (zse_e _ _ _)))
  refine ⟨H2, fun K => ?_, ⟨⟨0, e2⟩, (f2.1 _ (by omega) id).trans h52, by omega, Nat.le_refl _, by decide, by rw [s2]; exact ⟨by show H.2.1 < H.2.1 + 1; omega, by show H.2.2.2.2 52 < H.2.1 + 1; omega⟩, by rw [s2]; exact hb, fun _ => by rw [s2], fun c => absurd c (Nat.lt_irrefl 0), fun i hi => absurd hi (Nat.not_lt_zero i)⟩, f2, by rw [s2], by rw [s2], l2⟩
  rw [znwB, ← hH1]
  unfold fJ2_init_2 fJ1_init fJ0_init
  have hK1 : H1.2.2.2.2 0 ≤ H.2.1 := by rw [hH1]; exact hb
  rw [zA, zA, zR, zA]
  refine (zpV e1 (by decide) hK1 (by show 0 < 3; decide) _).trans ?_
  rw [zR, zA, zK, zA]
  refine (zpV (c := 4) (fs := [.int 0, .null, .int 0]) (zse_e _ _ _) (by decide) hK1 (by show 1 < 3; decide) _).trans ?_
  rw [hH2, hH1]
  rfl
/-- its plans -/
theorem zly_new {H : jH} {w : Nat} (hb : H.2.2.2.2 0 ≤ H.2.1) : ∃ H', (∀ {α : Type} (K : Nat → jM α), (jB (jnw 6 4 [.null, .null, .int 0, .null]) fun q => jB (fX6_init q (some w)) fun _ => K q).1 H = (K H.2.1).1 H') ∧ (H'.1 H.2.1 = some (.inl (6, [.ref (H.2.1 + 1), .ref (H.2.1 + 2), .int 0, .ref w])) ∧ H'.1 (H.2.1 + 1) = some (.inr (0, 6, .inl fun _ => 0)) ∧ H'.1 (H.2.1 + 2) = some (.inr (0, 6, .inl fun _ => 0))) ∧ zFm (fun _ => False) H H' ∧ H'.2.1 = H.2.1 + 3 ∧ H'.2.2.2.1 = H.2.2.2.1 + 16 ∧ jLe H H' := by
  obtain ⟨H1, hH1⟩ : ∃ H1, H1 = jnew H (.inl (6, [.null, .null, .int 0, .null])) 4 := ⟨_, rfl⟩
  have e1 : H1.1 H.2.1 = some (.inl (6, [.null, .null, .int 0, .null])) := by rw [hH1]; exact znw_e _ _ _
  have s1 : H1.2.1 = H.2.1 + 1 := by rw [hH1]; rfl
  obtain ⟨H2, hH2⟩ : ∃ H2, H2 = jset H1 H.2.1 (.inl (6, [.null, .null, .int 0, .ref w])) := ⟨_, rfl⟩
  have e2 : H2.1 H.2.1 = some (.inl (6, [.null, .null, .int 0, .ref w])) := by rw [hH2]; exact zse_e _ _ _
  have s2 : H2.2.1 = H.2.1 + 1 := by rw [hH2]; exact s1
  obtain ⟨H3, hH3⟩ : ∃ H3, H3 = jnew H2 (.inr (0, 6, .inl fun _ => 0)) 6 := ⟨_, rfl⟩
  have e3 : H3.1 H.2.1 = some (.inl (6, [.null, .null, .int 0, .ref w])) := by rw [hH3]; exact (znw_n _ _ _ (by omega)).trans e2
  have a3 : H3.1 (H.2.1 + 1) = some (.inr (0, 6, .inl fun _ => 0)) := by rw [hH3, ← s2]; exact znw_e _ _ _
  obtain ⟨H4, hH4⟩ : ∃ H4, H4 = jset H3 H.2.1 (.inl (6, [.ref (H.2.1 + 1), .null, .int 0, .ref w])) := ⟨_, rfl⟩
  have e4 : H4.1 H.2.1 = some (.inl (6, [.ref (H.2.1 + 1), .null, .int 0, .ref w])) := by rw [hH4]; exact zse_e _ _ _
  have s4 : H4.2.1 = H.2.1 + 2 := by rw [hH4, hH3]; show H2.2.1 + 1 = _; omega
  obtain ⟨H5, hH5⟩ : ∃ H5, H5 = jnew H4 (.inr (0, 6, .inl fun _ => 0)) 6 := ⟨_, rfl⟩
  have e5 : H5.1 H.2.1 = some (.inl (6, [.ref (H.2.1 + 1), .null, .int 0, .ref w])) := by rw [hH5]; exact (znw_n _ _ _ (by omega)).trans e4
  have a5 : H5.1 (H.2.1 + 1) = some (.inr (0, 6, .inl fun _ => 0)) := by rw [hH5, hH4]; exact (znw_n _ _ _ (by rw [← hH4, s4]; omega)).trans ((zse_n _ _ (by omega)).trans a3)
  have b5 : H5.1 (H.2.1 + 2) = some (.inr (0, 6, .inl fun _ => 0)) := by rw [hH5, ← s4]; exact znw_e _ _ _
  obtain ⟨H6, hH6⟩ : ∃ H6, H6 = jset H5 H.2.1 (.inl (6, [.ref (H.2.1 + 1), .ref (H.2.1 + 2), .int 0, .ref w])) := ⟨_, rfl⟩
  have K5 : H5.2.2.2.2 = H.2.2.2.2 := by rw [hH5, hH4, hH3, hH2, hH1]; rfl
  refine ⟨H6, fun K => ?_, ⟨by rw [hH6]; exact zse_e _ _ _, by rw [hH6]; exact (zse_n _ _ (by omega)).trans a5, by rw [hH6]; exact (zse_n _ _ (by omega)).trans b5⟩, ?_, by rw [hH6, hH5]; show H4.2.1 + 1 = _; omega, by rw [hH6, hH5, hH4, hH3, hH2, hH1]; rfl, ?_⟩
  · rw [znwB, ← hH1]
    unfold fX6_init
    rw [zA]
    refine (zpV e1 (by decide) (by rw [hH1]; exact hb) (by show 3 < 4; decide) _).trans ?_
    rw [show jset H1 H.2.1 (.inl (6, List.set [.null, .null, .int 0, .null] 3 (va_rf (some w)))) = H2 from hH2.symm, zA, show (6 : Int32) = nI 6 from rfl, znaIB (by decide), ← hH3, s2, zA]
    refine (zpV e3 (by decide) (by rw [hH3, hH2, hH1]; exact hb) (by show 0 < 4; decide) _).trans ?_
    rw [show jset H3 H.2.1 (.inl (6, List.set [.null, .null, .int 0, .ref w] 0 (va_rf (some (H.2.1 + 1))))) = H4 from hH4.symm, zA, znaIB (by decide), ← hH5, s4, zA]
    refine (zpV e5 (by decide) (by rw [K5]; exact hb) (by show 1 < 4; decide) _).trans ?_
    rw [show jset H5 H.2.1 (.inl (6, List.set [.ref (H.2.1 + 1), .null, .int 0, .ref w] 1 (va_rf (some (H.2.1 + 2))))) = H6 from hH6.symm]
    rfl
  · rw [hH6, hH5, hH4, hH3, hH2, hH1]
    exact (((((zFm.rf _ _).nw.set (Or.inl (Nat.le_refl _))).nw).set (Or.inl (Nat.le_refl _))).nw).set (Or.inl (Nat.le_refl _))
  · rw [hH6, hH5, hH4, hH3, hH2, hH1]
    exact jLe.tr (jnew_le _ _ _) (jLe.tr (jsetO_le (by rw [← hH1]; exact e1)) (jLe.tr (jnew_le _ _ _) (jLe.tr (jsetO_le (by rw [← hH1, ← hH2, ← hH3]; exact e3)) (jLe.tr (jnew_le _ _ _) (jsetO_le (by rw [← hH1, ← hH2, ← hH3, ← hH4, ← hH5]; exact e5))))))
end
