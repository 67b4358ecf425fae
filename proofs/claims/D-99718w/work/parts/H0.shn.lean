/-! PURE 94: library: the component -/
set_option maxRecDepth 100000
/-- what a library answers; all that is kept then -/
def zO_lib (G : zGS) : Int32 × zGS := match zLib (zOfT G.2.2.1.1 G.2.2.1.2) 1001 1001 0 zD0 with
  | .inl e => (nI (e.1 + 16 * zBg G.2.2.1.1 G.2.2.1.2 e.2), G.1, G.2.1, (G.2.2.1.1, 0), G.2.2.2)
  | .inr D => (0, (D.1, z00 D.1), (D.2.1, D.2.2.1), (G.2.2.1.1, 0), (0, G.2.2.2.1.2), (0, G.2.2.2.2.1.2), (0, G.2.2.2.2.2.1.2), fun _ => none)
def zkL (w b lb : Nat) (A cap : Nat → Nat) (sk tx : Nat → Nat) (ev : Option Nat) : zKA := (fun i => match i with
  | 0 => w
  | 1 => b
  | 2 => A 11
  | 3 => lb
  | 4 => A 5
  | 5 => A 6
  | 6 => cap 2
  | 7 => A 7
  | 8 => A 8
  | 9 => cap 3
  | 10 => A 9
  | _ => A 10, sk, tx, ev)
section
variable {N w : Nat} {k : zKA} {X : Bool → zSS} {f : Nat → Int32} {R : zCR} {τ τ1 : Nat → Nat} {Z : Nat → Option jC} {B : zLB} {S : zMS} {H H1 : jH} {nm : (Nat → Nat) × (Nat → Nat)} {T : (Nat → Nat) × Nat} {Y : zYy} {E : zEy} {U : zUy} {Mk : Nat → Option (zMS × zYy × zEy)}
theorem zsh_new (hK : H.2.2.2.2 0 ≤ H.2.1) : ∃ H', (∀ {α : Type} (K : Nat → jM α), (jB (jnw 2 6 [.null, .int 0, .int 0, .null, .null, .null]) fun q => jB (fX3_init q) fun _ => K q).1 H = (K H.2.1).1 H') ∧ zSI H.2.1 ((none, 0, 0), fun _ => 0, fun _ => 0, fun _ => 0) H' ∧ zFm (fun _ => False) H H' ∧ H'.2.1 = H.2.1 + 4 ∧ H'.2.2.2.1 = H.2.2.2.1 + 45 ∧ jLe H H' := by
  -- it is made
  obtain ⟨H1, hH1⟩ : ∃ H1, H1 = jnew H (.inl (2, [.null, .int 0, .int 0, .null, .null, .null])) 6 := ⟨_, rfl⟩
  have q1 : H1.1 H.2.1 = some (.inl (2, [.null, .int 0, .int 0, .null, .null, .null])) := by rw [hH1]; exact znw_e _ _ _
  obtain ⟨H2, hH2⟩ : ∃ H2, H2 = jnew H1 (.inr (0, 3, .inl fun _ => 0)) 3 := ⟨_, rfl⟩
  have s1 : H1.2.1 = H.2.1 + 1 := by rw [hH1]; rfl
  have q2 : H2.1 H.2.1 = some (.inl (2, [.null, .int 0, .int 0, .null, .null, .null])) := by rw [hH2]; exact (znw_n _ _ _ (by omega)).trans q1
  have r2 : H2.1 (H.2.1 + 1) = some (.inr (0, 3, .inl fun _ => 0)) := by rw [hH2, ← s1]; exact znw_e _ _ _
  obtain ⟨H3, hH3⟩ : ∃ H3, H3 = jset H2 H.2.1 (.inl (2, [.null, .int 0, .int 0, .ref (H.2.1 + 1), .null, .null])) := ⟨_, rfl⟩
  have q3 : H3.1 H.2.1 = some (.inl (2, [.null, .int 0, .int 0, .ref (H.2.1 + 1), .null, .null])) := by rw [hH3]; exact zse_e _ _ _
  have s3 : H3.2.1 = H.2.1 + 2 := by rw [hH3, hH2]; show H1.2.1 + 1 = _; omega
  obtain ⟨H4, hH4⟩ : ∃ H4, H4 = jnew H3 (.inr (0, 18, .inl fun _ => 0)) 18 := ⟨_, rfl⟩
  have q4 : H4.1 H.2.1 = some (.inl (2, [.null, .int 0, .int 0, .ref (H.2.1 + 1), .null, .null])) := by rw [hH4]; exact (znw_n _ _ _ (by omega)).trans q3
  have r4 : H4.1 (H.2.1 + 2) = some (.inr (0, 18, .inl fun _ => 0)) := by rw [hH4, ← s3]; exact znw_e _ _ _
  obtain ⟨H5, hH5⟩ : ∃ H5, H5 = jset H4 H.2.1 (.inl (2, [.null, .int 0, .int 0, .ref (H.2.1 + 1), .ref (H.2.1 + 2), .null])) := ⟨_, rfl⟩
  have q5 : H5.1 H.2.1 = some (.inl (2, [.null, .int 0, .int 0, .ref (H.2.1 + 1), .ref (H.2.1 + 2), .null])) := by rw [hH5]; exact zse_e _ _ _
  have s5 : H5.2.1 = H.2.1 + 3 := by rw [hH5, hH4]; show H3.2.1 + 1 = _; omega
  obtain ⟨H6, hH6⟩ : ∃ H6, H6 = jnew H5 (.inr (0, 18, .inl fun _ => 0)) 18 := ⟨_, rfl⟩
  have q6 : H6.1 H.2.1 = some (.inl (2, [.null, .int 0, .int 0, .ref (H.2.1 + 1), .ref (H.2.1 + 2), .null])) := by rw [hH6]; exact (znw_n _ _ _ (by omega)).trans q5
  have r6 : H6.1 (H.2.1 + 3) = some (.inr (0, 18, .inl fun _ => 0)) := by rw [hH6, ← s5]; exact znw_e _ _ _
  obtain ⟨H7, hH7⟩ : ∃ H7, H7 = jset H6 H.2.1 (.inl (2, [.null, .int 0, .int 0, .ref (H.2.1 + 1), .ref (H.2.1 + 2), .ref (H.2.1 + 3)])) := ⟨_, rfl⟩
  have q7 : H7.1 H.2.1 = some (.inl (2, [.null, .int 0, .int 0, .ref (H.2.1 + 1), .ref (H.2.1 + 2), .ref (H.2.1 + 3)])) := by rw [hH7]; exact zse_e _ _ _
  have o7 : ∀ y, y < H.2.1 → H7.1 y = H.1 y := fun y hy => by
    rw [hH7, hH6, hH5, hH4, hH3, hH2, hH1]
    exact (zse_n _ _ (by omega)).trans ((znw_n _ _ _ (by rw [← hH1, ← hH2, ← hH3, ← hH4, ← hH5, s5]; omega)).trans ((zse_n _ _ (by omega)).trans ((znw_n _ _ _ (by rw [← hH1, ← hH2, ← hH3, s3]; omega)).trans ((zse_n _ _ (by omega)).trans ((znw_n _ _ _ (by rw [← hH1, s1]; omega)).trans (znw_n _ _ _ (by omega)))))))
  have a7 : H7.1 (H.2.1 + 1) = some (.inr (0, 3, .inl fun _ => 0)) := by
    rw [hH7, hH6, hH5, hH4, hH3]
    exact (zse_n _ _ (by omega)).trans ((znw_n _ _ _ (by rw [← hH3, ← hH4, ← hH5, s5]; omega)).trans ((zse_n _ _ (by omega)).trans ((znw_n _ _ _ (by rw [← hH3, s3]; omega)).trans ((zse_n _ _ (by omega)).trans r2))))
  have c7 : H7.1 (H.2.1 + 2) = some (.inr (0, 18, .inl fun _ => 0)) := by
    rw [hH7, hH6, hH5]
    exact (zse_n _ _ (by omega)).trans ((znw_n _ _ _ (by rw [← hH5, s5]; omega)).trans ((zse_n _ _ (by omega)).trans r4))
  have d7 : H7.1 (H.2.1 + 3) = some (.inr (0, 18, .inl fun _ => 0)) := by
    rw [hH7]
    exact (zse_n _ _ (by omega)).trans r6
  have k7 : H7.2.2.2.2 = H.2.2.2.2 := by rw [hH7, hH6, hH5, hH4, hH3, hH2, hH1]; rfl
  have s7 : H7.2.1 = H.2.1 + 4 := by rw [hH7, hH6]; show H5.2.1 + 1 = _; omega
  have t7 : H7.2.2.2.1 = H.2.2.2.1 + 45 := by rw [hH7, hH6, hH5, hH4, hH3, hH2, hH1]; rfl
  have f7 : zFm (fun _ => False) H H7 := by
    rw [hH7, hH6, hH5, hH4, hH3, hH2, hH1]
    exact ((((((zFm.rf _ _).nw.nw.set (Or.inl (Nat.le_refl _))).nw).set (Or.inl (Nat.le_refl _))).nw).set (Or.inl (Nat.le_refl _)))
  have l7 : jLe H H7 := by
    rw [hH7, hH6, hH5, hH4, hH3, hH2, hH1]
    exact jLe.tr (jnew_le _ _ _) (jLe.tr (jnew_le _ _ _) (jLe.tr (jsetO_le (by rw [← hH1, ← hH2]; exact q2)) (jLe.tr (jnew_le _ _ _) (jLe.tr (jsetO_le (by rw [← hH1, ← hH2, ← hH3, ← hH4]; exact q4)) (jLe.tr (jnew_le _ _ _) (jsetO_le (by rw [← hH1, ← hH2, ← hH3, ← hH4, ← hH5, ← hH6]; exact q6)))))))
  have mk : (fX3_init H.2.1).1 H1 = some ((), H7) := by
    unfold fX3_init jpR
    rw [show (3 : Int32) = nI 3 from rfl, znaIB (by decide), ← hH2, s1]
    refine (zpV q2 (by decide) (by rw [hH2, hH1]; exact hK) (by show 3 < 6; decide) _).trans ?_
    rw [show jset H2 H.2.1 (.inl (2, List.set [.null, .int 0, .int 0, .null, .null, .null] 3 (va_rf (some (H.2.1 + 1))))) = H3 from hH3.symm, show (18 : Int32) = nI 18 from rfl, znaIB (by decide), ← hH4, s3]
    refine (zpV q4 (by decide) (by rw [hH4, hH3, hH2, hH1]; exact hK) (by show 4 < 6; decide) _).trans ?_
    rw [show jset H4 H.2.1 (.inl (2, List.set [.null, .int 0, .int 0, .ref (H.2.1 + 1), .null, .null] 4 (va_rf (some (H.2.1 + 2))))) = H5 from hH5.symm, znaIB (by decide), ← hH6, s5]
    refine (zpV q6 (by decide) (by rw [hH6, hH5, hH4, hH3, hH2, hH1]; exact hK) (by show 5 < 6; decide) _).trans ?_
    rw [show jset H6 H.2.1 (.inl (2, List.set [.null, .int 0, .int 0, .ref (H.2.1 + 1), .ref (H.2.1 + 2), .null] 5 (va_rf (some (H.2.1 + 3))))) = H7 from hH7.symm]
    rfl
  refine ⟨H7, fun K => ?_, ⟨q7, a7, c7, d7⟩, f7, s7, t7, l7⟩
  rw [znwB, ← hH1, jB_eq mk]
theorem zG7.rd (h7 : zG7 w T H) {H' : jH} (hw : w + 86 ≤ H.2.1) (hf : zFm (fun x => x = w + 1 ∨ (w + 8 ≤ x ∧ x ≤ w + 10)) H H') (h8 : ∃ dr i d, H'.1 (w + 1) = some (zRc w dr 0 i d)) (h9 : zTv w H') : zG7 w (T.1, 0) H' := by
  obtain ⟨⟨dr, i, d, hT⟩, hRa, so, pl, va, s1, s2, s3⟩ := id h7
  obtain ⟨dr', i', d', h8⟩ := h8
  obtain ⟨so', va', pl', v1, v2, v3⟩ := h9
  obtain ⟨k1, k2, ⟨tp, k3, k4⟩, ⟨k5, k6⟩, k7, k8⟩ := hT
  have hK : H'.2.2.2.2 = H.2.2.2.2 := hf.2.2.2.2
  have of : ∀ i, i < 8 → i ≠ 1 → H'.1 (w + i) = H.1 (w + i) := fun i e1 e2 => hf.1 _ (by omega) (by omega)
  refine ⟨⟨dr', i', d', k1.fr (fun q hq => hf.1 q (by omega) (by omega)) hK, h8, ⟨tp, (of 7 (by decide) (by decide)).trans k3, fun k hk => absurd hk (Nat.not_lt_zero k)⟩, ⟨Nat.zero_le _, fun k hk => absurd hk (Nat.not_lt_zero k)⟩, by rw [hK]; exact k7, by have := hf.2.1; omega⟩, ?_, so', pl', va', v1, v2, v3⟩
  unfold zRa at hRa ⊢
  rw [hK, of 2 (by decide) (by decide), of 3 (by decide) (by decide), of 4 (by decide) (by decide), of 5 (by decide) (by decide), of 6 (by decide) (by decide)]
  exact hRa
/-- marks are taken away -/
theorem zlb_54 {hw : Value} {fs : List Value} : ∀ (j m i : Nat) (H : jH) (mf : Nat → Option Nat), i + j = 4 → j < m → H.2.2.2.2 0 ≤ w → H.1 w = some (.inl (0, fs)) → fs[8]? = some (.ref (w + 39)) → H.1 (w + 39) = some (.inr (6, 4, zRf mf)) → (∀ q, q < i → mf q = none) → ∃ H' mf', (fX1_library_54 N w m (nI i)).1 H = some (0, H') ∧ H'.1 (w + 39) = some (.inr (6, 4, zRf mf')) ∧ (∀ q, q < 4 → mf' q = none) ∧ (∀ q, q ≠ w + 39 → H'.1 q = H.1 q) ∧ H'.2 = H.2 ∧ jLe H H'
  | 0, m + 1, i, H, mf, hi, hm, hK, h0, hf, h39, hq => by
    refine ⟨H, mf, ?_, h39, fun q hq' => hq q (by omega), fun _ _ => rfl, rfl, jLe.rf _⟩
    rw [fX1_library_54, zI, show i = 4 by omega, if_pos (by decide)]
    rfl
  | j + 1, m + 1, i, H, mf, hi, hm, hK, h0, hf, h39, hq => by
    obtain ⟨H1, hH1⟩ : ∃ H1, H1 = jset H (w + 39) (.inr (6, 4, zRf (va_up mf i none))) := ⟨_, rfl⟩
    have o1 : ∀ q, q ≠ w + 39 → H1.1 q = H.1 q := fun q hq => by rw [hH1]; exact zse_n _ _ hq
    obtain ⟨H', mf', e1, e2, e3, e4, e5, e6⟩ := zlb_54 (hw := hw) j m (i + 1) H1 (va_up mf i none) (by omega) (by omega) (by rw [hH1]; exact hK) ((o1 w (by omega)).trans h0) hf (by rw [hH1]; exact zse_e _ _ _) (fun q hq' => by
      by_cases e : q = i
      · rw [e]; exact if_pos rfl
      · rw [va_up_ne _ _ e]; exact hq q (by omega))
    refine ⟨H', mf', ?_, e2, e3, fun q hq => (e4 q hq).trans (o1 q hq), e5.trans (by rw [hH1]; rfl), jLe.tr (by rw [hH1]; exact jsetA_le h39) e6⟩
    have e : ¬ (4 : Int32) ≤ nI i := (nI_ge (by omega) (by omega) : ¬ nI 4 ≤ nI i)
    rw [fX1_library_54, zI, if_neg e, zgRs h0 (by decide) hf, zsR h39 (by omega) (by omega) (by decide) rfl, ← hH1, zc1_da]
    exact e1
end
