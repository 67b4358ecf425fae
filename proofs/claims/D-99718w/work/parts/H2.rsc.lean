/-! PURE 96: what the component keeps, where other cells change; rests: the component -/
set_option maxRecDepth 100000
section
variable {N w : Nat} {G : zGS} {H H1 : jH}
theorem zCG.rf (hG : zCG N w G H) (hf : ∀ q, q < H.2.1 → (q < w + 40 ∨ w + 86 ≤ q) → H1.1 q = H.1 q) (hl : jLe H H1) : zCG N w G H1 := by
  obtain ⟨k, X, f, R, Z, τ, h1, h2, hY, h3, h4, h5, h6, h7⟩ := hG
  obtain ⟨a1, a2, a3, a4, -⟩ := id h1
  have hc : ∀ q, q < H.2.2.2.2 0 → H1.1 q = H.1 q := fun q hq => hf q (by omega) (by omega)
  have oT : ∀ {q t : Nat}, zOw w τ H q t → H1.1 q = H.1 q := fun {q t} h => hf q h.2.2.2 h.2.2.1
  refine ⟨k, X, f, R, Z, τ, h1.fr (fun q hq => ?_) (fun _ _ _ => rfl) hl, h2, hY, h3.fr (fun q hq => ?_) (fun _ _ _ => rfl) hl, h4.fr (fun q hq => oT hq) (fun _ _ _ => rfl) hl (fun _ _ h => h), h5.fr hc h7.kc.2.1.1 (hf _ (by omega) (by omega)) (fun q hq => by rcases hq with hq | hq <;> exact oT hq) (fun _ _ => rfl) hl, h6.fr (hf _ (by omega) (by omega)) (fun _ _ h => h), h7.fr hc (fun q e1 e2 => hf q (by omega) (by omega)) hl⟩
  · obtain ⟨y1, y2, y3⟩ := h1.tg hq
    refine hf q y2 ?_
    rcases Nat.lt_or_ge q (w + 40) with c | c
    · exact Or.inl c
    · rcases Nat.lt_or_ge q (w + 86) with d | d
      · exact absurd (h1.cfo (Or.inr ⟨c, d⟩)) hq
      · exact Or.inr d
  · rcases hq with hq | hq
    · exact hc q hq
    · exact oT hq
theorem zCG.lo (hG : zCG N w G H) : 3000 ≤ N ∧ H.2.2.2.2 0 ≤ w ∧ w + 86 ≤ H.2.1 := by
  obtain ⟨k, X, f, R, Z, τ, h1, -⟩ := hG
  exact ⟨h1.1, h1.2.2.2.1.1, h1.2.2.2.1.2⟩
/-- one new cell -/
def zNw1 (H H' : jH) : Prop := (∀ q, q < H.2.1 → H'.1 q = H.1 q) ∧ H'.2 = (H.2.1 + 1, H.2.2.1 + 1, H.2.2.2.1 + 6, H.2.2.2.2) ∧ jLe H H' ∧ ∃ fs, H'.1 H.2.1 = some (.inl (31, fs))
theorem zmust0 (hK : H.2.2.2.2 0 ≤ H.2.1) : ∃ H', (fX1_must 0).1 H = some (.inr H.2.1, H') ∧ zNw1 H H' := by
  obtain ⟨H1, hH1⟩ : ∃ H1, H1 = jnew H (.inl (31, [.null, .null, .null, .null, .null, .int 0])) 6 := ⟨_, rfl⟩
  have q1 : H1.1 H.2.1 = some (.inl (31, [.null, .null, .null, .null, .null, .int 0])) := by rw [hH1]; exact znw_e _ _ _
  have e2 : jthG 31 (some H.2.1) H1 = some (jset H1 H.2.1 (.inl (31, [.ref H.2.1, va_rf (jopt (H1.2.2.2.2 569)), va_rf (jopt (H1.2.2.2.2 570)), .null, .null, .int 0]))) := by
    unfold jthG
    dsimp only
    rw [q1]
    dsimp only
    rw [if_pos ⟨⟨rfl, by rw [hH1]; exact hK⟩, by show 4 < 6; decide, rfl⟩]
    rfl
  obtain ⟨H2, hH2⟩ : ∃ H2, H2 = jset H1 H.2.1 (.inl (31, [.ref H.2.1, va_rf (jopt (H1.2.2.2.2 569)), va_rf (jopt (H1.2.2.2.2 570)), .null, .null, .int 0])) := ⟨_, rfl⟩
  rw [← hH2] at e2
  have run : (fX1_must 0).1 H = some (.inr H.2.1, H2) := by
    unfold fX1_must
    rw [zI, if_pos rfl, znwB, ← hH1]
    unfold jth
    rw [zBW e2]
    rfl
  refine ⟨H2, run, fun q hq => ?_, by rw [hH2, hH1]; rfl, (fX1_must 0).2 _ _ _ run, _, by rw [hH2]; exact zse_e _ _ _⟩
  rw [hH2, zse_n _ _ (by omega), hH1]
  exact znw_n _ _ _ (by omega)
def zRo (o : Option Int32) (r : Option ((Int32 ⊕ Nat) × jH)) (H : jH) : Prop := (∃ y, o = some y ∧ r = some (.inl y, H)) ∨ (o = none ∧ ∃ H', r = some (.inr H.2.1, H') ∧ zNw1 H H')
theorem zc_rs50 (hK : H.2.2.2.2 0 ≤ H.2.1) (l r u x : Int32) : ∀ (j n k i : Nat), k + j = 4 → j < n → zRo (zrl l r u x j k i) ((fX1_rests_50 N w n l r u x (nI i) (nI k)).1 H) H
  | 0, n + 1, k, i, hk, hn => by
    rw [fX1_rests_50, zI, if_pos (by rw [show k = 4 by omega]; decide)]
    unfold fX1_rests_111 fX1_rests_122 zrl
    rw [zI]
    by_cases c : x = -1
    · rw [if_pos c, if_pos c]
      exact Or.inl ⟨nI i, rfl, rfl⟩
    · rw [if_neg c, if_neg c]
      obtain ⟨H', e1, e2⟩ := zmust0 hK
      refine Or.inr ⟨rfl, H', ?_, e2⟩
      unfold jBT
      rw [jB_eq e1]
      rfl
  | j + 1, n + 1, k, i, hk, hn => by
    have ih := fun i => zc_rs50 hK l r u x j n (k + 1) i (by omega) (by omega)
    have go : (fX1_rests_67 N (fX1_rests_50 N w n) w l r u x (nI i) (nI k) (nI (k / 2))).1 H = (fX1_rests_80 N (fX1_rests_50 N w n) w l r u x (nI i) (nI k) (nI (k / 2)) (nI (k % 2))).1 H := by
      unfold fX1_rests_67
      rw [znz (by decide), zc2_rm (by omega), zI]
      by_cases c : k % 2 = 1
      · rw [if_pos (show nI (k % 2) = 1 by rw [c]; rfl), c]; rfl
      · rw [if_neg (show ¬ nI (k % 2) = 1 from fun q => c ((nI_eq (b := 1) (by omega) (by decide)).mp q)), show k % 2 = 0 by omega]; rfl
    have hd : (if nI k ≤ 1 then fX1_rests_67 N (fX1_rests_50 N w n) w l r u x (nI i) (nI k) 0 else fX1_rests_67 N (fX1_rests_50 N w n) w l r u x (nI i) (nI k) 1) = fX1_rests_67 N (fX1_rests_50 N w n) w l r u x (nI i) (nI k) (nI (k / 2)) := by
      by_cases c : k ≤ 1
      · rw [if_pos (show nI k ≤ 1 from (nI_le c (by omega) : nI k ≤ nI 1)), show k / 2 = 0 by omega]; rfl
      · rw [if_neg (show ¬ nI k ≤ 1 from (nI_ge (by omega) (by omega) : ¬ nI k ≤ nI 1)), show k / 2 = 1 by omega]; rfl
    rw [fX1_rests_50, zI, if_neg (fun q => by have := (zc4_le (by omega)).mp q; omega), hd, go]
    unfold fX1_rests_80 fX1_rests_105 fX1_rests_99
    rw [jB_eq (zisR l r u (by omega) H), zI, zrl, zc1_da]
    cases hr : zrr l r u k with
    | false =>
      rw [if_pos zb_f, if_neg zff]
      exact ih i
    | true =>
      rw [if_neg zb1n, if_pos rfl, zI]
      by_cases c : nI i = x
      · rw [if_pos c, if_pos c]
        exact Or.inl ⟨nI k, rfl, rfl⟩
      · rw [if_neg c, if_neg c, zc1_da]
        exact ih (i + 1)
theorem zc_rests (hK : H.2.2.2.2 0 ≤ H.2.1) (hN : 3000 ≤ N) (l r u x : Int32) : zRo (zO_rests l r u x) ((fX1_rests N w l r u x).1 H) H := by
  have win : ∀ x : Int32, (fX1_within x 0 9).1 H = some (zb (zvd x), H) := fun x => zw_in _
  have e40 : zRo none ((fX1_rests_40 N w l r u x).1 H) H := by
    unfold fX1_rests_40 fX1_rests_41
    obtain ⟨H', e1, e2⟩ := zmust0 hK
    refine Or.inr ⟨rfl, H', ?_, e2⟩
    unfold jBT
    rw [jB_eq e1]
    rfl
  unfold fX1_rests zO_rests
  rw [jB_eq (win l), zI]
  cases hl : zvd l with
  | false =>
    rw [if_pos zb_f, if_neg (show ¬ (false && _) = true from zff)]
    exact e40
  | true =>
    rw [if_neg zb1n, jB_eq (win r), zI]
    cases hr : zvd r with
    | false =>
      rw [if_pos zb_f, if_neg (show ¬ (true && (false && _)) = true from zff)]
      exact e40
    | true =>
      rw [if_neg zb1n, jB_eq (win u), zI]
      cases hw : zvd u with
      | false =>
        rw [if_pos zb_f, if_neg (show ¬ (true && (true && (false && _))) = true from zff)]
        exact e40
      | true =>
        rw [if_neg zb1n, zI]
        by_cases c : x < -1
        · rw [if_pos c, decide_eq_true c, if_neg (show ¬ (true && (true && (true && !true))) = true from zff)]
          exact e40
        · rw [if_neg c, decide_eq_false c, if_pos (show (true && (true && (true && !false))) = true from rfl)]
          unfold fX1_rests_41
          have : ∀ m : jM (Int32 ⊕ Nat), (jBT (fX1_must 1) fun _ => m).1 H = m.1 H := fun m => rfl
          rw [this]
          exact zc_rs50 hK l r u x 4 N 0 0 rfl (by omega)
end
