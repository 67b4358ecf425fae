/-! PURE 88: a list is copied, a list is emptied -/
set_option maxRecDepth 100000
section
variable {N : Nat}
theorem zcp_loop {p arr cap n q lo : Nat} {v : Value} {g : Nat → Option Nat} {H0 : jH} (hn : n ≤ 8) (hc : n ≤ cap ∧ cap < 2 ^ 31) (hpl : p < lo ∧ arr < lo) (hr : ∀ i, i < n → ∃ x b, g i = some x ∧ x < lo ∧ H0.1 x = some (.inr (0, 4, .inl b))) (h0 : H0.1 p = some (.inl (4, [v, .ref arr, .int (nI n)]))) (h1 : H0.1 arr = some (.inr (4, cap, zRf g))) (hlo : H0.2.1 = lo) (hq : lo ≤ q) : ∀ (j m i : Nat) (H : jH) (ar ca : Nat) (f : Nat → Option Nat), i + j = n → j < m → zFm (fun _ => False) H0 H → zAL H q ar ca i f → lo ≤ ar → (1 ≤ ca ∧ ca ≤ 20) → (∀ k, k < i → f k = g k) → jLe H0 H →
    ∃ H' ar' ca' f', (fX1_copied_11 N m (some p) (some q) (nI i)).1 H = some (some q, H') ∧ zFm (fun _ => False) H0 H' ∧ zAL H' q ar' ca' n f' ∧ lo ≤ ar' ∧ (1 ≤ ca' ∧ ca' ≤ 20) ∧ (∀ k, k < n → f' k = g k) ∧ H'.2.1 ≤ H.2.1 + j ∧ H'.2.2.2.1 ≤ H.2.2.2.1 + 20 * j ∧ jLe H0 H' := by
  intro j
  induction j with
  | zero =>
    intro m i H ar ca f hij hm hF hL har hca hf hl
    obtain ⟨m, rfl⟩ : ∃ m', m = m' + 1 := ⟨m - 1, by omega⟩
    have e : i = n := by omega
    subst e
    have hp : H.1 p = _ := (hF.1 p (by omega) id).trans h0
    refine ⟨H, ar, ca, f, ?_, hF, hL, har, hca, hf, by omega, by omega, hl⟩
    unfold fX1_copied_11
    rw [zrc (c := 4) (by unfold jcd; rw [hp]; rfl), zal_size hp, zI, if_pos (nI_le (Nat.le_refl _) (by omega))]
    rfl
  | succ j ih =>
    intro m i H ar ca f hij hm hF hL har hca hf hl
    obtain ⟨m, rfl⟩ : ∃ m', m = m' + 1 := ⟨m - 1, by omega⟩
    have hp : H.1 p = _ := (hF.1 p (by omega) id).trans h0
    have ha : H.1 arr = _ := (hF.1 arr (by omega) id).trans h1
    obtain ⟨x, b, r1, r2, r3⟩ := hr i (by omega)
    have hx1 : H.1 x = _ := (hF.1 x (by omega) id).trans r3
    have cd : jcd H x = some 1000 := by unfold jcd; rw [hx1]; rfl
    have hx : zOk H (some x) := ⟨x, 1000, rfl, by have := hF.2.1; omega, cd, by decide⟩
    obtain ⟨⟨mc, c1⟩, -⟩ := id hL
    obtain ⟨H2, ar2, ca2, f2, e2, L2, f2a, f2b, F2, G2⟩ := zAL_add hL hx (by omega)
    have l2 := (fJ2_add q (some x)).2 _ _ _ e2
    have hG : H2.2.1 ≤ H.2.1 + 1 ∧ H2.2.2.2.1 ≤ H.2.2.2.1 + 20 ∧ lo ≤ ar2 ∧ 1 ≤ ca2 ∧ ca2 ≤ 20 := by
      rcases G2 with ⟨d1, d2, d3, d4⟩ | ⟨d1, d2, d3, d4, d5⟩
      · rw [d4]; omega
      · rw [if_neg (by omega)] at d4
        have : ca2 ≤ 20 ∧ 1 ≤ ca2 := by rw [d4]; unfold zNc; omega
        have := hF.2.1
        omega
    obtain ⟨H', ar', ca', f', r, F', L', x1, x2, x3, x4, x5, x6⟩ := ih m (i + 1) H2 ar2 ca2 f2 (by omega) (by omega) (hF.tr F2 (fun y hy hy' => by rcases hy' with e | ⟨e, -⟩ <;> omega)) L2 hG.2.2.1 hG.2.2.2 (fun k hk => by
      by_cases c : k = i
      · rw [c, f2b, r1]
      · rw [f2a k (by omega)]; exact hf k (by omega)) (jLe.tr hl l2)
    refine ⟨H', ar', ca', f', ?_, F', L', x1, x2, x3, by omega, by omega, x6⟩
    unfold fX1_copied_11
    rw [zrc (c := 4) (by unfold jcd; rw [hp]; rfl), zal_size hp, zI, if_neg (nI_ge (by omega) (by omega)), zrc (c := 4) (by unfold jcd; rw [hp]; rfl), zal_get hp ha (by omega) hc.1 hc.2, r1, zck cd (by decide), zrc (c := 4) (by unfold jcd; rw [c1]; rfl), jB_eq e2, zc1_da]
    exact r
theorem zcp_l {p arr cap n : Nat} {v : Value} {g : Nat → Option Nat} {H : jH} (hN : 3000 ≤ N) (hK : H.2.2.2.2 0 ≤ H.2.1) (hn : n ≤ 8) (hc : n ≤ cap ∧ cap < 2 ^ 31) (hpl : p < H.2.1 ∧ arr < H.2.1) (hr : ∀ i, i < n → ∃ x b, g i = some x ∧ x < H.2.1 ∧ H.1 x = some (.inr (0, 4, .inl b))) (h0 : H.1 p = some (.inl (4, [v, .ref arr, .int (nI n)]))) (h1 : H.1 arr = some (.inr (4, cap, zRf g))) : ∃ H' ar' ca' f', (fX1_copied N (some p)).1 H = some (some H.2.1, H') ∧ zFm (fun _ => False) H H' ∧ zAL H' H.2.1 ar' ca' n f' ∧ H.2.1 ≤ ar' ∧ (1 ≤ ca' ∧ ca' ≤ 20) ∧ (∀ k, k < n → f' k = g k) ∧ H'.2.1 ≤ H.2.1 + 10 ∧ H'.2.2.2.1 ≤ H.2.2.2.1 + 165 ∧ jLe H H' := by
  obtain ⟨H1, e1, L1, F1, s1, t1, l1⟩ := zal_mk hK (m := 2) (by decide) (by decide)
  obtain ⟨H', ar', ca', f', r, F', L', x1, x2, x3, x4, x5, x6⟩ := zcp_loop (N := N) (H0 := H) hn hc hpl hr h0 h1 rfl (Nat.le_refl _) n N 0 H1 (H.2.1 + 1) 2 _ (by omega) (by omega) F1 L1 (by omega) (by decide) (fun k hk => by omega) l1
  refine ⟨H', ar', ca', f', ?_, F', L', x1, x2, x3, by omega, by omega, x6⟩
  unfold fX1_copied
  rw [show (2 : Int32) = nI 2 from rfl, e1]
  exact r
/-! a list is emptied -/
theorem zcl_loop {p arr cap n : Nat} {mc : Int32} (hpa : p ≠ arr) (hnc : n ≤ cap ∧ cap < 2 ^ 31) : ∀ (j m i : Nat) (H : jH) (f : Nat → Option Nat), i + j = n → j < m → H.1 p = some (.inl (4, [.int mc, .ref arr, .int 0])) → H.1 arr = some (.inr (4, cap, zRf f)) → (0 < cap → H.2.2.2.2 0 ≤ arr) →
    ∃ H' f', (fJ2_clear_27 N p m (some arr) (nI n) (nI i)).1 H = some ((), H') ∧ H'.1 p = some (.inl (4, [.int mc, .ref arr, .int 0])) ∧ H'.1 arr = some (.inr (4, cap, zRf f')) ∧ (∀ q, q ≠ arr → H'.1 q = H.1 q) ∧ (n = 0 → H'.1 arr = H.1 arr) ∧ H'.2 = H.2 ∧ jLe H H' := by
  intro j
  induction j with
  | zero =>
    intro m i H f hij hm hp ha hb
    obtain ⟨m, rfl⟩ : ∃ m', m = m' + 1 := ⟨m - 1, by omega⟩
    refine ⟨H, f, ?_, hp, ha, fun _ _ => rfl, fun _ => rfl, rfl, jLe.rf _⟩
    unfold fJ2_clear_27
    rw [zI, if_pos (nI_le (by omega) (by omega))]
    rfl
  | succ j ih =>
    intro m i H f hij hm hp ha hb
    obtain ⟨m, rfl⟩ : ∃ m', m = m' + 1 := ⟨m - 1, by omega⟩
    obtain ⟨H1, hH1⟩ : ∃ H1, H1 = jset H arr (.inr (4, cap, zRf (va_up f i none))) := ⟨_, rfl⟩
    obtain ⟨H', f', r, r1, r2, r3, r4, r5, r6⟩ := ih m (i + 1) H1 (va_up f i none) (by omega) (by omega) (by rw [hH1]; exact (zse_n _ _ hpa).trans hp) (by rw [hH1]; exact zse_e _ _ _) (by rw [hH1]; exact hb)
    refine ⟨H', f', ?_, r1, r2, fun q hq => (r3 q hq).trans (by rw [hH1]; exact zse_n _ _ hq), fun c => by omega, r5.trans (by rw [hH1]; rfl), jLe.tr (by rw [hH1]; exact jsetA_le ha) r6⟩
    unfold fJ2_clear_27
    rw [zI, if_neg (nI_ge (by omega) (by omega)), zsR ha (hb (by omega)) (by omega) (by omega) rfl, ← hH1, zc1_da]
    exact r
theorem zAL_clear {p arr cap n : Nat} {f : Nat → Option Nat} {H : jH} (hN : 3000 ≤ N) (hn : n ≤ 100) (hL : zAL H p arr cap n f) : ∃ H' f', (fJ2_clear N p).1 H = some ((), H') ∧ zAL H' p arr cap 0 f' ∧ (∀ q, q ≠ p → (q = arr → n = 0) → H'.1 q = H.1 q) ∧ H'.2 = H.2 ∧ jLe H H' := by
  obtain ⟨⟨mc, h1⟩, h2, hpa, hnc, hc, ⟨hp, ha⟩, hb, hK, hb2, hok⟩ := hL
  obtain ⟨H1, hH1⟩ : ∃ H1, H1 = jset H p (.inl (4, [.int (mc + 1), .ref arr, .int (nI n)])) := ⟨_, rfl⟩
  have q1 : H1.1 p = some (.inl (4, [.int (mc + 1), .ref arr, .int (nI n)])) := by rw [hH1]; exact zse_e _ _ _
  obtain ⟨H2, hH2⟩ : ∃ H2, H2 = jset H1 p (.inl (4, [.int (mc + 1), .ref arr, .int (nI 0)])) := ⟨_, rfl⟩
  have q2 : H2.1 p = some (.inl (4, [.int (mc + 1), .ref arr, .int (nI 0)])) := by rw [hH2]; exact zse_e _ _ _
  have a2 : H2.1 arr = some (.inr (4, cap, zRf f)) := by rw [hH2, hH1]; exact (zse_n _ _ (Ne.symm hpa)).trans ((zse_n _ _ (Ne.symm hpa)).trans h2)
  have l2 : jLe H H2 := by rw [hH2, hH1]; exact jLe.tr (jsetO_le h1) (jsetO_le (zse_e _ _ _))
  have o2 : ∀ q, q ≠ p → H2.1 q = H.1 q := fun q hq => by rw [hH2, hH1]; exact (zse_n _ _ hq).trans (zse_n _ _ hq)
  have s2 : H2.2 = H.2 := by rw [hH2, hH1]; rfl
  obtain ⟨H', f', r, r1, r2, r3, r4, r5, r6⟩ := zcl_loop (N := N) (mc := mc + 1) hpa ⟨hnc, by omega⟩ n N 0 H2 f (by omega) (by omega) q2 a2 (by rw [s2]; exact hb2)
  have s3 : H'.2 = H.2 := r5.trans s2
  refine ⟨H', f', ?_, ⟨⟨mc + 1, r1⟩, r2, hpa, Nat.zero_le _, hc, by rw [s3]; exact ⟨hp, ha⟩, by rw [s3]; exact hb, by rw [s3]; exact hK, by rw [s3]; exact hb2, fun i hi => by omega⟩, fun q h1 h2 => ?_, s3, jLe.tr l2 r6⟩
  · unfold fJ2_clear
    rw [zgI h1 (by decide) rfl, zl_p0 h1 hb, ← hH1, zgRs q1 (by decide) rfl, zgI q1 (by decide) rfl, show (0 : Int32) = nI 0 from rfl, zl_p2 q1 (by rw [hH1]; exact hb), ← hH2]
    exact r
  · by_cases c : q = arr
    · rw [c, r4 (h2 c)]; exact o2 _ (Ne.symm hpa)
    · rw [r3 q c, o2 q h1]
end
