/-! PURE 79: the component's library is read -/
set_option maxRecDepth 100000
section
variable {H : jH} {lb : Nat}
/-- a new list in a field of the library -/
theorem zl_mkl {fs : List Value} {j : Nat} (hl : H.1 lb = some (.inl (3, fs))) (hj : j < fs.length) (hb : H.2.2.2.2 0 ≤ lb) (hlb : lb < H.2.1) : ∃ H', (∀ {α : Type} (K : jM α), (jB (jnw 4 3 [.int 0, .null, .int 0]) fun q1 => jB (fJ2_init q1 2) fun _ => jB (jpR [3] j (some lb) (some q1)) fun _ => K).1 H = K.1 H') ∧ H'.1 lb = some (.inl (3, fs.set j (.ref H.2.1))) ∧ zAL H' H.2.1 (H.2.1 + 1) 2 0 (fun _ => none) ∧ zFm (fun q => q = lb) H H' ∧ H'.2.1 = H.2.1 + 2 ∧ H'.2.2.2.1 = H.2.2.2.1 + 5 ∧ jLe H H' := by
  obtain ⟨H2, g1, g2, g3, g4, g5, g6⟩ := zal_mk (H := H) (m := 2) (by omega) (by decide) (by decide)
  have e2 : H2.1 lb = some (.inl (3, fs)) := g3.at hl hlb (fun q => q)
  have s2 : H2.2.2.2.2 = H.2.2.2.2 := g3.2.2.2.2
  refine ⟨jset H2 lb (.inl (3, fs.set j (.ref H.2.1))), fun K => ?_, zse_e _ _ _, g2.up (zse_n _ _ (by omega)) (zse_n _ _ (by omega)) (jsetO_le e2), (g3.mo (fun q _ hq => hq.elim)).set (Or.inr rfl), g4, g5, jLe.tr g6 (jsetO_le e2)⟩
  have := g1 (fun q1 => jB (jpR [3] j (some lb) (some q1)) fun _ => K)
  refine this.trans ?_
  unfold jpR
  rw [zpV e2 (by decide) (by rw [s2]; exact hb) hj]
  rfl
theorem zl_new (hb : H.2.2.2.2 0 ≤ H.2.1) : ∃ H', (∀ {α : Type} (K : Nat → jM α), (jB (jnw 3 8 [.null, .null, .null, .null, .null, .int 0, .null, .null]) fun q2 => jB (fX4_init q2) fun _ => K q2).1 H = (K H.2.1).1 H') ∧ zLR H' H.2.1 (fun q => q - H.2.1 + 1) (fun j => H.2.1 + j) (fun _ => 2) (fun _ => 0) (fun _ _ => none) 0 (fun _ => 0) none ∧ zFm (fun _ => False) H H' ∧ H'.2.1 = H.2.1 + 12 ∧ H'.2.2.2.1 = H.2.2.2.1 + 45 ∧ jLe H H' := by
  obtain ⟨H0, hH0⟩ : ∃ H0, H0 = jnew H (.inl (3, [.null, .null, .null, .null, .null, .int 0, .null, .null])) 8 := ⟨_, rfl⟩
  have a0 : H0.1 H.2.1 = some (.inl (3, [.null, .null, .null, .null, .null, .int 0, .null, .null])) := by rw [hH0]; exact znw_e _ _ _
  have s0 : H0.2.1 = H.2.1 + 1 := by rw [hH0]; rfl
  have t0 : H0.2.2.2.1 = H.2.2.2.1 + 8 := by rw [hH0]; rfl
  have k0 : H0.2.2.2.2 = H.2.2.2.2 := by rw [hH0]; rfl
  have f0 : zFm (fun _ => False) H H0 := by rw [hH0]; exact (zFm.rf _ _).nw
  have l0 : jLe H H0 := by rw [hH0]; exact jnew_le _ _ _
  obtain ⟨H1, r1, a1, b1, f1, s1, t1, l1⟩ := zl_mkl (j := 0) a0 (by decide) (by rw [k0]; exact hb) (by omega)
  have k1 : H1.2.2.2.2 = H.2.2.2.2 := f1.2.2.2.2.trans k0
  obtain ⟨H2, r2, a2, b2, f2, s2, t2, l2⟩ := zl_mkl (j := 1) a1 (by show 1 < 8; decide) (by rw [k1]; exact hb) (by omega)
  have k2 : H2.2.2.2.2 = H.2.2.2.2 := f2.2.2.2.2.trans k1
  obtain ⟨H3, r3, a3, b3, f3, s3, t3, l3⟩ := zl_mkl (j := 2) a2 (by show 2 < 8; decide) (by rw [k2]; exact hb) (by omega)
  have k3 : H3.2.2.2.2 = H.2.2.2.2 := f3.2.2.2.2.trans k2
  obtain ⟨H4, r4, a4, b4, f4, s4, t4, l4⟩ := zl_mkl (j := 3) a3 (by show 3 < 8; decide) (by rw [k3]; exact hb) (by omega)
  have k4 : H4.2.2.2.2 = H.2.2.2.2 := f4.2.2.2.2.trans k3
  -- damps
  obtain ⟨H5, hH5⟩ : ∃ H5, H5 = jnew H4 (.inr (0, 12, .inl fun _ => 0)) 12 := ⟨_, rfl⟩
  have z5 : H4.2.1 = H.2.1 + 9 := by omega
  have d5 : H5.1 (H.2.1 + 9) = some (.inr (0, 12, .inl fun _ => 0)) := by rw [hH5, ← z5]; exact znw_e _ _ _
  have o5 : ∀ q, q < H4.2.1 → H5.1 q = H4.1 q := fun q hq => by rw [hH5]; exact znw_n _ _ _ (by omega)
  have a5 : H5.1 H.2.1 = some (.inl (3, [.ref H0.2.1, .ref H1.2.1, .ref H2.2.1, .ref H3.2.1, .null, .int 0, .null, .null])) := (o5 _ (by omega)).trans a4
  obtain ⟨H6, hH6⟩ : ∃ H6, H6 = jset H5 H.2.1 (.inl (3, [.ref H0.2.1, .ref H1.2.1, .ref H2.2.1, .ref H3.2.1, .ref (H.2.1 + 9), .int 0, .null, .null])) := ⟨_, rfl⟩
  have a6 : H6.1 H.2.1 = some (.inl (3, [.ref H0.2.1, .ref H1.2.1, .ref H2.2.1, .ref H3.2.1, .ref (H.2.1 + 9), .int 0, .null, .null])) := by rw [hH6]; exact zse_e _ _ _
  have o6 : ∀ q, q ≠ H.2.1 → H6.1 q = H5.1 q := fun q hq => by rw [hH6]; exact zse_n _ _ hq
  have s6 : H6.2.1 = H.2.1 + 10 := by rw [hH6, hH5]; show H4.2.1 + 1 = _; omega
  have t6 : H6.2.2.2.1 = H4.2.2.2.1 + 12 := by rw [hH6, hH5]; rfl
  have k6 : H6.2.2.2.2 = H.2.2.2.2 := by rw [hH6, hH5]; exact k4
  have l6 : jLe H4 H6 := by rw [hH6, hH5]; exact jLe.tr (jnew_le _ _ _) (jsetO_le (by rw [← hH5]; exact a5))
  -- facts
  obtain ⟨H7, hH7⟩ : ∃ H7, H7 = jnew H6 (.inl (5, [.null])) 1 := ⟨_, rfl⟩
  have d7 : H7.1 (H.2.1 + 10) = some (.inl (5, [.null])) := by rw [hH7, ← s6]; exact znw_e _ _ _
  have o7 : ∀ q, q < H6.2.1 → H7.1 q = H6.1 q := fun q hq => by rw [hH7]; exact znw_n _ _ _ (by omega)
  have s7 : H7.2.1 = H.2.1 + 11 := by rw [hH7]; show H6.2.1 + 1 = _; omega
  obtain ⟨H8, hH8⟩ : ∃ H8, H8 = jnew H7 (.inr (0, 4, .inl fun _ => 0)) 4 := ⟨_, rfl⟩
  have d8 : H8.1 (H.2.1 + 11) = some (.inr (0, 4, .inl fun _ => 0)) := by rw [hH8, ← s7]; exact znw_e _ _ _
  have o8 : ∀ q, q < H7.2.1 → H8.1 q = H7.1 q := fun q hq => by rw [hH8]; exact znw_n _ _ _ (by omega)
  have e8 : H8.1 (H.2.1 + 10) = some (.inl (5, [.null])) := (o8 _ (by omega)).trans d7
  obtain ⟨H9, hH9⟩ : ∃ H9, H9 = jset H8 (H.2.1 + 10) (.inl (5, [.ref (H.2.1 + 11)])) := ⟨_, rfl⟩
  have o9 : ∀ q, q ≠ H.2.1 + 10 → H9.1 q = H8.1 q := fun q hq => by rw [hH9]; exact zse_n _ _ hq
  have k9 : H9.2.2.2.2 = H.2.2.2.2 := by rw [hH9, hH8, hH7]; exact k6
  have a9 : H9.1 H.2.1 = some (.inl (3, [.ref H0.2.1, .ref H1.2.1, .ref H2.2.1, .ref H3.2.1, .ref (H.2.1 + 9), .int 0, .null, .null])) := (o9 _ (by omega)).trans ((o8 _ (by omega)).trans ((o7 _ (by omega)).trans a6))
  obtain ⟨HA, hHA⟩ : ∃ HA, HA = jset H9 H.2.1 (.inl (3, [.ref H0.2.1, .ref H1.2.1, .ref H2.2.1, .ref H3.2.1, .ref (H.2.1 + 9), .int 0, .null, .ref (H.2.1 + 10)])) := ⟨_, rfl⟩
  have oA : ∀ q, q ≠ H.2.1 → q < H.2.1 + 9 → HA.1 q = H4.1 q := fun q h1 h2 => by
    rw [hHA]
    exact (zse_n _ _ h1).trans ((o9 _ (by omega)).trans ((o8 _ (by omega)).trans ((o7 _ (by omega)).trans ((o6 _ h1).trans (o5 _ (by omega))))))
  have sA : HA.2.1 = H.2.1 + 12 := by rw [hHA, hH9, hH8]; show H7.2.1 + 1 = _; omega
  have tA : HA.2.2.2.1 = H.2.2.2.1 + 45 := by rw [hHA, hH9, hH8]; show H7.2.2.2.1 + 4 = _; rw [hH7]; show H6.2.2.2.1 + 1 + 4 = _; omega
  have kA : HA.2.2.2.2 = H.2.2.2.2 := by rw [hHA]; exact k9
  have lA : jLe H4 HA := by
    refine jLe.tr l6 ?_
    rw [hHA, hH9, hH8, hH7]
    exact jLe.tr (jnew_le _ _ _) (jLe.tr (jnew_le _ _ _) (jLe.tr (jsetO_le (by rw [← hH7, ← hH8]; exact e8)) (jsetO_le (by rw [← hH7, ← hH8, ← hH9]; exact a9))))
  have z0 : H0.2.1 = H.2.1 + 1 := s0
  have z1 : H1.2.1 = H.2.1 + 3 := by omega
  have z2 : H2.2.1 = H.2.1 + 5 := by omega
  have z3 : H3.2.1 = H.2.1 + 7 := by omega
  refine ⟨HA, fun K => ?_, ⟨by rw [kA]; exact hb, fun j hj => ⟨by show H.2.1 + j - H.2.1 + 1 = j + 1; omega, by show H.2.1 ≤ H.2.1 + j; omega, by show H.2.1 + j < HA.2.1; omega⟩, ?_, fun j hj => ?_, ?_, ?_, fun _ => 0, ?_⟩, ?_, sA, tA, jLe.tr l0 (jLe.tr l1 (jLe.tr l2 (jLe.tr l3 (jLe.tr l4 lA))))⟩
  · have p6 : ∀ {α : Type} (K : Unit → jM α), (jB (jpR [3] 4 (some H.2.1) (some (H.2.1 + 9))) K).1 H5 = (K ()).1 H6 := fun K => by
      rw [hH6]
      exact zpV a5 (by decide) (by rw [hH5]; show H4.2.2.2.2 0 ≤ _; rw [k4]; exact hb) (by show 4 < 8; decide) K
    have p9 : ∀ {α : Type} (K : Unit → jM α), (jB (jpR [5] 0 (some (H.2.1 + 10)) (some (H.2.1 + 11))) K).1 H8 = (K ()).1 H9 := fun K => by
      rw [hH9]
      exact zpV e8 (by decide) (by rw [hH8, hH7]; show H6.2.2.2.2 0 ≤ _; rw [k6]; omega) (by show 0 < 1; decide) K
    have pA : ∀ {α : Type} (K : Unit → jM α), (jB (jpR [3] 7 (some H.2.1) (some (H.2.1 + 10))) K).1 H9 = (K ()).1 HA := fun K => by
      rw [hHA]
      exact zpV a9 (by decide) (by rw [k9]; exact hb) (by show 7 < 8; decide) K
    have tail : (jB (jnaI 0 12) fun q9 => jB (jpR [3] 4 (some H.2.1) (some q9)) fun _ => jB (jnw 5 1 [.null]) fun q10 => jB (fX5_init q10) fun _ => jB (jpR [3] 7 (some H.2.1) (some q10)) fun _ => jR ()).1 H4 = some ((), HA) := by
      rw [show (12 : Int32) = nI 12 from rfl, znaIB (by decide), ← hH5, z5, p6, znwB, ← hH7, s6]
      unfold fX5_init
      rw [zA, show (4 : Int32) = nI 4 from rfl, znaIB (by decide), ← hH8, s7, zA, p9, zR, pA]
      rfl
    have run : (fX4_init H.2.1).1 H0 = some ((), HA) := by
      unfold fX4_init
      exact (r1 _).trans ((r2 _).trans ((r3 _).trans ((r4 _).trans tail)))
    rw [znwB, ← hH0, jB_eq run]
  · rw [hHA]
    show (jset H9 H.2.1 _).1 H.2.1 = _
    rw [zse_e, z0, z1, z2, z3]
    rfl
  · have : j = 0 ∨ j = 1 ∨ j = 2 ∨ j = 3 := by omega
    refine ⟨?_, by show 1 ≤ 2; decide, by show 2 ≤ 20; decide⟩
    rcases this with e | e | e | e <;> subst e
    · show zAL HA (H.2.1 + 1) (H.2.1 + 2) 2 0 _
      rw [z0] at b1
      exact b1.up ((oA _ (by omega) (by omega)).trans ((f4.1 _ (by omega) (by omega)).trans ((f3.1 _ (by omega) (by omega)).trans (f2.1 _ (by omega) (by omega))))) ((oA _ (by omega) (by omega)).trans ((f4.1 _ (by omega) (by omega)).trans ((f3.1 _ (by omega) (by omega)).trans (f2.1 _ (by omega) (by omega))))) (jLe.tr l2 (jLe.tr l3 (jLe.tr l4 lA)))
    · show zAL HA (H.2.1 + 3) (H.2.1 + 4) 2 0 _
      rw [z1] at b2
      exact b2.up ((oA _ (by omega) (by omega)).trans ((f4.1 _ (by omega) (by omega)).trans (f3.1 _ (by omega) (by omega)))) ((oA _ (by omega) (by omega)).trans ((f4.1 _ (by omega) (by omega)).trans (f3.1 _ (by omega) (by omega)))) (jLe.tr l3 (jLe.tr l4 lA))
    · show zAL HA (H.2.1 + 5) (H.2.1 + 6) 2 0 _
      rw [z2] at b3
      exact b3.up ((oA _ (by omega) (by omega)).trans (f4.1 _ (by omega) (by omega))) ((oA _ (by omega) (by omega)).trans (f4.1 _ (by omega) (by omega))) (jLe.tr l4 lA)
    · show zAL HA (H.2.1 + 7) (H.2.1 + 8) 2 0 _
      rw [z3] at b4
      exact b4.up (oA _ (by omega) (by omega)) (oA _ (by omega) (by omega)) lA
  · show HA.1 (H.2.1 + 9) = _
    rw [hHA]
    exact (zse_n _ _ (by omega)).trans ((o9 _ (by omega)).trans ((o8 _ (by omega)).trans ((o7 _ (by omega)).trans ((o6 _ (by omega)).trans d5))))
  · show HA.1 (H.2.1 + 10) = some (.inl (5, [.ref (H.2.1 + 11)]))
    rw [hHA]
    refine (zse_n _ _ (by omega)).trans ?_
    rw [hH9]
    exact zse_e _ _ _
  · show HA.1 (H.2.1 + 11) = _
    rw [hHA]
    exact (zse_n _ _ (by omega)).trans ((o9 _ (by omega)).trans d8)
  · have fA : zFm (fun q => q = H.2.1) H4 HA := by
      have fA1 : zFm (fun q => q = H.2.1) H4 H6 := by
        rw [hH6, hH5]
        exact (zFm.rf _ _).nw.set (Or.inr rfl)
      rw [hHA, hH9, hH8, hH7]
      exact ((fA1.nw).nw.set (Or.inl (show H4.2.1 ≤ H.2.1 + 10 by omega))).set (Or.inr rfl)
    exact ((((f0.tr f1 (fun q hq hh => by omega)).tr f2 (fun q hq hh => by omega)).tr f3 (fun q hq hh => by omega)).tr f4 (fun q hq hh => by omega)).tr fA (fun q hq hh => by omega)
end
section
variable {N w c lb : Nat} {u : zTau} {n : Int32} {H0 : jH}
theorem zl_loop (hu : zUg u c) (hN : 3000 ≤ N) {m0 nt : Nat} (hun : zUn u nt) (hnt : nt ≤ 1000) (hcn : c ≤ nt) (hm0 : nt < m0) (hm2 : m0 ≤ N) : ∀ (m f i : Nat) (D : zDr) (H : jH), c < m + i → c < f + i → zLD N w u c n H0 lb i D H →
    (∃ e, zLib u m0 m i D = .inl e ∧ e.2 ≤ c ∧ zBd w u n e H0 (100 + 40 * (e.2 + 1)) (1000 + 400 * (e.2 + 1)) ((fX2_library_15 N (w + 1) f).1 H)) ∨ ∃ D' j H', zLib u m0 m i D = .inr D' ∧ (fX2_library_15 N (w + 1) f).1 H = some (.inl (some lb), H') ∧ zLD N w u c n H0 lb j D' H'
  | 0, f, i, D, H, hm, hf, hD => by
    obtain ⟨d, hR⟩ := hD.1
    have := hR.2.2.2.2.1
    omega
  | m + 1, 0, i, D, H, hm, hf, hD => by
    obtain ⟨d, hR⟩ := hD.1
    have := hR.2.2.2.2.1
    omega
  | m + 1, f + 1, i, D, H, hm, hf, hD => by
    obtain ⟨d, hR⟩ := id hD.1
    have hi := hR.2.2.2.2.1
    obtain ⟨u1, u2, u3, u4, u5⟩ := hu.2.2.2 i hi
    have hok : zDok D := hD.2.2.2.1
    rw [zLib, fX2_library_15, zrs_8 hR, zrs_11 hR, zrs_so hu hR hi, zI]
    by_cases c0 : u.1 i = 0
    · rw [if_pos c0, if_pos (show nI (u.1 i) = 0 by rw [c0]; rfl)]
      refine Or.inr ⟨D, i, H, rfl, ?_, hD⟩
      unfold fX2_library_104
      rw [zgRs hR.2.2.2.1 (by decide) rfl]
      rfl
    · rw [if_neg c0, if_neg (show ¬ nI (u.1 i) = 0 from fun q => c0 ((nI_eq (b := 0) (by omega) (by decide)).mp q))]
      have sg := zStm_sg hun hnt hm0 (i := i) (by omega) hok
      have fin : ∀ (F : jM (Unit ⊕ Nat)), zSO N w u c n H0 lb (zStm u m0 i D) F H → (∃ e, ((match zStm u m0 i D with
          | .inl e => .inl e
          | .inr x => zLib u m0 m x.1 x.2) : (Nat × Nat) ⊕ zDr) = .inl e ∧ e.2 ≤ c ∧ zBd w u n e H0 (100 + 40 * (e.2 + 1)) (1000 + 400 * (e.2 + 1)) ((jBT F fun _ => fX2_library_95 N (fX2_library_15 N (w + 1) f) (w + 1)).1 H)) ∨ ∃ D' j H', ((match zStm u m0 i D with
          | .inl e => .inl e
          | .inr x => zLib u m0 m x.1 x.2) : (Nat × Nat) ⊕ zDr) = .inr D' ∧ (jBT F fun _ => fX2_library_95 N (fX2_library_15 N (w + 1) f) (w + 1)).1 H = some (.inl (some lb), H') ∧ zLD N w u c n H0 lb j D' H' := by
        intro F hF
        rcases hF with ⟨e, e1, e2, e3⟩ | ⟨x, H', e1, e2, e3⟩
        · rw [e1]
          exact Or.inl ⟨e, rfl, e2, e3 _⟩
        · rw [e1] at sg ⊢
          have s1 : i < x.1 := sg.1
          rw [e2]
          exact zl_loop hu hN hun hnt hcn hm0 hm2 m f x.1 x.2 H' (by omega) (by omega) e3
      rw [zK, zrs_isW (j := 8) hu hN hR (by decide), zI, show zWd 8 = 382253 from rfl]
      cases z1 : zisw u i 382253 with
      | true =>
        rw [if_neg zb1n]
        refine fin _ ?_
        have e : zStm u m0 i D = zsSkin u i D := by unfold zStm; rw [if_pos z1]
        rw [e]
        exact zst_skin hu hN c0 hD
      | false =>
        rw [if_pos zb_f, zK, zrs_isW (j := 11) hu hN hR (by decide), zI, show zWd 11 = 168728 from rfl]
        cases z2 : zisw u i 168728 with
        | true =>
          rw [if_neg zb1n]
          refine fin _ ?_
          have e : zStm u m0 i D = zsHole u i D := by unfold zStm; rw [if_neg (by rw [z1]; exact zff), if_pos z2]
          rw [e]
          exact zst_hole hu hN c0 hD
        | false =>
          rw [if_pos zb_f, zK, zrs_isW (j := 12) hu hN hR (by decide), zI, show zWd 12 = 397973 from rfl]
          cases z3 : zisw u i 397973 with
          | true =>
            rw [if_neg zb1n]
            refine fin _ ?_
            have e : zStm u m0 i D = zsText u i D := by unfold zStm; rw [if_neg (by rw [z1]; exact zff), if_neg (by rw [z2]; exact zff), if_pos z3]
            rw [e]
            exact zst_text hu hN c0 hD
          | false =>
            rw [if_pos zb_f, zK, zrs_isW (j := 13) hu hN hR (by decide), zI, show zWd 13 = 79828 from rfl]
            cases z4 : zisw u i 79828 with
            | true =>
              rw [if_neg zb1n]
              refine fin _ ?_
              have e : zStm u m0 i D = zsDamp u m0 i D := by unfold zStm; rw [if_neg (by rw [z1]; exact zff), if_neg (by rw [z2]; exact zff), if_neg (by rw [z3]; exact zff), if_pos z4]
              rw [e]
              exact zst_damp hu hN (by omega) c0 hD
            | false =>
              rw [if_pos zb_f]
              refine fin _ ?_
              have e : zStm u m0 i D = if zisw u i 10266418 = true then zsShows u m0 i D else .inl (1, i) := by unfold zStm; rw [if_neg (by rw [z1]; exact zff), if_neg (by rw [z2]; exact zff), if_neg (by rw [z3]; exact zff), if_neg (by rw [z4]; exact zff)]
              rw [e]
              exact zst_shows hu hN hun hnt hcn hm0 hm2 hD
end
section
variable {N w n : Nat} {t : Nat → Nat} {dr : Value} {at_ : Int32} {d : Nat} {H : jH} {so pl : Nat → Int32} {va : Nat → Int64}
/-- the reader's arrays -/
def zTv (w : Nat) (H : jH) : Prop := ∃ so va pl, H.1 (w + 8) = some (.inr (0, 1001, .inl so)) ∧ H.1 (w + 9) = some (.inr (1, 1001, .inr (.inl va))) ∧ H.1 (w + 10) = some (.inr (0, 1001, .inl pl))
theorem zTv.of {w : Nat} {H H' : jH} {u : zTau} {c : Nat} (h : zTk w u c H) (hw : w + 11 ≤ H.2.1) (hf : zFm (fun q => q = w + 1) H H') : zTv w H' := by
  obtain ⟨so, va, pl, a1, a2, a3, -⟩ := h
  exact ⟨so, va, pl, (hf.1 _ (by omega) (by omega)).trans a1, (hf.1 _ (by omega) (by omega)).trans a2, (hf.1 _ (by omega) (by omega)).trans a3⟩
theorem zl_read (hN : 3000 ≤ N) (hR : zRt w t n dr (nI n) at_ (nI d) H) (hA : zRa w H) (hS : H.1 (w + 8) = some (.inr (0, 1001, .inl so)) ∧ H.1 (w + 9) = some (.inr (1, 1001, .inr (.inl va))) ∧ H.1 (w + 10) = some (.inr (0, 1001, .inl pl))) {m0 : Nat} (hm0 : n < m0) (hm2 : m0 ≤ N) :
    (∃ e, zLib (zOfT t n) m0 m0 0 zD0 = .inl e ∧ ∃ H' q fs, (fX2_library N (w + 1)).1 H = some (.inr q, H') ∧ zFm (fun x => x = w + 1 ∨ (w + 8 ≤ x ∧ x ≤ w + 10)) H H' ∧ (∃ dr i d, H'.1 (w + 1) = some (zRc w dr 0 i d)) ∧ H'.1 q = some (.inl (9, fs)) ∧ fs[6]? = some (.int (nI (e.1 + 16 * zBg t n e.2))) ∧ H'.2.1 ≤ H.2.1 + 100 + 40 * (n + 1) ∧ H'.2.2.2.1 ≤ H.2.2.2.1 + 1000 + 400 * (n + 1) ∧ zTv w H') ∨
    ∃ D c j H' H0, zLib (zOfT t n) m0 m0 0 zD0 = .inr D ∧ (fX2_library N (w + 1)).1 H = some (.inl (some H.2.1), H') ∧ zFm (fun x => x = w + 1 ∨ (w + 8 ≤ x ∧ x ≤ w + 10)) H H' ∧ H0.2 = H.2 ∧ c ≤ n ∧ j ≤ c ∧ zLD N w (zOfT t n) c 0 H0 H.2.1 j D H' := by
  obtain ⟨c, d', H1, e1, hu, hc, hR1, f1, s1⟩ := zk_cut hN hR hA hS ⟨d, rfl⟩
  have hn := hR.2.2.2.1.1
  have hb := hR1.2.2.2.2.2.1
  have hw := hR1.2.2.2.2.2.2
  have s11 : H1.2.1 = H.2.1 := by rw [s1]
  have s12 : H1.2.2.2.1 = H.2.2.2.1 := by rw [s1]
  have k1 : H1.2.2.2.2 = H.2.2.2.2 := by rw [s1]
  obtain ⟨H2, g1, g2, g3, g4, g5, g6⟩ := zl_new (H := H1) (by omega)
  have r2 := hR1.same g3
  have k2 : H2.2.2.2.2 = H1.2.2.2.2 := g3.2.2.2.2
  obtain ⟨H3, hH3⟩ : ∃ H3, H3 = jset H2 (w + 1) (zRc w (.ref H1.2.1) 0 (nI 0) (nI d')) := ⟨_, rfl⟩
  have f3 : zFm (fun q => q = w + 1) H2 H3 := by rw [hH3]; exact (zFm.rf _ _).set (Or.inr rfl)
  have l3 : jLe H2 H3 := by rw [hH3]; exact zrs_le r2 _ _ _ _
  have s3 : H3.2 = H2.2 := by rw [hH3]; rfl
  have r3 : zRdS w (zOfT t n) c (.ref H1.2.1) 0 0 d' H3 := r2.fm f3 (by rw [hH3]; exact zse_e _ _ _) (Nat.zero_le _)
  have f13 : zFm (fun q => q = w + 1) H1 H3 := (g3.mo (fun q _ hq => hq.elim)).tr f3 (fun q _ hq => hq)
  have hD : zLD N w (zOfT t n) c 0 H1 H1.2.1 0 zD0 H3 := by
    refine ⟨⟨d', r3⟩, f13, hw, zDok_0, ⟨by rw [s3]; omega, by rw [s3]; omega⟩, _, _, _, _, _, _, _, _, fun _ => 0, fun _ => 0, fun _ => 0, fun _ => 0, Nat.add_zero _, g2.rd f3 hw l3, ⟨rfl, rfl, rfl, rfl⟩, ⟨rfl, fun i hi => absurd hi (Nat.not_lt_zero i)⟩, fun i hi => absurd hi (Nat.not_lt_zero i), fun i j hi => absurd hi (Nat.not_lt_zero i), fun i hi => absurd hi (Nat.not_lt_zero i), fun i hi => absurd hi (Nat.not_lt_zero i), ⟨⟨by decide, by decide, rfl⟩, fun i hi => absurd hi (Nat.not_lt_zero i), fun i hi => absurd hi (Nat.not_lt_zero i), fun i hi => absurd hi (Nat.not_lt_zero i), fun i hi => absurd hi (Nat.not_lt_zero i), fun i j hi => absurd hi (Nat.not_lt_zero i)⟩, Or.inl ⟨rfl, rfl⟩⟩
  have run : (fX2_library N (w + 1)).1 H = (fX2_library_15 N (w + 1) N).1 H3 := by
    unfold fX2_library
    rw [jB_eq e1]
    refine (g1 _).trans ?_
    unfold jpR
    rw [zpV r2.2.2.2.1 (by decide) (by rw [k2]; omega) (by show 5 < 13; decide), hH3]
    rfl
  rcases zl_loop hu hN (zOfT_un t n) hn hc hm0 hm2 m0 N 0 zD0 H3 (by omega) (by omega) hD with ⟨e, p1, p2, H', q, fs, p3, p4, p5, p6, p7, p8, p9⟩ | ⟨D, j, H', p1, p2, p3⟩
  · refine Or.inl ⟨e, p1, H', q, fs, run.trans p3, f1.tr p4 (fun x _ hx => Or.inl hx), p5, p6, p7, by omega, by omega, zTv.of hR1.2.2.1 hw p4⟩
  · have hj : j ≤ c := by
      obtain ⟨d9, hR9⟩ := p3.1
      exact hR9.2.2.2.2.1
    rw [s11] at p2 p3
    exact Or.inr ⟨D, c, j, H', H1, p1, run.trans p2, f1.tr p3.2.1 (fun x _ hx => Or.inl hx), s1, hc, hj, p3⟩
end
