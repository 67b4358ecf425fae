/-! PURE A6: the component is made: it holds nothing yet -/
set_option maxRecDepth 100000
/-- nothing is kept yet -/
def zG00 : zGS := ((zD0.1, z00 zD0.1), (zD0.2.1, zD0.2.2.1), (fun _ => 0, 0), (0, fun _ => (0, 0, 0, 0)), (0, fun _ => (0, 0, 0, false)), (0, fun _ => z00 zD0.1), fun _ => none)
section
variable {N : Nat}
theorem zCi_a (h0 : jH) (hN : 3000 ≤ N) (hK : h0.2.2.2.2 0 ≤ h0.2.1) (hc : zKc h0) : ∃ H7 H6 H5 x' A, (∀ K : Unit → jM Unit, (jB (jnw 1 13 [.null, .null, .null, .null, .null, .null, .null, .int 0, .null, .null, .null, .int 0, .int 0]) fun q1 => jB (fX2_init q1) fun _ => jB (jpR [0] 0 (some h0.2.1) (some q1)) fun _ => jB (jnw 2 6 [.null, .int 0, .int 0, .null, .null, .null]) fun q3 => jB (fX3_init q3) fun _ => jB (jnw 3 8 [.null, .null, .null, .null, .null, .int 0, .null, .null]) fun q5 => jB (fX4_init q5) fun _ => jB (jrc 2 (some q3)) fun _ => jB (fX3_begins N q3 (some q5)) fun y7 => jB (jpR [0] 1 (some h0.2.1) y7) K).1 (jnew h0 (.inl (0, [.null, .null, .null, .null, .null, .null, .null, .long 0, .null])) 9) = (K ()).1 H7) ∧ H7.1 h0.2.1 = some (.inl (0, [.ref (h0.2.1 + 1), .ref (h0.2.1 + 11), .null, .null, .null, .null, .null, .long 0, .null])) ∧ (∀ q, q ≠ h0.2.1 → H7.1 q = H6.1 q) ∧ H7.2.1 = h0.2.1 + 27 ∧ H7.2.2.2.2 = h0.2.2.2.2 ∧ H7.2.2.1 + h0.2.1 = h0.2.2.1 + H7.2.1 ∧ H7.2.2.2.1 = h0.2.2.2.1 + 4145 ∧ (∀ q, q < h0.2.1 → H6.1 q = h0.1 q) ∧ (H6.1 (h0.2.1 + 1) = some (zRc h0.2.1 .null 0 0 0) ∧ ∀ j, 1 ≤ j → j < 10 → zQr h0.2.2.2.2 j (H6.1 (h0.2.1 + 1 + j))) ∧ zSI (h0.2.1 + 11) x' H6 ∧ (x'.1 = (some (h0.2.1 + 15), 0, 0) ∧ (∀ q, q < 18 → x'.2.2.1 q = 0 ∧ x'.2.2.2 q = 0)) ∧ (∀ q, (q < h0.2.1 ∨ h0.2.1 + 15 ≤ q) → H6.1 q = H5.1 q) ∧ H5.2.1 = h0.2.1 + 27 ∧ H5.2.2.2.2 = h0.2.2.2.2 ∧ A = (fun j => h0.2.1 + 15 + j) ∧ zLR H5 (h0.2.1 + 15) (fun q => q - (h0.2.1 + 15) + 1) A (fun _ => 2) (fun _ => 0) (fun _ _ => none) 0 (fun _ => 0) none ∧ zLm N H5 (h0.2.1 + 15) (fun q => q - (h0.2.1 + 15) + 1) (fun _ _ => none) 0 (fun _ => 0) none zD0 (fun _ => 0) (fun _ => 0) (fun _ => 0) (fun _ => 0) := by
  obtain ⟨w, hw⟩ : ∃ w, w = h0.2.1 := ⟨_, rfl⟩
  obtain ⟨h1, hh1⟩ : ∃ h1, h1 = jnew h0 (.inl (0, [.null, .null, .null, .null, .null, .null, .null, .long 0, .null])) 9 := ⟨_, rfl⟩
  rw [← hh1]
  rw [← hw] at hK ⊢
  have w1 : h1.1 w = some (.inl (0, [.null, .null, .null, .null, .null, .null, .null, .long 0, .null])) := by rw [hh1, hw]; exact znw_e _ _ _
  have s1 : h1.2.1 = w + 1 := by rw [hh1, hw]; rfl
  have t1 : h1.2.2.2.1 = h0.2.2.2.1 + 9 := by rw [hh1]; rfl
  have u1 : h1.2.2.1 = h0.2.2.1 + 1 := by rw [hh1]; rfl
  have K1 : h1.2.2.2.2 = h0.2.2.2.2 := by rw [hh1]; rfl
  have o1 : ∀ q, q < w → h1.1 q = h0.1 q := fun q hq => by rw [hh1]; exact znw_n _ _ _ (by omega)
  -- the reader
  obtain ⟨H2, e2, r2, a2, s2, o2, K2, u2, t2, l2⟩ := zC_reader h1 (by rw [K1, s1]; omega) (fun i i1 i2 => by
    obtain ⟨x1, x2, ⟨rest, x3⟩, x4⟩ := hc.1 (i - 1) (by omega)
    rw [show 1 + (i - 1) = i by omega] at x1 x3
    rw [K1]
    refine ⟨?_, x1⟩
    unfold jcd
    rw [o1 _ (by omega), x3]
    rfl)
  rw [s1] at r2 a2 s2 o2 e2
  have w2 := (o2 w (by omega)).trans w1
  obtain ⟨H3, hH3⟩ : ∃ H3, H3 = jset H2 w (.inl (0, [.ref (w + 1), .null, .null, .null, .null, .null, .null, .long 0, .null])) := ⟨_, rfl⟩
  have w3 : H3.1 w = some (.inl (0, [.ref (w + 1), .null, .null, .null, .null, .null, .null, .long 0, .null])) := by rw [hH3]; exact zse_e _ _ _
  have o3 : ∀ q, q ≠ w → H3.1 q = H2.1 q := fun q hq => by rw [hH3]; exact zse_n _ _ hq
  have s3 : H3.2 = H2.2 := by rw [hH3]; rfl
  have K3 : H3.2.2.2.2 = h0.2.2.2.2 := by rw [s3, K2, K1]
  -- the shelf
  obtain ⟨H4, e4, g4, f4, s4, t4, l4⟩ := zsh_new (H := H3) (by rw [K3, s3, s2]; omega)
  have s3' : H3.2.1 = w + 11 := by rw [s3, s2]
  rw [s3'] at e4 g4 s4
  have K4 : H4.2.2.2.2 = h0.2.2.2.2 := by rw [l4.2.2.2.1, K3]
  -- the library
  obtain ⟨H5, e5, g5, f5, s5, t5, l5⟩ := zl_new (H := H4) (by rw [K4, s4]; omega)
  rw [s4] at e5 g5 s5
  have K5 : H5.2.2.2.2 = h0.2.2.2.2 := by rw [l5.2.2.2.1, K4]
  have s5' : H5.2.1 = w + 27 := by omega
  obtain ⟨A, hA⟩ : ∃ A : Nat → Nat, A = fun j => w + 15 + j := ⟨_, rfl⟩
  rw [← hA] at g5
  have hA0 : A 0 = w + 15 := by rw [hA]
  have hA11 : A 11 = w + 26 := by rw [hA]
  have hLm : zLm N H5 (w + 15) (fun q => q - (w + 15) + 1) (fun _ _ => none) 0 (fun _ => 0) none zD0 (fun _ => 0) (fun _ => 0) (fun _ => 0) (fun _ => 0) := ⟨⟨rfl, fun i hi => absurd hi (Nat.not_lt_zero i)⟩, fun i hi => absurd hi (Nat.not_lt_zero i), fun i j hi => absurd hi (Nat.not_lt_zero i), fun i hi => absurd hi (Nat.not_lt_zero i), fun i hi => absurd hi (Nat.not_lt_zero i), ⟨⟨by decide, by decide, rfl⟩, fun i hi => absurd hi (Nat.not_lt_zero i), fun i hi => absurd hi (Nat.not_lt_zero i), fun i hi => absurd hi (Nat.not_lt_zero i), fun i hi => absurd hi (Nat.not_lt_zero i), fun i j hi => absurd hi (Nat.not_lt_zero i)⟩, Or.inl ⟨rfl, rfl⟩⟩
  have gI : zSI (w + 11) ((none, 0, 0), fun _ => 0, fun _ => 0, fun _ => 0) H5 := by
    obtain ⟨x0, x1, x2, x3⟩ := g4
    exact ⟨(f5.1 _ (by omega) id).trans x0, (f5.1 _ (by omega) id).trans x1, (f5.1 _ (by omega) id).trans x2, (f5.1 _ (by omega) id).trans x3⟩
  obtain ⟨H6, x', e6, g6, y1, y2, y3, o6, s6, l6⟩ := zbg hN (by rw [K5]; omega) gI zDok_0.1.1 (zSki.of (P := fun q => q < w + 11 ∨ w + 15 ≤ q) g5 rfl hLm (fun q hq => Or.inr hq))
  rw [hA0] at e6 y1
  have K6 : H6.2.2.2.2 = h0.2.2.2.2 := by rw [s6, K5]
  have w6 := (o6 w (by omega)).trans ((f5.1 w (by omega) id).trans ((f4.1 w (by omega) id).trans w3))
  obtain ⟨H7, hH7⟩ : ∃ H7, H7 = jset H6 w (.inl (0, [.ref (w + 1), .ref (w + 11), .null, .null, .null, .null, .null, .long 0, .null])) := ⟨_, rfl⟩
  have w7 : H7.1 w = some (.inl (0, [.ref (w + 1), .ref (w + 11), .null, .null, .null, .null, .null, .long 0, .null])) := by rw [hH7]; exact zse_e _ _ _
  have o7 : ∀ q, q ≠ w → H7.1 q = H6.1 q := fun q hq => by rw [hH7]; exact zse_n _ _ hq
  have s7 : H7.2 = H5.2 := by rw [hH7]; exact s6
  have K7 : H7.2.2.2.2 = h0.2.2.2.2 := by rw [s7, K5]
  have s7' : H7.2.1 = w + 27 := by rw [s7, s5']
  have cA : ∀ q, q ≠ w → q < w + 11 → H6.1 q = H2.1 q := fun q h1 h2 => by rw [o6 q (by omega), f5.1 q (by omega) id, f4.1 q (by omega) id, o3 q h1]
  refine ⟨H7, H6, H5, x', A, fun K => ?_, w7, o7, s7', K7, ?_, ?_, fun q hq => ?_, ⟨?_, fun j j1 j2 => ?_⟩, g6, ⟨y1, y3⟩, fun q hq => o6 q (by omega), s5', K5, hA, g5, hLm⟩
  · rw [znwB, s1]
    refine (e2 _).trans ?_
    refine (zw_p w2 (by rw [K2, K1]; exact hK) (by show 0 < 9; decide) _).trans ?_
    rw [show jset H2 w (.inl (0, List.set [.null, .null, .null, .null, .null, .null, .null, .long 0, .null] 0 (.ref (w + 1)))) = H3 from hH3.symm]
    refine (e4 _).trans ?_
    refine (e5 _).trans ?_
    rw [zrc (c := 2) (by unfold jcd; rw [gI.1]; rfl), jB_eq e6]
    refine (zw_p w6 (by rw [K6]; exact hK) (by show 1 < 9; decide) _).trans ?_
    rw [show jset H6 w (.inl (0, List.set [.ref (w + 1), .null, .null, .null, .null, .null, .null, .long 0, .null] 1 (.ref (w + 11)))) = H7 from hH7.symm]
  · have z4 := f4.2.2.1
    have z5 := f5.2.2.1
    rw [s3] at z4
    rw [s7]
    omega
  · rw [s7, t5, t4, s3, t2, t1]
  · rw [cA q (by omega) (by omega), o2 q (by omega), o1 q hq]
  · rw [cA _ (by omega) (by omega), r2]
    rfl
  · rw [cA _ (by omega) (by omega), ← K1]
    exact a2 j j1 j2
theorem zCi_b {w : Nat} {h0 H7 : jH} (hK : h0.2.2.2.2 0 ≤ w) (hlt52 : h0.2.2.2.2 52 < h0.2.2.2.2 0) {f52 : Nat → Option Nat} (h52 : H7.1 (h0.2.2.2.2 52) = some (.inr (4, 0, zRf f52))) (w7 : H7.1 w = some (.inl (0, [.ref (w + 1), .ref (w + 11), .null, .null, .null, .null, .null, .long 0, .null]))) (s7' : H7.2.1 = w + 27) (K7 : H7.2.2.2.2 = h0.2.2.2.2) : ∃ H19, (jB (jnw 2 6 [.null, .int 0, .int 0, .null, .null, .null]) fun q8 => jB (fX3_init q8) fun _ => jB (jpR [0] 2 (some w) (some q8)) fun _ => jB (jnw 4 3 [.int 0, .null, .int 0]) fun q10 => jB (fJ2_init q10 2) fun _ => jB (jpR [0] 3 (some w) (some q10)) fun _ => jB (jnw 4 3 [.int 0, .null, .int 0]) fun q12 => jB (fJ2_init q12 2) fun _ => jB (jpR [0] 4 (some w) (some q12)) fun _ => jB (jnw 4 3 [.int 0, .null, .int 0]) fun q14 => jB (fJ2_init_2 q14) fun _ => jB (jpR [0] 5 (some w) (some q14)) fun _ => jB (jnw 6 4 [.null, .null, .int 0, .null]) fun q16 => jB (fX6_init q16 (some w)) fun _ => jB (jpR [0] 6 (some w) (some q16)) fun _ => jB (jnaR 6 4) fun q18 => jB (jpR [0] 8 (some w) (some q18)) fun _ => jR ()).1 H7 = some ((), H19) ∧ H19.1 w = some (.inl (0, [.ref (w + 1), .ref (w + 11), .ref (w + 27), .ref (w + 31), .ref (w + 33), .ref (w + 35), .ref (w + 36), .long 0, .ref (w + 39)])) ∧ (∀ q, q ≠ w → q < w + 27 → H19.1 q = H7.1 q) ∧ H19.2.1 = w + 40 ∧ H19.2.2.2.2 = h0.2.2.2.2 ∧ H19.2.2.1 + H7.2.1 = H7.2.2.1 + H19.2.1 ∧ H19.2.2.2.1 = H7.2.2.2.1 + 78 ∧ zSI (w + 27) ((none, 0, 0), fun _ => 0, fun _ => 0, fun _ => 0) H19 ∧ zAL H19 (w + 31) (w + 31 + 1) 2 0 (fun _ => none) ∧ zAL H19 (w + 33) (w + 33 + 1) 2 0 (fun _ => none) ∧ zAL H19 (w + 35) (h0.2.2.2.2 52) 0 0 f52 ∧ (H19.1 (w + 36) = some (.inl (6, [.ref (w + 37), .ref (w + 38), .int 0, .ref w])) ∧ H19.1 (w + 37) = some (.inr (0, 6, .inl fun _ => 0)) ∧ H19.1 (w + 38) = some (.inr (0, 6, .inl fun _ => 0))) ∧ H19.1 (w + 39) = some (.inr (6, 4, zRf fun _ => none)) := by
  -- the trial
  obtain ⟨H8, e8, g8, f8, s8, t8, l8⟩ := zsh_new (H := H7) (by rw [K7, s7']; omega)
  rw [s7'] at e8 g8 s8
  have w8 := (f8.1 w (by omega) id).trans w7
  obtain ⟨H9, hH9⟩ : ∃ H9, H9 = jset H8 w (.inl (0, [.ref (w + 1), .ref (w + 11), .ref (w + 27), .null, .null, .null, .null, .long 0, .null])) := ⟨_, rfl⟩
  have w9 : H9.1 w = some (.inl (0, [.ref (w + 1), .ref (w + 11), .ref (w + 27), .null, .null, .null, .null, .long 0, .null])) := by rw [hH9]; exact zse_e _ _ _
  have o9 : ∀ q, q ≠ w → H9.1 q = H8.1 q := fun q hq => by rw [hH9]; exact zse_n _ _ hq
  have s9 : H9.2 = H8.2 := by rw [hH9]; rfl
  have K8 : H8.2.2.2.2 = h0.2.2.2.2 := by rw [l8.2.2.2.1, K7]
  have s9' : H9.2.1 = w + 31 := by rw [s9, s8]
  -- lines
  obtain ⟨H10, e10, g10, f10, s10, t10, l10⟩ := zal_mk (H := H9) (m := 2) (by rw [s9, K8, s8]; omega) (by decide) (by decide)
  rw [s9'] at e10 g10 s10
  have w10 := (f10.1 w (by omega) id).trans w9
  obtain ⟨H11, hH11⟩ : ∃ H11, H11 = jset H10 w (.inl (0, [.ref (w + 1), .ref (w + 11), .ref (w + 27), .ref (w + 31), .null, .null, .null, .long 0, .null])) := ⟨_, rfl⟩
  have w11 : H11.1 w = some (.inl (0, [.ref (w + 1), .ref (w + 11), .ref (w + 27), .ref (w + 31), .null, .null, .null, .long 0, .null])) := by rw [hH11]; exact zse_e _ _ _
  have o11 : ∀ q, q ≠ w → H11.1 q = H10.1 q := fun q hq => by rw [hH11]; exact zse_n _ _ hq
  have s11 : H11.2 = H10.2 := by rw [hH11]; rfl
  have K10 : H10.2.2.2.2 = h0.2.2.2.2 := by rw [l10.2.2.2.1, s9, K8]
  have s11' : H11.2.1 = w + 33 := by rw [s11, s10]
  -- what is seen
  obtain ⟨H12, e12, g12, f12, s12, t12, l12⟩ := zal_mk (H := H11) (m := 2) (by rw [s11, K10, s10]; omega) (by decide) (by decide)
  rw [s11'] at e12 g12 s12
  have w12 := (f12.1 w (by omega) id).trans w11
  obtain ⟨H13, hH13⟩ : ∃ H13, H13 = jset H12 w (.inl (0, [.ref (w + 1), .ref (w + 11), .ref (w + 27), .ref (w + 31), .ref (w + 33), .null, .null, .long 0, .null])) := ⟨_, rfl⟩
  have w13 : H13.1 w = some (.inl (0, [.ref (w + 1), .ref (w + 11), .ref (w + 27), .ref (w + 31), .ref (w + 33), .null, .null, .long 0, .null])) := by rw [hH13]; exact zse_e _ _ _
  have o13 : ∀ q, q ≠ w → H13.1 q = H12.1 q := fun q hq => by rw [hH13]; exact zse_n _ _ hq
  have s13 : H13.2 = H12.2 := by rw [hH13]; rfl
  have K12 : H12.2.2.2.2 = h0.2.2.2.2 := by rw [l12.2.2.2.1, s11, K10]
  have s13' : H13.2.1 = w + 35 := by rw [s13, s12]
  have c13 : ∀ q, q ≠ w → q < w + 27 → H13.1 q = H7.1 q := fun q h1 h2 => by rw [o13 q h1, f12.1 q (by omega) id, o11 q h1, f10.1 q (by omega) id, o9 q h1, f8.1 q (by omega) id]
  have K13 : H13.2.2.2.2 = h0.2.2.2.2 := by rw [s13, K12]
  -- behind
  obtain ⟨H14, e14, g14, f14, s14, t14, l14⟩ := zal_0 (H := H13) (f := f52) (by rw [K13, s13']; omega) (by rw [K13]; exact hlt52) (by rw [K13, c13 _ (by omega) (by omega)]; exact h52)
  rw [s13', K13] at g14
  rw [s13'] at e14 s14
  have w14 := (f14.1 w (by omega) id).trans w13
  obtain ⟨H15, hH15⟩ : ∃ H15, H15 = jset H14 w (.inl (0, [.ref (w + 1), .ref (w + 11), .ref (w + 27), .ref (w + 31), .ref (w + 33), .ref (w + 35), .null, .long 0, .null])) := ⟨_, rfl⟩
  have w15 : H15.1 w = some (.inl (0, [.ref (w + 1), .ref (w + 11), .ref (w + 27), .ref (w + 31), .ref (w + 33), .ref (w + 35), .null, .long 0, .null])) := by rw [hH15]; exact zse_e _ _ _
  have o15 : ∀ q, q ≠ w → H15.1 q = H14.1 q := fun q hq => by rw [hH15]; exact zse_n _ _ hq
  have s15 : H15.2 = H14.2 := by rw [hH15]; rfl
  have K14 : H14.2.2.2.2 = h0.2.2.2.2 := by rw [l14.2.2.2.1, K13]
  have s15' : H15.2.1 = w + 36 := by rw [s15, s14]
  -- plans
  obtain ⟨H16, e16, ⟨g16, g16a, g16b⟩, f16, s16, t16, l16⟩ := zly_new (H := H15) (w := w) (by rw [s15, K14, s14]; omega)
  rw [s15'] at e16 g16 g16a g16b s16
  have w16 := (f16.1 w (by omega) id).trans w15
  obtain ⟨H17, hH17⟩ : ∃ H17, H17 = jset H16 w (.inl (0, [.ref (w + 1), .ref (w + 11), .ref (w + 27), .ref (w + 31), .ref (w + 33), .ref (w + 35), .ref (w + 36), .long 0, .null])) := ⟨_, rfl⟩
  have w17 : H17.1 w = some (.inl (0, [.ref (w + 1), .ref (w + 11), .ref (w + 27), .ref (w + 31), .ref (w + 33), .ref (w + 35), .ref (w + 36), .long 0, .null])) := by rw [hH17]; exact zse_e _ _ _
  have o17 : ∀ q, q ≠ w → H17.1 q = H16.1 q := fun q hq => by rw [hH17]; exact zse_n _ _ hq
  have s17 : H17.2 = H16.2 := by rw [hH17]; rfl
  have K16 : H16.2.2.2.2 = h0.2.2.2.2 := by rw [l16.2.2.2.1, s15, K14]
  have s17' : H17.2.1 = w + 39 := by rw [s17, s16]
  -- marks
  obtain ⟨H18, hH18⟩ : ∃ H18, H18 = jnew H17 (.inr (6, 4, zRf fun _ => none)) 4 := ⟨_, rfl⟩
  have g18 : H18.1 (w + 39) = some (.inr (6, 4, zRf fun _ => none)) := by rw [hH18, ← s17']; exact znw_e _ _ _
  have o18 : ∀ q, q ≠ w + 39 → H18.1 q = H17.1 q := fun q hq => by rw [hH18]; exact znw_n _ _ _ (by rw [s17']; exact hq)
  have w18 := (o18 w (by omega)).trans w17
  obtain ⟨H19, hH19⟩ : ∃ H19, H19 = jset H18 w (.inl (0, [.ref (w + 1), .ref (w + 11), .ref (w + 27), .ref (w + 31), .ref (w + 33), .ref (w + 35), .ref (w + 36), .long 0, .ref (w + 39)])) := ⟨_, rfl⟩
  have w19 : H19.1 w = some (.inl (0, [.ref (w + 1), .ref (w + 11), .ref (w + 27), .ref (w + 31), .ref (w + 33), .ref (w + 35), .ref (w + 36), .long 0, .ref (w + 39)])) := by rw [hH19]; exact zse_e _ _ _
  have o19 : ∀ q, q ≠ w → H19.1 q = H18.1 q := fun q hq => by rw [hH19]; exact zse_n _ _ hq
  have s19 : H19.2 = (H17.2.1 + 1, H17.2.2.1 + 1, H17.2.2.2.1 + 4, H17.2.2.2.2) := by rw [hH19, hH18]; rfl
  have b39 : ∀ q, q ≠ w → q < w + 39 → H19.1 q = H16.1 q := fun q h1 h2 => by rw [o19 q h1, o18 q (by omega), o17 q h1]
  have b36 : ∀ q, q ≠ w → q < w + 36 → H19.1 q = H14.1 q := fun q h1 h2 => by rw [b39 q h1 (by omega), f16.1 q (by omega) id, o15 q h1]
  have b35 : ∀ q, q ≠ w → q < w + 35 → H19.1 q = H12.1 q := fun q h1 h2 => by rw [b36 q h1 (by omega), f14.1 q (by omega) id, o13 q h1]
  have b33 : ∀ q, q ≠ w → q < w + 33 → H19.1 q = H10.1 q := fun q h1 h2 => by rw [b35 q h1 (by omega), f12.1 q (by omega) id, o11 q h1]
  have b31 : ∀ q, q ≠ w → q < w + 31 → H19.1 q = H8.1 q := fun q h1 h2 => by rw [b33 q h1 (by omega), f10.1 q (by omega) id, o9 q h1]
  have b27 : ∀ q, q ≠ w → q < w + 27 → H19.1 q = H7.1 q := fun q h1 h2 => by rw [b31 q h1 (by omega), f8.1 q (by omega) id]
  have x1 : jLe H12 H13 := by rw [hH13]; exact jsetO_le w12
  have x0 : jLe H10 H11 := by rw [hH11]; exact jsetO_le w10
  have x2 : jLe H14 H15 := by rw [hH15]; exact jsetO_le w14
  have x3 : jLe H16 H17 := by rw [hH17]; exact jsetO_le w16
  have x4 : jLe H17 H18 := by rw [hH18]; exact jnew_le _ _ _
  have x5 : jLe H18 H19 := by rw [hH19]; exact jsetO_le w18
  have l14_ := jLe.tr x2 (jLe.tr l16 (jLe.tr x3 (jLe.tr x4 x5)))
  have l12_ := jLe.tr x1 (jLe.tr l14 l14_)
  have l10_ := jLe.tr x0 (jLe.tr l12 l12_)
  refine ⟨H19, ?_, w19, b27, by rw [s19]; show H17.2.1 + 1 = _; omega, by rw [s19]; show H17.2.2.2.2 = _; rw [s17, K16], ?_, ?_, ?_, g10.up (b33 _ (by omega) (by omega)) (b33 _ (by omega) (by omega)) l10_, g12.up (b35 _ (by omega) (by omega)) (b35 _ (by omega) (by omega)) l12_, g14.up (b36 _ (by omega) (by omega)) (b36 _ (by omega) (by omega)) l14_, ⟨(b39 _ (by omega) (by omega)).trans g16, (b39 _ (by omega) (by omega)).trans g16a, (b39 _ (by omega) (by omega)).trans g16b⟩, (o19 _ (by omega)).trans g18⟩
  · refine (e8 _).trans ?_
    refine (zw_p w8 (by rw [K8]; exact hK) (by show 2 < 9; decide) _).trans ?_
    rw [show jset H8 w (.inl (0, List.set [.ref (w + 1), .ref (w + 11), .null, .null, .null, .null, .null, .long 0, .null] 2 (.ref (w + 27)))) = H9 from hH9.symm]
    refine (e10 _).trans ?_
    refine (zw_p w10 (by rw [K10]; exact hK) (by show 3 < 9; decide) _).trans ?_
    rw [show jset H10 w (.inl (0, List.set [.ref (w + 1), .ref (w + 11), .ref (w + 27), .null, .null, .null, .null, .long 0, .null] 3 (.ref (w + 31)))) = H11 from hH11.symm]
    refine (e12 _).trans ?_
    refine (zw_p w12 (by rw [K12]; exact hK) (by show 4 < 9; decide) _).trans ?_
    rw [show jset H12 w (.inl (0, List.set [.ref (w + 1), .ref (w + 11), .ref (w + 27), .ref (w + 31), .null, .null, .null, .long 0, .null] 4 (.ref (w + 33)))) = H13 from hH13.symm]
    refine (e14 _).trans ?_
    refine (zw_p w14 (by rw [K14]; exact hK) (by show 5 < 9; decide) _).trans ?_
    rw [show jset H14 w (.inl (0, List.set [.ref (w + 1), .ref (w + 11), .ref (w + 27), .ref (w + 31), .ref (w + 33), .null, .null, .long 0, .null] 5 (.ref (w + 35)))) = H15 from hH15.symm]
    refine (e16 _).trans ?_
    refine (zw_p w16 (by rw [K16]; exact hK) (by show 6 < 9; decide) _).trans ?_
    rw [show jset H16 w (.inl (0, List.set [.ref (w + 1), .ref (w + 11), .ref (w + 27), .ref (w + 31), .ref (w + 33), .ref (w + 35), .null, .long 0, .null] 6 (.ref (w + 36)))) = H17 from hH17.symm]
    rw [show (4 : Int32) = nI 4 from rfl, znaRB (by decide), ← hH18, s17']
    refine (zw_p w18 (by rw [hH18]; show H17.2.2.2.2 0 ≤ w; rw [s17, K16]; exact hK) (by show 8 < 9; decide) _).trans ?_
    rw [show jset H18 w (.inl (0, List.set [.ref (w + 1), .ref (w + 11), .ref (w + 27), .ref (w + 31), .ref (w + 33), .ref (w + 35), .ref (w + 36), .long 0, .null] 8 (.ref (w + 39)))) = H19 from hH19.symm]
    rfl
  · have z8 := f8.2.2.1
    have z10 := f10.2.2.1
    have z12 := f12.2.2.1
    have z14 := f14.2.2.1
    have z16 := f16.2.2.1
    rw [s9] at z10
    rw [s11] at z12
    rw [s13] at z14
    rw [s15] at z16
    have z19 : H19.2.2.1 = H17.2.2.1 + 1 := by rw [s19]
    have z20 : H19.2.1 = H17.2.1 + 1 := by rw [s19]
    rw [s17] at z19 z20
    omega
  · have z19 : H19.2.2.2.1 = H17.2.2.2.1 + 4 := by rw [s19]
    rw [s17, t16, s15, t14, s13, t12, s11, t10, s9, t8] at z19
    omega
  · obtain ⟨a0, a1, a2, a3⟩ := g8
    exact ⟨(b31 _ (by omega) (by omega)).trans a0, (b31 _ (by omega) (by omega)).trans a1, (b31 _ (by omega) (by omega)).trans a2, (b31 _ (by omega) (by omega)).trans a3⟩
end
