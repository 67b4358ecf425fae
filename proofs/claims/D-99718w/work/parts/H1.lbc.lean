/-! PURE 95: library: the component -/
set_option maxRecDepth 100000
section
variable {N w : Nat} {k : zKA} {X : Bool → zSS} {f : Nat → Int32} {R : zCR} {τ τ1 : Nat → Nat} {Z : Nat → Option jC} {B : zLB} {S : zMS} {H H1 : jH} {nm : (Nat → Nat) × (Nat → Nat)} {T : (Nat → Nat) × Nat} {Y : zYy} {E : zEy} {U : zUy} {Mk : Nat → Option (zMS × zYy × zEy)}
theorem zG2.of {H2 : jH} {lo b : Nat} {τL A cap nn : Nat → Nat} {ff : Nat → Nat → Option Nat} {dn : Nat} {dm : Nat → Int32} {ev : Option Nat} {D : zDr} {sk tx what name : Nat → Nat} (hR : zLR H2 lo τL A cap nn ff dn dm ev) (hn : nn 0 = zS D.1 + zT D.1 ∧ nn 1 = zS D.1 + zT D.1 ∧ nn 2 = zS D.1 ∧ nn 3 = zT D.1) (hm : zLm N H2 lo τL ff dn dm ev D sk tx what name) (hD : zLok D.1) (hZ : ∀ q e, (q < H2.2.2.2.2 0 ∨ (lo ≤ q ∧ q < H2.2.1 ∧ q ≠ A 11)) → H2.1 q = some e → Z q = some e) : zG2 N (zkL w b (A 0) A cap sk tx ev) D.1 (D.2.1, D.2.2.1) Z := by
  obtain ⟨r1, r2, r3, r4, r5, r6, r7⟩ := hR
  obtain ⟨⟨m1, m1'⟩, m2, m3, m4, m5, m6, m7⟩ := hm
  have aZ : ∀ j e, j < 11 → H2.1 (A j) = some e → Z (A j) = some e := fun j e hj he => hZ _ _ (Or.inr ⟨(r2 j (by omega)).2.1, (r2 j (by omega)).2.2, fun c => by
    have e1 := (r2 j (by omega)).1
    rw [c, (r2 11 (by decide)).1] at e1
    omega⟩) he
  have tZ : ∀ q e t, zTg τL lo H2 q t → t ≠ 12 → H2.1 q = some e → Z q = some e := fun q e t ht hn he => hZ _ _ (Or.inr ⟨ht.2.1, ht.2.2, fun c => by
    have e1 := ht.1
    rw [c, (r2 11 (by decide)).1] at e1
    omega⟩) he
  have zz : ∀ q e, zFz τL lo H2 q → H2.1 q = some e → Z q = some e := fun q e hq he => by
    rcases hq with hq | hq
    · exact hZ _ _ (Or.inl hq) he
    · exact tZ q e 14 hq (by decide) he
  obtain ⟨⟨l0, l0a, l0b⟩, ⟨l1, l1a, l1b⟩, ⟨l2, l2a, l2b⟩, ⟨l3, l3a, l3b⟩⟩ := And.intro (r4 0 (by decide)) (And.intro (r4 1 (by decide)) (And.intro (r4 2 (by decide)) (r4 3 (by decide))))
  obtain ⟨n0, n1, n2, n3⟩ := hn
  rw [n0] at l0
  rw [n1] at l1
  rw [n2] at l2
  rw [n3] at l3
  obtain ⟨⟨mc0, p0⟩, q0, -, c0, -⟩ := l0
  obtain ⟨⟨mc1, p1⟩, q1, -, c1, -⟩ := l1
  obtain ⟨⟨mc2, p2⟩, q2, -, c2, -⟩ := l2
  obtain ⟨⟨mc3, p3⟩, q3, -, c3, -⟩ := l3
  refine ⟨hD, ⟨⟨.ref (A 1), .ref (A 3), ?_⟩, ⟨⟨.int mc2, aZ 5 _ (by decide) p2⟩, ⟨ff 2, aZ 6 _ (by decide) q2, fun i hi => (m2 i hi).1⟩, c2, ?_, fun i hi => tZ _ _ 13 (m2 i hi).2.1 (by decide) (m2 i hi).2.2⟩, ⟨⟨.int mc3, aZ 7 _ (by decide) p3⟩, ⟨ff 3, aZ 8 _ (by decide) q3, fun i hi => (m4 i hi).1⟩, c3, ?_, fun i hi => tZ _ _ 14 (m4 i hi).2.1 (by decide) (m4 i hi).2.2⟩, ⟨dm, aZ 9 _ (by decide) r5, fun i hi => m1' i hi⟩, aZ 10 _ (by decide) r6⟩, ?_, A 1, A 3, what, name, ⟨⟨_, aZ 0 _ (by decide) r3⟩, A 2, cap 0, ff 0, .int mc0, A 4, cap 1, ff 1, .int mc1, aZ 1 _ (by decide) p0, aZ 2 _ (by decide) q0, ⟨c0, by omega⟩, aZ 3 _ (by decide) p1, aZ 4 _ (by decide) q1, ⟨c1, by omega⟩, fun j hj => ?_⟩, m6⟩
  · rw [m1] at r3
    exact aZ 0 _ (by decide) r3
  · show cap 2 < 2 ^ 31
    omega
  · show cap 3 < 2 ^ 31
    omega
  · rcases m7 with m7 | ⟨v, e, x1, x2, x3⟩
    · exact Or.inl m7
    · exact Or.inr ⟨v, e, x1, x2, fun H3 h3 => x3 H3 (fun q x hq hx => h3 q x (tZ q x 14 hq (by decide) hx))⟩
  · obtain ⟨x, y, y1, y2, y3, y4, y5, y6⟩ := m5 j hj
    exact ⟨x, y, y1, y2, zz _ _ y3 y5, zz _ _ y4 y6⟩
theorem zSki.of {H2 : jH} {lo : Nat} {τL A cap nn : Nat → Nat} {ff : Nat → Nat → Option Nat} {dn : Nat} {dm : Nat → Int32} {ev : Option Nat} {D : zDr} {sk tx what name : Nat → Nat} {P : Nat → Prop} (hR : zLR H2 lo τL A cap nn ff dn dm ev) (hn : nn 2 = zS D.1) (hm : zLm N H2 lo τL ff dn dm ev D sk tx what name) (hP : ∀ q, lo ≤ q → P q) : zSki (A 0) (zS D.1) (zTh0 D.1) P H2 := by
  obtain ⟨r1, r2, r3, r4, r5, r6, r7⟩ := hR
  obtain ⟨⟨m1, m1'⟩, m2, -⟩ := hm
  obtain ⟨l2, l2a, l2b⟩ := r4 2 (by decide)
  rw [hn] at l2
  obtain ⟨⟨mc2, p2⟩, q2, -, c2, -⟩ := l2
  exact ⟨_, _, _, A 5, .int mc2, A 6, cap 2, ff 2, sk, r3, p2, q2, ⟨c2, by omega⟩, ⟨hP _ (r2 0 (by decide)).2.1, hP _ (r2 5 (by decide)).2.1, hP _ (r2 6 (by decide)).2.1⟩, fun i hi => ⟨(m2 i hi).1, hP _ (m2 i hi).2.1.2.1, _, _, (m2 i hi).2.2⟩⟩
theorem zCG_library (hU : U.1 ≤ 16) (hG : zCG N w ((B, S), nm, T, Y, E, U, Mk) H) : zCal N w (zO_lib ((B, S), nm, T, Y, E, U, Mk)).2 (fX1_library N w) (zO_lib ((B, S), nm, T, Y, E, U, Mk)).1 (120 + 40 * (T.2 + 1)) (1100 + 400 * (T.2 + 1)) H := by
  obtain ⟨k, X, f, R, Z, τ, h1, h2, hY, h3, h4, h5, h6, h7⟩ := id hG
  have h7 : zG7 w T H := h7
  have h4 : zG4 w τ Z E R.2.2.2.2.2 H := h4
  have h5 : zG5 w k B τ U H := h5
  have h6 : zG6 w k B Z Mk H := h6
  obtain ⟨a1, a2, a3, a4, aH, aS, a7, a8, a9⟩ := id h1
  have hw := h1.wc
  have hKl : H.2.2.2.2 0 ≤ H.2.1 := by omega
  obtain ⟨H1, e1, g1, f1, s1, t1, l1⟩ := zsh_new hKl
  have o1 : ∀ q, q < H.2.1 → H1.1 q = H.1 q := fun q hq => f1.1 q hq id
  have h71 : zG7 w T H1 := h7.fr (fun q hq => o1 q (by omega)) (fun q b1 b2 => o1 q (by omega)) l1
  obtain ⟨⟨dr, i, d, hT⟩, hRa, so, pl, va, z1, z2, z3⟩ := id h71
  obtain ⟨d', hd⟩ := zI_ex d
  subst hd
  have hT2 := hT.2.2.2.1.1
  have cd1 : jcd H1 (w + 1) = some 1 := by unfold jcd; rw [hT.2.1]; rfl
  have hw1 := (o1 w (by omega)).trans hw
  have start : ∀ z, (jBH (fX2_library N (w + 1)) (fun x9 => jB (jrc 9 (some x9)) fun _ => fX1_library_74 N w (some x9)) fun y4 => jB (jrc 2 (some H.2.1)) fun _ => jB (fX3_begins N H.2.1 y4) fun y6 => jB (jpR [0] 1 (some w) y6) fun _ => jB (jnw 4 3 [.int 0, .null, .int 0]) fun q7 => jB (fJ2_init q7 2) fun _ => jB (jpR [0] 3 (some w) (some q7)) fun _ => jB (jnw 4 3 [.int 0, .null, .int 0]) fun q9 => jB (fJ2_init q9 2) fun _ => jB (jpR [0] 4 (some w) (some q9)) fun _ => jB (jgR [0] 5 (some w)) fun y11 => jB (jrc 4 y11) fun b13 => jB (fJ2_clear N b13) fun _ => fX1_library_54 N w N 0).1 H1 = z → (fX1_library N w).1 H = z := fun z hz => by
    rw [← hz]
    unfold fX1_library
    refine (e1 _).trans ?_
    rw [zgRs hw1 (by decide) rfl, zrc (c := 1) cd1]
  rcases zl_read a1 hT hRa ⟨z1, z2, z3⟩ (m0 := 1001) (by omega) (by omega) with ⟨e, r1, H', q, fs, r2, r3, r4, r5, r6, r7, r8, r9⟩ | ⟨D, c, j, H2, H0, r1, r2, r3, r4, r5, r6, r7⟩
  · have eO : zO_lib ((B, S), nm, T, Y, E, U, Mk) = (nI (e.1 + 16 * zBg T.1 T.2 e.2), (B, S), nm, (T.1, 0), Y, E, U, Mk) := by
      unfold zO_lib
      dsimp only
      rw [r1]
    rw [eO]
    have run : (fX1_library N w).1 H = some (nI (e.1 + 16 * zBg T.1 T.2 e.2), H') := by
      refine start _ ?_
      unfold fX1_library_74
      rw [zBHr r2, zrc (c := 9) (by unfold jcd; rw [r5]; rfl), zgI r5 (by decide) r6]
      rfl
    have l : jLe H H' := (fX1_library N w).2 _ _ _ run
    have hF : zFm (fun x => x = w + 1 ∨ (w + 8 ≤ x ∧ x ≤ w + 10)) H H' := (f1.mo (fun q _ hq => hq.elim)).tr r3 (fun q _ hq => hq)
    obtain ⟨g1, g3, g4, g5, g39⟩ := zCG.f7 (τ1 := τ) h1 h3 h4 h5 h7 (fun q hq hn => hF.1 q hq (by omega)) (fun _ _ => rfl) l
    exact ⟨H', run, ⟨k, X, f, R, Z, τ, g1, h2, hY, g3, g4, g5, h6.fr g39 (fun _ _ h => h), h7.rd a4.2 hF r4 r9⟩, hF.mo (fun q _ hq => by omega), by omega, by omega⟩
  · have eO : zO_lib ((B, S), nm, T, Y, E, U, Mk) = (0, (D.1, z00 D.1), (D.2.1, D.2.2.1), (T.1, 0), (0, Y.2), (0, E.2), (0, U.2), fun _ => none) := by
      unfold zO_lib
      dsimp only
      rw [r1]
    rw [eO]
    obtain ⟨y1, y2, y3, yD, ⟨y4, y5⟩, τL, A, cap, nn, ff, dn, dm, ev, sk, tx, what, name, hA0, hLR, hn, hLm⟩ := r7
    have s0 : H0.2.1 = H.2.1 + 4 := by rw [r4, s1]
    have t0 : H0.2.2.2.1 = H.2.2.2.1 + 45 := by rw [r4, t1]
    rw [s0] at y4 hLR hLm
    rw [t0] at y5
    have hlb : A 0 = H.2.1 + 4 := hA0.trans s1
    have lA : ∀ j, j < 12 → H.2.1 + 4 ≤ A j ∧ A j < H2.2.1 := fun j hj => ⟨(hLR.2.1 j hj).2.1, (hLR.2.1 j hj).2.2⟩
    have hF2 : zFm (fun x => x = w + 1 ∨ (w + 8 ≤ x ∧ x ≤ w + 10)) H H2 := (f1.mo (fun q _ hq => hq.elim)).tr r3 (fun q _ hq => hq)
    have K2 : H2.2.2.2.2 = H.2.2.2.2 := hF2.2.2.2.2
    have l12 : jLe H1 H2 := (fX2_library N (w + 1)).2 _ _ _ r2
    have s12 : H.2.1 + 4 ≤ H2.2.1 := by have := l12.1; omega
    -- the shelf begins
    have gI : zSI H.2.1 ((none, 0, 0), fun _ => 0, fun _ => 0, fun _ => 0) H2 := by
      obtain ⟨x0, x1, x2, x3⟩ := g1
      exact ⟨(r3.1 _ (by omega) (by omega)).trans x0, (r3.1 _ (by omega) (by omega)).trans x1, (r3.1 _ (by omega) (by omega)).trans x2, (r3.1 _ (by omega) (by omega)).trans x3⟩
    have hD := yD.1
    obtain ⟨H3, x', b1, b2, b3, b4, b5, b6, b7, b8⟩ := zbg a1 (by rw [K2]; exact hKl) gI hD.1 (zSki.of (P := fun q => q < H.2.1 ∨ H.2.1 + 4 ≤ q) hLR hn.2.2.1 hLm (fun q hq => Or.inr hq))
    rw [hlb] at b1 b3
    have hw3 := (b6 w (by omega)).trans ((hF2.1 w (by omega) (by omega)).trans hw)
    obtain ⟨b, hb⟩ : ∃ b, b = H.2.1 := ⟨_, rfl⟩
    -- it is put in
    obtain ⟨H4, hH4⟩ : ∃ H4, H4 = jset H3 w (.inl (0, [.ref (w + 1), .ref H.2.1, .ref (w + 27), .ref R.2.2.2.2.1, .ref R.2.2.2.2.2, .ref (w + 35), .ref (w + 36), .long R.1, .ref (w + 39)])) := ⟨_, rfl⟩
    have q4 : H4.1 w = some (.inl (0, [.ref (w + 1), .ref H.2.1, .ref (w + 27), .ref R.2.2.2.2.1, .ref R.2.2.2.2.2, .ref (w + 35), .ref (w + 36), .long R.1, .ref (w + 39)])) := by rw [hH4]; exact zse_e _ _ _
    have o4 : ∀ q, q ≠ w → H4.1 q = H3.1 q := fun q hq => by rw [hH4]; exact zse_n _ _ hq
    have s4 : H4.2 = H2.2 := by rw [hH4]; exact b7
    have l4 : jLe H3 H4 := by rw [hH4]; exact jsetO_le hw3
    obtain ⟨H5, c1, c2, c3, c4, c5, c6⟩ := zal_mk (H := H4) (m := 2) (by rw [s4, K2]; omega) (by decide) (by decide)
    have e4 : H4.2.1 = H2.2.1 := by rw [s4]
    rw [e4] at c1 c2 c4
    have q5 := (c3.1 w (by omega) id).trans q4
    obtain ⟨H6, hH6⟩ : ∃ H6, H6 = jset H5 w (.inl (0, [.ref (w + 1), .ref H.2.1, .ref (w + 27), .ref H2.2.1, .ref R.2.2.2.2.2, .ref (w + 35), .ref (w + 36), .long R.1, .ref (w + 39)])) := ⟨_, rfl⟩
    have q6 : H6.1 w = some (.inl (0, [.ref (w + 1), .ref H.2.1, .ref (w + 27), .ref H2.2.1, .ref R.2.2.2.2.2, .ref (w + 35), .ref (w + 36), .long R.1, .ref (w + 39)])) := by rw [hH6]; exact zse_e _ _ _
    have o6 : ∀ q, q ≠ w → H6.1 q = H5.1 q := fun q hq => by rw [hH6]; exact zse_n _ _ hq
    have s6 : H6.2 = H5.2 := by rw [hH6]; rfl
    have l6 : jLe H5 H6 := by rw [hH6]; exact jsetO_le q5
    have K5 : H5.2.2.2.2 = H.2.2.2.2 := by rw [c6.2.2.2.1, s4, K2]
    obtain ⟨H7, d1, d2, d3, d4, d5, d6⟩ := zal_mk (H := H6) (m := 2) (by rw [s6, K5]; omega) (by decide) (by decide)
    have e6 : H6.2.1 = H2.2.1 + 2 := by rw [s6]; exact c4
    rw [e6] at d1 d2 d4
    have q7 := (d3.1 w (by omega) id).trans q6
    obtain ⟨H8, hH8⟩ : ∃ H8, H8 = jset H7 w (.inl (0, [.ref (w + 1), .ref H.2.1, .ref (w + 27), .ref H2.2.1, .ref (H2.2.1 + 2), .ref (w + 35), .ref (w + 36), .long R.1, .ref (w + 39)])) := ⟨_, rfl⟩
    have q8 : H8.1 w = some (.inl (0, [.ref (w + 1), .ref H.2.1, .ref (w + 27), .ref H2.2.1, .ref (H2.2.1 + 2), .ref (w + 35), .ref (w + 36), .long R.1, .ref (w + 39)])) := by rw [hH8]; exact zse_e _ _ _
    have o8 : ∀ q, q ≠ w → H8.1 q = H7.1 q := fun q hq => by rw [hH8]; exact zse_n _ _ hq
    have s8 : H8.2 = H7.2 := by rw [hH8]; rfl
    have l8 : jLe H7 H8 := by rw [hH8]; exact jsetO_le q7
    have K7 : H7.2.2.2.2 = H.2.2.2.2 := by rw [d6.2.2.2.1, s6, K5]
    -- what is as it was behind all that
    have old8 : ∀ q, q < H.2.1 → q ≠ w → q ≠ w + 1 → (q < w + 8 ∨ w + 10 < q) → H8.1 q = H.1 q := fun q hq n0 n1 n2 => by
      rw [o8 q n0, d3.1 q (by omega) id, o6 q n0, c3.1 q (by omega) id, o4 q n0, b6 q (by omega), hF2.1 q hq (by omega)]
    have l08 : jLe H H8 := jLe.tr l1 (jLe.tr l12 (jLe.tr b8 (jLe.tr l4 (jLe.tr c6 (jLe.tr l6 (jLe.tr d6 l8))))))
    obtain ⟨arr, cpp, g, bs, xs, u1, u2, u3, u4, u5⟩ := id h5
    have t35 := a7 35 (by decide) (Or.inr (Or.inr ⟨by decide, by decide⟩))
    have arn : arr ≠ w ∧ arr ≠ w + 1 ∧ (arr < w + 8 ∨ w + 10 < arr) ∧ arr ≠ w + 39 := by
      rcases Nat.eq_zero_or_pos cpp with cc | cc
      · have := u1.2.2.2.2.2.2.2.1 cc
        have := h7.kc.2.1.1
        omega
      · have ht := (u2 cc).1
        have nn : ∀ i, i < 40 → zFx i → arr ≠ w + i := fun i i1 i2 e => by
          rw [e, a7 i i1 i2] at ht; omega
        have x0 := nn 0 (by decide) (Or.inl (by decide))
        have x1 := nn 1 (by decide) (Or.inl (by decide))
        have x8 := nn 8 (by decide) (Or.inl (by decide))
        have x9 := nn 9 (by decide) (Or.inl (by decide))
        have x10 := nn 10 (by decide) (Or.inl (by decide))
        have x39 := nn 39 (by decide) (Or.inr (Or.inr ⟨by decide, by decide⟩))
        omega
    have u1' := u1.up (old8 _ (by omega) (by omega) (by omega) (by omega)) (old8 _ u1.2.2.2.2.2.1.2 arn.1 arn.2.1 arn.2.2.1) l08
    obtain ⟨⟨mc, v1⟩, -⟩ := id u1'
    obtain ⟨H9, g9, v2, v3, v4, v5, v6⟩ := zAL_clear a1 (by omega) u1'
    have q9 := (v4 w (by omega) (fun c => absurd c.symm arn.1)).trans q8
    obtain ⟨mf, m1, m2⟩ := id h6
    have m9 := (v4 (w + 39) (by omega) (fun c => absurd c.symm arn.2.2.2)).trans ((old8 (w + 39) (by omega) (by omega) (by omega) (by omega)).trans m1)
    have K9 : H9.2.2.2.2 = H.2.2.2.2 := by rw [v5, s8, K7]
    obtain ⟨H10, mf', n1, n2, n3, n4, n5, n6⟩ := zlb_54 (N := N) (hw := .null) 4 N 0 H9 mf rfl (by omega) (by rw [K9]; exact a4.1) q9 rfl m9 (fun q hq => absurd hq (Nat.not_lt_zero q))
    have l10 : jLe H H10 := jLe.tr l08 (jLe.tr v6 n6)
    have s10 : H10.2 = H7.2 := by rw [n5, v5, s8]
    have run : (fX1_library N w).1 H = some (0, H10) := by
      refine start _ ?_
      rw [zBHl r2, s1, zrc (c := 2) (by unfold jcd; rw [gI.1]; rfl), jB_eq b1]
      have pp4 : ∀ K : Unit → jM Int32, (jB (jpR [0] 1 (some w) (some H.2.1)) K).1 H3 = (K ()).1 H4 := fun K => by
        rw [hH4]
        exact zpV hw3 (by decide) (by rw [b7, K2]; exact a4.1) (by show 1 < 9; decide) K
      have pp6 : ∀ K : Unit → jM Int32, (jB (jpR [0] 3 (some w) (some H2.2.1)) K).1 H5 = (K ()).1 H6 := fun K => by
        rw [hH6]
        exact zpV q5 (by decide) (by rw [K5]; exact a4.1) (by show 3 < 9; decide) K
      have pp8 : ∀ K : Unit → jM Int32, (jB (jpR [0] 4 (some w) (some (H2.2.1 + 2))) K).1 H7 = (K ()).1 H8 := fun K => by
        rw [hH8]
        exact zpV q7 (by decide) (by rw [K7]; exact a4.1) (by show 4 < 9; decide) K
      rw [pp4, show (2 : Int32) = nI 2 from rfl, c1, pp6, d1, pp8, zgRs q8 (by decide) rfl, zrc (c := 4) (by unfold jcd; rw [v1]; rfl), jB_eq v2]
      exact n1
    have old : ∀ q, q < H.2.1 → q ≠ w → q ≠ w + 1 → (q < w + 8 ∨ w + 10 < q) → q ≠ w + 35 → q ≠ w + 39 → ¬ zOw w τ H q 4 → H10.1 q = H.1 q := fun q hq k0 k1 k2 k3 k4 k5 => by
      rw [n4 q k4, v4 q k3 (fun c => by
        rcases Nat.eq_zero_or_pos U.1 with z | z
        · exact z
        · have := u1.2.2.2.1
          have := u2 (by omega)
          rw [← c] at this
          exact absurd this k5), old8 q hq k0 k1 k2]
    have nw : ∀ q, H.2.1 ≤ q → H10.1 q = H7.1 q := fun q hq => by
      rw [n4 q (by omega), v4 q (by omega) (fun c => by have := u1.2.2.2.2.2.1.2; omega), o8 q (by omega)]
    have nw2 : ∀ q, H.2.1 + 4 ≤ q → q < H2.2.1 → H10.1 q = H2.1 q := fun q k1 k2 => by
      rw [nw q (by omega), d3.1 q (by omega) id, o6 q (by omega), c3.1 q (by omega) id, o4 q (by omega), b6 q (by omega)]
    have hc : ∀ q, q < H.2.2.2.2 0 → H10.1 q = H.1 q := fun q hq => old q (by omega) (by omega) (by omega) (by omega) (by omega) (by omega) (fun c => by have := c.2.1; omega)
    have hc2 : ∀ q, q < H.2.2.2.2 0 → H10.1 q = H2.1 q := fun q hq => (hc q hq).trans (hF2.1 q (by omega) (by omega)).symm
    have nF : ∀ {q t : Nat}, zOw w τ H q t → t ≠ 6 → ∀ i, i < 40 → zFx i → q ≠ w + i := fun {q t} h e i i1 i2 c => by
      rw [c] at h
      exact e (h.1.symm.trans (a7 i i1 i2))
    have oT : ∀ {q t : Nat}, zOw w τ H q t → t ≠ 4 → t ≠ 6 → H10.1 q = H.1 q := fun {q t} h e4 e6 => by
      have x0 := nF h e6 0 (by decide) (Or.inl (by decide))
      have x1 := nF h e6 1 (by decide) (Or.inl (by decide))
      have x8 := nF h e6 8 (by decide) (Or.inl (by decide))
      have x9 := nF h e6 9 (by decide) (Or.inl (by decide))
      have x10 := nF h e6 10 (by decide) (Or.inl (by decide))
      have x35 := nF h e6 35 (by decide) (Or.inr (Or.inr ⟨by decide, by decide⟩))
      have x39 := nF h e6 39 (by decide) (Or.inr (Or.inr ⟨by decide, by decide⟩))
      exact old q h.2.2.2 (by omega) x1 (by omega) x35 x39 (fun c => e4 (h.1.symm.trans c.1))
    have oF : ∀ i, 27 ≤ i → i < 39 → i ≠ 35 → zFx i → H10.1 (w + i) = H.1 (w + i) := fun i i1 i2 i3 i4 => old _ (by omega) (by omega) (by omega) (by omega) (by omega) (by omega) (fun c => by have := c.1; rw [a7 i (by omega) i4] at this; omega)
    obtain ⟨τ1, hτ⟩ : ∃ τ1 : Nat → Nat, τ1 = fun q => if q < H.2.1 then τ q else if q < H.2.1 + 4 then 1 else if q = A 11 then 2 else if q < H2.2.1 + 2 then 0 else 3 := ⟨_, rfl⟩
    have ht0 : ∀ q, q < H.2.1 → τ1 q = τ q := fun q hq => by rw [hτ]; exact if_pos hq
    obtain ⟨P, hPd⟩ : ∃ P : Nat → Bool, P = fun q => decide (q < H.2.2.2.2 0 ∨ (H.2.1 + 4 ≤ q ∧ q < H2.2.1 + 2 ∧ q ≠ A 11)) := ⟨_, rfl⟩
    have hP : ∀ q, P q = true ↔ (q < H.2.2.2.2 0 ∨ (H.2.1 + 4 ≤ q ∧ q < H2.2.1 + 2 ∧ q ≠ A 11)) := fun q => by rw [hPd]; exact decide_eq_true_iff
    have d44 : H10.2.1 = H2.2.1 + 4 := by rw [s10, d4]
    have hzf : ∀ q, (q < H.2.2.2.2 0 ∨ zOw w τ H q 0) → H10.1 q = H.1 q := fun q hq => by
      rcases hq with hq | hq
      · exact hc q hq
      · exact oT hq (by decide) (by decide)
    have g3 : zG3 w τ1 (zZx Z H10 P) H10 := fun q e he => by
      unfold zZx at he
      by_cases cc : P q = true
      · rw [if_pos cc] at he
        refine ⟨he, ?_⟩
        rw [l10.2.2.2.1]
        rcases (hP q).mp cc with x | ⟨x1, x2, x3⟩
        · exact Or.inl x
        · refine Or.inr ⟨?_, by omega, by omega, by omega⟩
          rw [hτ]; dsimp only
          rw [if_neg (by omega), if_neg (by omega), if_neg x3, if_pos x2]
      · rw [if_neg cc] at he
        exact h3.fr hzf (fun q hq _ => ht0 q hq) l10 q e he
    have nZ : ∀ q e, (q < H2.2.2.2.2 0 ∨ (H.2.1 + 4 ≤ q ∧ q < H2.2.1 ∧ q ≠ A 11)) → H2.1 q = some e → zZx Z H10 P q = some e := fun q e hq he => by
      rw [K2] at hq
      unfold zZx
      rcases hq with hq | ⟨x1, x2, x3⟩
      · rw [if_pos ((hP q).mpr (Or.inl hq)), hc2 q hq]; exact he
      · rw [if_pos ((hP q).mpr (Or.inr ⟨x1, by omega, x3⟩)), nw2 q x1 x2]; exact he
    have aF := lA 11 (by decide)
    have hK' : zKok (zkL w H.2.1 (A 0) A cap sk tx ev) := by
      refine ⟨Or.inr ?_, Or.inr ?_, Or.inr ?_⟩
      · show w + 40 ≤ H.2.1
        omega
      · show w + 40 ≤ A 11
        omega
      · show H.2.1 + 4 ≤ A 11
        exact aF.1
    obtain ⟨gf, hgf⟩ := hLR.2.2.2.2.2.2
    have shc : ∀ i, i < 4 → H10.1 (H.2.1 + i) = zS4 H.2.1 x' (H.2.1 + i) := fun i hi => by
      rw [nw _ (by omega), d3.1 _ (by omega) id, o6 _ (by omega), c3.1 _ (by omega) id, o4 _ (by omega)]
      exact b2.s4 i hi
    have hTv : zTv w H2 := by
      obtain ⟨d9, hR9⟩ := y1
      obtain ⟨so', va', pl', v1, v2, v3, -⟩ := hR9.2.2.1
      exact ⟨so', va', pl', v1, v2, v3⟩
    have g7 := h7.rd a4.2 hF2 (by obtain ⟨d9, hR9⟩ := y1; exact ⟨_, _, _, hR9.2.2.2.1⟩) hTv
    have o27 : ∀ q, w < q → q < w + 11 → H10.1 q = H2.1 q := fun q k1 k2 => by
      rw [n4 q (by omega), v4 q (by omega) (fun c => by
        rcases Nat.eq_zero_or_pos U.1 with z | z
        · exact z
        · have := u1.2.2.2.1
          have := (u2 (by omega)).1
          have hh := a7 (q - w) (by omega) (Or.inl (by omega))
          rw [show w + (q - w) = q by omega, c] at hh
          omega), o8 q (by omega), d3.1 q (by omega) id, o6 q (by omega), c3.1 q (by omega) id, o4 q (by omega), b6 q (by omega)]
    have l2 : jLe H2 H10 := jLe.tr b8 (jLe.tr l4 (jLe.tr c6 (jLe.tr l6 (jLe.tr d6 (jLe.tr l8 (jLe.tr v6 n6))))))
    refine ⟨H10, run, ⟨zkL w H.2.1 (A 0) A cap sk tx ev, zX X true x', gf, (R.1, R.2.1, R.2.2.1, R.2.2.2.1, H2.2.1, H2.2.1 + 2), zZx Z H10 P, τ1, ⟨a1, rfl, hK', ⟨by rw [l10.2.2.2.1]; exact a4.1, Nat.le_trans a4.2 l10.1⟩, ?_, ?_, fun i hi hx => (ht0 _ (by omega)).trans (a7 i hi hx), fun i hi => ?_, ?_⟩, zG2.of hLR hn hLm hD nZ, ⟨fun _ => 0, ?_⟩, g3, ?_, ?_, ⟨mf', n2, fun j hj => Or.inl ⟨rfl, n3 j hj⟩⟩, g7.fr (fun q hq => hc2 q (by rw [← K2]; exact hq)) o27 l2⟩, ⟨fun q hq hW => old q hq (fun c => hW ⟨by omega, by omega⟩) (fun c => hW ⟨by omega, by omega⟩) (by
      rcases Nat.lt_or_ge q (w + 8) with z | z
      · exact Or.inl z
      · rcases Nat.lt_or_ge (w + 10) q with z' | z'
        · exact Or.inr z'
        · exact absurd ⟨by omega, by omega⟩ hW) (fun c => hW ⟨by omega, by omega⟩) (fun c => hW ⟨by omega, by omega⟩) (fun c => hW ⟨c.2.1, c.2.2.1⟩), l10.1, ?_, l10.2.2.1, l10.2.2.2.1⟩, by omega, ?_⟩
    · refine cH_mk hK' (fun i hi => ?_) (fun i hi => ?_) (fun q hq => ?_)
      · show H10.1 (H.2.1 + i) = zS4 H.2.1 (zX X true x' true) (H.2.1 + i)
        rw [zX_eq]
        exact shc i hi
      · show H10.1 (w + 27 + i) = zS4 (w + 27) (zX X true x' false) (w + 27 + i)
        rw [zX_ne X x' (by decide)]
        have := h1.tr hi
        rw [a2] at this
        rw [← this, Nat.add_assoc]
        exact oF (27 + i) (by omega) (by omega) (by omega) (Or.inr (Or.inl ⟨by omega, by omega⟩))
      · have hq : q = w ∨ q = w + 36 ∨ q = w + 37 ∨ q = w + 38 ∨ q = A 11 := hq
        show H10.1 q = if q = w then some (.inl (0, [.ref (w + 1), .ref H.2.1, .ref (w + 27), .ref H2.2.1, .ref (H2.2.1 + 2), .ref (w + 35), .ref (w + 36), .long R.1, .ref (w + 39)])) else if q = w + 36 then some (.inl (6, [.ref (w + 37), .ref (w + 38), .int R.2.1, .ref w])) else if q = w + 37 then some (.inr (0, 6, .inl R.2.2.1)) else if q = w + 38 then some (.inr (0, 6, .inl R.2.2.2.1)) else if q = A 11 then some (.inr (0, 4, .inl gf)) else none
        have old36 : ∀ i, 36 ≤ i → i < 39 → H10.1 (w + i) = zMi k (X, f, R) (w + i) := fun i i1 i2 => by
          rw [oF i (by omega) i2 (by omega) (Or.inr (Or.inr ⟨by omega, by omega⟩))]
          exact h1.mi (by rw [a2]; omega)
        unfold zMi at old36
        rw [a2] at old36
        rcases hq with z | z | z | z | z
        · rw [z, if_pos rfl, n4 w (by omega)]; exact q9
        · rw [z, if_neg (by omega), if_pos rfl]
          have := old36 36 (by omega) (by omega)
          rw [if_neg (by omega), if_pos rfl] at this
          exact this
        · rw [z, if_neg (by omega), if_neg (by omega), if_pos rfl]
          have := old36 37 (by omega) (by omega)
          rw [if_neg (by omega), if_neg (by omega), if_pos rfl] at this
          exact this
        · rw [z, if_neg (by omega), if_neg (by omega), if_neg (by omega), if_pos rfl]
          have := old36 38 (by omega) (by omega)
          rw [if_neg (by omega), if_neg (by omega), if_neg (by omega), if_pos rfl] at this
          exact this
        · rw [z, if_neg (by omega), if_neg (by omega), if_neg (by omega), if_neg (by omega), if_pos rfl, nw2 _ aF.1 aF.2]
          exact hgf
    · show zSm (zkL w H.2.1 (A 0) A cap sk tx ev) D.1 (z00 D.1) (zX X true x' true)
      rw [zX_eq]
      refine zSm.bg hD ?_ b4 b5
      rw [b3]
      show _ = (some (A 0), 0, 0)
      rw [hlb]
    · refine ⟨?_, ?_, ?_, ?_⟩
      · show τ1 (H.2.1 + i) = 1
        rw [hτ]; dsimp only; rw [if_neg (by omega), if_pos (by omega)]
      · show w ≤ H.2.1 + i
        omega
      · show H.2.1 + i < w + 40 ∨ w + 86 ≤ H.2.1 + i
        omega
      · show H.2.1 + i < H10.2.1
        omega
    · refine ⟨?_, ?_, ?_, ?_⟩
      · show τ1 (A 11) = 2
        rw [hτ]; dsimp only; rw [if_neg (by omega), if_neg (by omega), if_pos rfl]
      · show w ≤ A 11
        omega
      · show A 11 < w + 40 ∨ w + 86 ≤ A 11
        omega
      · show A 11 < H10.2.1
        omega
    · have c2' := c2
      obtain ⟨⟨mc5, w1⟩, w2, w3, w4, -⟩ := c2'
      have zl : ∀ q e, H2.2.1 ≤ q → q < H2.2.1 + 2 → H5.1 q = some e → zZx Z H10 P q = some e := fun q e z1 z2 z3 => by
        unfold zZx
        rw [if_pos ((hP q).mpr (Or.inr ⟨by omega, z2, by omega⟩)), nw q (by omega), d3.1 q (by omega) id, o6 q (by omega)]
        exact z3
      exact ⟨⟨.int mc5, H2.2.1 + 1, 2, fun _ => none, zl _ _ (by show H2.2.1 ≤ H2.2.1; omega) (by show H2.2.1 < _; omega) w1, zl _ _ (by omega) (by omega) w2, Nat.zero_le _, by decide, fun i hi => absurd hi (Nat.not_lt_zero i)⟩, fun i hi => absurd hi (Nat.not_lt_zero i)⟩
    · have zz : ∀ {q : Nat}, H2.2.1 + 2 ≤ q → q < H2.2.1 + 4 → zOw w τ1 H10 q 3 := fun {q} z1 z2 => ⟨by rw [hτ]; dsimp only; rw [if_neg (by omega), if_neg (by omega), if_neg (by omega), if_neg (by omega)], by omega, by omega, by omega⟩
      show zG4 w τ1 (zZx Z H10 P) (0, E.2) (H2.2.1 + 2) H10
      exact ⟨H2.2.1 + 2 + 1, 2, _, fun _ => 0, d2.up (nw _ (by omega)) (nw _ (by omega)) (jLe.tr l8 (jLe.tr v6 n6)), zz (Nat.le_refl _) (by omega), zz (by omega) (by omega), ⟨by decide, by decide⟩, fun i hi => absurd hi (Nat.not_lt_zero i)⟩
    · exact ⟨arr, cpp, g9, bs, xs, v3.up (n4 _ (by omega)) (n4 _ arn.2.2.2) n6, fun z => (u2 z).le ht0 l10.1, u3, fun j hj => absurd hj (Nat.not_lt_zero j), fun i j hi hj => absurd hj (Nat.not_lt_zero j)⟩
    · have z1 := hF2.2.2.1
      have z2 := c3.2.2.1
      have z3 := d3.2.2.1
      rw [s4] at z2
      rw [s6] at z3
      rw [s10]
      omega
    · rw [s10, d5, s6, c5, s4]
      omega
end
