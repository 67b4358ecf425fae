/-! PURE 89: a mark is set: the component -/
set_option maxRecDepth 100000
section
variable {N w : Nat} {B : zLB} {S : zMS} {H : jH} {nm : (Nat → Nat) × (Nat → Nat)} {T : (Nat → Nat) × Nat} {Y : zYy} {E : zEy} {U : zUy} {Mk : Nat → Option (zMS × zYy × zEy)}
theorem zCG_mset (hE : E.1 ≤ 8) (hG : zCG N w ((B, S), nm, T, Y, E, U, Mk) H) {m : Nat} (hm : m < 4) : zCal N w ((B, S), nm, T, Y, E, U, zMkS Mk m (S, Y, E)) (fX1_mark_24 N w (nI m) 0) 1 15 213 H := by
  obtain ⟨k, X, f, R, Z, τ, h1, h2, hY, h3, h4, h5, h6, h7⟩ := id hG
  have h4 : zG4 w τ Z E R.2.2.2.2.2 H := h4
  have h6 : zG6 w k B Z Mk H := h6
  obtain ⟨arr, cap, g, r, b1, b2, b3, b4, b5⟩ := id h4
  obtain ⟨⟨mc, c1⟩, c2, c3, c4, -⟩ := id b1
  obtain ⟨a1, a2, a3, a4, aH, aS, a7, a8, a9⟩ := id h1
  obtain ⟨mf, f1, f2⟩ := h6
  have hw := h1.wc
  have hKl : H.2.2.2.2 0 ≤ H.2.1 := by omega
  -- the mark's object
  obtain ⟨H1, hH1⟩ : ∃ H1, H1 = jnew H (.inl (32, [.null, .null, .null])) 3 := ⟨_, rfl⟩
  have q1 : H1.1 H.2.1 = some (.inl (32, [.null, .null, .null])) := by rw [hH1]; exact znw_e _ _ _
  have o1 : ∀ q, q ≠ H.2.1 → H1.1 q = H.1 q := fun q hq => by rw [hH1]; exact znw_n _ _ _ hq
  have k1 : H1.2 = (H.2.1 + 1, H.2.2.1 + 1, H.2.2.2.1 + 3, H.2.2.2.2) := by rw [hH1]; rfl
  have s1 : H1.2.1 = H.2.1 + 1 := by rw [k1]
  have l1 : jLe H H1 := by
    refine ⟨by omega, by rw [k1]; show _ ≤ H.2.2.1 + 1; omega, by rw [k1]; show _ ≤ H.2.2.2.1 + 3; omega, by rw [k1], fun q c hq hc => ?_⟩
    unfold jcd at hc ⊢
    rw [o1 q (by omega)]
    exact hc
  -- its shelf
  obtain ⟨H2, x', r2, n2, x1, x2, x3, m2, s2, u2, l2⟩ := zsh_cp (H := H1) (b := k.1 1) (x := X true) (fun i hi => (o1 _ (by have := (a8 i hi).2.2.2; omega)).trans (h1.sh hi)) (by have := (a8 3 (by decide)).2.2.2; omega) (by rw [k1]; show H.2.2.2.2 0 ≤ H.2.1 + 1; omega)
  rw [s1] at r2 n2 s2
  have o2 : ∀ q, q < H.2.1 → H2.1 q = H.1 q := fun q hq => (m2.1 q (by omega) id).trans (o1 q (by omega))
  have q2 : H2.1 H.2.1 = some (.inl (32, [.null, .null, .null])) := (m2.1 _ (by omega) id).trans q1
  -- what is seen
  obtain ⟨H3, ar', ca', g', r3, m3, L3, p1, p2, p3, p4, p5, l3⟩ := zcp_l (N := N) (H := H2) (v := .int mc) a1 (by have := l2.2.2.2.1; rw [l2.2.2.2.1, k1]; show H.2.2.2.2 0 ≤ _; omega) hE ⟨c4, by omega⟩ ⟨by have := b2.2.2.2; omega, by have := b3.2.2.2; omega⟩ (fun i hi => by
    obtain ⟨y1, b, y2, y3⟩ := b5 i hi
    have y4 := h3 _ _ y2
    have y5 := h3.lt hKl y2
    exact ⟨r i, b, y1, by omega, (o2 _ y5).trans y4.1⟩) ((o2 _ b2.2.2.2).trans c1) ((o2 _ b3.2.2.2).trans c2)
  rw [s2] at r3 L3 p1
  have o3 : ∀ q, q < H.2.1 → H3.1 q = H.1 q := fun q hq => (m3.1 q (by omega) id).trans (o2 q hq)
  have q3 : H3.1 H.2.1 = some (.inl (32, [.null, .null, .null])) := (m3.1 _ (by omega) id).trans q2
  have n3 : ∀ i, i < 4 → H3.1 (H.2.1 + 1 + i) = zS4 (H.2.1 + 1) x' (H.2.1 + 1 + i) := fun i hi => (m3.1 _ (by omega) id).trans (n2 i hi)
  have K3 : H3.2.2.2.2 = H.2.2.2.2 := by rw [l3.2.2.2.1, l2.2.2.2.1, l1.2.2.2.1]
  -- it is put together
  obtain ⟨H4, hH4⟩ : ∃ H4, H4 = jset (jset (jset H3 H.2.1 (.inl (32, [.ref (H.2.1 + 1), .null, .null]))) H.2.1 (.inl (32, [.ref (H.2.1 + 1), .ref R.2.2.2.2.1, .null]))) H.2.1 (.inl (32, [.ref (H.2.1 + 1), .ref R.2.2.2.2.1, .ref (H.2.1 + 1 + 4)])) := ⟨_, rfl⟩
  have q4 : H4.1 H.2.1 = some (.inl (32, [.ref (H.2.1 + 1), .ref R.2.2.2.2.1, .ref (H.2.1 + 1 + 4)])) := by rw [hH4]; exact zse_e _ _ _
  have o4 : ∀ q, q ≠ H.2.1 → H4.1 q = H3.1 q := fun q hq => by rw [hH4, zse_n _ _ hq, zse_n _ _ hq, zse_n _ _ hq]
  have s4 : H4.2 = H3.2 := by rw [hH4]; rfl
  have l4 : jLe H3 H4 := by rw [hH4]; exact jLe.tr (jsetO_le q3) (jLe.tr (jsetO_le (zse_e _ _ _)) (jsetO_le (zse_e _ _ _)))
  have run4 : ∀ K : Unit → jM Int32, (jB (fX31_init H.2.1 (some (H.2.1 + 1)) (some R.2.2.2.2.1) (some (H.2.1 + 1 + 4))) K).1 H3 = (K ()).1 H4 := fun K => by
    unfold fX31_init
    rw [zA]
    refine (zpV q3 (by decide) (by rw [K3]; exact hKl) (by show 0 < 3; decide) _).trans ?_
    rw [zA]
    refine (zpV (zse_e _ _ _) (by decide) (by show H3.2.2.2.2 0 ≤ _; rw [K3]; exact hKl) (by show 1 < 3; decide) _).trans ?_
    rw [zA]
    refine (zpV (zse_e _ _ _) (by decide) (by show H3.2.2.2.2 0 ≤ _; rw [K3]; exact hKl) (by show 2 < 3; decide) _).trans ?_
    rw [hH4]
    rfl
  have f4 : H4.1 (w + 39) = some (.inr (6, 4, zRf mf)) := (o4 _ (by omega)).trans ((o3 _ (by omega)).trans f1)
  obtain ⟨H5, hH5⟩ : ∃ H5, H5 = jset H4 (w + 39) (.inr (6, 4, zRf (va_up mf m (some H.2.1)))) := ⟨_, rfl⟩
  have o5 : ∀ q, q ≠ w + 39 → H5.1 q = H4.1 q := fun q hq => by rw [hH5]; exact zse_n _ _ hq
  have s5 : H5.2 = H3.2 := by rw [hH5]; exact s4
  have l5 : jLe H H5 := jLe.tr l1 (jLe.tr l2 (jLe.tr l3 (jLe.tr l4 (by rw [hH5]; exact jsetA_le f4))))
  have run5 : ∀ K : Unit → jM Int32, (jB (jsR 6 [32] (some (w + 39)) (nI m) (some H.2.1)) K).1 H4 = (K ()).1 H5 := fun K => by
    rw [hH5]
    exact zsR f4 (by rw [s4, K3]; omega) hm (by decide) (by
      have cd : jcd H4 H.2.1 = some 32 := by unfold jcd; rw [q4]; rfl
      unfold jokR
      dsimp only
      rw [cd]
      rfl) K
  have old : ∀ q, q < H.2.1 → q ≠ w + 39 → H5.1 q = H.1 q := fun q hq h39 => (o5 q h39).trans ((o4 q (by omega)).trans (o3 q hq))
  have run : (fX1_mark_24 N w (nI m) 0).1 H = some (1, H5) := by
    unfold fX1_mark_24
    rw [zI, if_pos rfl, zgRs hw (by decide) rfl, znwB, ← hH1]
    have hw1 := (o1 w (by omega)).trans hw
    have hw2 := (o2 w (by omega)).trans hw
    have hw3 := (o3 w (by omega)).trans hw
    rw [zgRs hw1 (by decide) rfl, zrc (c := 2) (by unfold jcd; rw [show H1.1 (k.1 1) = zS4 (k.1 1) (X true) (k.1 1) from (o1 _ (by have := (a8 0 (by decide)).2.2.2; omega)).trans (h1.sh (i := 0) (by decide))]; unfold zS4; rw [if_pos rfl]; rfl), jB_eq r2, zgRs hw2 (by decide) rfl, zgRs hw2 (by decide) rfl, jB_eq r3, run4, run5]
    rfl
  obtain ⟨τ1, hτ⟩ : ∃ τ1 : Nat → Nat, τ1 = fun q => if q < H.2.1 then τ q else 0 := ⟨_, rfl⟩
  have ht0 : ∀ q, q < H.2.1 → τ1 q = τ q := fun q hq => by rw [hτ]; exact if_pos hq
  have ht : ∀ q, q < H.2.1 → τ q ≠ 5 → τ1 q = τ q := fun q hq _ => ht0 q hq
  have hP : ∀ q, (decide (H.2.1 ≤ q ∧ q < H5.2.1)) = true → H.2.1 ≤ q ∧ q < H5.2.1 ∧ τ1 q = 0 := fun q hq => by
    obtain ⟨e1, e2⟩ := of_decide_eq_true hq
    exact ⟨e1, e2, by rw [hτ]; dsimp only; rw [if_neg (by omega)]⟩
  have hZ := zZx_mo (H1 := H5) h3 hKl (fun q hq => (hP q hq).1)
  have nZ : ∀ {q : Nat} {e : jC}, H.2.1 ≤ q → q < H3.2.1 → H5.1 q = some e → zZx Z H5 (fun q => decide (H.2.1 ≤ q ∧ q < H5.2.1)) q = some e := fun {q e} h1 h2 h3 => by
    unfold zZx
    rw [if_pos (decide_eq_true ⟨h1, by rw [s5]; exact h2⟩)]
    exact h3
  have t39 := a7 39 (by decide) (Or.inr (Or.inr ⟨by decide, by decide⟩))
  have oT : ∀ {q t : Nat}, zOw w τ H q t → t ≠ 6 → H5.1 q = H.1 q := fun {q t} h e => old q h.2.2.2 (fun c => by rw [c] at h; exact e (h.1.symm.trans t39))
  have hc : ∀ q, q < H.2.2.2.2 0 → H5.1 q = H.1 q := fun q hq => old q (by omega) (by omega)
  have hz : ∀ q, (q < H.2.2.2.2 0 ∨ zOw w τ H q 0) → H5.1 q = H.1 q := fun q hq => by
    rcases hq with hq | hq
    · exact hc q hq
    · exact oT hq (by decide)
  have h33 : H.2.1 + 5 ≤ H3.2.1 := by have := l3.1; omega
  refine ⟨H5, run, ⟨k, X, f, R, zZx Z H5 (fun q => decide (H.2.1 ≤ q ∧ q < H5.2.1)), τ1, h1.fr (fun q hq => ?_) ht l5, h2.mo hZ, zLis.mZ hY hZ, h3.ex hz ht l5 a4.2 hP, h4.fr (fun q hq => oT hq (by decide)) ht l5 hZ, h5.fr hc h7.kc.2.1.1 (old _ (by omega) (by omega)) (fun q hq => by rcases hq with hq | hq <;> exact oT hq (by decide)) ht0 l5, ?_, h7.fr hc (fun q e1 e2 => old q (by omega) (by omega)) l5⟩, ⟨fun q hq hW => old q hq (fun c => hW ⟨by omega, by omega⟩), l5.1, ?_, l5.2.2.1, l5.2.2.2.1⟩, by rw [s5]; omega, ?_⟩
  · obtain ⟨y1, y2, y3⟩ := h1.tg hq
    refine old q y2 (fun c => ?_)
    rw [c, t39] at y3
    omega
  · refine ⟨va_up mf m (some H.2.1), by rw [hH5]; exact zse_e _ _ _, fun j hj => ?_⟩
    by_cases c : j = m
    · subst c
      obtain ⟨l, hl⟩ := id hY
      refine Or.inr ⟨(S, Y, E), H.2.1, H.2.1 + 1, R.2.2.2.2.1, H.2.1 + 1 + 4, x', l, r, if_pos rfl, if_pos rfl, nZ (Nat.le_refl _) (by omega) ((o5 _ (by omega)).trans q4), fun i hi => ?_, zSm.cp aS h2.1.1 x1 x2 x3, hl.mo hZ, ?_⟩
      · obtain ⟨e, he⟩ := zS4_ex (H.2.1 + 1) x' hi
        rw [he]
        exact nZ (by omega) (by omega) ((o5 _ (by omega)).trans ((o4 _ (by omega)).trans ((n3 i hi).trans he)))
      · obtain ⟨⟨mc', z1⟩, z2, z3, z4, z5, ⟨z6, z7⟩, -⟩ := L3
        refine ⟨⟨.int mc', ar', ca', g', nZ (by omega) z6 ((o5 _ (by omega)).trans ((o4 _ (by omega)).trans z1)), nZ (by omega) z7 ((o5 _ (by omega)).trans ((o4 _ (by omega)).trans z2)), z4, by omega, fun i hi => (p3 i hi).trans (b5 i hi).1⟩, fun i hi => ?_⟩
        obtain ⟨y1, b, y2, y3⟩ := b5 i hi
        exact ⟨b, hZ _ _ y2, y3⟩
    · rcases f2 j hj with ⟨y1, y2⟩ | ⟨x, q, sh, ln, se, xs, l, r', y1, y2, y3, y4, y5, y6, y7⟩
      · exact Or.inl ⟨(if_neg c).trans y1, (va_up_ne _ _ c).trans y2⟩
      · refine Or.inr ⟨x, q, sh, ln, se, xs, l, r', (if_neg c).trans y1, (va_up_ne _ _ c).trans y2, hZ _ _ y3, fun i hi => ?_, y5, y6.mo hZ, y7.mo hZ⟩
        obtain ⟨e, he⟩ := zS4_ex sh xs hi
        rw [he]
        exact hZ _ _ ((y4 i hi).trans he)
  · have e1 := m2.2.2.1
    have e2 := m3.2.2.1
    rw [k1] at e1
    have e1 : H2.2.2.1 + (H.2.1 + 1) = H.2.2.1 + 1 + H2.2.1 := e1
    rw [s5]
    omega
  · have e1 := u2
    rw [k1] at e1
    have e1 : H2.2.2.2.1 = H.2.2.2.1 + 3 + 45 := e1
    rw [s5]
    omega
end
