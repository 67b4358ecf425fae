/-! PURE 90: back to a mark: the component -/
set_option maxRecDepth 100000
section
variable {N w : Nat} {B : zLB} {S : zMS} {H : jH} {nm : (Nat → Nat) × (Nat → Nat)} {T : (Nat → Nat) × Nat} {Y : zYy} {E : zEy} {U : zUy} {Mk : Nat → Option (zMS × zYy × zEy)}
theorem zCG_mback (hU : U.1 ≤ 16) (hG : zCG N w ((B, S), nm, T, Y, E, U, Mk) H) {m : Nat} (hm : m < 4) {x : zMS × zYy × zEy} (hx : Mk m = some x) (hE : x.2.2.1 ≤ 8) {y : Int32} (hy : ¬ y = 0) : zCal N w ((B, x.1), nm, T, x.2.1, x.2.2, (0, U.2), Mk) (fX1_mark_24 N w (nI m) y) 1 15 213 H := by
  obtain ⟨k, X, f, R, Z, τ, h1, h2, hY, h3, h4, h5, h6, h7⟩ := id hG
  have h5 : zG5 w k B τ U H := h5
  have h6 : zG6 w k B Z Mk H := h6
  obtain ⟨arr, cap, g, bs, xs, b1, b2, b3, b4, b5⟩ := h5
  obtain ⟨a1, a2, a3, a4, aH, aS, a7, a8, a9⟩ := id h1
  obtain ⟨mf, f1, f2⟩ := id h6
  have hw := h1.wc
  have hKl : H.2.2.2.2 0 ≤ H.2.1 := by omega
  rcases f2 m hm with ⟨y1, -⟩ | ⟨x0, mq, sh, ln, se, xm, l, r, y1, y2, y3, y4, y5, y6, y7⟩
  · rw [hx] at y1; cases y1
  have e0 : x0 = x := Option.some.inj (y1.symm.trans hx)
  subst e0
  have zlt : ∀ {q : Nat} {e : jC}, Z q = some e → q < H.2.1 ∧ H.1 q = some e := fun he => ⟨h3.lt hKl he, (h3 _ _ he).1⟩
  have hsh : ∀ i, i < 4 → sh + i < H.2.1 ∧ H.1 (sh + i) = zS4 sh xm (sh + i) := fun i hi => by
    obtain ⟨e, he⟩ := zS4_ex sh xm hi
    rw [he]
    exact zlt ((y4 i hi).trans he)
  obtain ⟨y3l, y3h⟩ := zlt y3
  -- the shelf
  obtain ⟨H1, x', r1, n1, x1, x2, x3, m1, s1, u1, l1⟩ := zsh_cp (H := H) (b := sh) (x := xm) (fun i hi => (hsh i hi).2) (by have := (hsh 3 (by decide)).1; omega) hKl
  have o1 : ∀ q, q < H.2.1 → H1.1 q = H.1 q := fun q hq => m1.1 q hq id
  have hw1 := (o1 w (by omega)).trans hw
  obtain ⟨H2, hH2⟩ : ∃ H2, H2 = jset (jset H1 w (.inl (0, [.ref (w + 1), .ref H.2.1, .ref (w + 27), .ref R.2.2.2.2.1, .ref R.2.2.2.2.2, .ref (w + 35), .ref (w + 36), .long R.1, .ref (w + 39)]))) w (.inl (0, [.ref (w + 1), .ref H.2.1, .ref (w + 27), .ref ln, .ref R.2.2.2.2.2, .ref (w + 35), .ref (w + 36), .long R.1, .ref (w + 39)])) := ⟨_, rfl⟩
  have q2 : H2.1 w = some (.inl (0, [.ref (w + 1), .ref H.2.1, .ref (w + 27), .ref ln, .ref R.2.2.2.2.2, .ref (w + 35), .ref (w + 36), .long R.1, .ref (w + 39)])) := by rw [hH2]; exact zse_e _ _ _
  have o2 : ∀ q, q ≠ w → H2.1 q = H1.1 q := fun q hq => by rw [hH2, zse_n _ _ hq, zse_n _ _ hq]
  have s2 : H2.2 = H1.2 := by rw [hH2]; rfl
  have l2 : jLe H1 H2 := by rw [hH2]; exact jLe.tr (jsetO_le hw1) (jsetO_le (zse_e _ _ _))
  -- what is seen
  obtain ⟨⟨v, ar, ca, gf, z1, z2, z3, z4, z5⟩, z6⟩ := id y7
  have c12 : ∀ q e, Z q = some e → H2.1 q = some e := fun q e he => by
    have := zlt he
    have hne : q ≠ w := fun c => by
      have hh := h1.cfZ h3 q e he
      have := hh.2.1
      rw [a2] at this
      exact this c
    rw [o2 q hne, o1 q this.1]
    exact this.2
  obtain ⟨H3, ar', ca', g', r3, m3, L3, p1, p2, p3, p4, p5, l3⟩ := zcp_l (N := N) (H := H2) (v := v) a1 (by rw [s2, l1.2.2.2.1]; omega) hE ⟨z3, z4⟩ ⟨by rw [s2]; have := (zlt z1).1; omega, by rw [s2]; have := (zlt z2).1; omega⟩ (fun i hi => by
    obtain ⟨b, y2', -⟩ := z6 i hi
    exact ⟨r i, b, z5 i hi, by rw [s2]; have := (zlt y2').1; omega, c12 _ _ y2'⟩) (c12 _ _ z1) (c12 _ _ z2)
  have e21 : H2.2.1 = H.2.1 + 4 := by rw [s2, s1]
  rw [e21] at r3 L3 p1
  have q3 := (m3.1 w (by omega) id).trans q2
  obtain ⟨H4, hH4⟩ : ∃ H4, H4 = jset H3 w (.inl (0, [.ref (w + 1), .ref H.2.1, .ref (w + 27), .ref ln, .ref (H.2.1 + 4), .ref (w + 35), .ref (w + 36), .long R.1, .ref (w + 39)])) := ⟨_, rfl⟩
  have q4 : H4.1 w = some (.inl (0, [.ref (w + 1), .ref H.2.1, .ref (w + 27), .ref ln, .ref (H.2.1 + 4), .ref (w + 35), .ref (w + 36), .long R.1, .ref (w + 39)])) := by rw [hH4]; exact zse_e _ _ _
  have o4 : ∀ q, q ≠ w → H4.1 q = H3.1 q := fun q hq => by rw [hH4, zse_n _ _ hq]
  have s4 : H4.2 = H3.2 := by rw [hH4]; rfl
  have l4 : jLe H3 H4 := by rw [hH4]; exact jsetO_le q3
  have K3 : H3.2.2.2.2 = H.2.2.2.2 := by rw [l3.2.2.2.1, l2.2.2.2.1, l1.2.2.2.1]
  have old4 : ∀ q, q < H.2.1 → q ≠ w → H4.1 q = H.1 q := fun q hq hn => by rw [o4 q hn, m3.1 q (by omega) id, o2 q hn, o1 q hq]
  have l04 : jLe H H4 := jLe.tr l1 (jLe.tr l2 (jLe.tr l3 l4))
  have t35 := a7 35 (by decide) (Or.inr (Or.inr ⟨by decide, by decide⟩))
  have t0 := a7 0 (by decide) (Or.inl (by decide))
  have arn : arr ≠ w := fun e => by
    rcases Nat.eq_zero_or_pos cap with c | c
    · have := b1.2.2.2.2.2.2.2.1 c
      have := h7.kc.2.1.1
      omega
    · have := (b2 c).1
      rw [e, show τ w = 6 from t0] at this
      omega
  have b1' := b1.up (old4 _ (by omega) (by omega)) (old4 _ b1.2.2.2.2.2.1.2 arn) l04
  obtain ⟨⟨mc, c1⟩, -⟩ := id b1'
  obtain ⟨H5, g5, r5, L5, o5, s5, l5⟩ := zAL_clear a1 (by omega) b1'
  have l05 : jLe H H5 := jLe.tr l04 l5
  have s53 : H5.2 = H3.2 := s5.trans s4
  -- what is left as it was
  have n4 : ∀ {q : Nat}, (q = arr → U.1 = 0) ↔ ¬ (q = arr ∧ 0 < U.1) := fun {q} => ⟨fun h c => by have := h c.1; omega, fun h c => by
    rcases Nat.eq_zero_or_pos U.1 with d | d
    · exact d
    · exact absurd ⟨c, d⟩ h⟩
  have old : ∀ q, q < H.2.1 → q ≠ w → q ≠ w + 35 → ¬ zOw w τ H q 4 → H5.1 q = H.1 q := fun q hq h0 h35 hn => by
    rw [o5 q h35 (n4.mpr (fun c => by
      have := b1.2.2.2.1
      have := b2 (by omega)
      rw [← c.1] at this
      exact hn this))]
    exact old4 q hq h0
  have nw : ∀ q, H.2.1 ≤ q → H5.1 q = H3.1 q := fun q hq => by
    rw [o5 q (by omega) (fun c => by have := b1.2.2.2.2.2.1.2; omega), o4 q (by omega)]
  have run : (fX1_mark_24 N w (nI m) y).1 H = some (1, H5) := by
    unfold fX1_mark_24
    rw [zI, if_neg hy, zgRs hw (by decide) rfl, zaR f1 hm (by decide), y2, zgRs y3h (by decide) rfl, zrc (c := 2) (by unfold jcd; rw [show H.1 sh = zS4 sh xm sh from (hsh 0 (by decide)).2]; unfold zS4; rw [if_pos rfl]; rfl), jB_eq r1]
    have pp1 : ∀ K : Unit → jM Int32, (jB (jpR [0] 1 (some w) (some H.2.1)) K).1 H1 = (K ()).1 (jset H1 w (.inl (0, [.ref (w + 1), .ref H.2.1, .ref (w + 27), .ref R.2.2.2.2.1, .ref R.2.2.2.2.2, .ref (w + 35), .ref (w + 36), .long R.1, .ref (w + 39)]))) := fun K => zpV hw1 (by decide) (by rw [l1.2.2.2.1]; exact a4.1) (by show 1 < 9; decide) K
    obtain ⟨H1', hH1'⟩ : ∃ H1', H1' = jset H1 w (.inl (0, [.ref (w + 1), .ref H.2.1, .ref (w + 27), .ref R.2.2.2.2.1, .ref R.2.2.2.2.2, .ref (w + 35), .ref (w + 36), .long R.1, .ref (w + 39)])) := ⟨_, rfl⟩
    rw [pp1, ← hH1']
    have e1 : H1'.1 w = some (.inl (0, [.ref (w + 1), .ref H.2.1, .ref (w + 27), .ref R.2.2.2.2.1, .ref R.2.2.2.2.2, .ref (w + 35), .ref (w + 36), .long R.1, .ref (w + 39)])) := by rw [hH1']; exact zse_e _ _ _
    have fm : ∀ q, q < H.2.1 → q ≠ w → H1'.1 q = H.1 q := fun q hq hn => by rw [hH1', zse_n _ _ hn, o1 q hq]
    have mqw : mq ≠ w := fun c => by
      have hh := (h1.cfZ h3 _ _ y3).2.1
      rw [a2] at hh
      exact hh c
    rw [zgRs e1 (by decide) rfl, zaR ((fm _ (by omega) (by omega)).trans f1) hm (by decide), y2, zgRs ((fm _ y3l mqw).trans y3h) (by decide) rfl]
    have pp2 : ∀ K : Unit → jM Int32, (jB (jpR [0] 3 (some w) (some ln)) K).1 H1' = (K ()).1 H2 := fun K => by
      rw [hH2, ← hH1']
      exact zpV e1 (by decide) (by rw [hH1']; show H1.2.2.2.2 0 ≤ w; rw [l1.2.2.2.1]; exact a4.1) (by show 3 < 9; decide) K
    have fm2 : ∀ q, q < H.2.1 → q ≠ w → H2.1 q = H.1 q := fun q hq hn => by rw [o2 q hn, o1 q hq]
    rw [pp2, zgRs q2 (by decide) rfl, zaR ((fm2 _ (by omega) (by omega)).trans f1) hm (by decide), y2, zgRs ((fm2 _ y3l mqw).trans y3h) (by decide) rfl, jB_eq r3]
    have pp3 : ∀ K : Unit → jM Int32, (jB (jpR [0] 4 (some w) (some (H.2.1 + 4))) K).1 H3 = (K ()).1 H4 := fun K => by
      rw [hH4]
      exact zpV q3 (by decide) (by rw [K3]; exact a4.1) (by show 4 < 9; decide) K
    rw [pp3, zgRs q4 (by decide) rfl, zrc (c := 4) (by unfold jcd; rw [c1]; rfl), jB_eq r5]
    rfl
  obtain ⟨τ1, hτ⟩ : ∃ τ1 : Nat → Nat, τ1 = fun q => if q < H.2.1 then τ q else if q < H.2.1 + 4 then 1 else 3 := ⟨_, rfl⟩
  have ht0 : ∀ q, q < H.2.1 → τ1 q = τ q := fun q hq => by rw [hτ]; exact if_pos hq
  have ht : ∀ q, q < H.2.1 → τ q ≠ 5 → τ1 q = τ q := fun q hq _ => ht0 q hq
  have hc : ∀ q, q < H.2.2.2.2 0 → H5.1 q = H.1 q := fun q hq => old q (by omega) (by omega) (by omega) (fun c => by have := c.2.1; omega)
  have oT : ∀ {q t : Nat}, zOw w τ H q t → t ≠ 4 → t ≠ 6 → H5.1 q = H.1 q := fun {q t} h e1 e2 => old q h.2.2.2 (fun c => by rw [c] at h; exact e2 (h.1.symm.trans t0)) (fun c => by rw [c] at h; exact e2 (h.1.symm.trans t35)) (fun c => e1 (h.1.symm.trans c.1))
  have oF : ∀ i, i < 40 → zFx i → i ≠ 0 → i ≠ 35 → H5.1 (w + i) = H.1 (w + i) := fun i i1 i2 i3 i4 => old _ (by omega) (by omega) (by omega) (fun c => by have := c.1; rw [a7 i i1 i2] at this; omega)
  have hz : ∀ q, (q < H.2.2.2.2 0 ∨ zOw w τ H q 0) → H5.1 q = H.1 q := fun q hq => by
    rcases hq with hq | hq
    · exact hc q hq
    · exact oT hq (by decide) (by decide)
  have hK' : zKok (zk1 k H.2.1) := by
    obtain ⟨k1, k2', k3⟩ := a3
    refine ⟨Or.inr ?_, k2', Or.inl ?_⟩
    · show k.1 0 + 40 ≤ H.2.1
      omega
    · show k.1 2 < H.2.1
      exact a9.2.2.2
  have q5 : H5.1 w = some (.inl (0, [.ref (w + 1), .ref H.2.1, .ref (w + 27), .ref ln, .ref (H.2.1 + 4), .ref (w + 35), .ref (w + 36), .long R.1, .ref (w + 39)])) := (o5 w (by omega) (fun c => absurd c.symm arn)).trans q4
  have h34 : H.2.1 + 4 ≤ H3.2.1 := by have := l3.1; omega
  refine ⟨H5, run, ⟨zk1 k H.2.1, zX X true x', f, (R.1, R.2.1, R.2.2.1, R.2.2.2.1, ln, H.2.1 + 4), Z, τ1, ⟨a1, a2, hK', ⟨by rw [l05.2.2.2.1]; exact a4.1, Nat.le_trans a4.2 l05.1⟩, ?_, ?_, fun i hi hx => (ht0 _ (by omega)).trans (a7 i hi hx), fun i hi => ?_, a9.le ht0 l05.1⟩, h2, ⟨l, y6⟩, h3.fr hz ht l05, ?_, ?_, zG6.fr (k := zk1 k H.2.1) h6 (oF 39 (by decide) (Or.inr (Or.inr ⟨by decide, by decide⟩)) (by decide) (by decide)) (fun _ _ h => h), h7.fr hc (fun q e1 e2 => ?_) l05⟩, ⟨fun q hq hW => old q hq (fun c => hW ⟨by omega, by omega⟩) (fun c => hW ⟨by omega, by omega⟩) (fun c => hW ⟨c.2.1, c.2.2.1⟩), l05.1, ?_, l05.2.2.1, l05.2.2.2.1⟩, by rw [s53]; omega, ?_⟩
  · refine cH_mk hK' (fun i hi => ?_) (fun i hi => ?_) (fun q hq => ?_)
    · show H5.1 (H.2.1 + i) = zS4 H.2.1 (zX X true x' true) (H.2.1 + i)
      rw [zX_eq, nw _ (by omega), m3.1 _ (by omega) id, o2 _ (by omega)]
      exact n1 i hi
    · show H5.1 (k.1 0 + 27 + i) = zS4 (k.1 0 + 27) (zX X true x' false) (k.1 0 + 27 + i)
      rw [zX_ne X x' (by decide)]
      refine Eq.trans ?_ (h1.tr hi)
      rw [a2, Nat.add_assoc]
      exact oF (27 + i) (by omega) (Or.inr (Or.inl ⟨by omega, by omega⟩)) (by omega) (by omega)
    · have hq : q = k.1 0 ∨ q = k.1 0 + 36 ∨ q = k.1 0 + 37 ∨ q = k.1 0 + 38 ∨ q = k.1 2 := hq
      by_cases e : q = k.1 0
      · unfold zMi
        rw [if_pos (show q = (zk1 k H.2.1).1 0 from e), e, a2, q5]
        exact (by rw [a2] : (some (.inl (0, [.ref (w + 1), .ref H.2.1, .ref (w + 27), .ref ln, .ref (H.2.1 + 4), .ref (w + 35), .ref (w + 36), .long R.1, .ref (w + 39)])) : Option jC) = some (.inl (0, [.ref (k.1 0 + 1), .ref H.2.1, .ref (k.1 0 + 27), .ref ln, .ref (H.2.1 + 4), .ref (k.1 0 + 35), .ref (k.1 0 + 36), .long R.1, .ref (k.1 0 + 39)])))
      · refine Eq.trans ?_ (zMi_ne (k := k) (k' := zk1 k H.2.1) (c := (X, f, R)) (c' := (zX X true x', f, (R.1, R.2.1, R.2.2.1, R.2.2.2.1, ln, H.2.1 + 4))) rfl rfl rfl rfl rfl rfl e).symm
        rw [← h1.mi hq]
        rw [a2] at hq e
        by_cases e2 : q = k.1 2
        · rw [e2]; exact oT a9 (by decide) (by decide)
        · have := oF (q - w) (by omega) (Or.inr (Or.inr ⟨by omega, by omega⟩)) (by omega) (by omega)
          rw [show w + (q - w) = q by omega] at this
          exact this
  · show zSm (zk1 k H.2.1) B x0.1 (zX X true x' true)
    rw [zX_eq]
    exact zSm.cp (k := zk1 k H.2.1) y5 h2.1.1 x1 x2 x3
  · refine ⟨?_, ?_, ?_, ?_⟩
    · show τ1 (H.2.1 + i) = 1
      rw [hτ]; dsimp only; rw [if_neg (by omega), if_pos (by omega)]
    · show w ≤ H.2.1 + i
      omega
    · show H.2.1 + i < w + 40 ∨ w + 86 ≤ H.2.1 + i
      omega
    · show H.2.1 + i < H5.2.1
      rw [s53]; omega
  · have zz : ∀ {q : Nat}, H.2.1 + 4 ≤ q → q < H3.2.1 → zOw w τ1 H5 q 3 := fun {q} e1 e2 => ⟨by rw [hτ]; dsimp only; rw [if_neg (by omega), if_neg (by omega)], by omega, by omega, by rw [s53]; exact e2⟩
    have L3' := L3.up (nw _ (by omega)) (nw _ (by omega)) (jLe.tr l4 l5)
    refine ⟨ar', ca', g', r, L3', zz (Nat.le_refl _) L3.2.2.2.2.2.1.1, zz p1 L3.2.2.2.2.2.1.2, p2, fun i hi => ⟨(p3 i hi).trans (z5 i hi), z6 i hi⟩⟩
  · exact ⟨arr, cap, g5, bs, xs, L5, fun c => (b2 c).le ht0 l05.1, b3, fun j hj => absurd hj (Nat.not_lt_zero _), fun i j hi hj => absurd hj (Nat.not_lt_zero _)⟩
  · have := oF (q - w) (by omega) (Or.inl (by omega)) (by omega) (by omega)
    rw [show w + (q - w) = q by omega] at this
    exact this
  · have e1 := m1.2.2.1
    have e2 := m3.2.2.1
    rw [s2] at e2
    rw [s53]
    omega
  · rw [s53]
    rw [s2] at p5
    omega
theorem zCG_mark (hU : U.1 ≤ 16) (hE : E.1 ≤ 8) (hM : ∀ j, j < 4 → ∀ x, Mk j = some x → x.2.2.1 ≤ 8) (hS : zSok B S) (hG : zCG N w ((B, S), nm, T, Y, E, U, Mk) H) (x : Int32) (b : Bool) : zCal N w (zG_mark ((B, S), nm, T, Y, E, U, Mk) b (zO_mark Mk x b)) (fX1_mark N w x (zb b)) (zb (zO_mark Mk x b).isSome) 15 213 H := by
  unfold fX1_mark fX1_mark_22 zO_mark
  refine hG.bo hS (fun k hk => zC_within x 0 3) (fun H hG => ?_)
  rcases zir_cases x (lo := 0) (n := 3) (by decide) (by decide) with ⟨h9, h10⟩ | ⟨m, h9, h10, h11, rfl, h12⟩
  · rw [h9, show (!decide (x < 0) && !decide (3 < x)) = false from h10, if_pos zb_f]
    exact (zCal.ret hG).mo (by omega) (by omega)
  · rw [h11, show (!decide (nI m < 0) && !decide (3 < nI m)) = true from h12, if_neg zb1n]
    dsimp only
    cases b with
    | false =>
      rw [if_pos zb_f]
      exact zCG_mset hE hG (by omega)
    | true =>
      rw [if_neg zb1n]
      obtain ⟨k, X, f, R, Z, τ, h1, h2, hY, h3, h4, h5, h6, h7⟩ := id hG
      have hw := h1.wc
      have h6 : zG6 w k B Z Mk H := h6
      obtain ⟨mf, f1, f2⟩ := h6
      rcases f2 m (by omega) with ⟨y1, y2⟩ | ⟨x0, mq, sh, ln, se, xm, l, r, y1, y2, -⟩
      · rw [y1, if_pos (show (true && (none : Option (zMS × zYy × zEy)).isNone) = true from rfl)]
        refine ⟨H, ?_, hG, zFm.rf _ _, by omega, by omega⟩
        rw [zgRs hw (by decide) rfl, zaR f1 (by omega) (by decide), y2, zI, if_pos rfl]
        rfl
      · rw [y1, if_neg (show ¬ (true && (some x0).isNone) = true from fun c => by cases c)]
        have e := zCG_mback hU hG (m := m) (by omega) y1 (hM m (by omega) x0 y1) zb1n
        show zCal N w (zG_mark ((B, S), nm, T, Y, E, U, Mk) true (some m)) _ _ _ _ _
        have eG : zG_mark ((B, S), nm, T, Y, E, U, Mk) true (some m) = ((B, x0.1), nm, T, x0.2.1, x0.2.2, (0, U.2), Mk) := by
          unfold zG_mark
          dsimp only
          rw [if_pos rfl, y1]
        rw [eG]
        have r1 : (jB (jgR [0] 8 (some w)) fun y2 => jB (jaR 6 y2 (nI m)) fun y3 => if y3 = none then jRn .boolean 0 else fX1_mark_24 N w (nI m) (zb true)).1 H = (fX1_mark_24 N w (nI m) (zb true)).1 H := by
          rw [zgRs hw (by decide) rfl, zaR f1 (by omega) (by decide), y2, zI, if_neg (fun c => by cases c)]
        unfold zCal at e ⊢
        rw [r1]
        exact e
end
