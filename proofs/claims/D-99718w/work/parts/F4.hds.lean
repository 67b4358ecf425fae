/-! PURE 78: statements of a library on the component: hole, damp, shows -/
set_option maxRecDepth 100000
section
variable {N w c i lb : Nat} {u : zTau} {n : Int32} {H0 H H1 : jH} {D : zDr}
/-- the reader goes on (or back) to another token -/
theorem zLD.to (hD : zLD N w u c n H0 lb i D H) {j : Nat} (hj : j ≤ c) (hij : i ≤ j) : ∃ d H', (∀ {α : Type} (K : Unit → jM α), (jB (jpI [1] 11 (some (w + 1)) (nI j)) K).1 H = (K ()).1 H') ∧ zRdS w u c (.ref lb) n j d H' ∧ zLD N w u c n H0 lb j D H' ∧ zFm (fun q => q = w + 1) H H' ∧ H'.2 = H.2 := by
  obtain ⟨⟨d, hR⟩, hF, hw, hok, ⟨c1, c2⟩, τ, A, cap, nn, f, dn, dm, ev, sk, tx, what, name, hA, hL, hn, hm⟩ := hD
  have a3 := (zrs_to (α := Unit) hR j hj).2.2
  have a1 := (zrs_to (α := Unit) hR j hj).1
  refine ⟨d, _, fun K => (zrs_to hR j hj).2.1 K, a1, ⟨⟨d, a1⟩, hF.tr a3 (fun q _ hq => hq), hw, hok, ⟨by show H.2.1 ≤ _; omega, by show H.2.2.2.1 ≤ _; omega⟩, τ, A, cap, nn, f, dn, dm, ev, sk, tx, what, name, hA, hL.rd a3 hw (zrs_le hR _ _ _ _), hn, hm.rd a3 hw hR.2.2.2.2.2.1 hR.2.2.2.2.2.2⟩, a3, rfl⟩
/-- the same, by a run that moves only the reader -/
theorem zLD.mv (hD : zLD N w u c n H0 lb i D H) {j d : Nat} (hR1 : zRdS w u c (.ref lb) n j d H1) (hij : i ≤ j) (hf : zFm (fun q => q = w + 1) H H1) (hs : H1.2 = H.2) (hl : jLe H H1) : zLD N w u c n H0 lb j D H1 := by
  obtain ⟨⟨d', hR⟩, hF, hw, hok, ⟨c1, c2⟩, τ, A, cap, nn, f, dn, dm, ev, sk, tx, what, name, hA, hL, hn, hm⟩ := hD
  exact ⟨⟨d, hR1⟩, hF.tr hf (fun q _ hq => hq), hw, hok, ⟨by rw [hs]; omega, by rw [hs]; omega⟩, τ, A, cap, nn, f, dn, dm, ev, sk, tx, what, name, hA, hL.rd hf hw hl, hn, hm.rd hf hw hR.2.2.2.2.2.1 hR.2.2.2.2.2.2⟩
theorem zLD.er {F : jM (Unit ⊕ Nat)} {e : Nat × Nat} (hD : zLD N w u c n H0 lb i D H1) (hi : i ≤ e.2) (he : e.2 ≤ c) (h : zBd w u n e H1 1 7 (F.1 H)) : zSO N w u c n H0 lb (.inl e) F H := by
  obtain ⟨-, hF, -, -, ⟨c1, c2⟩, -⟩ := hD
  exact zSO.er hF he h (by omega) (by omega)
theorem zst_hole (hu : zUg u c) (hN : 3000 ≤ N) (hk : u.1 i ≠ 0) (hD : zLD N w u c n H0 lb i D H) : zSO N w u c n H0 lb (zsHole u i D) (fX2_hole N (w + 1)) H := by
  obtain ⟨d0, hR0⟩ := id hD.1
  have hi := hR0.2.2.2.2.1
  have hi1 := zne_lt hu hi hk
  obtain ⟨d, H1, a1, hR, hD1, f01, s01⟩ := hD.to hi1 (Nat.le_succ i)
  have hD1' := hD1
  obtain ⟨-, hF, hw, hok, ⟨c1, c2⟩, τ, A, cap, nn, f, dn, dm, ev, sk, tx, what, name, rfl, hL, ⟨n0, n1, n2, n3⟩, hm⟩ := hD1
  have hS3 := hok.1.1
  have hb := hR.2.2.2.2.2.1
  have run : (fX2_hole N (w + 1)).1 H = (jBT (fX2_told N (w + 1) 0) fun y4 => jB (jrc 4 (some (A 5))) fun b6 => jB (fJ2_get b6 y4) fun y5 => jB (jck [12] y5) fun _ => jB (jgI [12] 0 y5) fun y7 => jBT (fX2_number_2 (w + 1) 0 (y7 - 1)) fun y8 => jB (jgI [12] 2 y5) fun y9 => jB (fX1_has y9 y8) fun y10 => if y10 = 0 then (jB (jgI [12] 2 y5) fun y11 => jB (jpI [12] 2 y5 (y11 ||| (1 <<< (y8 &&& 31)))) fun _ => jR (.inl ())) else (jB (jgI [1] 11 (some (w + 1))) fun y12 => jB (jpI [1] 11 (some (w + 1)) (y12 - 1)) fun _ => jB (fX2_wrong (w + 1) 3) fun y13 => jB (jnn0 y13) fun b14 => jR (.inr b14))).1 H1 := by
    unfold fX2_hole
    rw [zrs_11 hR0, zc1_da, a1, zgRs hR.2.2.2.1 (by decide) rfl, zgRs hL.2.2.1 (by decide) rfl]
  unfold zsHole
  rcases zrs_ts hu hN hR (hL.nl n0 n1 hm) hm.2.2.2.2.2.1 with ⟨e1, e2⟩ | ⟨e1, e2, e3⟩ | ⟨e1, s, e2, e3, H2, e4, e5, e6, e7, e8⟩
  · rw [if_neg (by rw [e1]; exact zff)]
    refine hD1'.er (e := (1, i + 1)) (Nat.le_refl _) hi1 ?_
    rw [run]
    exact e2.bt _
  · rw [if_pos e1, e2]
    refine hD1'.er (e := (2, i + 1)) (Nat.le_refl _) hi1 ?_
    rw [run]
    exact e3.bt _
  · rw [if_pos e1, e3]
    dsimp only
    rw [show i + 1 + 1 = i + 2 from rfl] at e5
    have hD2 := hD1'.mv e5 (Nat.le_succ _) e6 e7 e8
    have hi2 := e5.2.2.2.2.1
    have hL2 := hL.rd e6 hw e8
    have hm2 := hm.rd e6 hw hb hR.2.2.2.2.2.2
    obtain ⟨hLi, -, hHo⟩ := hok.1.2.2.2.1 s e2
    obtain ⟨m1, m2, m3, m4, m5, m6, m7⟩ := id hm2
    obtain ⟨k1, k2, k3⟩ := m2 s e2
    obtain ⟨⟨⟨mc, l1⟩, l2, -, l3, l4, -⟩, -⟩ := hL2.2.2.2.1 2 (by decide)
    rw [n2] at l1 l3
    rw [zBTl e4, zrc (c := 4) (by unfold jcd; rw [l1]; rfl), zal_get l1 l2 e2 l3 (by omega), k1, zck (c := 12) (by unfold jcd; rw [k3]; rfl) (by decide), zgI k3 (by decide) rfl, zc1_sb (by omega), show fX2_number_2 (w + 1) 0 (nI (zLi D.1 s - 1)) = fX2_number_2 (w + 1) (nI 0) (nI (zLi D.1 s - 1)) from rfl] at run
    rcases zrs_nu hu e5 (lo := 0) (hi := zLi D.1 s - 1) (by decide) (by omega) with ⟨x, j1, j2, j3⟩ | ⟨j0, j1, H3, j2, j3, j4, j5, j6⟩
    · have pe : (if u.1 (i + 2) = 2 then (if u.2.2.1 (i + 2) < zLi D.1 s then (if (zHo D.1 s).testBit (u.2.2.1 (i + 2)) = true then .inl (3, i + 2) else zCl u (i + 3) (zaH D s (u.2.2.1 (i + 2)))) else .inl (4, i + 2)) else .inl (1, i + 2)) = (.inl (x, i + 2) : zSR) := by
        unfold zNu at j1
        by_cases c2' : u.1 (i + 2) = 2
        · rw [if_pos c2'] at j1 ⊢
          by_cases c3 : 0 ≤ u.2.2.1 (i + 2) ∧ u.2.2.1 (i + 2) ≤ zLi D.1 s - 1
          · rw [if_pos c3] at j1; cases j1
          · rw [if_neg c3] at j1; cases j1
            rw [if_neg (by omega)]
        · rw [if_neg c2'] at j1 ⊢
          cases j1; rfl
      rw [pe]
      refine hD2.er (e := (x, i + 2)) (Nat.le_refl _) hi2 ?_
      rw [run]
      exact j3.bt _
    · have hlt : u.2.2.1 (i + 2) < zLi D.1 s := by
        rcases zNu_c u (i + 2) 0 (zLi D.1 s - 1) with ⟨e, he, z⟩ | ⟨b1, b2, b3, b4⟩
        · rw [z] at j1; cases j1
        · omega
      have hD3 := hD2.mv j3 (Nat.le_succ _) j4 j5 j6
      have hi3 := j3.2.2.2.2.1
      have hL3 := hL2.rd j4 hw j6
      have hm3 := hm2.rd j4 hw e5.2.2.2.2.2.1 e5.2.2.2.2.2.2
      obtain ⟨w1, w2, w3, w4, w5, w6, w7⟩ := id hm3
      obtain ⟨v1, v2, v3⟩ := w2 s e2
      rw [if_pos j0, if_pos hlt]
      rw [zBTl j2, zgI v3 (by decide) rfl, jB_eq (zh_has (by omega) (by omega) _), zI] at run
      cases hz : (zHo D.1 s).testBit (u.2.2.1 (i + 2)) with
      | true =>
        rw [if_pos rfl]
        rw [hz, if_neg zb1n, zrs_11 j3, zc1_sb (by omega), show i + 2 + 1 - 1 = i + 2 by omega] at run
        obtain ⟨b1, b2, b3⟩ := zrs_to (α := Unit ⊕ Nat) j3 (i + 2) hi2
        rw [b2] at run
        obtain ⟨-, hF3, -, -, ⟨c31, c32⟩, -⟩ := hD3
        refine zSO.er (cc := 1) (ss := 7) (hF3.tr b3 (fun q _ hq => hq)) hi2 ?_ (by show H3.2.1 + 1 ≤ H0.2.1 + 100 + 40 * (i + 2 + 1); omega) (by show H3.2.2.2.1 + 7 ≤ H0.2.2.2.1 + 1000 + 400 * (i + 2 + 1); omega)
        rw [run]
        exact zbd_thr hu b1 (k := 3) (by decide)
      | false =>
        rw [if_neg zff]
        obtain ⟨-, hF3, -, -, ⟨c31, c32⟩, -⟩ := hD3
        obtain ⟨H4, hH4⟩ : ∃ H4, H4 = jset H3 (sk s) (.inl (12, [.int (nI (zLi D.1 s)), .int (nI (zTh0 D.1 s)), .int (nI (zHo D.1 s ||| 2 ^ u.2.2.1 (i + 2)))])) := ⟨_, rfl⟩
        have q4 : H4.1 (sk s) = some (.inl (12, [.int (nI (zLi D.1 s)), .int (nI (zTh0 D.1 s)), .int (nI (zHo D.1 s ||| 2 ^ u.2.2.1 (i + 2)))])) := by rw [hH4]; exact zse_e _ _ _
        have o4 : ∀ q, q ≠ sk s → H4.1 q = H3.1 q := fun q hq => by rw [hH4]; exact zse_n _ _ hq
        have s4 : H4.2 = H3.2 := by rw [hH4]; rfl
        have l4' : jLe H3 H4 := by rw [hH4]; exact jsetO_le v3
        have f4 : zFm (fun q => H0.2.1 ≤ q) H3 H4 := by rw [hH4]; exact (zFm.rf _ _).set (Or.inr v2.2.1)
        have hb3 := j3.2.2.2.2.2.1
        have ev4 : (fX2_hole N (w + 1)).1 H = some (.inl (), H4) := by
          rw [run, hz, if_pos zb_f, zgI v3 (by decide) rfl, zshl (by omega), zor]
          unfold jpI
          rw [zpV v3 (by decide) (by have := v2.2.1; omega) (by show 2 < 3; decide), hH4]
          rfl
        obtain ⟨t0, t1, t2, t3, t4, t5, g, t6⟩ := id hL3
        have hne : ∀ j, j < 12 → A j ≠ sk s := fun j hj e => by
          have h1 := (t1 j hj).1
          rw [e, v2.1] at h1
          omega
        refine zSO.cl hu ev4 ⟨⟨d, j3.hi hw f4⟩, hF3.tr f4 (fun q hq hh => by omega), hw, zDok_H hok e2 hlt, ⟨by rw [s4]; exact c31, by rw [s4]; exact c32⟩, τ, A, cap, nn, f, dn, dm, ev, sk, tx, what, name, rfl, ⟨by rw [s4]; exact t0, fun j hj => (t1 j hj).le (fun _ _ => rfl) (by rw [s4]; exact Nat.le_refl _), (o4 _ (hne 0 (by decide))).trans t2, fun j hj => ⟨(t3 j hj).1.up (o4 _ (hne _ (by omega))) (o4 _ (hne _ (by omega))) l4', (t3 j hj).2⟩, (o4 _ (hne 9 (by decide))).trans t4, (o4 _ (hne 10 (by decide))).trans t5, g, (o4 _ (hne 11 (by decide))).trans t6⟩, ⟨n0, n1, n2, n3⟩, ?_⟩
        have tle : ∀ {q k : Nat}, zTg τ H0.2.1 H3 q k → zTg τ H0.2.1 H4 q k := fun h => h.le (fun _ _ => rfl) (by rw [s4]; exact Nat.le_refl _)
        have fle : ∀ {q : Nat}, zFz τ H0.2.1 H3 q → zFz τ H0.2.1 H4 q ∧ H4.1 q = H3.1 q := fun {q} h => ⟨h.le (fun _ _ => rfl) (by rw [s4]; exact Nat.le_refl _) (by rw [s4]), o4 q (fun e => by
          rcases h with h | h
          · have := v2.2.1; omega
          · have := h.1; rw [e, v2.1] at this; omega)⟩
        refine ⟨w1, fun j hj => ?_, w3, fun j hj => ?_, fun j hj => ?_, w6, ?_⟩
        · obtain ⟨b1, b2, b3⟩ := w2 j hj
          show f 2 j = some (sk j) ∧ zTg τ H0.2.1 H4 (sk j) 13 ∧ H4.1 (sk j) = some (.inl (12, [.int (nI (zLi D.1 j)), .int (nI (zTh0 D.1 j)), .int (nI (zup (D.1.2.1 2) s (zHo D.1 s ||| 2 ^ u.2.2.1 (i + 2)) j))]))
          by_cases ej : j = s
          · rw [ej, zup_e]; rw [ej] at b1 b2; exact ⟨b1, tle b2, q4⟩
          · rw [zup_n _ _ ej]; exact ⟨b1, tle b2, (o4 _ (fun e => ej (w3 j s hj e2 e))).trans b3⟩
        · obtain ⟨b1, b2, b3⟩ := w4 j hj
          exact ⟨b1, tle b2, (fle (Or.inr b2)).2.trans b3⟩
        · obtain ⟨x, y, b1, b2, b3, b4, b5, b6⟩ := w5 j hj
          exact ⟨x, y, b1, b2, (fle b3).1, (fle b4).1, (fle b3).2.trans b5, (fle b4).2.trans b6⟩
        · rcases w7 with w7 | ⟨v, e, b1, b2, b3⟩
          · exact Or.inl w7
          · exact Or.inr ⟨v, e, b1, b2, b3.mo (fun q hq => ⟨tle hq, (fle (Or.inr hq)).2⟩) (Nat.le_refl _)⟩
/-- a damp more -/
theorem zLD.wet (hD : zLD N w u c n H0 lb i D H) (h12 : zD D.1 ≠ 12) {v : Nat} (hv : v ≤ 9) : ∃ H', (fX4_wets lb (nI v)).1 H = some ((), H') ∧ zLD N w u c n H0 lb i (zaD D v) H' := by
  obtain ⟨⟨d, hR⟩, hF, hw, hok, ⟨c1, c2⟩, τ, A, cap, nn, f, dn, dm, ev, sk, tx, what, name, rfl, hL, hn, hm⟩ := hD
  obtain ⟨t0, t1, t2, t3, t4, t5, g, t6⟩ := id hL
  obtain ⟨⟨m0, m0'⟩, m2, m3, m4, m5, m6, m7⟩ := id hm
  have hD12 := hok.1.2.2.1
  have hb := hR.2.2.2.2.2.1
  obtain ⟨a1, a2, a3⟩ := t1 0 (by decide)
  obtain ⟨b1, b2, b3⟩ := t1 9 (by decide)
  have h09 : A 0 ≠ A 9 := fun e => by rw [e, b1] at a1; cases a1
  obtain ⟨H1, hH1⟩ : ∃ H1, H1 = jset H (A 9) (.inr (0, 12, .inl (upd dm (zD D.1) (nI v)))) := ⟨_, rfl⟩
  have o1 : ∀ q, q ≠ A 9 → H1.1 q = H.1 q := fun q hq => by rw [hH1]; exact zse_n _ _ hq
  have s1 : H1.2 = H.2 := by rw [hH1]; rfl
  obtain ⟨H2, hH2⟩ : ∃ H2, H2 = jset H1 (A 0) (.inl (3, [.ref (A 1), .ref (A 3), .ref (A 5), .ref (A 7), .ref (A 9), .int (nI (zD D.1 + 1)), va_rf ev, .ref (A 10)])) := ⟨_, rfl⟩
  have o2 : ∀ q, q ≠ A 0 → q ≠ A 9 → H2.1 q = H.1 q := fun q h0 h9 => by rw [hH2]; exact (zse_n _ _ h0).trans (o1 q h9)
  have s2 : H2.2 = H.2 := by rw [hH2]; exact s1
  have q1 : H1.1 (A 0) = some (.inl (3, [.ref (A 1), .ref (A 3), .ref (A 5), .ref (A 7), .ref (A 9), .int (nI dn), va_rf ev, .ref (A 10)])) := (o1 _ h09).trans t2
  have l2 : jLe H H2 := by rw [hH2, hH1]; exact jLe.tr (jsetA_le t4) (jsetO_le (by rw [← hH1]; exact q1))
  have f2 : zFm (fun q => H0.2.1 ≤ q) H H2 := by rw [hH2, hH1]; exact ((zFm.rf _ _).set (Or.inr b2)).set (Or.inr a2)
  have hne : ∀ j, j < 12 → j ≠ 0 → j ≠ 9 → H2.1 (A j) = H.1 (A j) := fun j hj h0 h9 => o2 _ (fun e => by
    have h1 := (t1 j hj).1
    rw [e, a1] at h1
    omega) (fun e => by
    have h1 := (t1 j hj).1
    rw [e, b1] at h1
    omega)
  have tle : ∀ {q k : Nat}, zTg τ H0.2.1 H q k → zTg τ H0.2.1 H2 q k := fun h => h.le (fun _ _ => rfl) (by rw [s2]; exact Nat.le_refl _)
  have ff : zFf τ H0.2.1 H H2 := fun q hq => o2 q (fun e => by
    rcases hq with hq | ⟨x1, x2, x3⟩
    · omega
    · rw [e, a1] at x3; omega) (fun e => by
    rcases hq with hq | ⟨x1, x2, x3⟩
    · omega
    · rw [e, b1] at x3; omega)
  refine ⟨H2, ?_, ⟨d, hR.hi hw f2⟩, hF.tr f2 (fun q hq hh => by omega), hw, zDok_D hok h12 hv, ⟨by rw [s2]; exact c1, by rw [s2]; exact c2⟩, τ, A, cap, nn, f, zD D.1 + 1, upd dm (zD D.1) (nI v), ev, sk, tx, what, name, rfl, ⟨by rw [s2]; exact t0, fun j hj => tle (t1 j hj), by rw [hH2]; exact zse_e _ _ _, fun j hj => ⟨(t3 j hj).1.up (hne _ (by omega) (by omega) (by omega)) (hne _ (by omega) (by omega) (by omega)) l2, (t3 j hj).2⟩, ?_, (hne 10 (by decide) (by decide) (by decide)).trans t5, g, (hne 11 (by decide) (by decide) (by decide)).trans t6⟩, hn, ?_⟩
  · unfold fX4_wets
    rw [zgRs t2 (by decide) rfl, zgI t2 (by decide) rfl, m0, zsI t4 (by omega) (by omega) (by decide), ← hH1, zgI q1 (by decide) rfl, m0, zc1_da]
    unfold jpI
    rw [zpV q1 (by decide) (by rw [s1]; omega) (by show 5 < 8; decide), hH2]
    rfl
  · rw [hH2, hH1]
    exact (zse_n _ _ (Ne.symm h09)).trans (zse_e _ _ _)
  · have := hm.fr (H1 := H2) (τ1 := τ) (f1 := f) ff (fun _ _ => rfl) (by rw [s2]; exact Nat.le_refl _) (by rw [s2]) (fun _ _ => rfl) (fun _ _ => rfl) (fun _ _ => ⟨rfl, rfl⟩)
    obtain ⟨x1, x2, x3, x4, x5, x6, x7⟩ := this
    refine ⟨⟨rfl, fun j hj => ?_⟩, x2, x3, x4, x5, x6, x7⟩
    have hj : j < zD D.1 + 1 := hj
    show upd dm (zD D.1) (nI v) j = nI (zup (D.1.2.1 6) (zD D.1) v j)
    by_cases e : j = zD D.1
    · rw [e, zu_eq, zup_e]
    · rw [zu_ne _ _ e, zup_n _ _ e]; exact m0' j (by omega)
theorem zst_d40 (hu : zUg u c) (F : jM (Unit ⊕ Nat)) (Hs : jH) : ∀ (m f i : Nat) (D : zDr) (H : jH), c < m + i → c < f + i → zD D.1 ≠ 0 → zLD N w u c n H0 lb i D H → F.1 Hs = (fX2_damp_40 N (w + 1) f).1 H → zSO N w u c n H0 lb (zDmp u m i D) F Hs
  | 0, f, i, D, H, hm, hf, h0, hD, hr => by
    obtain ⟨d, hR⟩ := hD.1
    have := hR.2.2.2.2.1
    omega
  | m + 1, 0, i, D, H, hm, hf, h0, hD, hr => by
    obtain ⟨d, hR⟩ := hD.1
    have := hR.2.2.2.2.1
    omega
  | m + 1, f + 1, i, D, H, hm, hf, h0, hD, hr => by
    obtain ⟨d, hR⟩ := id hD.1
    have hi := hR.2.2.2.2.1
    obtain ⟨u1, u2, u3, u4, u5⟩ := hu.2.2.2 i hi
    rw [zDmp]
    rw [fX2_damp_40, zrs_8 hR, zrs_11 hR, zrs_so hu hR hi, zI] at hr
    by_cases c2 : u.1 i = 2
    · rw [if_pos (Or.inr c2), if_pos c2]
      rw [if_pos (show nI (u.1 i) = 2 by rw [c2]; rfl), show fX2_number_2 (w + 1) 0 9 = fX2_number_2 (w + 1) (nI 0) (nI 9) from rfl] at hr
      rcases zrs_nu hu hR (lo := 0) (hi := 9) (by decide) (by decide) with ⟨x, j1, j2, j3⟩ | ⟨j0, j1, H3, j2, j3, j4, j5, j6⟩
      · unfold zNu at j1
        rw [if_pos c2] at j1
        by_cases c3 : 0 ≤ u.2.2.1 i ∧ u.2.2.1 i ≤ 9
        · rw [if_pos c3] at j1; cases j1
        · rw [if_neg c3] at j1; cases j1
          rw [if_neg (by omega)]
          refine hD.er (e := (4, i)) (Nat.le_refl _) hi ?_
          rw [hr]
          exact j3.bt _
      · have h9 : u.2.2.1 i ≤ 9 := by
          rcases zNu_c u i 0 9 with ⟨e, he, z⟩ | ⟨b1, b2, b3, b4⟩
          · rw [z] at j1; cases j1
          · exact b3
        rw [if_pos h9]
        have hD3 := hD.mv j3 (Nat.le_succ _) j4 j5 j6
        obtain ⟨-, hF3, hw, hok, ⟨c31, c32⟩, τ, A, cap, nn, f', dn, dm, ev, sk, tx, what, name, hA, hL, hn, hmm⟩ := id hD3
        have hd12 := hok.1.2.2.1
        rw [zBTl j2, zgRs j3.2.2.2.1 (by decide) rfl, ← hA, zgI hL.2.2.1 (by decide) rfl, hmm.1.1, zI] at hr
        by_cases c12 : zD D.1 = 12
        · rw [if_pos c12]
          rw [if_pos (show nI (zD D.1) = 12 by rw [c12]; rfl)] at hr
          obtain ⟨b1, b2, b3⟩ := zrs_to (α := Unit ⊕ Nat) j3 i hi
          unfold fX2_damp_73 at hr
          rw [zrs_11 j3, zc1_sb (by omega), Nat.add_sub_cancel, b2] at hr
          obtain ⟨-, hF0, -, -, ⟨c01, c02⟩, -⟩ := hD
          refine zSO.er (cc := 1) (ss := 7) (hF3.tr b3 (fun q _ hq => hq)) hi ?_ (by show H3.2.1 + 1 ≤ H0.2.1 + 100 + 40 * (i + 1); omega) (by show H3.2.2.2.1 + 7 ≤ H0.2.2.2.1 + 1000 + 400 * (i + 1); omega)
          rw [hr]
          exact zbd_thr hu b1 (k := 5) (by decide)
        · rw [if_neg c12]
          obtain ⟨H4, p1, p2⟩ := hD3.wet c12 h9
          rw [if_neg (show ¬ nI (zD D.1) = 12 from fun q => c12 ((nI_eq (b := 12) (by omega) (by decide)).mp q)), zgRs j3.2.2.2.1 (by decide) rfl, zrc (c := 3) (by rw [← hA]; unfold jcd; rw [hL.2.2.1]; rfl), jB_eq p1] at hr
          exact zst_d40 hu F Hs m f (i + 1) _ H4 (by omega) (by omega) (by show zD D.1 + 1 ≠ 0; omega) p2 hr
    · rw [if_neg (by rintro (q | q); exact h0 q; exact c2 q)]
      rw [if_neg (show ¬ nI (u.1 i) = 2 from fun q => c2 ((nI_eq (b := 2) (by omega) (by decide)).mp q))] at hr
      exact zSO.cl hu hr hD
theorem zst_damp (hu : zUg u c) (hN : 3000 ≤ N) {m0 : Nat} (hm0 : c < m0) (hk : u.1 i ≠ 0) (hD : zLD N w u c n H0 lb i D H) : zSO N w u c n H0 lb (zsDamp u m0 i D) (fX2_damp N (w + 1)) H := by
  obtain ⟨d0, hR0⟩ := id hD.1
  have hi := hR0.2.2.2.2.1
  have hi1 := zne_lt hu hi hk
  have hc1 := hu.1
  obtain ⟨-, hF, hw, hok, ⟨c1, c2⟩, τ, A, cap, nn, f, dn, dm, ev, sk, tx, what, name, rfl, hL, hn, hm⟩ := id hD
  have hd12 := hok.1.2.2.1
  unfold zsDamp
  have run : (fX2_damp N (w + 1)).1 H = (fX2_damp N (w + 1)).1 H := rfl
  conv at run => rhs; unfold fX2_damp
  rw [zgRs hR0.2.2.2.1 (by decide) rfl, zgI hL.2.2.1 (by decide) rfl, hm.1.1, zI] at run
  by_cases c0 : zD D.1 = 0
  · rw [if_pos c0]
    obtain ⟨d, H1, a1, hR, hD1, f01, s01⟩ := hD.to hi1 (Nat.le_succ i)
    rw [if_pos (show nI (zD D.1) ≤ 0 by rw [c0]; decide), zrs_11 hR0, zc1_da, a1, zgRs hR.2.2.2.1 (by decide) rfl, show fX2_number_2 (w + 1) 0 9 = fX2_number_2 (w + 1) (nI 0) (nI 9) from rfl] at run
    obtain ⟨m1, rfl⟩ : ∃ m1, m0 = m1 + 1 := ⟨m0 - 1, by omega⟩
    rw [zDmp, if_pos (Or.inl c0)]
    rcases zrs_nu hu hR (lo := 0) (hi := 9) (by decide) (by decide) with ⟨x, j1, j2, j3⟩ | ⟨j0, j1, H3, j2, j3, j4, j5, j6⟩
    · have pe : (if u.1 (i + 1) = 2 then (if u.2.2.1 (i + 1) ≤ 9 then (if zD D.1 = 12 then .inl (5, i + 1) else zDmp u m1 (i + 1 + 1) (zaD D (u.2.2.1 (i + 1)))) else .inl (4, i + 1)) else .inl (1, i + 1)) = (.inl (x, i + 1) : zSR) := by
        unfold zNu at j1
        by_cases c2' : u.1 (i + 1) = 2
        · rw [if_pos c2'] at j1 ⊢
          by_cases c3 : 0 ≤ u.2.2.1 (i + 1) ∧ u.2.2.1 (i + 1) ≤ 9
          · rw [if_pos c3] at j1; cases j1
          · rw [if_neg c3] at j1; cases j1
            rw [if_neg (by omega)]
        · rw [if_neg c2'] at j1 ⊢
          cases j1; rfl
      rw [pe]
      refine hD1.er (e := (x, i + 1)) (Nat.le_refl _) hi1 ?_
      rw [run]
      exact j3.bt _
    · have h9 : u.2.2.1 (i + 1) ≤ 9 := by
        rcases zNu_c u (i + 1) 0 9 with ⟨e, he, z⟩ | ⟨b1, b2, b3, b4⟩
        · rw [z] at j1; cases j1
        · exact b3
      rw [if_pos j0, if_pos h9, if_neg (by omega)]
      have hD3 := hD1.mv j3 (Nat.le_succ _) j4 j5 j6
      obtain ⟨H4, p1, p2⟩ := hD3.wet (show zD D.1 ≠ 12 by omega) h9
      obtain ⟨-, -, -, -, -, τ3, A3, cap3, nn3, f3, dn3, dm3, ev3, sk3, tx3, what3, name3, hA3, hL3, -⟩ := id hD3
      rw [zBTl j2, zrc (c := 3) (by rw [← hA3]; unfold jcd; rw [hL3.2.2.1]; rfl), jB_eq p1] at run
      exact zst_d40 hu _ H m1 N (i + 1 + 1) _ H4 (by omega) (by omega) (by show zD D.1 + 1 ≠ 0; omega) p2 run
  · rw [if_neg c0]
    rw [if_neg (show ¬ nI (zD D.1) ≤ 0 from fun q => by have := (zc0_ge (by omega)).mp q; omega)] at run
    refine hD.er (e := (3, i)) (Nat.le_refl _) hi ?_
    rw [run]
    exact zbd_thr hu hR0 (k := 3) (by decide)
theorem zst_shows (hu : zUg u c) (hN : 3000 ≤ N) {m0 nt : Nat} (hun : zUn u nt) (hnt : nt ≤ 1000) (hcn : c ≤ nt) (hm0 : nt < m0) (hm2 : m0 ≤ N) (hD : zLD N w u c n H0 lb i D H) : zSO N w u c n H0 lb (if zisw u i 10266418 = true then zsShows u m0 i D else .inl (1, i)) (fX2_shows N (w + 1)) H := by
  obtain ⟨d0, hR0⟩ := id hD.1
  have hi := hR0.2.2.2.2.1
  obtain ⟨-, hF, hw, hok, ⟨c1, c2⟩, τ, A, cap, nn, f, dn, dm, ev, sk, tx, what, name, rfl, hL, hn, hm⟩ := id hD
  have run : (fX2_shows N (w + 1)).1 H = (fX2_shows N (w + 1)).1 H := rfl
  conv at run => rhs; unfold fX2_shows
  rw [zK, zrs_isW (j := 14) hu hN hR0 (by decide), show zWd 14 = 10266418 from rfl, zI] at run
  cases hz : zisw u i 10266418 with
  | false =>
    rw [if_neg zff]
    rw [hz, if_pos zb_f] at run
    refine hD.er (e := (1, i)) (Nat.le_refl _) hi ?_
    rw [run]
    exact zbd_thr hu hR0 (k := 1) (by decide)
  | true =>
    have hk := zisw_n0 hz
    have hi1 := zne_lt hu hi hk
    rw [if_pos rfl]
    rw [hz, if_neg zb1n, zgRs hR0.2.2.2.1 (by decide) rfl, zgR (x := ev) hL.2.2.1 (by decide) rfl, zI] at run
    unfold zsShows
    rcases hm.2.2.2.2.2.2 with ⟨v1, v2⟩ | ⟨v, e, v1, v2, -⟩
    · obtain ⟨d, H1, a1, hR, hD1, f01, s01⟩ := hD.to hi1 (Nat.le_succ i)
      rw [if_pos v1]
      rw [if_pos v2, zrs_11 hR0, zc1_da, a1, zgRs hR.2.2.2.1 (by decide) rfl] at run
      obtain ⟨-, hF1, -, -, ⟨c11, c12⟩, τ1, A1, cap1, nn1, f1, dn1, dm1, ev1, sk1, tx1, what1, name1, hA1, hL1, hn1, hm1⟩ := id hD1
      have hgd := zAll_gd hun hm0 (zPart_gd hun hm0 5) (i + 1) (by omega)
      unfold zWhole
      rcases zWholeO hu hN (show c < m0 by omega) hm2 hR with ⟨e, k1, k2, k3, k4⟩ | ⟨x, H2, q, k1, k2, k3, k4, k5, k6, k7, k8, k9⟩
      · rw [k1]
        refine zSO.er hF1 k3 (F := fX2_shows N (w + 1)) (H := H) (cc := 20 * (e.2 + 1 - (i + 1))) (ss := 200 * (e.2 + 1 - (i + 1))) ?_ (by omega) (by omega)
        rw [run]
        exact k4.bt _
      · rw [k1] at hgd ⊢
        obtain ⟨g1, g2, g3⟩ := hgd
        rw [zBTl k2] at run
        dsimp only
        have hlo1 := (hL1.2.1 0 (by decide)).2
        obtain ⟨τ2, hτ2⟩ : ∃ τ2 : Nat → Nat, τ2 = fun y => if y < H1.2.1 then τ1 y else 14 := ⟨_, rfl⟩
        have t2 : ∀ y, y < H1.2.1 → τ2 y = τ1 y := fun y hy => by rw [hτ2]; exact if_pos hy
        have hL2 : zLR H2 H0.2.1 τ2 A1 cap1 nn1 f1 dn1 dm1 ev1 := hL1.fr (fun y ya yb => k5.1 y yb (by omega)) t2 k9
        have hm2' := hm1.fr (H1 := H2) (τ1 := τ2) (f1 := f1) (zFf.rd k5 hw hR.2.2.2.2.2.1 hR.2.2.2.2.2.2) t2 k9.1 k5.2.2.2.2 (fun _ _ => rfl) (fun _ _ => rfl) (fun _ _ => ⟨rfl, rfl⟩)
        obtain ⟨t0, t1, t2', t3, t4, t5, g, t6⟩ := id hL2
        obtain ⟨b1, b2, b3⟩ := t1 0 (by decide)
        obtain ⟨H3, hH3⟩ : ∃ H3, H3 = jset H2 (A1 0) (.inl (3, [.ref (A1 1), .ref (A1 3), .ref (A1 5), .ref (A1 7), .ref (A1 9), .int (nI dn1), va_rf (some q), .ref (A1 10)])) := ⟨_, rfl⟩
        have o3 : ∀ y, y ≠ A1 0 → H3.1 y = H2.1 y := fun y hy => by rw [hH3]; exact zse_n _ _ hy
        have s3 : H3.2 = H2.2 := by rw [hH3]; rfl
        have l3 : jLe H2 H3 := by rw [hH3]; exact jsetO_le t2'
        have f3 : zFm (fun y => H0.2.1 ≤ y) H2 H3 := by rw [hH3]; exact (zFm.rf _ _).set (Or.inr b2)
        have hne : ∀ j, j < 12 → j ≠ 0 → H3.1 (A1 j) = H2.1 (A1 j) := fun j hj h0 => o3 _ (fun e => by
          have h1 := (t1 j hj).1
          rw [e, b1] at h1
          omega)
        have tle : ∀ {y k : Nat}, zTg τ2 H0.2.1 H2 y k → zTg τ2 H0.2.1 H3 y k := fun h => h.le (fun _ _ => rfl) (by rw [s3]; exact Nat.le_refl _)
        have ff : zFf τ2 H0.2.1 H2 H3 := fun y hy => o3 y (fun e => by
          rcases hy with hy | ⟨x1, x2, x3⟩
          · omega
          · rw [e, b1] at x3; omega)
        have rfin : (fX2_shows N (w + 1)).1 H = some (.inl (), H3) := by
          rw [run, ← hA1]
          unfold jpR
          rw [zpV t2' (by decide) (by omega) (by show 6 < 8; decide), hH3]
          rfl
        have hcl : zSO N w u c n H0 (A 0) (zCl u x.1 (zaX D x.2.1 x.2.2)) (fX2_shows N (w + 1)) H := by
          refine zSO.cl hu rfin ⟨⟨0, k4.hi hw f3⟩, (hF1.tr k5 (fun y _ hy => hy)).tr f3 (fun y hy hh => by omega), hw, ⟨hok.1, Or.inr ⟨⟨_, rfl⟩, fun e => ?_, ?_⟩⟩, ⟨by rw [s3]; omega, by rw [s3]; omega⟩, τ2, A1, cap1, nn1, f1, dn1, dm1, some q, sk1, tx1, what1, name1, hA1, ⟨by rw [s3]; exact t0, fun j hj => tle (t1 j hj), by rw [hH3]; exact zse_e _ _ _, fun j hj => ⟨(t3 j hj).1.up (hne _ (by omega) (by omega)) (hne _ (by omega) (by omega)) l3, (t3 j hj).2⟩, (hne 9 (by decide) (by decide)).trans t4, (hne 10 (by decide) (by decide)).trans t5, g, (hne 11 (by decide) (by decide)).trans t6⟩, hn1, ?_⟩
          · have : x.2.2 = [] := e
            rw [this] at g3
            simp at g3
            omega
          · show x.2.2.length ≤ 1000
            omega
          · have := hm2'.fr (H1 := H3) (τ1 := τ2) (f1 := f1) ff (fun _ _ => rfl) (by rw [s3]; exact Nat.le_refl _) (by rw [s3]) (fun _ _ => rfl) (fun _ _ => rfl) (fun _ _ => ⟨rfl, rfl⟩)
            obtain ⟨x1, x2, x3, x4, x5, x6, x7⟩ := this
            refine ⟨x1, x2, x3, x4, x5, x6, Or.inr ⟨x.2.1, q, rfl, rfl, k6.mo (fun y hy => ⟨⟨by rw [hτ2]; exact if_neg (by omega), by omega, by rw [s3]; exact hy.2⟩, o3 y (by omega)⟩) (Nat.le_refl _)⟩⟩
        unfold zCl at hcl
        by_cases c59 : ziss u x.1 59 = true
        · rw [if_pos c59] at hcl ⊢; exact hcl
        · rw [if_neg c59] at hcl ⊢; exact hcl
    · rw [if_neg (show ¬ zEv D.1 = none by rw [v1]; exact fun q => by cases q)]
      rw [if_neg (show ¬ ev = none by rw [v2]; exact fun q => by cases q)] at run
      refine hD.er (e := (3, i)) (Nat.le_refl _) hi ?_
      rw [run]
      exact zbd_thr hu hR0 (k := 3) (by decide)
end
