/-! PURE 75: a new name in the draft -/
set_option maxRecDepth 100000
section
variable {N w c i d lb lo : Nat} {u : zTau} {n : Int32} {H : jH} {τ A cap nn : Nat → Nat} {f : Nat → Nat → Option Nat} {dn : Nat} {dm : Nat → Int32} {ev : Option Nat} {D : zDr} {sk tx what name : Nat → Nat}
theorem zLR.nl (hL : zLR H lo τ A cap nn f dn dm ev) (h0 : nn 0 = zS D.1 + zT D.1) (h1 : nn 1 = zS D.1 + zT D.1) (hm : zLm N H lo τ f dn dm ev D sk tx what name) : zNl H (A 0) (A 1) (A 3) (zS D.1 + zT D.1) what name := by
  obtain ⟨⟨⟨m1, b1⟩, b2, -, b3, b4, -⟩, -⟩ := hL.2.2.2.1 0 (by decide)
  obtain ⟨⟨⟨m2, c1⟩, c2, -, c3, c4, -⟩, -⟩ := hL.2.2.2.1 1 (by decide)
  rw [h0] at b1 b3
  rw [h1] at c1 c3
  refine ⟨⟨_, hL.2.2.1⟩, A 2, cap 0, f 0, .int m1, A 4, cap 1, f 1, .int m2, b1, b2, ⟨b3, by omega⟩, c1, c2, ⟨c3, by omega⟩, fun j hj => ?_⟩
  obtain ⟨x, y, e1, e2, -, -, e5, e6⟩ := hm.2.2.2.2.1 j hj
  exact ⟨x, y, e1, e2, e5, e6⟩
/-- the reader moves on: the draft is as it was -/
theorem zLR.rd {H1 : jH} (hL : zLR H lo τ A cap nn f dn dm ev) (hf : zFm (fun q => q = w + 1) H H1) (hw : w + 11 ≤ lo) (hl : jLe H H1) : zLR H1 lo τ A cap nn f dn dm ev := hL.fr (fun q q1 q2 => hf.1 q q2 (by omega)) (fun _ _ => rfl) hl
theorem zFf.rd {H1 : jH} (hf : zFm (fun q => q = w + 1) H H1) (hw : w + 11 ≤ lo) (hb : H.2.2.2.2 0 ≤ w) (hs : w + 11 ≤ H.2.1) : zFf τ lo H H1 := fun q hq => hf.1 q (by omega) (by omega)
theorem zLm.rd {H1 : jH} (hm : zLm N H lo τ f dn dm ev D sk tx what name) (hf : zFm (fun q => q = w + 1) H H1) (hw : w + 11 ≤ lo) (hb : H.2.2.2.2 0 ≤ w) (hs : w + 11 ≤ H.2.1) : zLm N H1 lo τ f dn dm ev D sk tx what name := hm.fr (zFf.rd hf hw hb hs) (fun _ _ => rfl) hf.2.1 hf.2.2.2.2 (fun _ _ => rfl) (fun _ _ => rfl) (fun _ _ => ⟨rfl, rfl⟩)
theorem zn_new (hu : zUg u c) (hN : 3000 ≤ N) (hw : w + 11 ≤ lo) (hR : zRdS w u c (.ref (A 0)) n i d H) (hk : u.1 i ≠ 0) (hL : zLR H lo τ A cap nn f dn dm ev) (h0 : nn 0 = zS D.1 + zT D.1) (h1 : nn 1 = zS D.1 + zT D.1) (hm : zLm N H lo τ f dn dm ev D sk tx what name) {k : Nat} (hk2 : k ≤ 127) (full : Bool) :
    (full = true ∧ zBd w u n (5, i) H 1 7 ((fX2_newName N (w + 1) (zb full) (nI k)).1 H)) ∨ (full = false ∧ ((∃ e, zNew u (i + 1) D = some e ∧ zBd w u n (e, i + 1) H 1 7 ((fX2_newName N (w + 1) (zb full) (nI k)).1 H)) ∨
    (zNew u (i + 1) D = none ∧ zNm u (i + 1) = true ∧ ∃ H' τ' A' cap' f', (fX2_newName N (w + 1) (zb full) (nI k)).1 H = some (.inl (), H') ∧ zRdS w u c (.ref (A 0)) n (i + 2) d H' ∧ zLR H' lo τ' A' cap' (zup (zup nn 0 (nn 0 + 1)) 1 (nn 1 + 1)) f' dn dm ev ∧ (∀ j, j ≠ 2 → j ≠ 4 → A' j = A j) ∧ (f' 2 = f 2 ∧ f' 3 = f 3 ∧ ∀ j, j < zS D.1 + zT D.1 → f' 0 j = f 0 j ∧ f' 1 j = f 1 j) ∧ (∃ x y, f' 0 (zS D.1 + zT D.1) = some x ∧ f' 1 (zS D.1 + zT D.1) = some y ∧ zFz τ' lo H' x ∧ zFz τ' lo H' y ∧ H'.1 x = some (.inl (10, [.long (nL (u.2.1 (i + 1)))])) ∧ H'.1 y = some (.inl (11, [.int (nI k)]))) ∧ zFf τ lo H H' ∧ (∀ q, q < H.2.1 → τ' q = τ q) ∧ zFm (fun q => q = w + 1 ∨ lo ≤ q) H H' ∧ H'.2.1 ≤ H.2.1 + 3 ∧ H'.2.2.2.1 ≤ H.2.2.2.1 + 41 ∧ jLe H H'))) := by
  have hi := hR.2.2.2.2.1
  have hb := hR.2.2.2.2.2.1
  have hs := hR.2.2.2.2.2.2
  have hi1 := zne_lt hu hi hk
  obtain ⟨no1, no2, no3, no4, no5, no6⟩ := id hm.2.2.2.2.2.1
  obtain ⟨o1, o2, -⟩ := no1
  unfold fX2_newName
  rw [zI]
  cases full with
  | true =>
    rw [if_neg zb1n]
    exact Or.inl ⟨rfl, zbd_thr hu hR (k := 5) (by decide)⟩
  | false =>
    refine Or.inr ⟨rfl, ?_⟩
    obtain ⟨a1, a2, a3⟩ := zrs_to (α := Unit ⊕ Nat) hR (i + 1) hi1
    have l1 := zrs_le hR (.ref (A 0)) n (nI (i + 1)) (nI d)
    rw [if_pos zb_f, zrs_11 hR, zc1_da, a2]
    obtain ⟨H1, hH1⟩ : ∃ H1, H1 = jset H (w + 1) (zRc w (.ref (A 0)) n (nI (i + 1)) (nI d)) := ⟨_, rfl⟩
    rw [← hH1] at a1 a3 l1 ⊢
    have s1 : H1.2 = H.2 := by rw [hH1]; rfl
    have s11 : H1.2.1 = H.2.1 := by rw [s1]
    have s12 : H1.2.2.2.1 = H.2.2.2.1 := by rw [s1]
    have s15 : H1.2.2.2.2 = H.2.2.2.2 := by rw [s1]
    have hL1 := hL.rd a3 hw l1
    have hm1 := hm.rd a3 hw hb hs
    have ff1 : zFf τ lo H H1 := zFf.rd a3 hw hb hs
    obtain ⟨u1, u2, u3, u4, u5⟩ := hu.2.2.2 (i + 1) hi1
    have bad : ∀ {e : Nat} {r : Option ((Unit ⊕ Nat) × jH)}, zBd w u n (e, i + 1) H1 1 7 r → zBd w u n (e, i + 1) H 1 7 r := fun hh => hh.pre a3 (by omega) (by omega)
    rw [zrs_nm hu hN a1, zI]
    unfold zNew
    cases hz : zNm u (i + 1) with
    | false =>
      rw [if_pos zb_f, if_neg zff]
      exact Or.inl ⟨1, rfl, bad (zbd_thr hu a1 (k := 1) (by decide))⟩
    | true =>
      have k1 : u.1 (i + 1) = 1 := by
        unfold zNm at hz
        simp only [Bool.and_eq_true, decide_eq_true_eq] at hz
        exact hz.1
      have hi2 := zne_lt hu hi1 (by omega : u.1 (i + 1) ≠ 0)
      have hlc : ∀ {H' : jH} {cap' n' : Nat → Nat} {A' : Nat → Nat} {τ' : Nat → Nat} {f' : Nat → Nat → Option Nat}, zLR H' lo τ' A' cap' n' f' dn dm ev → jcd H' (A' 0) = some 3 := fun h => by unfold jcd; rw [h.2.2.1]; rfl
      have hac : ∀ {H' : jH} {cap' n' : Nat → Nat} {A' : Nat → Nat} {τ' : Nat → Nat} {f' : Nat → Nat → Option Nat}, zLR H' lo τ' A' cap' n' f' dn dm ev → ∀ j, j < 4 → jcd H' (A' (2 * j + 1)) = some 4 := fun h j hj => by
        obtain ⟨⟨⟨mc, e⟩, -⟩, -⟩ := h.2.2.2.1 j hj
        unfold jcd; rw [e]; rfl
      rw [if_neg zb1n, if_pos rfl, zgRs a1.2.2.2.1 (by decide) rfl, zrs_9 a1, zrs_11 a1, zrs_vw hu a1 hi1 k1, zrc (hlc hL1), zn_find (hL1.nl h0 h1 hm1) (by omega) no2 hN (by omega), zI]
      rcases zfd_c (v := u.2.1 (i + 1)) hm.2.2.2.2.2.1 with ⟨e1, e2, e3⟩ | ⟨s, e1, e2, e3⟩ | ⟨t, e1, e2, e2', e3⟩
      · rw [e3, if_pos (show zo none = -1 from rfl), e1, e2, if_neg (show ¬ ((none : Option Nat).isSome = true ∨ (none : Option Nat).isSome = true) from fun q => by rcases q with q | q <;> exact zff q)]
        refine Or.inr ⟨rfl, rfl, ?_⟩
        obtain ⟨x, H2, g1, g2, g3, g4, g5⟩ := zlv (H := H1) a1.1 (by rw [s15]; omega) (v := u.2.1 (i + 1)) (by omega)
        obtain ⟨τ2, hτ2⟩ : ∃ τ2 : Nat → Nat, τ2 = fun q => if q = H1.2.1 then 14 else τ q := ⟨_, rfl⟩
        have t2 : ∀ q, q < H1.2.1 → τ2 q = τ q := fun q hq => by rw [hτ2]; exact if_neg (by omega)
        have r2 := a1.same g3
        have hL2 : zLR H2 lo τ2 A cap nn f dn dm ev := hL1.fr (fun q q1 q2 => g3.1 q q2 (fun z => z)) t2 g4
        have s25 : H2.2.2.2.2 = H.2.2.2.2 := g3.2.2.2.2.trans s15
        have hx2 : zFz τ2 lo H2 x := by
          rcases g5 with ⟨x1, x2⟩ | ⟨x1, x2, -⟩
          · exact Or.inl (by rw [s25, ← s15]; exact x1)
          · refine Or.inr ⟨by rw [hτ2, x1]; exact if_pos rfl, ?_, by omega⟩
            have := (hL.2.1 0 (by decide)).2
            omega
        have hxlt : x < H2.2.1 := by
          rcases g5 with ⟨x1, x2⟩ | ⟨x1, x2, -⟩
          · rw [x2]; rw [s15] at x1; omega
          · omega
        have hx : zOk H2 (some x) := ⟨x, 10, rfl, hxlt, by unfold jcd; rw [g2]; rfl, by decide⟩
        have c2 : H2.2.1 ≤ H.2.1 + 1 ∧ H2.2.2.2.1 ≤ H.2.2.2.1 + 1 := by
          rcases g5 with ⟨x1, x2⟩ | ⟨x1, x2, x3⟩
          · rw [x2]; omega
          · omega
        obtain ⟨H3, A3, τ3, cap3, g0, j1, j2, j3, j4, j5, j6, j7, j8, j9, j10, j11⟩ := hL2.add (j := 0) (by decide) (by omega) hx
        have r3 := r2.hi hw j7
        obtain ⟨y, m1, m2, m3⟩ := ziv (H := H3) r3.1 hk2
        have s35 : H3.2.2.2.2 = H.2.2.2.2 := j7.2.2.2.2.trans s25
        have hylt : y < H3.2.1 := by
          have := j7.2.1
          have := g3.2.1
          rw [s35] at m3
          omega
        have hy : zOk H3 (some y) := ⟨y, 11, rfl, hylt, by unfold jcd; rw [m2]; rfl, by decide⟩
        obtain ⟨H4, A4, τ4, cap4, g0', p1, p2, p3, p4, p5, p6, p7, p8, p9, p10, p11⟩ := j2.add (j := 1) (by decide) (by show zup nn 0 (nn 0 + 1) 1 ≤ 12; rw [zup_n _ _ (by decide)]; omega) hy
        have r4 := r3.hi hw p7
        obtain ⟨q1, q2, q3⟩ := zrs_to (α := Unit ⊕ Nat) r4 (i + 2) hi2
        have l5 := zrs_le r4 (.ref (A 0)) n (nI (i + 2)) (nI d)
        obtain ⟨H5, hH5⟩ : ∃ H5, H5 = jset H4 (w + 1) (zRc w (.ref (A 0)) n (nI (i + 2)) (nI d)) := ⟨_, rfl⟩
        rw [← hH5] at q1 q2 q3 l5
        have s5 : H5.2 = H4.2 := by rw [hH5]; rfl
        have s45 : H4.2.2.2.2 = H.2.2.2.2 := p7.2.2.2.2.trans s35
        have sz2 : H1.2.1 ≤ H2.2.1 := g3.2.1
        have sz3 : H2.2.1 ≤ H3.2.1 := j7.2.1
        have sz4 : H3.2.1 ≤ H4.2.1 := p7.2.1
        have A30 : A3 0 = A 0 := j3 0 (by decide)
        have A40 : A4 0 = A 0 := (p3 0 (by decide)).trans A30
        have ff2 : zFf τ lo H1 H2 := fun q hq => g3.1 q (by rcases hq with hq | hq; rw [s15] at hq; omega; omega) (fun z => z)
        have ff5 : zFf τ4 lo H4 H5 := zFf.rd q3 hw r4.2.2.2.2.2.1 r4.2.2.2.2.2.2
        have tt3 : ∀ q, q < H2.2.1 → τ3 q = τ2 q := j6
        have tt4 : ∀ q, q < H3.2.1 → τ4 q = τ3 q := p6
        have fin : zFf τ lo H H5 := by
          refine ff1.tr (ff2.tr (τ1 := τ2) (j8.tr (τ1 := τ3) (p8.tr (τ1 := τ4) ff5 tt4 sz4 (by rw [s45, s35])) tt3 sz3 (by rw [s35, s25])) t2 sz2 (by rw [s25, s15])) (fun _ _ => rfl) (by omega) s15
        have x5 : H5.1 x = some (.inl (10, [.long (nL (u.2.1 (i + 1)))])) := by
          have e5 : H5.1 x = H4.1 x := zFz.at ff5 ((hx2.le tt3 sz3 (by rw [s35, s25])).le tt4 sz4 (by rw [s45, s35]))
          have e4 : H4.1 x = H3.1 x := zFz.at p8 (hx2.le tt3 sz3 (by rw [s35, s25]))
          rw [e5, e4, zFz.at j8 hx2]
          exact g2
        have y3 : zFz τ3 lo H3 y := Or.inl m3
        have y5 : H5.1 y = some (.inl (11, [.int (nI k)])) := by
          rw [zFz.at ff5 (y3.le tt4 sz4 (by rw [s45, s35])), zFz.at p8 y3]
          exact m2
        have hL5 : zLR H5 lo τ4 A4 cap4 (zup (zup nn 0 (nn 0 + 1)) 1 (zup nn 0 (nn 0 + 1) 1 + 1)) (fun k => if k = 1 then g0' else (if k = 0 then g0 else f k)) dn dm ev := p2.rd q3 hw l5
        rw [zup_n _ _ (show 1 ≠ 0 by decide)] at hL5
        refine ⟨H5, τ4, A4, cap4, _, ?_, q1, hL5, fun j ja jb => (p3 j (by omega)).trans (j3 j (by omega)), ⟨rfl, rfl, fun j hj => ⟨?_, ?_⟩⟩, ⟨x, y, ?_, ?_, ?_, ?_, x5, y5⟩, fin, fun q hq => (tt4 q (by omega)).trans ((tt3 q (by omega)).trans (t2 q (by omega))), ?_, ?_, ?_, ?_⟩
        · rw [zgRs a1.2.2.2.1 (by decide) rfl, zgRs hL1.2.2.1 (by decide) rfl, zrs_9 a1, zrs_11 a1, zrs_vw hu a1 hi1 k1, jB_eq g1, zrc (hac hL2 0 (by decide)), jB_eq j1, zgRs r3.2.2.2.1 (by decide) rfl, ← A30, zgRs j2.2.2.1 (by decide) rfl, jB_eq m1, zrc (hac j2 1 (by decide)), jB_eq p1, zrs_11 r4, zc1_da, q2]
          rfl
        · show (if 0 = 1 then g0' else (if 0 = 0 then g0 else f 0)) j = f 0 j
          exact j4 j (by omega)
        · show g0' j = f 1 j
          exact p4 j (by show j < zup nn 0 (nn 0 + 1) 1; rw [zup_n _ _ (by decide)]; omega)
        · show g0 (zS D.1 + zT D.1) = some x
          rw [← h0]; exact j5
        · show g0' (zS D.1 + zT D.1) = some y
          have := p5
          rw [zup_n _ _ (show 1 ≠ 0 by decide), h1] at this
          exact this
        · exact ((hx2.le tt3 sz3 (by rw [s35, s25])).le tt4 sz4 (by rw [s45, s35])).le (fun _ _ => rfl) (by rw [s5]; exact Nat.le_refl _) (by rw [s5])
        · exact (y3.le tt4 sz4 (by rw [s45, s35])).le (fun _ _ => rfl) (by rw [s5]; exact Nat.le_refl _) (by rw [s5])
        · refine ((((a3.mo (fun q _ hq => Or.inl hq)).tr g3 (fun q _ hq => hq.elim)).tr j7 (fun q _ hq => Or.inr hq)).tr p7 (fun q _ hq => Or.inr hq)).tr q3 (fun q _ hq => Or.inl hq)
        · rw [s5]; omega
        · rw [s5]; omega
        · exact jLe.tr l1 (jLe.tr g4 (jLe.tr j11 (jLe.tr p11 l5)))
      · rw [e3, if_neg (show ¬ zo (some s) = -1 from zneg1 (by omega)), e2, if_pos (show (some s).isSome = true ∨ (zFnd D.2.2.1 (zT D.1) (u.2.1 (i + 1))).isSome = true from Or.inl rfl)]
        exact Or.inl ⟨3, rfl, bad (zbd_thr hu a1 (k := 3) (by decide))⟩
      · rw [e3, if_neg (show ¬ zo (some (20 + t)) = -1 from zneg1 (by omega)), e2, if_pos (show (zFnd D.2.1 (zS D.1) (u.2.1 (i + 1))).isSome = true ∨ (some t).isSome = true from Or.inr rfl)]
        exact Or.inl ⟨3, rfl, bad (zbd_thr hu a1 (k := 3) (by decide))⟩
/-- a word, and a number behind it -/
theorem zrs_wn {dr : Value} (hu : zUg u c) (hN : 3000 ≤ N) (h : zRdS w u c dr n i d H) {j lo' hi' : Nat} (hj : j < 24) (hlo : lo' < 2 ^ 30) (hhi : hi' < 2 ^ 30) : (∃ e, (zisw u i (zWd j) = false ∧ e = (1, i) ∨ zisw u i (zWd j) = true ∧ ∃ x, zNu u (i + 1) lo' hi' = .inl x ∧ e = (x, i + 1)) ∧ zBd w u n e H 1 7 ((fX2_number N (w + 1) (some (H.2.2.2.2 (1 + j))) (nI lo') (nI hi')).1 H)) ∨ (zisw u i (zWd j) = true ∧ zNu u (i + 1) lo' hi' = .inr (u.2.2.1 (i + 1)) ∧ lo' ≤ u.2.2.1 (i + 1) ∧ u.2.2.1 (i + 1) ≤ hi' ∧ ∃ H', (fX2_number N (w + 1) (some (H.2.2.2.2 (1 + j))) (nI lo') (nI hi')).1 H = some (.inl (nI (u.2.2.1 (i + 1))), H') ∧ zRdS w u c dr n (i + 2) d H' ∧ zFm (fun q => q = w + 1) H H' ∧ H'.2 = H.2 ∧ jLe H H') := by
  unfold fX2_number
  rcases zrs_tw hu hN h hj with ⟨e1, e2⟩ | ⟨e1, H1, e2, e3, e4, e5, e6⟩
  · exact Or.inl ⟨(1, i), Or.inl ⟨e1, rfl⟩, e2.bt _⟩
  · rw [zBTl e2]
    have s1 : H1.2.1 = H.2.1 := by rw [e5]
    have s2 : H1.2.2.2.1 = H.2.2.2.1 := by rw [e5]
    rcases zrs_nu hu e3 hlo hhi with ⟨x, k1, k2, k3⟩ | ⟨k0, k1, H2, k2, k3, k4, k5, k6⟩
    · exact Or.inl ⟨(x, i + 1), Or.inr ⟨e1, x, k1, rfl⟩, (k3.bt _).pre e4 (by omega) (by omega)⟩
    · have hb : lo' ≤ u.2.2.1 (i + 1) ∧ u.2.2.1 (i + 1) ≤ hi' := by
        rcases zNu_c u (i + 1) lo' hi' with ⟨e, he, z⟩ | ⟨b1, b2, b3, b4⟩
        · rw [z] at k1; cases k1
        · exact ⟨b2, b3⟩
      refine Or.inr ⟨e1, k1, hb.1, hb.2, H2, ?_, k3, e4.tr k4 (fun q _ hq => hq), k5.trans e5, jLe.tr e6 k6⟩
      rw [zBTl k2]
      rfl
end
