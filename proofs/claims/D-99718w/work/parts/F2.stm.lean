/-! PURE 76: statements of a library on the component: skin -/
set_option maxRecDepth 100000
/-- the reader at token i, with a draft D -/
def zLD (N w : Nat) (u : zTau) (c : Nat) (n : Int32) (H0 : jH) (lb i : Nat) (D : zDr) (H : jH) : Prop := (∃ d, zRdS w u c (.ref lb) n i d H) ∧ zFm (fun q => q = w + 1) H0 H ∧ w + 11 ≤ H0.2.1 ∧ zDok D ∧ (H.2.1 ≤ H0.2.1 + 60 + 40 * i ∧ H.2.2.2.1 ≤ H0.2.2.2.1 + 600 + 400 * i) ∧ ∃ τ A cap nn f dn dm ev sk tx what name, A 0 = lb ∧ zLR H H0.2.1 τ A cap nn f dn dm ev ∧ (nn 0 = zS D.1 + zT D.1 ∧ nn 1 = zS D.1 + zT D.1 ∧ nn 2 = zS D.1 ∧ nn 3 = zT D.1) ∧ zLm N H H0.2.1 τ f dn dm ev D sk tx what name
/-- what a statement, and the sign behind it, come to -/
def zSO (N w : Nat) (u : zTau) (c : Nat) (n : Int32) (H0 : jH) (lb : Nat) (p : zSR) (F : jM (Unit ⊕ Nat)) (H : jH) : Prop := (∃ e, p = .inl e ∧ e.2 ≤ c ∧ ∀ k : jM (Option Nat ⊕ Nat), zBd w u n e H0 (100 + 40 * (e.2 + 1)) (1000 + 400 * (e.2 + 1)) ((jBT F fun _ => fX2_library_95 N k (w + 1)).1 H)) ∨ ∃ x H', p = .inr x ∧ (∀ k : jM (Option Nat ⊕ Nat), (jBT F fun _ => fX2_library_95 N k (w + 1)).1 H = k.1 H') ∧ zLD N w u c n H0 lb x.1 x.2 H'
section
variable {N w c i lb : Nat} {u : zTau} {n : Int32} {H0 H H1 : jH} {D : zDr} {F : jM (Unit ⊕ Nat)}
theorem zSO.er {e : Nat × Nat} {cc ss : Nat} (hf : zFm (fun q => q = w + 1) H0 H1) (he : e.2 ≤ c) (h : zBd w u n e H1 cc ss (F.1 H)) (h1 : H1.2.1 + cc ≤ H0.2.1 + 100 + 40 * (e.2 + 1)) (h2 : H1.2.2.2.1 + ss ≤ H0.2.2.2.1 + 1000 + 400 * (e.2 + 1)) : zSO N w u c n H0 lb (.inl e) F H := by
  refine Or.inl ⟨e, rfl, he, fun k => ?_⟩
  obtain ⟨H', q, fs, a1, a2, a3, a4, a5, a6, a7⟩ := h
  exact ⟨H', q, fs, zBTr a1, hf.tr a2 (fun x _ hx => hx), a3, a4, a5, by omega, by omega⟩
theorem zSO.cl (hu : zUg u c) (hr : F.1 H = some (.inl (), H1)) (hD : zLD N w u c n H0 lb i D H1) : zSO N w u c n H0 lb (zCl u i D) F H := by
  obtain ⟨⟨d, hR⟩, hF, hw, hok, ⟨c1, c2⟩, τ, A, cap, nn, f, dn, dm, ev, sk, tx, what, name, hA, hL, hn, hm⟩ := hD
  have hi := hR.2.2.2.2.1
  unfold zCl
  rcases zrs_sg hu hR (x := 59) (by decide) with ⟨e1, e2⟩ | ⟨e1, H', e2, e3, e4, e5, e6⟩
  · rw [if_neg (by rw [e1]; exact zff)]
    refine Or.inl ⟨(1, i), rfl, hi, fun k => ?_⟩
    unfold fX2_library_95
    rw [zBTl hr]
    exact (e2.bt _).pre hF (by show H1.2.1 + 1 ≤ H0.2.1 + (100 + 40 * (i + 1)); omega) (by show H1.2.2.2.1 + 7 ≤ H0.2.2.2.1 + (1000 + 400 * (i + 1)); omega)
  · rw [if_pos e1]
    refine Or.inr ⟨(i + 1, D), H', rfl, fun k => ?_, ⟨d, e3⟩, hF.tr e4 (fun q _ hq => hq), hw, hok, ⟨by rw [e5]; show H1.2.1 ≤ H0.2.1 + 60 + 40 * (i + 1); omega, by rw [e5]; show H1.2.2.2.1 ≤ H0.2.2.2.1 + 600 + 400 * (i + 1); omega⟩, τ, A, cap, nn, f, dn, dm, ev, sk, tx, what, name, hA, hL.rd e4 hw e6, hn, hm.rd e4 hw hR.2.2.2.2.2.1 hR.2.2.2.2.2.2⟩
    unfold fX2_library_95
    rw [zBTl hr, show (59 : Int32) = nI 59 from rfl, zBTl e2]
end
theorem zNo_S {cS cT cnt nm : Nat} {nS nT what name : Nat → Nat} (h : zNo cS cT nS nT cnt what name) (h3 : cS < 3) (h40 : nm < 2 ^ 40) (hs : zFnd nS cS nm = none) (ht : zFnd nT cT nm = none) : zNo (cS + 1) cT (zup nS cS nm) nT (cnt + 1) (zup what cnt cS) (zup name cnt nm) := by
  obtain ⟨⟨a1, a2, a3⟩, a4, a5, a6, a7, a8⟩ := h
  have no : ∀ j, j < cnt → name j ≠ nm := fun j hj e => by
    rcases a5 j hj with ⟨b1, b2⟩ | ⟨t, b1, b2, b3⟩
    · have := zfs_n.mp hs (what j) (Nat.zero_le _) (by omega)
      rw [decide_eq_true (b2.symm.trans e)] at this
      cases this
    · have := zfs_n.mp ht t (Nat.zero_le _) (by omega)
      rw [decide_eq_true (b3.symm.trans e)] at this
      cases this
  refine ⟨⟨by omega, a2, by omega⟩, fun j hj => ?_, fun j hj => ?_, fun s hs' => ?_, fun t ht' => ?_, fun j j' hj hj' e => ?_⟩
  · by_cases e : j = cnt
    · rw [e, zup_e]; exact h40
    · rw [zup_n _ _ e]; exact a4 j (by omega)
  · by_cases e : j = cnt
    · rw [e, zup_e, zup_e, zup_e]; exact Or.inl ⟨Nat.lt_succ_self _, rfl⟩
    · rw [zup_n _ _ e, zup_n _ _ e]
      rcases a5 j (by omega) with ⟨b1, b2⟩ | b
      · exact Or.inl ⟨by omega, by rw [zup_n _ _ (by omega)]; exact b2⟩
      · exact Or.inr b
  · by_cases e : s = cS
    · exact ⟨cnt, Nat.lt_succ_self _, by rw [zup_e, e]⟩
    · obtain ⟨j, b1, b2⟩ := a6 s (by omega)
      exact ⟨j, by omega, by rw [zup_n _ _ (by omega)]; exact b2⟩
  · obtain ⟨j, b1, b2⟩ := a7 t ht'
    exact ⟨j, by omega, by rw [zup_n _ _ (by omega)]; exact b2⟩
  · by_cases e1 : j = cnt
    · by_cases e2 : j' = cnt
      · omega
      · rw [e1, zup_e, zup_n _ _ e2] at e
        exact absurd e.symm (no j' (by omega))
    · by_cases e2 : j' = cnt
      · rw [e2, zup_e, zup_n _ _ e1] at e
        exact absurd e (no j (by omega))
      · rw [zup_n _ _ e1, zup_n _ _ e2] at e
        exact a8 j j' (by omega) (by omega) e
theorem zNo_T {cS cT cnt nm : Nat} {nS nT what name : Nat → Nat} (h : zNo cS cT nS nT cnt what name) (h6 : cT < 6) (h40 : nm < 2 ^ 40) (hs : zFnd nS cS nm = none) (ht : zFnd nT cT nm = none) : zNo cS (cT + 1) nS (zup nT cT nm) (cnt + 1) (zup what cnt (20 + cT)) (zup name cnt nm) := by
  obtain ⟨⟨a1, a2, a3⟩, a4, a5, a6, a7, a8⟩ := h
  have no : ∀ j, j < cnt → name j ≠ nm := fun j hj e => by
    rcases a5 j hj with ⟨b1, b2⟩ | ⟨t, b1, b2, b3⟩
    · have := zfs_n.mp hs (what j) (Nat.zero_le _) (by omega)
      rw [decide_eq_true (b2.symm.trans e)] at this
      cases this
    · have := zfs_n.mp ht t (Nat.zero_le _) (by omega)
      rw [decide_eq_true (b3.symm.trans e)] at this
      cases this
  refine ⟨⟨a1, by omega, by omega⟩, fun j hj => ?_, fun j hj => ?_, fun s hs' => ?_, fun t ht' => ?_, fun j j' hj hj' e => ?_⟩
  · by_cases e : j = cnt
    · rw [e, zup_e]; exact h40
    · rw [zup_n _ _ e]; exact a4 j (by omega)
  · by_cases e : j = cnt
    · rw [e, zup_e, zup_e]; exact Or.inr ⟨cT, Nat.lt_succ_self _, rfl, by rw [zup_e]⟩
    · rw [zup_n _ _ e, zup_n _ _ e]
      rcases a5 j (by omega) with b | ⟨t, b1, b2, b3⟩
      · exact Or.inl b
      · exact Or.inr ⟨t, by omega, b2, by rw [zup_n _ _ (by omega)]; exact b3⟩
  · obtain ⟨j, b1, b2⟩ := a6 s hs'
    exact ⟨j, by omega, by rw [zup_n _ _ (by omega)]; exact b2⟩
  · by_cases e : t = cT
    · exact ⟨cnt, Nat.lt_succ_self _, by rw [zup_e, e]⟩
    · obtain ⟨j, b1, b2⟩ := a7 t (by omega)
      exact ⟨j, by omega, by rw [zup_n _ _ (by omega)]; exact b2⟩
  · by_cases e1 : j = cnt
    · by_cases e2 : j' = cnt
      · omega
      · rw [e1, zup_e, zup_n _ _ e2] at e
        exact absurd e.symm (no j' (by omega))
    · by_cases e2 : j' = cnt
      · rw [e2, zup_e, zup_n _ _ e1] at e
        exact absurd e (no j (by omega))
      · rw [zup_n _ _ e1, zup_n _ _ e2] at e
        exact a8 j j' (by omega) (by omega) e
theorem zNew_n {u : zTau} {i : Nat} {D : zDr} (h : zNew u i D = none) : zFnd D.2.1 (zS D.1) (u.2.1 i) = none ∧ zFnd D.2.2.1 (zT D.1) (u.2.1 i) = none := by
  unfold zNew at h
  by_cases c : zNm u i = true
  · rw [if_pos c] at h
    by_cases c2 : (zFnd D.2.1 (zS D.1) (u.2.1 i)).isSome = true ∨ (zFnd D.2.2.1 (zT D.1) (u.2.1 i)).isSome = true
    · rw [if_pos c2] at h; cases h
    · constructor
      · cases hx : zFnd D.2.1 (zS D.1) (u.2.1 i) with
        | none => rfl
        | some s => exact absurd (Or.inl (by rw [hx]; rfl)) c2
      · cases hx : zFnd D.2.2.1 (zT D.1) (u.2.1 i) with
        | none => rfl
        | some s => exact absurd (Or.inr (by rw [hx]; rfl)) c2
  · rw [if_neg c] at h; cases h
section
variable {N w c i lb : Nat} {u : zTau} {n : Int32} {H0 H : jH} {D : zDr}
theorem zst_skin (hu : zUg u c) (hN : 3000 ≤ N) (hk : u.1 i ≠ 0) (hD : zLD N w u c n H0 lb i D H) : zSO N w u c n H0 lb (zsSkin u i D) (fX2_skin N (w + 1)) H := by
  obtain ⟨⟨d, hR⟩, hF, hw, hok, ⟨c1, c2⟩, τ, A, cap, nn, f, dn, dm, ev, sk, tx, what, name, rfl, hL, ⟨n0, n1, n2, n3⟩, hm⟩ := hD
  have hi := hR.2.2.2.2.1
  have hb := hR.2.2.2.2.2.1
  have hs := hR.2.2.2.2.2.2
  have hi1 := zne_lt hu hi hk
  have hS3 := hok.1.1
  have hT6 := hok.1.2.1
  obtain ⟨⟨⟨mc, l1⟩, -⟩, -⟩ := hL.2.2.2.1 2 (by decide)
  rw [n2] at l1
  have hc1 := hu.1
  have run : (fX2_skin N (w + 1)).1 H = (fX2_skin_22 N (w + 1) (nI (zS D.1)) (zb (decide (zS D.1 = 3)))).1 H := by
    unfold fX2_skin
    rw [zgRs hR.2.2.2.1 (by decide) rfl, zgRs hL.2.2.1 (by decide) rfl, zrc (c := 4) (by unfold jcd; rw [l1]; rfl), zal_size l1, zI]
    by_cases c3 : zS D.1 = 3
    · rw [if_pos (show nI (zS D.1) = 3 by rw [c3]; rfl), decide_eq_true c3]; rfl
    · rw [if_neg (show ¬ nI (zS D.1) = 3 from fun q => c3 ((nI_eq (b := 3) (by omega) (by decide)).mp q)), decide_eq_false c3]; rfl
  unfold zsSkin
  rcases zn_new hu hN hw hR hk hL n0 n1 hm (k := zS D.1) (by omega) (decide (zS D.1 = 3)) with ⟨e1, e2⟩ | ⟨e1, ⟨e, e2, e3⟩ | ⟨e2, e3, H1, τ1, A1, cap1, f1, e4, e5, e6, e7, e8, ⟨xx, yy, x1, x2, x3, x4, x5, x6⟩, e9, e10, e11, e12, e13, e14⟩⟩
  · rw [if_pos (of_decide_eq_true e1)]
    refine zSO.er (cc := 1) (ss := 7) hF hi ?_ (by show H.2.1 + 1 ≤ H0.2.1 + 100 + 40 * (i + 1); omega) (by show H.2.2.2.1 + 7 ≤ H0.2.2.2.1 + 1000 + 400 * (i + 1); omega)
    rw [run]
    exact e2.bt _
  · rw [if_neg (of_decide_eq_false e1)]
    unfold zNe
    rw [e2]
    refine zSO.er (cc := 1) (ss := 7) hF hi1 ?_ (by show H.2.1 + 1 ≤ H0.2.1 + 100 + 40 * (i + 1 + 1); omega) (by show H.2.2.2.1 + 7 ≤ H0.2.2.2.1 + 1000 + 400 * (i + 1 + 1); omega)
    rw [run]
    exact e3.bt _
  · have c3 := of_decide_eq_false e1
    rw [if_neg c3]
    unfold zNe
    rw [e2]
    dsimp only
    obtain ⟨z1, z2⟩ := zNew_n e2
    have hi2 := e5.2.2.2.2.1
    have f1' : zFm (fun q => q = w + 1) H0 H1 := hF.tr e11 (fun q hq hh => by rcases hh with hh | hh; exact hh; omega)
    have run1 : (fX2_skin_22 N (w + 1) (nI (zS D.1)) (zb (decide (zS D.1 = 3)))).1 H = (jB (jK 10) fun y2 => jBT (fX2_number N (w + 1) y2 1 6) fun y3 => jB (jgR [1] 5 (some (w + 1))) fun y4 => jB (jgR [3] 2 y4) fun y5 => jB (jnw 12 3 [.int 0, .int 0, .int 0]) fun q6 => jB (jK 11) fun y7 => jBT (fX2_number N (w + 1) y7 1 30) fun y8 => jB (fX9_init q6 y3 y8) fun _ => jB (jrc 4 y5) fun b11 => jB (fJ2_add b11 (some q6)) fun y10 => jR (.inl ())).1 H1 := by
      unfold fX2_skin_22
      rw [zBTl e4]
    rw [zK, show (1 : Int32) = nI 1 from rfl, show (6 : Int32) = nI 6 from rfl] at run1
    unfold zBo
    rcases zrs_wn (j := 9) hu hN e5 (lo' := 1) (hi' := 6) (by decide) (by decide) (by decide) with ⟨e, g1, g2⟩ | ⟨g1, g2, g2a, g2b, H2, g3, g4, g5, g6, g7⟩
    · have pe : zBo u (i + 2) 6564799 1 6 (fun l => zBo u (i + 4) 10792937 1 30 fun t => zCl u (i + 6) (zaS D (u.2.1 (i + 1)) l t)) = .inl e ∧ e.2 ≤ c ∧ i + 2 ≤ e.2 := by
        unfold zBo
        rcases g1 with ⟨y1, y2⟩ | ⟨y1, x, y2, y3⟩
        · rw [if_neg (show ¬ zisw u (i + 2) 6564799 = true by rw [show zisw u (i + 2) 6564799 = false from y1]; exact zff), y2]
          exact ⟨rfl, hi2, Nat.le_refl _⟩
        · rw [if_pos (show zisw u (i + 2) 6564799 = true from y1), y2, y3]
          exact ⟨rfl, zne_lt hu hi2 (zisw_n0 y1), Nat.le_succ _⟩
      unfold zBo at pe
      rw [pe.1]
      refine zSO.er (cc := 1) (ss := 7) f1' pe.2.1 ?_ (by omega) (by omega)
      rw [run, run1]
      exact g2.bt _
    · rw [if_pos (show zisw u (i + 2) 6564799 = true from g1), g2]
      dsimp only
      have hi4 := g4.2.2.2.2.1
      have f2' := f1'.tr g5 (fun q _ hq => hq)
      have s2 : H2.2.1 = H1.2.1 := by rw [g6]
      have s22 : H2.2.2.2.1 = H1.2.2.2.1 := by rw [g6]
      have s25 : H2.2.2.2.2 = H1.2.2.2.2 := by rw [g6]
      have hb1 := e5.2.2.2.2.2.1
      have hL2 := e6.rd g5 hw g7
      obtain ⟨H3, hH3⟩ : ∃ H3, H3 = jnew H2 (.inl (12, [.int 0, .int 0, .int 0])) 3 := ⟨_, rfl⟩
      have q3 : H3.1 H2.2.1 = some (.inl (12, [.int 0, .int 0, .int 0])) := by rw [hH3]; exact znw_e _ _ _
      have f3 : zFm (fun _ => False) H2 H3 := by rw [hH3]; exact (zFm.rf _ _).nw
      have l3 : jLe H2 H3 := by rw [hH3]; exact jnew_le _ _ _
      have s3 : H3.2.1 = H2.2.1 + 1 := by rw [hH3]; rfl
      have s32 : H3.2.2.2.1 = H2.2.2.2.1 + 3 := by rw [hH3]; rfl
      have r3 := g4.same f3
      have A10 : A1 0 = A 0 := e7 0 (by decide) (by decide)
      have A15 : A1 5 = A 5 := e7 5 (by decide) (by decide)
      rw [zBTl g3, zgRs g4.2.2.2.1 (by decide) rfl, ← A10, zgRs hL2.2.2.1 (by decide) rfl, znwB, ← hH3, zK, show (30 : Int32) = nI 30 from rfl] at run1
      have f3' := f2'.tr f3 (fun q _ hq => hq.elim)
      rcases zrs_wn (j := 10) hu hN r3 (lo' := 1) (hi' := 30) (by decide) (by decide) (by decide) with ⟨e, j1, j2⟩ | ⟨j1, j2, j2a, j2b, H4, j3, j4, j5, j6, j7⟩
      · have pe : zBo u (i + 4) 10792937 1 30 (fun t => zCl u (i + 6) (zaS D (u.2.1 (i + 1)) (u.2.2.1 (i + 2 + 1)) t)) = .inl e ∧ e.2 ≤ c ∧ i + 4 ≤ e.2 := by
          unfold zBo
          rcases j1 with ⟨y1, y2⟩ | ⟨y1, x, y2, y3⟩
          · rw [if_neg (show ¬ zisw u (i + 4) 10792937 = true by rw [show zisw u (i + 4) 10792937 = false from y1]; exact zff), y2]
            exact ⟨rfl, hi4, Nat.le_refl _⟩
          · rw [if_pos (show zisw u (i + 4) 10792937 = true from y1), y2, y3]
            exact ⟨rfl, zne_lt hu hi4 (zisw_n0 y1), Nat.le_succ _⟩
        unfold zBo at pe
        rw [pe.1]
        refine zSO.er (cc := 1) (ss := 7) f3' pe.2.1 ?_ (by omega) (by omega)
        rw [run, run1]
        exact j2.bt _
      · rw [if_pos (show zisw u (i + 4) 10792937 = true from j1), j2]
        dsimp only
        have hi6 := j4.2.2.2.2.1
        have f4' := f3'.tr j5 (fun q _ hq => hq)
        have s4 : H4.2.1 = H2.2.1 + 1 := by rw [j6, s3]
        have s42 : H4.2.2.2.1 = H2.2.2.2.1 + 3 := by rw [j6, s32]
        have s45 : H4.2.2.2.2 = H2.2.2.2.2 := j5.2.2.2.2.trans f3.2.2.2.2
        have hlo := (e6.2.1 0 (by decide)).2
        have q4 : H4.1 H2.2.1 = some (.inl (12, [.int 0, .int 0, .int 0])) := j5.at q3 (by omega) (by omega)
        obtain ⟨H5, hH5⟩ : ∃ H5, H5 = jset (jset H4 H2.2.1 (.inl (12, [.int (nI (u.2.2.1 (i + 3))), .int 0, .int 0]))) H2.2.1 (.inl (12, [.int (nI (u.2.2.1 (i + 3))), .int (nI (u.2.2.1 (i + 5))), .int 0])) := ⟨_, rfl⟩
        have q5 : H5.1 H2.2.1 = some (.inl (12, [.int (nI (u.2.2.1 (i + 3))), .int (nI (u.2.2.1 (i + 5))), .int 0])) := by rw [hH5]; exact zse_e _ _ _
        have s5 : H5.2 = H4.2 := by rw [hH5]; rfl
        have l5 : jLe H4 H5 := by rw [hH5]; exact jLe.tr (jsetO_le q4) (jsetO_le (zse_e _ _ _))
        have o5 : ∀ q, q ≠ H2.2.1 → H5.1 q = H4.1 q := fun q hq => by rw [hH5]; exact (zse_n _ _ hq).trans (zse_n _ _ hq)
        have f5 : zFm (fun q => H0.2.1 ≤ q) H4 H5 := by rw [hH5]; exact ((zFm.rf _ _).set (Or.inr (by show H0.2.1 ≤ H2.2.1; omega))).set (Or.inr (by show H0.2.1 ≤ H2.2.1; omega))
        have r5 := j4.hi hw f5
        obtain ⟨τ5, hτ5⟩ : ∃ τ5 : Nat → Nat, τ5 = fun q => if q = H2.2.1 then 13 else τ1 q := ⟨_, rfl⟩
        have t5 : ∀ q, q < H2.2.1 → τ5 q = τ1 q := fun q hq => by rw [hτ5]; exact if_neg (by omega)
        have hL5 : zLR H5 H0.2.1 τ5 A1 cap1 (zup (zup nn 0 (nn 0 + 1)) 1 (nn 1 + 1)) f1 dn dm ev := hL2.fr (fun q qa qb => (o5 q (by omega)).trans ((j5.1 q (by omega) (by omega)).trans (f3.1 q qb (fun z => z)))) t5 (jLe.tr l3 (jLe.tr j7 l5))
        have hx5 : zOk H5 (some H2.2.1) := ⟨H2.2.1, 12, rfl, by rw [s5]; omega, by unfold jcd; rw [q5]; rfl, by decide⟩
        have nn2 : zup (zup nn 0 (nn 0 + 1)) 1 (nn 1 + 1) 2 = zS D.1 := by rw [zup_n _ _ (by decide), zup_n _ _ (by decide), n2]
        have nn3 : zup (zup nn 0 (nn 0 + 1)) 1 (nn 1 + 1) 3 = zT D.1 := by rw [zup_n _ _ (by decide), zup_n _ _ (by decide), n3]
        obtain ⟨H6, A6, τ6, cap6, g0, p1, p2, p3, p4, p5, p6, p7, p8, p9, p10, p11⟩ := hL5.add (j := 2) (by decide) (by rw [nn2]; omega) hx5
        have r6 := r5.hi hw p7
        rw [nn2] at p4 p5 p2
        have ff5 : zFf τ1 H0.2.1 H2 H5 := fun q hq => (o5 q (by rcases hq with hq | hq; rw [s25] at hq; omega; omega)).trans ((j5.1 q (by rcases hq with hq | hq; rw [s25] at hq; omega; omega) (by rcases hq with hq | hq; rw [s25] at hq; omega; omega)).trans (f3.1 q (by rcases hq with hq | hq; rw [s25] at hq; omega; omega) (fun z => z)))
        have ff2 : zFf τ1 H0.2.1 H1 H2 := zFf.rd g5 hw hb1 e5.2.2.2.2.2.2
        have sz6 : H5.2.1 ≤ H6.2.1 := p7.2.1
        have sz5 : H5.2.1 = H2.2.1 + 1 := by rw [s5, s4]
        have k5 : H5.2.2.2.2 = H2.2.2.2.2 := by rw [s5, s45]
        have k6 : H6.2.2.2.2 = H5.2.2.2.2 := p7.2.2.2.2
        have ff : zFf τ H0.2.1 H H6 := e9.tr (ff2.tr (ff5.tr p8 t5 (by omega) k5) (fun _ _ => rfl) (by omega) s25) e10 e11.2.1 e11.2.2.2.2
        have tt : ∀ q, q < H.2.1 → τ6 q = τ q := fun q hq => by
          have := e11.2.1
          exact (p6 q (by omega)).trans ((t5 q (by omega)).trans (e10 q hq))
        have fin : zFm (fun q => q = w + 1) H0 H6 := (f4'.tr f5 (fun q hq hh => by omega)).tr p7 (fun q hq hh => by omega)
        have xk : ∀ q, zFz τ1 H0.2.1 H1 q → zFz τ6 H0.2.1 H6 q ∧ H6.1 q = H1.1 q := fun q hq => by
          have h2 : zFz τ1 H0.2.1 H2 q := hq.le (fun _ _ => rfl) (by omega) s25
          have h5 : zFz τ5 H0.2.1 H5 q := h2.le t5 (by omega) k5
          exact ⟨h5.le p6 sz6 k6, (zFz.at p8 h5).trans ((zFz.at ff5 h2).trans (zFz.at ff2 hq))⟩
        refine zSO.cl hu (H1 := H6) ?_ ⟨⟨d, by rw [← A10] at r6; rw [← A10]; exact r6⟩, fin, hw, zDok_S hok c3 ⟨g2a, g2b⟩ ⟨j2a, j2b⟩, ⟨by rw [show H5.2 = H4.2 from s5] at p9; omega, by rw [show H5.2 = H4.2 from s5] at p10; omega⟩, τ6, A6, cap6, _, _, dn, dm, ev, zup sk (zS D.1) H2.2.1, tx, zup what (zS D.1 + zT D.1) (zS D.1), zup name (zS D.1 + zT D.1) (u.2.1 (i + 1)), (p3 0 (by decide)).trans A10, p2, ⟨?_, ?_, ?_, ?_⟩, ?_⟩
        · have e9 : (fX9_init H2.2.1 (nI (u.2.2.1 (i + 2 + 1))) (nI (u.2.2.1 (i + 2 + 2 + 1)))).1 H4 = some ((), H5) := by
            unfold fX9_init jpI
            rw [zpV q4 (by decide) (by rw [s45, s25]; omega) (by show 0 < 3; decide), zpV (zse_e _ _ _) (by decide) (by show H4.2.2.2.2 0 ≤ H2.2.1; rw [s45, s25]; omega) (by show 1 < 3; decide), hH5]
            rfl
          rw [run, run1, zBTl j3, jB_eq e9]
          obtain ⟨⟨⟨mc5, l5⟩, -⟩, -⟩ := hL5.2.2.2.1 2 (by decide)
          rw [zrc (c := 4) (by unfold jcd; rw [l5]; rfl), jB_eq p1]
          rfl
        · show zup _ 2 (zS D.1 + 1) 0 = zS D.1 + 1 + zT D.1
          rw [zup_n _ _ (by decide), zup_n _ _ (by decide), zup_e]; omega
        · show zup _ 2 (zS D.1 + 1) 1 = zS D.1 + 1 + zT D.1
          rw [zup_n _ _ (by decide), zup_e]; omega
        · show zup _ 2 (zS D.1 + 1) 2 = zS D.1 + 1
          rw [zup_e]
        · show zup _ 2 (zS D.1 + 1) 3 = zT D.1
          rw [zup_n _ _ (by decide)]; exact nn3
        · obtain ⟨m1, m2, m3, m4, m5, m6, m7⟩ := hm
          have sz1 : H.2.1 ≤ H1.2.1 := e11.2.1
          have hsk : ∀ j, j < zS D.1 → sk j ≠ H2.2.1 := fun j hj => by have := (m2 j hj).2.1.2.2; omega
          refine ⟨m1, fun j hj => ?_, fun j j' hj hj' e => ?_, fun j hj => ?_, fun j hj => ?_, ?_, ?_⟩
          · have hj : j < zS D.1 + 1 := hj
            show g0 j = some (zup sk (zS D.1) H2.2.1 j) ∧ zTg τ6 H0.2.1 H6 (zup sk (zS D.1) H2.2.1 j) 13 ∧ H6.1 (zup sk (zS D.1) H2.2.1 j) = some (.inl (12, [.int (nI (zup (D.1.2.1 0) (zS D.1) (u.2.2.1 (i + 3)) j)), .int (nI (zup (D.1.2.1 1) (zS D.1) (u.2.2.1 (i + 5)) j)), .int (nI (zup (D.1.2.1 2) (zS D.1) 0 j))]))
            by_cases ej : j = zS D.1
            · rw [ej, zup_e, zup_e, zup_e, zup_e]
              have hq : H6.1 H2.2.1 = H5.1 H2.2.1 := p8 _ (Or.inr ⟨by omega, by omega, Or.inl (by rw [hτ5]; exact if_pos rfl)⟩)
              exact ⟨p5, ⟨(p6 _ (by omega)).trans (by rw [hτ5]; exact if_pos rfl), by omega, by omega⟩, hq.trans q5⟩
            · rw [zup_n _ _ ej, zup_n _ _ ej, zup_n _ _ ej, zup_n _ _ ej]
              obtain ⟨b1, b2, b3⟩ := m2 j (by omega)
              exact ⟨(p4 j (by omega)).trans ((congrFun e8.1 j).trans b1), b2.le tt (by omega), (ff _ (Or.inr ⟨b2.2.1, b2.2.2, Or.inl b2.1⟩)).trans b3⟩
          · have hj : j < zS D.1 + 1 := hj
            have hj' : j' < zS D.1 + 1 := hj'
            by_cases e1 : j = zS D.1
            · by_cases e2 : j' = zS D.1
              · omega
              · rw [e1, zup_e, zup_n _ _ e2] at e
                exact absurd e.symm (hsk j' (by omega))
            · by_cases e2 : j' = zS D.1
              · rw [e2, zup_e, zup_n _ _ e1] at e
                exact absurd e (hsk j (by omega))
              · rw [zup_n _ _ e1, zup_n _ _ e2] at e
                exact m3 j j' (by omega) (by omega) e
          · obtain ⟨b1, b2, b3⟩ := m4 j hj
            exact ⟨(congrFun e8.2.1 j).trans b1, b2.le tt (by omega), (ff _ (Or.inr ⟨b2.2.1, b2.2.2, Or.inr b2.1⟩)).trans b3⟩
          · have hj : j < zS D.1 + 1 + zT D.1 := hj
            by_cases ej : j = zS D.1 + zT D.1
            · rw [ej, zup_e, zup_e]
              obtain ⟨b1, b2⟩ := xk xx x3
              obtain ⟨b3, b4⟩ := xk yy x4
              exact ⟨xx, yy, x1, x2, b1, b3, b2.trans x5, b4.trans x6⟩
            · rw [zup_n _ _ ej, zup_n _ _ ej]
              obtain ⟨x, y, b1, b2, b3, b4, b5, b6⟩ := m5 j (by omega)
              exact ⟨x, y, (e8.2.2 j (by omega)).1.trans b1, (e8.2.2 j (by omega)).2.trans b2, b3.le tt (by omega) (by rw [k6, k5, s25]; exact e11.2.2.2.2), b4.le tt (by omega) (by rw [k6, k5, s25]; exact e11.2.2.2.2), (zFz.at ff b3).trans b5, (zFz.at ff b4).trans b6⟩
          · have h40 : u.2.1 (i + 1) < 2 ^ 40 := (hu.2.2.2 (i + 1) hi1).2.1
            have := zNo_S m6 (by omega) h40 z1 z2
            rw [show zS D.1 + zT D.1 + 1 = zS D.1 + 1 + zT D.1 by omega] at this
            exact this
          · rcases m7 with m7 | ⟨v, e, b1, b2, b3⟩
            · exact Or.inl m7
            · exact Or.inr ⟨v, e, b1, b2, b3.mo (fun q hq => ⟨hq.le tt (by omega), ff q (Or.inr ⟨hq.2.1, hq.2.2, Or.inr hq.1⟩)⟩) (Nat.le_refl _)⟩
end
