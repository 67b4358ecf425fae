/-! PURE 77: statements of a library on the component: text -/
set_option maxRecDepth 100000
section
variable {N w c i d : Nat} {u : zTau} {n : Int32} {dr : Value} {H : jH}
theorem zrs_on (hu : zUg u c) (h : zRdS w u c dr n i d H) {A : Nat} {F : Option Nat} (hF : ∀ {α : Type} (K : Int32 → jM α), (jB (fX2_which N (w + 1) (some A)) K).1 H = (K (zo F)).1 H) (hx : ∀ x, F = some x → x < 100 ∧ u.1 i ≠ 0) : (F = none ∧ zBd w u n (1, i) H 1 7 ((fX2_one N (w + 1) (some A)).1 H)) ∨ ∃ x, F = some x ∧ ∃ H', (fX2_one N (w + 1) (some A)).1 H = some (.inl (nI x), H') ∧ zRdS w u c dr n (i + 1) d H' ∧ zFm (fun q => q = w + 1) H H' ∧ H'.2 = H.2 ∧ jLe H H' := by
  have hi := h.2.2.2.2.1
  unfold fX2_one
  rw [hF, zI]
  cases F with
  | none =>
    rw [if_pos (show zo none = -1 from rfl)]
    exact Or.inl ⟨rfl, zbd_thr hu h (k := 1) (by decide)⟩
  | some x =>
    obtain ⟨h1, h2⟩ := hx x rfl
    obtain ⟨a1, a2, a3⟩ := zrs_to (α := Int32 ⊕ Nat) h (i + 1) (zne_lt hu hi h2)
    rw [if_neg (show ¬ zo (some x) = -1 from zneg1 (by omega)), zrs_11 h, zc1_da, a2]
    exact Or.inr ⟨x, rfl, _, rfl, a1, a3, rfl, zrs_le h _ _ _ _⟩
theorem zKd_l4 {x : Nat} (h : zKd u i = some x) : x < 4 ∧ u.1 i ≠ 0 := by
  have e : zKd u i = zFs (fun k => zisw u i (zWd (4 + k))) 4 0 := rfl
  rw [e] at h
  obtain ⟨a1, a2, a3⟩ := zFs_31 h
  exact ⟨by omega, zisw_n0 a3⟩
theorem zIk_l2 {x : Nat} (h : zIk u i = some x) : x < 2 ∧ u.1 i ≠ 0 := by
  unfold zIk at h
  by_cases c1 : zisw u i 138846 = true
  · rw [if_pos c1] at h; cases h; exact ⟨by decide, zisw_n0 c1⟩
  · rw [if_neg c1] at h
    by_cases c2 : zisw u i 385337 = true
    · rw [if_pos c2] at h; cases h; exact ⟨by decide, zisw_n0 c2⟩
    · rw [if_neg c2] at h; cases h
theorem zmade (hb : H.2.2.2.2 0 ≤ H.2.1) {k g l : Nat} (hk : k < 4) (hg : g < 2) : ∃ H', (fX1_made (nI k) (nI g) (nI l)).1 H = some (some H.2.1, H') ∧ H'.1 H.2.1 = some (.inl (13 + k, [.int (nI g), .int (nI l)])) ∧ (∀ q, q ≠ H.2.1 → H'.1 q = H.1 q) ∧ zFm (fun _ => False) H H' ∧ H'.2.1 = H.2.1 + 1 ∧ H'.2.2.2.1 = H.2.2.2.1 + 2 ∧ jLe H H' := by
  have hg' : nI g = 0 ∨ nI g = 1 := by
    have : g = 0 ∨ g = 1 := by omega
    rcases this with e | e <;> rw [e]
    · exact Or.inl rfl
    · exact Or.inr rfl
  have hc : 13 + k ∈ [13, 14, 15, 16] := by
    have : k = 0 ∨ k = 1 ∨ k = 2 ∨ k = 3 := by omega
    rcases this with e | e | e | e <;> rw [e] <;> decide
  have e1 : (jnew H (.inl (13 + k, [.int 0, .int 0])) 2).1 H.2.1 = some (.inl (13 + k, [.int 0, .int 0])) := znw_e _ _ _
  have ei : (fX10_init H.2.1 (nI g) (nI l)).1 (jnew H (.inl (13 + k, [.int 0, .int 0])) 2) = some ((), jset (jset (jnew H (.inl (13 + k, [.int 0, .int 0])) 2) H.2.1 (.inl (13 + k, [.int (nI g), .int 0]))) H.2.1 (.inl (13 + k, [.int (nI g), .int (nI l)]))) := by
    unfold fX10_init jpZ jpI
    rw [if_pos hg', zpV e1 hc hb (by show 0 < 2; decide), zpV (zse_e (jnew H (.inl (13 + k, [.int 0, .int 0])) 2) _ _) hc hb (by show 1 < 2; decide)]
    rfl
  refine ⟨jset (jset (jnew H (.inl (13 + k, [.int 0, .int 0])) 2) H.2.1 (.inl (13 + k, [.int (nI g), .int 0]))) H.2.1 (.inl (13 + k, [.int (nI g), .int (nI l)])), ?_, zse_e _ _ _, fun q hq => (zse_n _ _ hq).trans ((zse_n _ _ hq).trans (znw_n _ _ _ hq)), ((zFm.rf _ _).nw.set (Or.inl (Nat.le_refl _))).set (Or.inl (Nat.le_refl _)), rfl, rfl, jLe.tr (jnew_le _ _ _) (jLe.tr (jsetO_le e1) (jsetO_le (zse_e _ _ _)))⟩
  have : k = 0 ∨ k = 1 ∨ k = 2 ∨ k = 3 := by omega
  unfold fX1_made fX11_init fX12_init fX13_init
  rcases this with e | e | e | e
  · subst e
    rw [zI, if_neg (by decide), zI, if_neg (by decide), zI, if_neg (by decide), znwB, jB_eq ei]
    rfl
  · subst e
    rw [zI, if_pos (show nI 1 = 1 from rfl), znwB, zA, jB_eq ei]
    rfl
  · subst e
    rw [zI, if_neg (by decide), zI, if_pos (show nI 2 = 2 from rfl), znwB, zA, jB_eq ei]
    rfl
  · subst e
    rw [zI, if_neg (by decide), zI, if_neg (by decide), zI, if_pos (show nI 3 = 3 from rfl), znwB, zA, jB_eq ei]
    rfl
end
section
variable {N w c i lb : Nat} {u : zTau} {n : Int32} {H0 H : jH} {D : zDr}
theorem zst_text (hu : zUg u c) (hN : 3000 ≤ N) (hk : u.1 i ≠ 0) (hD : zLD N w u c n H0 lb i D H) : zSO N w u c n H0 lb (zsText u i D) (fX2_text N (w + 1)) H := by
  obtain ⟨⟨d, hR⟩, hF, hw, hok, ⟨c1, c2⟩, τ, A, cap, nn, f, dn, dm, ev, sk, tx, what, name, rfl, hL, ⟨n0, n1, n2, n3⟩, hm⟩ := hD
  have hi := hR.2.2.2.2.1
  have hb := hR.2.2.2.2.2.1
  have hs := hR.2.2.2.2.2.2
  have hi1 := zne_lt hu hi hk
  have hS3 := hok.1.1
  have hT6 := hok.1.2.1
  obtain ⟨⟨⟨mc, l1⟩, -⟩, -⟩ := hL.2.2.2.1 3 (by decide)
  rw [n3] at l1
  have hc1 := hu.1
  have run : (fX2_text N (w + 1)).1 H = (fX2_text_23 N (w + 1) (nI (zT D.1)) (zb (decide (zT D.1 = 6)))).1 H := by
    unfold fX2_text
    rw [zgRs hR.2.2.2.1 (by decide) rfl, zgRs hL.2.2.1 (by decide) rfl, zrc (c := 4) (by unfold jcd; rw [l1]; rfl), zal_size l1, zI]
    by_cases c3 : zT D.1 = 6
    · rw [if_pos (show nI (zT D.1) = 6 by rw [c3]; rfl), decide_eq_true c3]; rfl
    · rw [if_neg (show ¬ nI (zT D.1) = 6 from fun q => c3 ((nI_eq (b := 6) (by omega) (by decide)).mp q)), decide_eq_false c3]; rfl
  have e20 : (20 : Int32) + nI (zT D.1) = nI (20 + zT D.1) := nI_add 20 _
  unfold zsText
  rcases zn_new hu hN hw hR hk hL n0 n1 hm (k := 20 + zT D.1) (by omega) (decide (zT D.1 = 6)) with ⟨e1, e2⟩ | ⟨e1, ⟨e, e2, e3⟩ | ⟨e2, e3, H1, τ1, A1, cap1, f1, e4, e5, e6, e7, e8, ⟨xx, yy, x1, x2, x3, x4, x5, x6⟩, e9, e10, e11, e12, e13, e14⟩⟩
  · rw [if_pos (of_decide_eq_true e1)]
    refine zSO.er (cc := 1) (ss := 7) hF hi ?_ (by show H.2.1 + 1 ≤ H0.2.1 + 100 + 40 * (i + 1); omega) (by show H.2.2.2.1 + 7 ≤ H0.2.2.2.1 + 1000 + 400 * (i + 1); omega)
    rw [run]
    unfold fX2_text_23
    rw [e20]
    exact e2.bt _
  · rw [if_neg (of_decide_eq_false e1)]
    unfold zNe
    rw [e2]
    refine zSO.er (cc := 1) (ss := 7) hF hi1 ?_ (by show H.2.1 + 1 ≤ H0.2.1 + 100 + 40 * (i + 1 + 1); omega) (by show H.2.2.2.1 + 7 ≤ H0.2.2.2.1 + 1000 + 400 * (i + 1 + 1); omega)
    rw [run]
    unfold fX2_text_23
    rw [e20]
    exact e3.bt _
  · have c3 := of_decide_eq_false e1
    rw [if_neg c3]
    unfold zNe
    rw [e2]
    dsimp only
    obtain ⟨z1, z2⟩ := zNew_n e2
    have hi2 := e5.2.2.2.2.1
    have f1' : zFm (fun q => q = w + 1) H0 H1 := hF.tr e11 (fun q hq hh => by rcases hh with hh | hh; exact hh; omega)
    have run1 : (fX2_text_23 N (w + 1) (nI (zT D.1)) (zb (decide (zT D.1 = 6)))).1 H = (jBT (fX2_one N (w + 1) (some (w + 3))) fun y3 => jB (jgR [1] 3 (some (w + 1))) fun y4 => jBT (fX2_one N (w + 1) y4) fun y5 => if y5 = 1 then (fX2_text_56 N (w + 1) y3 1) else (fX2_text_56 N (w + 1) y3 0)).1 H1 := by
      unfold fX2_text_23
      rw [e20, zBTl e4, zgRs e5.2.2.2.1 (by decide) rfl]
    rcases zrs_on (N := N) hu e5 (A := w + 3) (F := zKd u (i + 2)) (zrs_kd hu hN e5) (fun x hx => ⟨by have := (zKd_l4 hx).1; omega, (zKd_l4 hx).2⟩) with ⟨k1, k2⟩ | ⟨kd, k1, Ha, k2, k3, k4, k5, k6⟩
    · rw [k1]
      refine zSO.er (cc := 1) (ss := 7) f1' hi2 ?_ (by show H1.2.1 + 1 ≤ H0.2.1 + 100 + 40 * (i + 2 + 1); omega) (by show H1.2.2.2.1 + 7 ≤ H0.2.2.2.1 + 1000 + 400 * (i + 2 + 1); omega)
      rw [run, run1]
      exact k2.bt _
    · have hkd := (zKd_l4 k1).1
      rw [k1]
      dsimp only
      have fa' := f1'.tr k4 (fun q _ hq => hq)
      have sa1 : Ha.2.1 = H1.2.1 := by rw [k5]
      have sa2 : Ha.2.2.2.1 = H1.2.2.2.1 := by rw [k5]
      have hi3 := k3.2.2.2.2.1
      rw [zBTl k2, zgRs k3.2.2.2.1 (by decide) rfl] at run1
      rcases zrs_on (N := N) hu k3 (A := w + 5) (F := zIk u (i + 3)) (zrs_ik hu hN k3) (fun x hx => ⟨by have := (zIk_l2 hx).1; omega, (zIk_l2 hx).2⟩) with ⟨r1, r2⟩ | ⟨gl, r1, Hb, r2, r3, r4, r5, r6⟩
      · rw [r1]
        refine zSO.er (cc := 1) (ss := 7) fa' hi3 ?_ (by show Ha.2.1 + 1 ≤ H0.2.1 + 100 + 40 * (i + 3 + 1); omega) (by show Ha.2.2.2.1 + 7 ≤ H0.2.2.2.1 + 1000 + 400 * (i + 3 + 1); omega)
        rw [run, run1]
        exact r2.bt _
      · have hgl := (zIk_l2 r1).1
        rw [r1]
        dsimp only
        have fb' := fa'.tr r4 (fun q _ hq => hq)
        have sb1 : Hb.2.1 = H1.2.1 := by rw [r5, sa1]
        have sb2 : Hb.2.2.2.1 = H1.2.2.2.1 := by rw [r5, sa2]
        have hi4 := r3.2.2.2.2.1
        have hLb := (e6.rd k4 hw k6).rd r4 hw r6
        have A10 : A1 0 = A 0 := e7 0 (by decide) (by decide)
        have run2 : (fX2_text N (w + 1)).1 H = (jBT (fX2_number N (w + 1) (some (Hb.2.2.2.2 (1 + 9))) (nI 1) (nI 6)) fun y4 => jB (fX1_made (nI kd) (nI gl) y4) fun y5 => jB (jrc 4 (some (A1 7))) fun b7 => jB (fJ2_add b7 y5) fun y6 => jR (.inl ())).1 Hb := by
          have e56 : (if nI gl = 1 then (fX2_text_56 N (w + 1) (nI kd) 1) else (fX2_text_56 N (w + 1) (nI kd) 0)) = fX2_text_56 N (w + 1) (nI kd) (nI gl) := by
            have : gl = 0 ∨ gl = 1 := by omega
            rcases this with e | e <;> rw [e] <;> rfl
          rw [run, run1, zBTl r2, e56]
          unfold fX2_text_56
          rw [zgRs r3.2.2.2.1 (by decide) rfl, ← A10, zgRs hLb.2.2.1 (by decide) rfl, zK]
          rfl
        unfold zBo
        rcases zrs_wn (j := 9) hu hN r3 (lo' := 1) (hi' := 6) (by decide) (by decide) (by decide) with ⟨e, j1, j2⟩ | ⟨j1, j2, j2a, j2b, H4, j3, j4, j5, j6, j7⟩
        · have pe : zBo u (i + 4) 6564799 1 6 (fun l => zCl u (i + 6) (zaT D (u.2.1 (i + 1)) kd gl l)) = .inl e ∧ e.2 ≤ c ∧ i + 4 ≤ e.2 := by
            unfold zBo
            rcases j1 with ⟨y1, y2⟩ | ⟨y1, x, y2, y3⟩
            · rw [if_neg (show ¬ zisw u (i + 4) 6564799 = true by rw [show zisw u (i + 4) 6564799 = false from y1]; exact zff), y2]
              exact ⟨rfl, hi4, Nat.le_refl _⟩
            · rw [if_pos (show zisw u (i + 4) 6564799 = true from y1), y2, y3]
              exact ⟨rfl, zne_lt hu hi4 (zisw_n0 y1), Nat.le_succ _⟩
          unfold zBo at pe
          rw [pe.1]
          refine zSO.er (cc := 1) (ss := 7) fb' pe.2.1 ?_ (by omega) (by omega)
          rw [run2]
          exact j2.bt _
        · rw [if_pos (show zisw u (i + 4) 6564799 = true from j1), j2]
          dsimp only
          have hi6 := j4.2.2.2.2.1
          have hlo := (e6.2.1 0 (by decide)).2
          have f4' := fb'.tr j5 (fun q _ hq => hq)
          have s4 : H4.2.1 = H1.2.1 := by rw [j6, sb1]
          have s42 : H4.2.2.2.1 = H1.2.2.2.1 := by rw [j6, sb2]
          have s45 : H4.2.2.2.2 = H1.2.2.2.2 := by rw [j6, r5, k5]
          have hb1 := e5.2.2.2.2.2.1
          have hL4 := hLb.rd j5 hw j7
          have ff4 : zFf τ1 H0.2.1 H1 H4 := (zFf.rd k4 hw hb1 e5.2.2.2.2.2.2).tr ((zFf.rd r4 hw k3.2.2.2.2.2.1 k3.2.2.2.2.2.2).tr (zFf.rd j5 hw r3.2.2.2.2.2.1 r3.2.2.2.2.2.2) (fun _ _ => rfl) (by rw [r5]; exact Nat.le_refl _) (by rw [r5])) (fun _ _ => rfl) (by omega) (by rw [k5])
          obtain ⟨H5, v1, v2, v3, v4, v5, v6, v7⟩ := zmade (H := H4) (by rw [s45]; omega) (k := kd) (g := gl) (l := u.2.2.1 (i + 5)) hkd hgl
          have s55 : H5.2.2.2.2 = H4.2.2.2.2 := v4.2.2.2.2
          have r5' := j4.same v4
          obtain ⟨τ5, hτ5⟩ : ∃ τ5 : Nat → Nat, τ5 = fun q => if q = H4.2.1 then 14 else τ1 q := ⟨_, rfl⟩
          have t5 : ∀ q, q < H4.2.1 → τ5 q = τ1 q := fun q hq => by rw [hτ5]; exact if_neg (by omega)
          have hL5 : zLR H5 H0.2.1 τ5 A1 cap1 (zup (zup nn 0 (nn 0 + 1)) 1 (nn 1 + 1)) f1 dn dm ev := hL4.fr (fun q qa qb => v3 q (by omega)) t5 v7
          have hx5 : zOk H5 (some H4.2.1) := ⟨H4.2.1, 13 + kd, rfl, by omega, by unfold jcd; rw [v2]; rfl, by
            have : kd = 0 ∨ kd = 1 ∨ kd = 2 ∨ kd = 3 := by omega
            rcases this with e | e | e | e <;> rw [e] <;> decide⟩
          have nn2 : zup (zup nn 0 (nn 0 + 1)) 1 (nn 1 + 1) 2 = zS D.1 := by rw [zup_n _ _ (by decide), zup_n _ _ (by decide), n2]
          have nn3 : zup (zup nn 0 (nn 0 + 1)) 1 (nn 1 + 1) 3 = zT D.1 := by rw [zup_n _ _ (by decide), zup_n _ _ (by decide), n3]
          obtain ⟨H6, A6, τ6, cap6, g0, p1, p2, p3, p4, p5, p6, p7, p8, p9, p10, p11⟩ := hL5.add (j := 3) (by decide) (by rw [nn3]; omega) hx5
          have r6 := r5'.hi hw p7
          rw [nn3] at p4 p5 p2
          have ff5 : zFf τ1 H0.2.1 H4 H5 := fun q hq => v3 q (by rcases hq with hq | hq; rw [s45] at hq; omega; omega)
          have sz6 : H5.2.1 ≤ H6.2.1 := p7.2.1
          have k6' : H6.2.2.2.2 = H5.2.2.2.2 := p7.2.2.2.2
          have sz1 : H.2.1 ≤ H1.2.1 := e11.2.1
          have ff : zFf τ H0.2.1 H H6 := e9.tr (ff4.tr (ff5.tr p8 t5 (by omega) s55) (fun _ _ => rfl) (by omega) s45) e10 e11.2.1 e11.2.2.2.2
          have tt : ∀ q, q < H.2.1 → τ6 q = τ q := fun q hq => (p6 q (by omega)).trans ((t5 q (by omega)).trans (e10 q hq))
          have fin : zFm (fun q => q = w + 1) H0 H6 := (f4'.tr v4 (fun q hq hh => hh.elim)).tr p7 (fun q hq hh => by omega)
          have xk : ∀ q, zFz τ1 H0.2.1 H1 q → zFz τ6 H0.2.1 H6 q ∧ H6.1 q = H1.1 q := fun q hq => by
            have h4 : zFz τ1 H0.2.1 H4 q := hq.le (fun _ _ => rfl) (by omega) s45
            have h5 : zFz τ5 H0.2.1 H5 q := h4.le t5 (by omega) s55
            exact ⟨h5.le p6 sz6 k6', (zFz.at p8 h5).trans ((zFz.at ff5 h4).trans (zFz.at ff4 hq))⟩
          refine zSO.cl hu (H1 := H6) ?_ ⟨⟨d, by rw [← A10] at r6; rw [← A10]; exact r6⟩, fin, hw, zDok_T hok c3 (by omega) (by omega) ⟨j2a, j2b⟩, ⟨by omega, by omega⟩, τ6, A6, cap6, _, _, dn, dm, ev, sk, zup tx (zT D.1) H4.2.1, zup what (zS D.1 + zT D.1) (20 + zT D.1), zup name (zS D.1 + zT D.1) (u.2.1 (i + 1)), (p3 0 (by decide)).trans A10, p2, ⟨?_, ?_, ?_, ?_⟩, ?_⟩
          · obtain ⟨⟨⟨mc5, l5⟩, -⟩, -⟩ := hL5.2.2.2.1 3 (by decide)
            rw [run2, zBTl j3, jB_eq v1, zrc (c := 4) (by unfold jcd; rw [l5]; rfl), jB_eq p1]
            rfl
          · show zup _ 3 (zT D.1 + 1) 0 = zS D.1 + (zT D.1 + 1)
            rw [zup_n _ _ (by decide), zup_n _ _ (by decide), zup_e]; omega
          · show zup _ 3 (zT D.1 + 1) 1 = zS D.1 + (zT D.1 + 1)
            rw [zup_n _ _ (by decide), zup_e]; omega
          · show zup _ 3 (zT D.1 + 1) 2 = zS D.1
            rw [zup_n _ _ (by decide)]; exact nn2
          · show zup _ 3 (zT D.1 + 1) 3 = zT D.1 + 1
            rw [zup_e]
          · obtain ⟨m1, m2, m3, m4, m5, m6, m7⟩ := hm
            refine ⟨m1, fun j hj => ?_, m3, fun j hj => ?_, fun j hj => ?_, ?_, ?_⟩
            · obtain ⟨b1, b2, b3⟩ := m2 j hj
              exact ⟨(congrFun e8.1 j).trans b1, b2.le tt (by omega), (ff _ (Or.inr ⟨b2.2.1, b2.2.2, Or.inl b2.1⟩)).trans b3⟩
            · have hj : j < zT D.1 + 1 := hj
              show g0 j = some (zup tx (zT D.1) H4.2.1 j) ∧ zTg τ6 H0.2.1 H6 (zup tx (zT D.1) H4.2.1 j) 14 ∧ H6.1 (zup tx (zT D.1) H4.2.1 j) = some (.inl (13 + zup (D.1.2.1 3) (zT D.1) kd j, [.int (nI (zup (D.1.2.1 4) (zT D.1) gl j)), .int (nI (zup (D.1.2.1 5) (zT D.1) (u.2.2.1 (i + 5)) j))]))
              by_cases ej : j = zT D.1
              · rw [ej, zup_e, zup_e, zup_e, zup_e]
                have hq : H6.1 H4.2.1 = H5.1 H4.2.1 := p8 _ (Or.inr ⟨by omega, by omega, Or.inr (by rw [hτ5]; exact if_pos rfl)⟩)
                exact ⟨p5, ⟨(p6 _ (by omega)).trans (by rw [hτ5]; exact if_pos rfl), by omega, by omega⟩, hq.trans v2⟩
              · rw [zup_n _ _ ej, zup_n _ _ ej, zup_n _ _ ej, zup_n _ _ ej]
                obtain ⟨b1, b2, b3⟩ := m4 j (by omega)
                exact ⟨(p4 j (by omega)).trans ((congrFun e8.2.1 j).trans b1), b2.le tt (by omega), (ff _ (Or.inr ⟨b2.2.1, b2.2.2, Or.inr b2.1⟩)).trans b3⟩
            · have hj : j < zS D.1 + (zT D.1 + 1) := hj
              by_cases ej : j = zS D.1 + zT D.1
              · rw [ej, zup_e, zup_e]
                obtain ⟨b1, b2⟩ := xk xx x3
                obtain ⟨b3, b4⟩ := xk yy x4
                exact ⟨xx, yy, x1, x2, b1, b3, b2.trans x5, b4.trans x6⟩
              · rw [zup_n _ _ ej, zup_n _ _ ej]
                obtain ⟨x, y, b1, b2, b3, b4, b5, b6⟩ := m5 j (by omega)
                have hK : H6.2.2.2.2 = H.2.2.2.2 := by rw [k6', s55, s45]; exact e11.2.2.2.2
                exact ⟨x, y, (e8.2.2 j (by omega)).1.trans b1, (e8.2.2 j (by omega)).2.trans b2, b3.le tt (by omega) hK, b4.le tt (by omega) hK, (zFz.at ff b3).trans b5, (zFz.at ff b4).trans b6⟩
            · have h40 : u.2.1 (i + 1) < 2 ^ 40 := (hu.2.2.2 (i + 1) hi1).2.1
              exact zNo_T m6 (by omega) h40 z1 z2
            · rcases m7 with m7 | ⟨v, e, b1, b2, b3⟩
              · exact Or.inl m7
              · exact Or.inr ⟨v, e, b1, b2, b3.mo (fun q hq => ⟨hq.le tt (by omega), ff q (Or.inr ⟨hq.2.1, hq.2.2, Or.inr hq.1⟩)⟩) (Nat.le_refl _)⟩
end
