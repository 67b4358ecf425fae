/-! PURE 70: the component's parser of expressions: a part, a whole one -/
set_option maxRecDepth 100000
section
variable {N w c d m : Nat} {u : zTau} {dr : Value} {n : Int32}
theorem zp_st (hu : zUg u c) (hN : 3000 ≤ N) {i : Nat} {H : jH} (hR : zRdS w u c dr n i d H) (rec : jM (Option Nat ⊕ Nat)) : (zstart u i = false ∧ zBd w u n (1, i) H 1 7 ((gX2_part N rec (w + 1)).1 H)) ∨ (zstart u i = true ∧ u.1 i ≠ 0 ∧ (gX2_part N rec (w + 1)).1 H = (fX2_part_53 N rec (w + 1) (zo (zfa u i)) (zb (zisw u i 10631))).1 H) := by
  have hi := hR.2.2.2.2.1
  obtain ⟨u1, u2, u3, u4, u5⟩ := hu.2.2.2 i hi
  unfold gX2_part zstart
  rw [zgRs hR.2.2.2.1 (by decide) rfl, zrs_fa hu hN hR, zK, zrs_isW (j := 21) hu hN hR (by decide), show zWd 21 = 10631 from rfl, zI]
  cases hf : zfa u i with
  | some f0 =>
    have hlt : f0 < 4 ∧ u.1 i ≠ 0 := by
      have e : zfa u i = zFs (fun k => zisw u i (zWd k)) 4 0 := rfl
      rw [e] at hf
      obtain ⟨a1, a2, a3⟩ := zFs_31 hf
      exact ⟨by omega, zisw_n0 a3⟩
    exact Or.inr ⟨rfl, hlt.2, by rw [if_neg (show ¬ zo (some f0) = -1 from zneg1 (by omega))]⟩
  | none =>
    rw [if_pos (show zo none = -1 from rfl), zI]
    cases hn : zisw u i 10631 with
    | true => exact Or.inr ⟨rfl, zisw_n0 hn, by rw [if_neg zb1n]⟩
    | false =>
      rw [if_pos zb_f, zrs_8 hR, zrs_11 hR, zrs_so hu hR hi, zI]
      by_cases c2 : u.1 i = 2
      · exact Or.inr ⟨by rw [decide_eq_true c2]; rfl, by omega, by rw [if_pos (show nI (u.1 i) = 2 by rw [c2]; rfl)]⟩
      · rw [if_neg (show ¬ nI (u.1 i) = 2 from fun q => c2 ((nI_eq (b := 2) (by omega) (by decide)).mp q)), show (40 : Int32) = nI 40 from rfl, zrs_isS hu hR (by decide), zI]
        cases hs : ziss u i 40 with
        | true => exact Or.inr ⟨by rw [decide_eq_false c2]; rfl, ziss_n0 hs, by rw [if_neg zb1n]⟩
        | false =>
          refine Or.inl ⟨by rw [decide_eq_false c2]; rfl, ?_⟩
          rw [if_pos zb_f]
          exact zbd_thr hu hR (k := 1) (by decide)
theorem zPart_e0 {r i : Nat} (h : zstart u i = false) : zPart u m r i = .inl (1, i) := by
  have h0 := h
  unfold zstart at h
  simp only [Bool.or_eq_false_iff, decide_eq_false_iff_not] at h
  obtain ⟨h1, h2, h3, h4⟩ := h
  cases r with
  | zero => rw [zPart, h0, if_neg zff]
  | succ r =>
    rw [zPart]
    cases hf : zfa u i with
    | some f => rw [hf] at h1; cases h1
    | none =>
      dsimp only
      rw [if_neg (by rw [h2]; exact zff), if_neg h3, if_neg (by rw [h4]; exact zff)]
/-- it comes one less deep -/
theorem zp_173 {i : Nat} {H : jH} (hR : zRdS w u c dr n i (d + 1) H) (rec : jM (Option Nat ⊕ Nat)) (q : Nat) : ∃ H', (fX2_part_173 N rec (w + 1) (some q)).1 H = some (.inl (some q), H') ∧ zRdS w u c dr n i d H' ∧ zFm (fun x => x = w + 1) H H' ∧ H'.2 = H.2 ∧ jLe H H' := by
  obtain ⟨a1, a2, a3⟩ := zrs_dp (α := Option Nat ⊕ Nat) hR d
  refine ⟨_, ?_, a1, a3, rfl, zrs_le hR _ _ _ _⟩
  unfold fX2_part_173
  rw [zrs_12 hR, zc1_sb (by omega), Nat.add_sub_cancel, a2]
  rfl
theorem zPartO (hu : zUg u c) (hN : 3000 ≤ N) (hm : c < m) (hm2 : m ≤ N) : ∀ (r f : Nat), r ≤ 5 → r < f → ∀ i H, zRdS w u c dr n i (5 - r) H → zOc N w u c dr n i (5 - r) (4 * r) H (zPart u m r i) ((rX2_part N (w + 1) f).1 H)
  | r, 0, h5, hf, i, H, hR => by omega
  | 0, f + 1, h5, hf, i, H, hR => by
    have hi := hR.2.2.2.2.1
    rw [rX2_part]
    rcases zp_st hu hN hR (rX2_part N (w + 1) f) with ⟨z, k⟩ | ⟨z, z2, k⟩
    · rw [zPart_e0 z]
      exact Or.inl ⟨(1, i), rfl, Nat.le_refl _, hi, k.pre (zFm.rf _ _) (by show H.2.1 + 1 ≤ H.2.1 + 20 * (i + 1 - i); omega) (by show H.2.2.2.1 + 7 ≤ H.2.2.2.1 + 200 * (i + 1 - i); omega)⟩
    · rw [zPart, if_pos z, k]
      unfold fX2_part_53
      rw [zrs_12 hR, zI, if_pos (show nI (5 - 0) = 5 from rfl)]
      exact Or.inl ⟨(5, i), rfl, Nat.le_refl _, hi, (zbd_thr hu hR (k := 5) (by decide)).pre (zFm.rf _ _) (by show H.2.1 + 1 ≤ H.2.1 + 20 * (i + 1 - i); omega) (by show H.2.2.2.1 + 7 ≤ H.2.2.2.1 + 200 * (i + 1 - i); omega)⟩
  | r + 1, f + 1, h5, hf, i, H, hR => by
    have hi := hR.2.2.2.2.1
    have hw := hR.2.2.2.2.2.2
    have hb := hR.2.2.2.2.2.1
    obtain ⟨u1, u2, u3, u4, u5⟩ := hu.2.2.2 i hi
    have ih := zPartO hu hN hm hm2 r f (by omega) (by omega)
    have ed : 5 - r = 5 - (r + 1) + 1 := by omega
    rw [rX2_part]
    rcases zp_st hu hN hR (rX2_part N (w + 1) f) with ⟨z, k⟩ | ⟨z, z2, k⟩
    · rw [zPart_e0 z]
      exact Or.inl ⟨(1, i), rfl, Nat.le_refl _, hi, k.pre (zFm.rf _ _) (by show H.2.1 + 1 ≤ H.2.1 + 20 * (i + 1 - i); omega) (by show H.2.2.2.1 + 7 ≤ H.2.2.2.1 + 200 * (i + 1 - i); omega)⟩
    · rw [k]
      have hi1 := zne_lt hu hi z2
      obtain ⟨a1, a2, a3⟩ := zrs_to (α := Option Nat ⊕ Nat) hR (i + 1) hi1
      have l1 := zrs_le hR dr n (nI (i + 1)) (nI (5 - (r + 1)))
      unfold fX2_part_53
      rw [zrs_12 hR, zI, if_neg (show ¬ nI (5 - (r + 1)) = 5 from fun q => by have := (nI_eq (b := 5) (by omega) (by decide)).mp q; omega), zrs_11 hR, zc1_da, a2]
      obtain ⟨H1, hH1⟩ : ∃ H1, H1 = jset H (w + 1) (zRc w dr n (nI (i + 1)) (nI (5 - (r + 1)))) := ⟨_, rfl⟩
      rw [← hH1] at a1 a3 l1 ⊢
      have s1 : H1.2 = H.2 := by rw [hH1]; rfl
      have s11 : H1.2.1 = H.2.1 := by rw [s1]
      have s12 : H1.2.2.2.1 = H.2.2.2.1 := by rw [s1]
      have s15 : H1.2.2.2.2 = H.2.2.2.2 := by rw [s1]
      have leaf : ∀ (cls : Nat) (x : Int32) (v : zVV) (K : Nat → jM (Option Nat ⊕ Nat)), (∀ q, (K q).1 (jnew H1 (.inl (cls, [.int 0])) 1) = (jB (jpI [cls] 0 (some q) x) fun _ => jR (.inl (some q))).1 (jnew H1 (.inl (cls, [.int 0])) 1)) → (∀ H', H'.1 H.2.1 = some (.inl (cls, [.int x])) → zXe N H' (fun y => H.2.1 ≤ y ∧ y < H.2.1 + 1) 1 H.2.1 v) → ∀ cs, zOc N w u c dr n i (5 - (r + 1)) (4 * (r + 1)) H (.inr (i + 1, v, cs)) ((jB (jnw cls 1 [.int 0]) K).1 H1) := by
        intro cls x v K hK hv cs
        have e1 : (jnew H1 (.inl (cls, [.int 0])) 1).1 H.2.1 = some (.inl (cls, [.int 0])) := by rw [← s11]; exact znw_e _ _ _
        obtain ⟨H2, hH2⟩ : ∃ H2, H2 = jset (jnew H1 (.inl (cls, [.int 0])) 1) H.2.1 (.inl (cls, [.int x])) := ⟨_, rfl⟩
        have f2 : zFm (fun y => y = w + 1) H H2 := by rw [hH2]; exact a3.nw.set (Or.inl (Nat.le_refl _))
        have s2 : H2.2.1 = H.2.1 + 1 := by rw [hH2]; show H1.2.1 + 1 = _; rw [s11]
        have s3 : H2.2.2.2.1 = H.2.2.2.1 + 1 := by rw [hH2]; show H1.2.2.2.1 + 1 = _; rw [s12]
        have r2 : zRdS w u c dr n (i + 1) (5 - (r + 1)) H2 := by
          rw [hH2]
          exact a1.hi (lo := H.2.1) hw ((zFm.rf _ _).nw.set (Or.inl (Nat.le_of_eq s11)))
        refine Or.inr ⟨(i + 1, v, cs), H2, H.2.1, rfl, ?_, Nat.lt_succ_self _, r2, f2, by rw [s2]; exact (hv H2 (by rw [hH2]; exact zse_e _ _ _)).mo (fun q hq => ⟨hq, rfl⟩) (by omega), by show H2.2.1 ≤ H.2.1 + 20 * (i + 1 - i); omega, by show H2.2.2.2.1 ≤ H.2.2.2.1 + 200 * (i + 1 - i); omega, ?_⟩
        · rw [znwB, s11, hK]
          unfold jpI
          rw [zpV e1 (List.mem_singleton.mpr rfl) (by show H1.2.2.2.2 0 ≤ H.2.1; rw [s15]; omega) (by show 0 < 1; decide), hH2]
          rfl
        · rw [hH2]
          exact jLe.tr l1 (jLe.tr (jnew_le _ _ _) (jsetO_le e1))
      rw [zI, zPart]
      cases hfa : zfa u i with
      | some f0 =>
        have hlt : f0 < 4 := by
          have e : zfa u i = zFs (fun k => zisw u i (zWd k)) 4 0 := rfl
          rw [e] at hfa
          have := (zFs_31 hfa).2.1
          omega
        rw [if_neg (show ¬ zo (some f0) = -1 from zneg1 (by omega))]
        exact leaf 17 (nI f0) (zfv f0) (fun q => jB (fX15_init q (nI f0)) fun _ => jR (.inl (some q))) (fun q => by unfold fX15_init fX14_init; rw [zA, zR, zA]; rfl) (fun H' h' => zXe_f hlt ⟨Nat.le_refl _, Nat.lt_succ_self _⟩ h') _
      | none =>
        rw [if_pos (show zo none = -1 from rfl), zI]
        dsimp only
        -- one more deep
        have inner : ∀ (b : Bool) (p : zPR), (∀ H2, zRdS w u c dr n (i + 1) (5 - r) H2 → zFm (fun x => x = w + 1) H1 H2 → H2.2 = H1.2 → jLe H1 H2 → zOc N w u c dr n i (5 - (r + 1)) (4 * (r + 1)) H p ((if zb b = 0 then (jBT (gX2_all N (rX2_part N (w + 1) f) (w + 1)) fun y2 => fX2_part_162 N (rX2_part N (w + 1) f) (w + 1) (zb b) y2) else (jB (jnw 19 1 [.null]) fun q3 => jBT (rX2_part N (w + 1) f) fun y4 => jB (fX17_init q3 y4) fun _ => fX2_part_162 N (rX2_part N (w + 1) f) (w + 1) (zb b) (some q3))).1 H2)) → zOc N w u c dr n i (5 - (r + 1)) (4 * (r + 1)) H p ((fX2_part_130 N (rX2_part N (w + 1) f) (w + 1) (zb b)).1 H1) := by
          intro b p hp
          obtain ⟨b1, b2, b3⟩ := zrs_dp (α := Option Nat ⊕ Nat) a1 (5 - r)
          unfold fX2_part_130
          rw [zrs_12 a1, zc1_da, show 5 - (r + 1) + 1 = 5 - r by omega, b2]
          exact hp _ b1 b3 rfl (zrs_le a1 _ _ _ _)
        cases hn : zisw u i 10631 with
        | true =>
          rw [if_neg zb1n, if_pos rfl]
          refine inner true _ (fun H2 r2 f2 s2 l2 => ?_)
          rw [if_neg zb1n, znwB]
          have t21 : H2.2.1 = H.2.1 := by rw [s2, s11]
          have t22 : H2.2.2.2.1 = H.2.2.2.1 := by rw [s2, s12]
          have t25 : H2.2.2.2.2 = H.2.2.2.2 := by rw [s2, s15]
          obtain ⟨H3, hH3⟩ : ∃ H3, H3 = jnew H2 (.inl (19, [.null])) 1 := ⟨_, rfl⟩
          rw [← hH3]
          have e3 : H3.1 H2.2.1 = some (.inl (19, [.null])) := by rw [hH3]; exact znw_e _ _ _
          have f3 : zFm (fun _ => False) H2 H3 := by rw [hH3]; exact (zFm.rf _ _).nw
          have s3 : H3.2.1 = H.2.1 + 1 := by rw [hH3]; show H2.2.1 + 1 = _; rw [t21]
          have s32 : H3.2.2.2.1 = H.2.2.2.1 + 1 := by rw [hH3]; show H2.2.2.2.1 + 1 = _; rw [t22]
          have l3 : jLe H2 H3 := by rw [hH3]; exact jnew_le _ _ _
          have g3 : zFm (fun x => x = w + 1) H H3 := (a3.tr f2 (fun q _ hq => hq)).tr f3 (fun q _ hq => hq.elim)
          unfold zNot
          rcases ih (i + 1) H3 (r2.same f3) with ⟨e, k1, k2, k3, k4⟩ | ⟨x, H4, q, k1, k2, k3, k4, k5, k6, k7, k8, k9⟩
          · rw [k1]
            exact Or.inl ⟨e, rfl, by omega, k3, (k4.bt _).pre g3 (by omega) (by omega)⟩
          · rw [k1, zBTl k2]
            dsimp only
            have e4 : H4.1 H2.2.1 = some (.inl (19, [.null])) := k5.at e3 (by omega) (by omega)
            obtain ⟨H5, hH5⟩ : ∃ H5, H5 = jset H4 H2.2.1 (.inl (19, [.ref q])) := ⟨_, rfl⟩
            have e5 : H5.1 H2.2.1 = some (.inl (19, [.ref q])) := by rw [hH5]; exact zse_e _ _ _
            have s5 : H5.2 = H4.2 := by rw [hH5]; rfl
            have f5 : zFm (fun y => H.2.1 ≤ y) H4 H5 := by rw [hH5]; exact (zFm.rf _ _).set (Or.inr (by show H.2.1 ≤ H2.2.1; omega))
            have l5 : jLe H4 H5 := by rw [hH5]; exact jsetO_le e4
            have r5 := k4.hi hw f5
            have g5 : zFm (fun x => x = w + 1) H H5 := (g3.tr k5 (fun q _ hq => hq)).tr f5 (fun q hq hh => by omega)
            rw [ed] at r5
            obtain ⟨H6, v1, v2, v3, v4, v5⟩ := zp_173 (N := N) r5 (rX2_part N (w + 1) f) H2.2.1
            have t61 : H6.2.1 = H4.2.1 := by rw [v4, s5]
            have t62 : H6.2.2.2.1 = H4.2.2.2.1 := by rw [v4, s5]
            have kl := k9.1
            refine Or.inr ⟨(x.1, zvn x.2.1, 30 :: x.2.2), H6, H2.2.1, rfl, ?_, by show i < x.1; omega, v2, g5.tr v3 (fun q _ hq => hq), ?_, by show H6.2.1 ≤ H.2.1 + 20 * (x.1 - i); omega, by show H6.2.2.2.1 ≤ H.2.2.2.1 + 200 * (x.1 - i); omega, jLe.tr l1 (jLe.tr l2 (jLe.tr l3 (jLe.tr k9 (jLe.tr l5 v5))))⟩
            · unfold fX17_init fX14_init fX2_part_162 jpR
              rw [zA, zR, zA, zpV e4 (by decide) (by rw [k5.2.2.2.2, f3.2.2.2.2, t25]; omega) (by show 0 < 1; decide), show jset H4 H2.2.1 (.inl (19, List.set [.null] 0 (va_rf (some q)))) = H5 from hH5.symm, zR, zI, if_neg zb1n]
              exact v1
            · have at6 : ∀ y, H.2.1 ≤ y → y < H4.2.1 → y ≠ H2.2.1 → H6.1 y = H4.1 y := fun y y1 y2 y3 => (v3.1 y (by rw [s5]; exact y2) (by omega)).trans (by rw [hH5]; exact zse_n _ _ y3)
              have hx : zXe N H6 (fun y => H.2.1 ≤ y ∧ y < H6.2.1) (4 * r) q x.2.1 := k6.mo (fun y hy => ⟨⟨by omega, by omega⟩, at6 y (by omega) hy.2 (by omega)⟩) (Nat.le_refl _)
              exact (zXe_t ⟨by omega, by omega⟩ ((v3.1 _ (by rw [s5]; omega) (by omega)).trans e5) hx).mo (fun q hq => ⟨hq, rfl⟩) (by omega)
        | false =>
          rw [if_pos zb_f, zrs_8 a1, zrs_11 a1, zc1_sb (by omega), Nat.add_sub_cancel, zrs_so hu a1 hi, zI, if_neg zff]
          by_cases c2 : u.1 i = 2
          · rw [if_pos c2, if_pos (show nI (u.1 i) = 2 by rw [c2]; rfl)]
            have a1n : zRdS w u c dr n (i + 1) (5 - (r + 1)) (jnew H1 (.inl (18, [.int 0])) 1) := a1.same (zFm.rf _ _).nw
            refine leaf 18 (nI (u.2.2.1 i)) (fun _ _ _ _ => nI (u.2.2.1 i)) _ (fun q => ?_) (fun H' h' => zXe_n ⟨Nat.le_refl _, Nat.lt_succ_self _⟩ h') _
            rw [zrs_9 a1n, zrs_11 a1n, zc1_sb (by omega), Nat.add_sub_cancel, zrs_vn hu a1n hi c2, nL_l2i (by omega)]
            unfold fX16_init fX14_init
            rw [zA, zR, zA]
            rfl
          · rw [if_neg c2, if_neg (show ¬ nI (u.1 i) = 2 from fun q => c2 ((nI_eq (b := 2) (by omega) (by decide)).mp q))]
            have hs : ziss u i 40 = true := by
              unfold zstart at z
              rw [hfa, hn, decide_eq_false c2] at z
              exact z
            rw [if_pos hs]
            refine inner false _ (fun H2 r2 f2 s2 l2 => ?_)
            rw [if_pos zb_f]
            have t21 : H2.2.1 = H.2.1 := by rw [s2, s11]
            have t22 : H2.2.2.2.1 = H.2.2.2.1 := by rw [s2, s12]
            have g2 : zFm (fun x => x = w + 1) H H2 := a3.tr f2 (fun q _ hq => hq)
            unfold zCls
            rcases zAllO hu hN hm hm2 ih (i + 1) H2 r2 with ⟨e, k1, k2, k3, k4⟩ | ⟨x, H4, q, k1, k2, k3, k4, k5, k6, k7, k8, k9⟩
            · rw [k1]
              exact Or.inl ⟨e, rfl, by omega, k3, (k4.bt _).pre g2 (by omega) (by omega)⟩
            · rw [k1, zBTl k2]
              dsimp only
              have hx1 := k4.2.2.2.2.1
              have g4 := g2.tr k5 (fun q _ hq => hq)
              unfold fX2_part_162
              rw [zI, if_pos zb_f, show (41 : Int32) = nI 41 from rfl]
              rcases zrs_sg hu k4 (x := 41) (by decide) with ⟨y1, y2⟩ | ⟨y1, H5, y2, y3, y4, y5, y6⟩
              · rw [if_neg (by rw [y1]; exact zff)]
                exact Or.inl ⟨(1, x.1), rfl, by show i ≤ x.1; omega, hx1, (y2.bt _).pre g4 (by show H4.2.1 + 1 ≤ H.2.1 + 20 * (x.1 + 1 - i); omega) (by show H4.2.2.2.1 + 7 ≤ H.2.2.2.1 + 200 * (x.1 + 1 - i); omega)⟩
              · rw [if_pos y1, zBTl y2]
                rw [ed] at y3
                obtain ⟨H6, v1, v2, v3, v4, v5⟩ := zp_173 (N := N) y3 (rX2_part N (w + 1) f) q
                have t61 : H6.2.1 = H4.2.1 := by rw [v4, y5]
                have t62 : H6.2.2.2.1 = H4.2.2.2.1 := by rw [v4, y5]
                refine Or.inr ⟨(x.1 + 1, x.2.1, 28 :: (x.2.2 ++ [29])), H6, q, rfl, v1, by show i < x.1 + 1; omega, v2, (g4.tr y4 (fun q _ hq => hq)).tr v3 (fun q _ hq => hq), ?_, by show H6.2.1 ≤ H.2.1 + 20 * (x.1 + 1 - i); omega, by show H6.2.2.2.1 ≤ H.2.2.2.1 + 200 * (x.1 + 1 - i); omega, jLe.tr l1 (jLe.tr l2 (jLe.tr k9 (jLe.tr y6 v5)))⟩
                exact k6.mo (fun y hy => ⟨⟨by omega, by omega⟩, (v3.1 y (by rw [y5]; exact hy.2) (by omega)).trans (y4.1 y hy.2 (by omega))⟩) (by omega)
/-- a whole expression -/
theorem zWholeO (hu : zUg u c) (hN : 3000 ≤ N) (hm : c < m) (hm2 : m ≤ N) {i : Nat} {H : jH} (hR : zRdS w u c dr n i d H) : zOc N w u c dr n i 0 24 H (zAll u m (zPart u m 5) i) ((fX2_whole N (w + 1)).1 H) := by
  obtain ⟨b1, b2, b3⟩ := zrs_dp (α := Option Nat ⊕ Nat) hR 0
  have l1 := zrs_le hR dr n (nI i) (nI 0)
  unfold fX2_whole fX2_all
  rw [show (0 : Int32) = nI 0 from rfl, b2]
  rcases zAllO hu hN hm hm2 (zPartO (n := n) (dr := dr) (w := w) hu hN hm hm2 5 8 (by decide) (by decide)) i _ b1 with ⟨e, k1, k2, k3, k4⟩ | ⟨x, H4, q, k1, k2, k3, k4, k5, k6, k7, k8, k9⟩
  · rw [k1]
    exact Or.inl ⟨e, rfl, k2, k3, (k4.bt _).pre b3 (Nat.le_refl _) (Nat.le_refl _)⟩
  · rw [k1]
    refine Or.inr ⟨x, H4, q, rfl, ?_, k3, k4, b3.tr k5 (fun q _ hq => hq), k6, k7, k8, jLe.tr l1 k9⟩
    rw [zBTl k2]
    rfl
end
