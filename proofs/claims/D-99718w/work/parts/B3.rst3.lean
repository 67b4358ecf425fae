/-! PURE 40: the reference reads the statements of a library: texts; all of them -/
set_option maxRecDepth 100000
section
variable {N : Nat} {h : jH} {a : Nat} {t : Nat → Nat} {n : Nat} {F F' : Nat → Int32} {L L' : Nat → Int64} {A A' : Nat → Nat → Int32} {M M' : Nat → Nat → Int64} {i : Nat} {D : zDr}
theorem zKd_lt {u : zTau} {i k : Nat} (hk : zKd u i = some k) : k ≤ 3 := by
  unfold zKd at hk
  by_cases c : zisw u i 1277953191 = true
  · rw [if_pos c] at hk; cases hk; decide
  · rw [if_neg c] at hk
    by_cases c : zisw u i 8878099 = true
    · rw [if_pos c] at hk; cases hk; decide
    · rw [if_neg c] at hk
      by_cases c : zisw u i 261003578 = true
      · rw [if_pos c] at hk; cases hk; decide
      · rw [if_neg c] at hk
        by_cases c : zisw u i 296522 = true
        · rw [if_pos c] at hk; cases hk; decide
        · rw [if_neg c] at hk; cases hk
theorem zIk_lt {u : zTau} {i k : Nat} (hk : zIk u i = some k) : k ≤ 1 := by
  unfold zIk at hk
  by_cases c : zisw u i 138846 = true
  · rw [if_pos c] at hk; cases hk; decide
  · rw [if_neg c] at hk
    by_cases c : zisw u i 385337 = true
    · rw [if_pos c] at hk; cases hk; decide
    · rw [if_neg c] at hk; cases hk
theorem zR_sText (hb : h.2.2.2.2 0 ≤ a) (hN : 3000 ≤ N) (hT : zTp F A t n) (hok : zDok D) (hD : zRD D F A M) : zSt4 h a t n F L A M (zsText (zOfT t n) i D) ((fX7_readsText N a).1 (zQ h a t n F L A M i)) := by
  have hs3 := hok.1.2.1
  have hw2' : (zOfT t n).2.1 (i + 1) < 300000000000 := zTw_lt _ _ _
  unfold zsText fX7_readsText
  rw [zr_g10, zr_a10_4, hD.1.2.1, zc6_ad, zI]
  by_cases c1 : zT D.1 = 6
  · rw [if_pos c1, if_pos (show nI (6 + zT D.1) = 12 by rw [c1]; rfl), zQ_fails hb (x := 5) (w := 5) rfl]
    exact zSt4.er (zKpt.rf _ _ _ _)
  · rw [if_neg c1, if_neg (show ¬ nI (6 + zT D.1) = 12 from fun q => c1 (by have := (nI_eq (b := 12) (by omega) (by decide)).mp q; omega)), zQ_next hb hN hT, zQ_new hb hN hT (hD.ns hok) (hD.nt hok)]
    unfold zNe
    cases hn : zNew (zOfT t n) (i + 1) D with
    | some e =>
      dsimp only
      rw [zI, if_pos z00p]
      exact zSt4.er (zKpt.rf _ _ _ _)
    | none =>
      dsimp only
      have k1 := (zKpt.rf F L A M).l (nL ((zOfT t n).2.1 (i + 1)))
      have k2 := k1.a (j := 16) (d := 6 + zT D.1) (zo (zKd (zOfT t n) (i + 2))) (by unfold zlm; omega)
      have k3 := k2.a (j := 17) (d := 6 + zT D.1) (zo (zIk (zOfT t n) (i + 3))) (by unfold zlm; omega)
      rw [zI, if_neg z10n, zr_g16]
      -- what kind
      have e97 : (jB (fX7_isWord a 1277953191) fun y6 => if y6 = 0 then (jB (fX7_isWord a 8878099) fun y7 => if y7 = 0 then (jB (fX7_isWord a 261003578) fun y8 => if y8 = 0 then (jB (fX7_isWord a 296522) fun y9 => if y9 = 0 then (fX7_readsText_97 N a (nI (6 + zT D.1)) (some (a + 8)) (nI (6 + zT D.1)) (-1)) else (fX7_readsText_97 N a (nI (6 + zT D.1)) (some (a + 8)) (nI (6 + zT D.1)) 3)) else (fX7_readsText_97 N a (nI (6 + zT D.1)) (some (a + 8)) (nI (6 + zT D.1)) 2)) else (fX7_readsText_97 N a (nI (6 + zT D.1)) (some (a + 8)) (nI (6 + zT D.1)) 1)) else (fX7_readsText_97 N a (nI (6 + zT D.1)) (some (a + 8)) (nI (6 + zT D.1)) 0)).1 (zQ h a t n F (vp_updL L 37 (nL ((zOfT t n).2.1 (i + 1)))) A M (i + 2)) = (fX7_readsText_97 N a (nI (6 + zT D.1)) (some (a + 8)) (nI (6 + zT D.1)) (zo (zKd (zOfT t n) (i + 2)))).1 (zQ h a t n F (vp_updL L 37 (nL ((zOfT t n).2.1 (i + 1)))) A M (i + 2)) := by
        generalize i + 2 = j
        unfold zKd
        rw [zQ_isW (x := 1277953191) (w := 1277953191) rfl (by decide), zI]
        cases h1 : zisw (zOfT t n) j 1277953191 with
        | true => rw [if_neg zb1n, if_pos rfl]; rfl
        | false =>
          rw [if_pos zb_f, if_neg zff, zQ_isW (x := 8878099) (w := 8878099) rfl (by decide), zI]
          cases h1 : zisw (zOfT t n) j 8878099 with
          | true => rw [if_neg zb1n, if_pos rfl]; rfl
          | false =>
            rw [if_pos zb_f, if_neg zff, zQ_isW (x := 261003578) (w := 261003578) rfl (by decide), zI]
            cases h1 : zisw (zOfT t n) j 261003578 with
            | true => rw [if_neg zb1n, if_pos rfl]; rfl
            | false =>
              rw [if_pos zb_f, if_neg zff, zQ_isW (x := 296522) (w := 296522) rfl (by decide), zI]
              cases h1 : zisw (zOfT t n) j 296522 with
              | true => rw [if_neg zb1n, if_pos rfl]; rfl
              | false => rw [if_pos zb_f, if_neg zff]; rfl
      refine Eq.mpr (congrArg (zSt4 h a t n F L A M _) e97) ?_
      unfold fX7_readsText_97
      rw [zr_s16 hb (by omega), zst_d, zr_g16, zr_a16 (by omega), zst_e, zI]
      cases hkd : zKd (zOfT t n) (i + 2) with
      | none =>
        rw [hkd] at k2
        dsimp only
        rw [if_neg (show ¬ 0 ≤ zo none by decide), zQ_fails hb (x := 1) (w := 1) rfl]
        exact zSt4.er k2
      | some k =>
        have hk3 := zKd_lt hkd
        rw [hkd] at k2 k3
        dsimp only
        rw [if_pos (show 0 ≤ zo (some k) by show 0 ≤ nI k; rw [zc0_le (by omega)]; omega), zQ_next hb hN (k2.tp hT), zr_g17]
        have e151 : (jB (fX7_isWord a 138846) fun y5 => if y5 = 0 then (jB (fX7_isWord a 385337) fun y6 => if y6 = 0 then (fX7_readsText_151 N a (nI (6 + zT D.1)) (some (a + 9)) (nI (6 + zT D.1)) (-1)) else (fX7_readsText_151 N a (nI (6 + zT D.1)) (some (a + 9)) (nI (6 + zT D.1)) 0)) else (fX7_readsText_151 N a (nI (6 + zT D.1)) (some (a + 9)) (nI (6 + zT D.1)) 1)).1 (zQ h a t n F (vp_updL L 37 (nL ((zOfT t n).2.1 (i + 1)))) (zst A 16 (6 + zT D.1) (zo (some k))) M (i + 3)) = (fX7_readsText_151 N a (nI (6 + zT D.1)) (some (a + 9)) (nI (6 + zT D.1)) (zo (zIk (zOfT t n) (i + 3)))).1 (zQ h a t n F (vp_updL L 37 (nL ((zOfT t n).2.1 (i + 1)))) (zst A 16 (6 + zT D.1) (zo (some k))) M (i + 3)) := by
          generalize i + 3 = j
          unfold zIk
          rw [zQ_isW (x := 138846) (w := 138846) rfl (by decide), zI]
          cases h1 : zisw (zOfT t n) j 138846 with
          | true => rw [if_neg zb1n, if_pos rfl]; rfl
          | false =>
            rw [if_pos zb_f, if_neg zff, zQ_isW (x := 385337) (w := 385337) rfl (by decide), zI]
            cases h1 : zisw (zOfT t n) j 385337 with
            | true => rw [if_neg zb1n, if_pos rfl]; rfl
            | false => rw [if_pos zb_f, if_neg zff]; rfl
        refine Eq.mpr (congrArg (zSt4 h a t n F L A M _) e151) ?_
        unfold fX7_readsText_151
        rw [zr_s17 hb (by omega), zst_d, zr_g17, zr_a17 (by omega), zst_e, zI]
        cases hik : zIk (zOfT t n) (i + 3) with
        | none =>
          rw [hik] at k3
          dsimp only
          rw [if_neg (show ¬ 0 ≤ zo none by decide), zQ_fails hb (x := 1) (w := 1) rfl]
          exact zSt4.er k3
        | some g =>
          have hg3 := zIk_lt hik
          rw [hik] at k3
          dsimp only
          rw [if_pos (show 0 ≤ zo (some g) by show 0 ≤ nI g; rw [zc0_le (by omega)]; omega), zQ_next hb hN (k3.tp hT), zQ_both hb hN (k3.tp hT) (w0 := 6564799) (w := 6564799) rfl (by decide) (x := 1) (lo := 1) (y := 6) (hi := 6) rfl rfl (by decide) (by decide)]
          unfold zBo
          cases hw : zisw (zOfT t n) (i + 4) 6564799 with
          | false =>
            rw [if_neg zff, if_neg zff, zI, if_pos z00p]
            exact zSt4.er k3
          | true =>
            rw [if_pos rfl, if_pos rfl]
            cases hu1 : zNu (zOfT t n) (i + 4 + 1) 1 6 with
            | inl e =>
              dsimp only
              rw [zI, if_pos z00p]
              exact zSt4.er k3
            | inr l =>
              dsimp only
              have k4 := (((k3.f (k := 36) (nI l) (by omega)).a (j := 18) (d := 6 + zT D.1) (nI l) (by unfold zlm; omega)).m (j := 12) (d := 6 + zT D.1) (nL ((zOfT t n).2.1 (i + 1))) (by omega)).a (j := 10) (d := 4) (nI (zT D.1 + 1)) (by unfold zlm; omega)
              rw [zI, if_neg z10n, zr_g18, zr_g36, zQ_o (by decide) (by decide) (by decide) (by decide), zu_eq, zr_s18 hb (by omega), zst_d, zr_g12, zr_g37]
              have e37 : zKl (vp_updL L 37 (nL ((zOfT t n).2.1 (i + 1)))) t n (zBg t n (i + 4 + 1 + 1)) 37 = nL ((zOfT t n).2.1 (i + 1)) := by
                unfold zKl
                rw [pk_uLn (by decide), pk_uLs]
              have e10 : (zst (zst (zst A 16 (6 + zT D.1) (zo (some k))) 17 (6 + zT D.1) (zo (some g))) 18 (6 + zT D.1) (nI l)) 10 4 = nI (zT D.1) := by
                rw [zst_j _ _ (by decide), zst_j _ _ (by decide), zst_j _ _ (by decide)]
                exact hD.1.2.1
              have key : zRD (zaT D ((zOfT t n).2.1 (i + 1)) k g l) (upd F 36 (nI l)) (zst (zst (zst (zst A 16 (6 + zT D.1) (zo (some k))) 17 (6 + zT D.1) (zo (some g))) 18 (6 + zT D.1) (nI l)) 10 4 (nI (zT D.1 + 1))) (zuA M 12 (vp_updL (M 12) (6 + zT D.1) (nL ((zOfT t n).2.1 (i + 1))))) := by
                obtain ⟨⟨d1, d2, d3⟩, d4, d5, d6, d7, d8, d9, d10⟩ := hD
                refine ⟨⟨?_, ?_, ?_⟩, fun q hq => ?_, fun q hq => ?_, fun q hq => ?_, ?_, ?_, ?_, ?_⟩
                · rw [zst_q _ _ (by decide), zst_j _ _ (by decide), zst_j _ _ (by decide), zst_j _ _ (by decide)]; exact d1
                · rw [zst_e]; rfl
                · rw [zst_q _ _ (by decide), zst_j _ _ (by decide), zst_j _ _ (by decide), zst_j _ _ (by decide)]; exact d3
                · rw [zst_j _ _ (by decide), zst_j _ _ (by decide), zst_j _ _ (by decide), zst_j _ _ (by decide), zst_j _ _ (by decide), zst_j _ _ (by decide), zst_j _ _ (by decide), zst_j _ _ (by decide), zst_j _ _ (by decide), zst_j _ _ (by decide), zst_j _ _ (by decide), zst_j _ _ (by decide), zuA_ne _ _ (by decide)]
                  exact d4 q hq
                · have hq : q < zT D.1 + 1 := hq
                  rw [zst_j _ _ (show 16 ≠ 10 by decide), zst_j _ _ (show 17 ≠ 10 by decide), zst_j _ _ (show 18 ≠ 10 by decide), zst_j _ _ (show 16 ≠ 18 by decide), zst_j _ _ (show 17 ≠ 18 by decide), zst_j _ _ (show 16 ≠ 17 by decide), zuA_eq]
                  show (_ = nI (zup (D.1.2.1 3) (zT D.1) k q) ∧ _ = nI (zup (D.1.2.1 4) (zT D.1) g q) ∧ _ = nI (zup (D.1.2.1 5) (zT D.1) l q)) ∧ _ = nL (zup D.2.2.1 (zT D.1) ((zOfT t n).2.1 (i + 1)) q) ∧ zup D.2.2.1 (zT D.1) ((zOfT t n).2.1 (i + 1)) q < 300000000000
                  by_cases e : q = zT D.1
                  · rw [e, zup_e, zup_e, zup_e, zup_e, zst_e, zst_e, zst_e, pk_uLs]
                    exact ⟨⟨rfl, rfl, rfl⟩, rfl, hw2'⟩
                  · rw [zup_n _ _ e, zup_n _ _ e, zup_n _ _ e, zup_n _ _ e, zst_q _ _ (show 6 + q ≠ 6 + zT D.1 by omega), zst_q _ _ (show 6 + q ≠ 6 + zT D.1 by omega), zst_q _ _ (show 6 + q ≠ 6 + zT D.1 by omega), zst_q _ _ (show 6 + q ≠ 6 + zT D.1 by omega), zst_q _ _ (show 6 + q ≠ 6 + zT D.1 by omega), pk_uLn (by omega)]
                    exact d5 q (by omega)
                · rw [zst_j _ _ (by decide), zst_j _ _ (by decide), zst_j _ _ (by decide), zst_j _ _ (by decide)]; exact d6 q hq
                · rw [zst_j _ _ (by decide), zst_j _ _ (by decide), zst_j _ _ (by decide), zst_j _ _ (by decide)]; exact d7
                · rw [zst_j _ _ (by decide), zst_j _ _ (by decide), zst_j _ _ (by decide), zst_j _ _ (by decide)]; exact d8
                · rw [zu_ne _ _ (by decide)]; exact d9
                · rw [zst_j _ _ (by decide), zst_j _ _ (by decide), zst_j _ _ (by decide), zst_j _ _ (by decide)]; exact d10
              rw [e37, zr_s12 hb (by omega), zr_g10, zr_a10_4, e10, zc1_da, zr_s10_4 hb, zst_d]
              exact zR_cl (i := i + 6) hb hN hT k4 key
theorem zR_stm (hb : h.2.2.2.2 0 ≤ a) (hN : 3000 ≤ N) (hT : zTp F A t n) {m0 : Nat} (hm0 : n < m0) (hm1 : m0 ≤ N) (hok : zDok D) (hD : zRD D F A M) (f : Nat) (hk0 : (zOfT t n).1 i ≠ 0) : ∃ out, zSt4 h a t n F L A M (zStm (zOfT t n) m0 i D) out ∧ ∀ v s, out = some (v, s) → (fX7_readsAll_51 N a (f + 1)).1 (zQ h a t n F L A M i) = (fX7_readsAll_148 N (fX7_readsAll_51 N a f) a v).1 s := by
  have h1 : (zOfT t n).1 i < 5 := zTki_lt _ _ _
  have hin : i < n := zOfT_un t n i hk0
  rw [fX7_readsAll_51, zr_g6, zQ_6, zI, if_neg (show ¬ nI ((zOfT t n).1 i) = 0 from fun q => hk0 ((nI_eq (b := 0) (by omega) (by decide)).mp q))]
  unfold zStm
  rw [zQ_isW (x := 382253) (w := 382253) rfl (by decide), zI]
  cases w1 : zisw (zOfT t n) i 382253 with
  | true => rw [if_pos rfl, if_neg zb1n]; exact ⟨_, zR_sSkin hb hN hT hok hD, fun v s e => jB_eq e⟩
  | false =>
    rw [if_neg zff, if_pos zb_f, zQ_isW (x := 168728) (w := 168728) rfl (by decide), zI]
    cases w1 : zisw (zOfT t n) i 168728 with
    | true => rw [if_pos rfl, if_neg zb1n]; exact ⟨_, zR_sHole hb hN hT hok hD, fun v s e => jB_eq e⟩
    | false =>
      rw [if_neg zff, if_pos zb_f, zQ_isW (x := 397973) (w := 397973) rfl (by decide), zI]
      cases w1 : zisw (zOfT t n) i 397973 with
      | true => rw [if_pos rfl, if_neg zb1n]; exact ⟨_, zR_sText hb hN hT hok hD, fun v s e => jB_eq e⟩
      | false =>
        rw [if_neg zff, if_pos zb_f, zQ_isW (x := 79828) (w := 79828) rfl (by decide), zI]
        cases w1 : zisw (zOfT t n) i 79828 with
        | true => rw [if_pos rfl, if_neg zb1n]; exact ⟨_, zR_sDamp hb hN hT hm0 hm1 hin hok hD, fun v s e => jB_eq e⟩
        | false =>
          rw [if_neg zff, if_pos zb_f, zQ_isW (x := 10266418) (w := 10266418) rfl (by decide), zI]
          cases w1 : zisw (zOfT t n) i 10266418 with
          | true => rw [if_pos rfl, if_neg zb1n]; exact ⟨_, zR_sShows hb hN hT hm0 hin hok hD, fun v s e => jB_eq e⟩
          | false =>
            rw [if_neg zff, if_pos zb_f, zQ_fails hb (x := 1) (w := 1) rfl]
            exact ⟨_, zSt4.er (zKpt.rf _ _ _ _), fun v s e => by cases e; rfl⟩
/-- all statements -/
theorem zR_all (hb : h.2.2.2.2 0 ≤ a) (hN : 3000 ≤ N) (hT : zTp F A t n) {m0 : Nat} (hm0 : n < m0) (hm1 : m0 ≤ N) : ∀ (m f i : Nat) (D : zDr) (F' : Nat → Int32) (L' : Nat → Int64) (A' : Nat → Nat → Int32) (M' : Nat → Nat → Int64), i ≤ n → n < m + i → m ≤ f → zDok D → zKpt F L A M F' L' A' M' → zRD D F' A' M' →
    (∃ e, zLib (zOfT t n) m0 m i D = .inl e ∧ e.1 ≠ 0 ∧ ∃ F2 L2 A2 M2, (fX7_readsAll_51 N a f).1 (zQ h a t n F' L' A' M' i) = some (0, zQ h a t n F2 L2 A2 M2 e.2) ∧ F2 9 = nI (e.1 + 16 * zBg t n e.2) ∧ zKpt F L A M F2 L2 A2 M2) ∨
    ∃ D2 j, zLib (zOfT t n) m0 m i D = .inr D2 ∧ zDok D2 ∧ ∃ F2 L2 A2 M2, (fX7_readsAll_51 N a f).1 (zQ h a t n F' L' A' M' i) = some (1, zQ h a t n F2 L2 A2 M2 j) ∧ zRD D2 F2 A2 M2 ∧ zKpt F L A M F2 L2 A2 M2
  | 0, f, i, D, F', L', A', M', hi, hm, hf, hok, hk, hD => by omega
  | m + 1, 0, i, D, F', L', A', M', hi, hm, hf, hok, hk, hD => by omega
  | m + 1, f + 1, i, D, F', L', A', M', hi, hm, hf, hok, hk, hD => by
    rw [zLib]
    by_cases c0 : (zOfT t n).1 i = 0
    · rw [if_pos c0]
      refine Or.inr ⟨D, i, rfl, hok, F', L', A', M', ?_, hD, hk⟩
      rw [fX7_readsAll_51, zr_g6, zQ_6, zI, if_pos (show nI ((zOfT t n).1 i) = 0 by rw [c0]; rfl)]
      rfl
    · rw [if_neg c0]
      obtain ⟨out, hout, hrun⟩ := zR_stm (L := L') (D := D) hb hN (hk.tp hT) hm0 hm1 hok hD f c0
      have hsg := zStm_sg (zOfT_un t n) hT.2.1 hm0 hi hok
      rcases hout with ⟨e, e1, F2, L2, A2, M2, e2, e3, e4⟩ | ⟨x, e1, F2, L2, A2, M2, e2, e3, e4⟩
      · rw [e1] at hsg
        have hrun := hrun _ _ e2
        refine Or.inl ⟨e, by rw [e1], hsg.1, F2, L2, A2, M2, ?_, e3, hk.tr e4⟩
        rw [hrun]
        unfold fX7_readsAll_148
        rw [zI, if_pos z00p]
        rfl
      · rw [e1] at hsg
        obtain ⟨g1, g2, g3⟩ := hsg
        have hrun := hrun _ _ e2
        have ih := zR_all hb hN hT hm0 hm1 m f x.1 x.2 F2 L2 A2 M2 g2 (by omega) (by omega) g3 (hk.tr e4) e3
        have hrun2 : (fX7_readsAll_51 N a (f + 1)).1 (zQ h a t n F' L' A' M' i) = (fX7_readsAll_51 N a f).1 (zQ h a t n F2 L2 A2 M2 x.1) := by
          rw [hrun]
          unfold fX7_readsAll_148
          rw [zI, if_neg z10n]
        rw [e1, hrun2]
        exact ih
end
