/-! PURE 39: the reference reads the statements of a library: holes, texts, damps, the law -/
set_option maxRecDepth 100000
section
variable {N : Nat} {h : jH} {a : Nat} {t : Nat → Nat} {n : Nat} {F F' : Nat → Int32} {L L' : Nat → Int64} {A A' : Nat → Nat → Int32} {M M' : Nat → Nat → Int64} {i : Nat} {D : zDr}
theorem zR_sHole (hb : h.2.2.2.2 0 ≤ a) (hN : 3000 ≤ N) (hT : zTp F A t n) (hok : zDok D) (hD : zRD D F A M) : zSt4 h a t n F L A M (zsHole (zOfT t n) i D) ((fX7_readsHole N a).1 (zQ h a t n F L A M i)) := by
  have hs3 := hok.1.1
  unfold zsHole fX7_readsHole
  rw [zQ_next hb hN hT, zQ_skin hb hN hT (x := 1) (r := 1) rfl (hD.ns hok)]
  cases hn : zNm (zOfT t n) (i + 1) with
  | false =>
    rw [if_neg zff, if_neg zff, zI, if_pos z00p]
    exact zSt4.er (zKpt.rf _ _ _ _)
  | true =>
    rw [if_pos rfl, if_pos rfl]
    cases hf : zFnd D.2.1 (zS D.1) ((zOfT t n).2.1 (i + 1)) with
    | none =>
      dsimp only
      rw [zI, if_pos z00p]
      exact zSt4.er ((zKpt.rf _ _ _ _).f _ (by omega))
    | some k =>
      dsimp only
      have hk := zFnd_lt hf
      have k1 := (zKpt.rf F L A M).f (k := 36) (nI k) (by omega)
      have h1 : (zOfT t n).1 (i + 2) < 5 := zTki_lt _ _ _
      have h2 : (zOfT t n).2.2.1 (i + 2) < 10000 := zTo_lt _ _ _
      obtain ⟨⟨l1, l2⟩, -, l3⟩ := hok.1.2.2.2.1 k hk
      obtain ⟨⟨e13, -, e15⟩, -⟩ := hD.2.1 k hk
      rw [zI, if_neg z10n, zr_g36, zQ_o (by decide) (by decide) (by decide) (by decide), zu_eq, zr_g6, zQ_6, zI, zc3_ad]
      by_cases c1 : (zOfT t n).1 (i + 2) = 2
      · rw [if_pos c1, if_pos (show nI ((zOfT t n).1 (i + 1 + 1)) = 2 by rw [show i + 1 + 1 = i + 2 from rfl, c1]; rfl), zr_g8, zQ_8, zr_g13, zr_a13 (by omega), e13, zI]
        by_cases c2 : (zOfT t n).2.2.1 (i + 2) < zLi D.1 k
        · rw [if_pos c2, if_pos (show nI ((zOfT t n).2.2.1 (i + 1 + 1)) < nI (zLi D.1 k) from (nI_ltI (by show (zOfT t n).2.2.1 (i + 2) < _; omega) (by omega)).mpr c2), zr_g15, zr_a15 (by omega), e15, zr_g8, zQ_8, zI]
          have hbt := zbit1 (a := zHo D.1 k) (l := (zOfT t n).2.2.1 (i + 2)) (by omega) (by omega)
          by_cases c3 : (zHo D.1 k).testBit ((zOfT t n).2.2.1 (i + 2)) = true
          · rw [if_pos c3, if_pos (hbt.mpr c3), zQ_fails hb (x := 3) (w := 3) rfl]
            exact zSt4.er k1
          · rw [if_neg c3, if_neg (fun q => c3 (hbt.mp q)), zr_g15, zr_a15 (by omega), e15, zr_g8, zQ_8]
            have es : nI (zHo D.1 k) ||| ((1 : Int32) <<< (nI ((zOfT t n).2.2.1 (i + 1 + 1)) &&& 31)) = nI (zHo D.1 k ||| 2 ^ (zOfT t n).2.2.1 (i + 2)) := by
              rw [show i + 1 + 1 = i + 2 from rfl, zshl (by omega), zor]
            have k2 := k1.a (j := 15) (d := 3 + k) (nI (zHo D.1 k ||| 2 ^ (zOfT t n).2.2.1 (i + 2))) (by unfold zlm; omega)
            rw [es, zr_s15 hb (by omega), zst_d, zQ_next hb hN (k2.tp hT)]
            have key : zRD (zaH D k ((zOfT t n).2.2.1 (i + 2))) (upd F 36 (nI k)) (zst A 15 (3 + k) (nI (zHo D.1 k ||| 2 ^ (zOfT t n).2.2.1 (i + 2)))) M := by
              obtain ⟨⟨d1, d2, d3⟩, d4, d5, d6, d7, d8, d9, d10⟩ := hD
              refine ⟨⟨?_, ?_, ?_⟩, fun j hj => ?_, fun q hq => ?_, fun q hq => ?_, ?_, ?_, ?_, ?_⟩
              · rw [zst_j _ _ (by decide)]; exact d1
              · rw [zst_j _ _ (by decide)]; exact d2
              · rw [zst_j _ _ (by decide)]; exact d3
              · have hj : j < zS D.1 := hj
                rw [zst_j _ _ (show 13 ≠ 15 by decide), zst_j _ _ (show 14 ≠ 15 by decide)]
                show (A 13 (3 + j) = nI (zLi D.1 j) ∧ A 14 (3 + j) = nI (zTh0 D.1 j) ∧ _ = nI (zup (D.1.2.1 2) k (zHo D.1 k ||| 2 ^ (zOfT t n).2.2.1 (i + 2)) j)) ∧ M 11 (3 + j) = nL (D.2.1 j) ∧ D.2.1 j < 300000000000
                have d4' := d4 j hj
                by_cases e : j = k
                · rw [e, zup_e, zst_e, ← e]
                  exact ⟨⟨d4'.1.1, d4'.1.2.1, rfl⟩, d4'.2⟩
                · rw [zup_n _ _ e, zst_q _ _ (by omega)]
                  exact d4'
              · rw [zst_j _ _ (by decide), zst_j _ _ (by decide), zst_j _ _ (by decide)]; exact d5 q hq
              · rw [zst_j _ _ (by decide)]; exact d6 q hq
              · rw [zst_j _ _ (by decide)]; exact d7
              · rw [zst_j _ _ (by decide)]; exact d8
              · rw [zu_ne _ _ (by decide)]; exact d9
              · rw [zst_j _ _ (by decide)]; exact d10
            exact zR_cl (i := i + 3) hb hN hT k2 key
        · rw [if_neg c2, if_neg (show ¬ nI ((zOfT t n).2.2.1 (i + 1 + 1)) < nI (zLi D.1 k) from fun q => c2 ((nI_ltI (by show (zOfT t n).2.2.1 (i + 2) < _; omega) (by omega)).mp q)), zQ_fails hb (x := 4) (w := 4) rfl]
          exact zSt4.er k1
      · rw [if_neg c1, if_neg (show ¬ nI ((zOfT t n).1 (i + 1 + 1)) = 2 from fun q => c1 ((nI_eq (b := 2) (by show (zOfT t n).1 (i + 2) < _; omega) (by decide)).mp q)), zQ_fails hb (x := 1) (w := 1) rfl]
        exact zSt4.er k1
theorem zR_dmp (hb : h.2.2.2.2 0 ≤ a) (hN : 3000 ≤ N) (hT : zTp F A t n) : ∀ (m f i : Nat) (D : zDr) (F' : Nat → Int32) (L' : Nat → Int64) (A' : Nat → Nat → Int32) (M' : Nat → Nat → Int64), i ≤ n → n < m + i → m ≤ f → zDok D → zKpt F L A M F' L' A' M' → zRD D F' A' M' → zSt4 h a t n F L A M (zDmp (zOfT t n) m i D) ((fX7_readsDamp_19 N a f).1 (zQ h a t n F' L' A' M' i))
  | 0, f, i, D, F', L', A', M', hi, hm, hf, hok, hk, hD => by omega
  | m + 1, 0, i, D, F', L', A', M', hi, hm, hf, hok, hk, hD => by omega
  | m + 1, f + 1, i, D, F', L', A', M', hi, hm, hf, hok, hk, hD => by
    have ih := zR_dmp hb hN hT m f
    have h1 : (zOfT t n).1 i < 5 := zTki_lt _ _ _
    have h2 : (zOfT t n).2.2.1 i < 10000 := zTo_lt _ _ _
    have h12 := hok.1.2.2.1
    have e36 : zSt4 h a t n F L A M (if (zOfT t n).1 i = 2 then (if (zOfT t n).2.2.1 i ≤ 9 then (if zD D.1 = 12 then .inl (5, i) else zDmp (zOfT t n) m (i + 1) (zaD D ((zOfT t n).2.2.1 i))) else .inl (4, i)) else .inl (1, i)) ((fX7_readsDamp_36 N (fX7_readsDamp_19 N a f) a).1 (zQ h a t n F' L' A' M' i)) := by
      unfold fX7_readsDamp_36 fX7_readsDamp_44 fX7_readsDamp_59 fX7_readsDamp_76
      rw [zr_g6, zQ_6, zI]
      by_cases c1 : (zOfT t n).1 i = 2
      · rw [if_pos c1, if_pos (show nI ((zOfT t n).1 i) = 2 by rw [c1]; rfl), zr_g8, zQ_8, zI]
        by_cases c2 : (zOfT t n).2.2.1 i ≤ 9
        · rw [if_pos c2, if_pos (show nI ((zOfT t n).2.2.1 i) ≤ 9 from (nI_leI (b := 9) (by omega) (by decide)).mpr c2), zr_g10, zr_a10_5, hD.1.2.2, zI]
          by_cases c3 : zD D.1 = 12
          · rw [if_pos c3, if_pos (show nI (zD D.1) = 12 by rw [c3]; rfl), zQ_fails hb (x := 5) (w := 5) rfl]
            exact zSt4.er hk
          · have hin : i < n := zOfT_un t n i (by omega)
            have k2 := (hk.a (j := 19) (d := 12 + zD D.1) (nI ((zOfT t n).2.2.1 i)) (by unfold zlm; omega)).a (j := 10) (d := 5) (nI (zD D.1 + 1)) (by unfold zlm; omega)
            have e10 : zst A' 19 (12 + zD D.1) (nI ((zOfT t n).2.2.1 i)) 10 5 = nI (zD D.1) := by rw [zst_j _ _ (by decide)]; exact hD.1.2.2
            rw [if_neg c3, if_neg (show ¬ nI (zD D.1) = 12 from fun q => c3 ((nI_eq (b := 12) (by omega) (by decide)).mp q)), zr_g19, zr_g10, zr_a10_5, hD.1.2.2, zr_g8, zQ_8, zc12_ad, zr_s19 hb (by omega), zst_d, zr_g10, zr_a10_5, e10, zc1_da, zr_s10_5 hb, zst_d, zQ_next hb hN (k2.tp hT)]
            refine ih (i + 1) _ _ _ _ _ hin (by omega) (by omega) (zDok_D hok c3 c2) k2 ?_
            obtain ⟨⟨d1, d2, d3⟩, d4, d5, d6, d7, d8, d9, d10⟩ := hD
            refine ⟨⟨?_, ?_, ?_⟩, fun j hj => ?_, fun q hq => ?_, fun q hq => ?_, ?_, ?_, d9, ?_⟩
            · rw [zst_q _ _ (by decide), zst_j _ _ (by decide)]; exact d1
            · rw [zst_q _ _ (by decide), zst_j _ _ (by decide)]; exact d2
            · rw [zst_e]; rfl
            · rw [zst_j _ _ (by decide), zst_j _ _ (by decide), zst_j _ _ (by decide), zst_j _ _ (by decide), zst_j _ _ (by decide), zst_j _ _ (by decide)]; exact d4 j hj
            · rw [zst_j _ _ (by decide), zst_j _ _ (by decide), zst_j _ _ (by decide), zst_j _ _ (by decide), zst_j _ _ (by decide), zst_j _ _ (by decide)]; exact d5 q hq
            · have hq : q < zD D.1 + 1 := hq
              rw [zst_j _ _ (by decide)]
              show _ = nI (zup (D.1.2.1 6) (zD D.1) ((zOfT t n).2.2.1 i) q)
              by_cases e : q = zD D.1
              · rw [e, zup_e, zst_e]
              · rw [zup_n _ _ e, zst_q _ _ (by omega)]; exact d6 q (by omega)
            · rw [zst_j _ _ (by decide), zst_j _ _ (by decide)]; exact d7
            · rw [zst_j _ _ (by decide), zst_j _ _ (by decide)]; exact d8
            · rw [zst_j _ _ (by decide), zst_j _ _ (by decide)]; exact d10
        · rw [if_neg c2, if_neg (show ¬ nI ((zOfT t n).2.2.1 i) ≤ 9 from fun q => c2 ((nI_leI (b := 9) (by omega) (by decide)).mp q)), zQ_fails hb (x := 4) (w := 4) rfl]
          exact zSt4.er hk
      · rw [if_neg c1, if_neg (show ¬ nI ((zOfT t n).1 i) = 2 from fun q => c1 ((nI_eq (b := 2) (by omega) (by decide)).mp q)), zQ_fails hb (x := 1) (w := 1) rfl]
        exact zSt4.er hk
    rw [fX7_readsDamp_19, zDmp, zr_g10, zr_a10_5, hD.1.2.2, zI]
    by_cases c0 : zD D.1 = 0
    · rw [if_pos (Or.inl c0), if_pos (show nI (zD D.1) = 0 by rw [c0]; rfl)]
      exact e36
    · rw [if_neg (show ¬ nI (zD D.1) = 0 from fun q => c0 ((nI_eq (b := 0) (by omega) (by decide)).mp q)), zr_g6, zQ_6, zI]
      by_cases c1 : (zOfT t n).1 i = 2
      · rw [if_pos (Or.inr c1), if_pos (show nI ((zOfT t n).1 i) = 2 by rw [c1]; rfl)]
        exact e36
      · rw [if_neg (fun q => q.elim c0 c1), if_neg (show ¬ nI ((zOfT t n).1 i) = 2 from fun q => c1 ((nI_eq (b := 2) (by omega) (by decide)).mp q))]
        exact zR_cl hb hN hT hk hD
theorem zR_sDamp (hb : h.2.2.2.2 0 ≤ a) (hN : 3000 ≤ N) (hT : zTp F A t n) {m0 : Nat} (hm0 : n < m0) (hm1 : m0 ≤ N) (hin : i < n) (hok : zDok D) (hD : zRD D F A M) : zSt4 h a t n F L A M (zsDamp (zOfT t n) m0 i D) ((fX7_readsDamp N a).1 (zQ h a t n F L A M i)) := by
  have h12 := hok.1.2.2.1
  unfold zsDamp fX7_readsDamp
  rw [zr_g10, zr_a10_5, hD.1.2.2, zI]
  by_cases c0 : zD D.1 = 0
  · rw [if_pos c0, if_pos (show nI (zD D.1) ≤ 0 by rw [c0]; decide), zQ_next hb hN hT]
    exact zR_dmp hb hN hT m0 N (i + 1) D F L A M hin (by omega) hm1 hok (zKpt.rf _ _ _ _) hD
  · rw [if_neg c0, if_neg (show ¬ nI (zD D.1) ≤ 0 by rw [zc0_ge (by omega)]; omega), zQ_fails hb (x := 3) (w := 3) rfl]
    exact zSt4.er (zKpt.rf _ _ _ _)
theorem zR_reads2 (hb : h.2.2.2.2 0 ≤ a) (hN : 3000 ≤ N) {m0 : Nat} (hm0 : n < m0) (hT : zTp F A t n) {c : Nat} (hF : F 23 = nI c) (hi : i ≤ n) (hc : 1000 ≤ c ∧ c + (n - i) ≤ 2000) : (∃ e, zWhole (zOfT t n) m0 i = .inl e ∧ zREr h a L M t n F A e ((fX7_reads N a).1 (zQ h a t n F L A M i))) ∨ ∃ x, zWhole (zOfT t n) m0 i = .inr x ∧ ∃ A', A' 22 = zcd (A 22) c x.2.2 ∧ (∀ k, k ≠ 22 → k ≠ 24 → k ≠ 25 → A' k = A k) ∧ (fX7_reads N a).1 (zQ h a t n F L A M i) = some (1, zQ h a t n (upd F 23 (nI (c + x.2.2.length))) L A' M x.1) := by
  have hr := zR_reads (L := L) (M := M) hb hN hm0 hT hF hi hc
  cases hz : zWhole (zOfT t n) m0 i with
  | inl e => rw [hz] at hr; exact Or.inl ⟨e, rfl, hr⟩
  | inr x => rw [hz] at hr; exact Or.inr ⟨x, rfl, hr⟩
theorem zR_sShows (hb : h.2.2.2.2 0 ≤ a) (hN : 3000 ≤ N) (hT : zTp F A t n) {m0 : Nat} (hm0 : n < m0) (hin : i < n) (hok : zDok D) (hD : zRD D F A M) : zSt4 h a t n F L A M (zsShows (zOfT t n) m0 i D) ((fX7_readsShows N a).1 (zQ h a t n F L A M i)) := by
  have hn := hT.2.1
  obtain ⟨⟨d1, d2, d3⟩, d4, d5, d6, d7, d8, d9, d10⟩ := id hD
  unfold zsShows fX7_readsShows
  rw [zr_g21, zr_a21_1, d8, zr_g20, zr_a20_1, d7, zI]
  rcases hok.2 with ⟨g1, g2⟩ | ⟨⟨v, g1⟩, g2, g3⟩
  · have hl : D.2.2.2.length = 0 := by rw [g2]; rfl
    have k1 := (zKpt.rf F L A M).a (j := 20) (d := 1) (nI 1000) (by unfold zlm; omega)
    rw [hl, Nat.add_zero] at d9
    rw [if_pos g1, if_pos (show nI (1000 + D.2.2.2.length) ≤ nI 1000 by rw [hl]; decide), zQ_next hb hN hT, zr_g20, zr_g23, zQ_o (by decide) (by decide) (by decide) (by decide), d9, show (1 : Int32) = nI 1 from rfl, zr_s20 hb (by decide), zst_d]
    rcases zR_reads2 (L := L) (M := M) (i := i + 1) hb hN hm0 (k1.tp hT) d9 hin (by omega) with ⟨e, w1, F2, A2, w2, w3, w4, w5, w6⟩ | ⟨x, w1, A2, w2, w3, w4⟩
    · rw [w1, jB_eq w2, zI, if_pos z00p]
      refine Or.inl ⟨e, rfl, F2, L, A2, M, rfl, w3, fun k b1 b2 b3 => w4 k b1 b2, fun _ _ _ => rfl, fun j q b => ?_, fun _ _ _ _ => rfl⟩
      obtain ⟨b1, b2, b3, b4, b5, b6, b7, b8⟩ := id b
      by_cases e22 : j = 22
      · rw [e22] at b ⊢
        rw [w6 q (b6 e22)]
        exact k1.2.2.1 22 q b
      · rw [w5 j e22 b7 b8]
        exact k1.2.2.1 j q b
    · rw [w1, jB_eq w4, zI, if_neg (by decide), zr_g21, zr_g23, zQ_o (by decide) (by decide) (by decide) (by decide), zu_eq, zr_s21 hb (by decide), zst_d]
      have w5 : ∀ k, k ≠ 22 → k ≠ 24 → k ≠ 25 → k ≠ 20 → A2 k = A k := fun k c1 c2 c3 c4 => by rw [w3 k c1 c2 c3, zst_j _ _ c4]
      refine Or.inr ⟨_, rfl, upd F 23 (nI (1000 + x.2.2.length)), L, zst A2 21 1 (nI (1000 + x.2.2.length)), M, rfl, ?_, fun k b1 b2 b3 => zu_ne _ _ b2, fun _ _ _ => rfl, fun j q b => ?_, fun _ _ _ _ => rfl⟩
      · refine ⟨⟨?_, ?_, ?_⟩, fun j hj => ?_, fun q hq => ?_, fun q hq => ?_, ?_, ?_, ?_, ?_⟩
        · rw [zst_j _ _ (by decide), w5 10 (by decide) (by decide) (by decide) (by decide)]; exact d1
        · rw [zst_j _ _ (by decide), w5 10 (by decide) (by decide) (by decide) (by decide)]; exact d2
        · rw [zst_j _ _ (by decide), w5 10 (by decide) (by decide) (by decide) (by decide)]; exact d3
        · rw [zst_j _ _ (by decide), zst_j _ _ (by decide), zst_j _ _ (by decide), w5 13 (by decide) (by decide) (by decide) (by decide), w5 14 (by decide) (by decide) (by decide) (by decide), w5 15 (by decide) (by decide) (by decide) (by decide)]; exact d4 j hj
        · rw [zst_j _ _ (by decide), zst_j _ _ (by decide), zst_j _ _ (by decide), w5 16 (by decide) (by decide) (by decide) (by decide), w5 17 (by decide) (by decide) (by decide) (by decide), w5 18 (by decide) (by decide) (by decide) (by decide)]; exact d5 q hq
        · rw [zst_j _ _ (by decide), w5 19 (by decide) (by decide) (by decide) (by decide)]; exact d6 q hq
        · rw [zst_j _ _ (by decide), w3 20 (by decide) (by decide) (by decide), zst_e]
        · rw [zst_e]; rfl
        · rw [zu_eq]; rfl
        · rw [zst_j _ _ (by decide), w2]
          exact zHc_cd _ _ _
      · obtain ⟨b1, b2, b3, b4, b5, b6, b7, b8⟩ := id b
        by_cases e21 : j = 21
        · rw [zst_q _ _ (show q ≠ 1 by omega), w3 j (by omega) b7 b8]
          exact k1.2.2.1 j q b
        · rw [zst_j _ _ e21]
          by_cases e22 : j = 22
          · rw [e22] at b ⊢
            rw [w2, zcd_lo _ _ _ _ (b6 e22)]
            exact k1.2.2.1 22 q b
          · rw [w3 j e22 b7 b8]
            exact k1.2.2.1 j q b
  · rw [if_neg (by rw [g1]; exact fun q => (by cases q)), if_neg (show ¬ nI (1000 + D.2.2.2.length) ≤ nI 1000 from fun q => by
      have := (nI_leI (by omega) (by decide)).mp q
      have : D.2.2.2.length ≠ 0 := fun e => g2 (List.eq_nil_of_length_eq_zero e)
      omega), zQ_fails hb (x := 3) (w := 3) rfl]
    exact zSt4.er (zKpt.rf _ _ _ _)
end
