/-! PURE 31: the reference reads an expression as the plain parser does: parts, the whole -/
set_option maxRecDepth 100000
section
variable {N : Nat} {h : jH} {a : Nat} {L : Nat → Int64} {M : Nat → Nat → Int64} {t : Nat → Nat} {n : Nat}
theorem zstart_f {u : zTau} {i : Nat} (hs : zstart u i = false) : zfa u i = none ∧ zisw u i 10631 = false ∧ u.1 i ≠ 2 ∧ ziss u i 40 = false := by
  unfold zstart at hs
  simp only [Bool.or_eq_false_iff, decide_eq_false_iff_not] at hs
  obtain ⟨a1, a2, a3, a4⟩ := hs
  refine ⟨?_, a2, a3, a4⟩
  cases hf : zfa u i with
  | none => rfl
  | some f => rw [hf] at a1; cases a1
theorem zRs_err1 (hb : h.2.2.2.2 0 ≤ a) {F : Nat → Int32} {A : Nat → Nat → Int32} (hT : zTp F A t n) {m d i : Nat} (hs : zstart (zOfT t n) i = false) : zREr h a L M t n F A (1, i) (zRR N h a L M t n (m + 1) d 1 F A i) := by
  have h1 : (zOfT t n).1 i < 5 := zTki_lt _ _ _
  obtain ⟨s1, s2, s3, s4⟩ := zstart_f hs
  refine ⟨upd F 9 (nI (1 + 16 * zBg t n i)), A, ?_, zu_eq _ _ _, fun k k1 k2 => zu_ne _ _ k1, fun _ _ _ _ => rfl, fun _ _ => rfl⟩
  rw [zRs_hd hT, if_pos (by unfold zfo; rw [s1]), s2, if_pos zb_f, s4, if_pos zb_f, if_neg (by rw [zc2_eq (by omega)]; exact s3)]
  unfold fX7_reads_59
  rw [zQ_fails hb (x := 1) (w := 1) rfl]
  rfl
theorem zRs_err5 (hb : h.2.2.2.2 0 ≤ a) {F : Nat → Int32} {A : Nat → Nat → Int32} (hT : zTp F A t n) {m i : Nat} (hs : zstart (zOfT t n) i = true) : zREr h a L M t n F A (5, i) (zRR N h a L M t n (m + 1) 5 1 F A i) := by
  have h1 : (zOfT t n).1 i < 5 := zTki_lt _ _ _
  refine ⟨upd F 9 (nI (5 + 16 * zBg t n i)), A, ?_, zu_eq _ _ _, fun k k1 k2 => zu_ne _ _ k1, fun _ _ _ _ => rfl, fun _ _ => rfl⟩
  have e : ∀ x y z, (fX7_reads_65 N (fX7_reads_11 N a m) a (nI 5) 1 x y z).1 (zQ h a t n F L A M i) = some (0, zQ h a t n (upd F 9 (nI (5 + 16 * zBg t n i))) L A M i) := by
    intro x y z
    unfold fX7_reads_65 fX7_reads_70
    rw [zI, if_pos (show nI 5 = 5 from rfl), zQ_fails hb (x := 5) (w := 5) rfl]
    rfl
  rw [zRs_hd hT]
  unfold zstart at hs
  by_cases c1 : zfo (zOfT t n) i = 0
  · rw [if_pos c1]
    have f0 : zfa (zOfT t n) i = none := by
      cases hf : zfa (zOfT t n) i with
      | none => rfl
      | some f =>
        unfold zfo at c1
        rw [hf] at c1
        have := (zfa_lt hf).1
        have c1 : nI (f + 1) = 0 := c1
        rw [zc0_eq (by omega)] at c1
        omega
    rw [f0] at hs
    cases c2 : zisw (zOfT t n) i 10631 with
    | true => rw [if_neg zb1n]; exact e _ _ _
    | false =>
      rw [if_pos zb_f]
      cases c3 : ziss (zOfT t n) i 40 with
      | true => rw [if_neg zb1n]; exact e _ _ _
      | false =>
        rw [if_pos zb_f]
        rw [c2, c3] at hs
        have c4 : (zOfT t n).1 i = 2 := by simpa using hs
        rw [if_pos (by rw [c4]; rfl)]
        exact e _ _ _
  · rw [if_neg c1]; exact e _ _ _
theorem zLw_v {d : Nat} {sub : Nat → zPR} (hs : zLv N h a L M t n d (fun _ => True) sub) : zLw N h a L M t n d (fun _ => True) sub := fun i F A c h1 h2 h3 h4 _ => hs i F A c h1 h2 h3 h4
theorem zr_m0 {m i : Nat} : m + (i - i) + 1 = m + 1 := by omega
theorem zR_part (hb : h.2.2.2.2 0 ≤ a) (hN : 3000 ≤ N) {m0 : Nat} (hm0 : n < m0) : ∀ r d, d + r = 5 → zLv N h a L M t n d (fun _ => True) (zPart (zOfT t n) m0 r)
  | 0, d, hd => by
    intro i F A c hi hT hF hc
    rw [show d = 5 by omega]
    unfold zPart
    cases hs : zstart (zOfT t n) i with
    | true =>
      rw [if_pos rfl]
      intro m
      show zREr h a L M t n F A (5, i) (zRR N h a L M t n (m + (i - i) + 1) 5 1 F A i)
      rw [zr_m0]
      exact zRs_err5 hb hT hs
    | false =>
      rw [if_neg zff]
      intro m
      show zREr h a L M t n F A (1, i) (zRR N h a L M t n (m + (i - i) + 1) 5 1 F A i)
      rw [zr_m0]
      exact zRs_err1 hb hT hs
  | r + 1, d, hd => by
    have ih := zR_part hb hN hm0 r (d + 1) (by omega)
    have hu := zOfT_un t n
    have hgd := zPart_gd hu hm0 r
    intro i F A c hi hT hF hc
    rw [zPart]
    cases hf : zfa (zOfT t n) i with
    | some f =>
      have hin : i < n := hu i (by have := (zfa_lt hf).2; omega)
      refine ⟨zuA A 22 (upd (A 22) c (nI (f + 1))), zAr.put d A c (f + 1), by rw [zuA_ne _ _ (by decide)], trivial, fun m => ?_⟩
      show zRR N h a L M t n (m + (i + 1 - i)) d 1 F A i = zRR N h a L M t n m (zPopN (A 24) d) 0 (upd F 23 (nI (c + 1))) (zuA A 22 (upd (A 22) c (nI (f + 1)))) (i + 1)
      rw [show m + (i + 1 - i) = m + 1 by omega]
      exact zRs_fact hb hN hT hF (by omega) (by omega) hf
    | none =>
      dsimp only
      cases hw : zisw (zOfT t n) i 10631 with
      | true =>
        rw [if_pos rfl]
        have hin : i < n := zisw_lt hu hw
        have stp := fun m => zRs_opn (L := L) (M := M) (m := m) hb hN hT hF (show c < 2000 by omega) (show d < 5 by omega) true hf hw (fun q => (by cases q))
        rw [if_pos rfl, if_pos rfl] at stp
        have q1 : zAr d A (zuA (zuA (zuA A 22 (upd (A 22) c (nI 30))) 24 (upd (A 24) (d + 1) 1)) 25 (upd (A 25) (d + 1) 0)) c [30] := by
          refine ⟨?_, fun k k1 k2 k3 => ?_, fun q hq => ?_, fun q hq => ?_⟩
          · rw [zuA_ne _ _ (by decide), zuA_ne _ _ (by decide), zuA_eq]; rfl
          · rw [zuA_ne _ _ k3, zuA_ne _ _ k2, zuA_ne _ _ k1]
          · rw [zuA_ne _ _ (by decide), zuA_eq, zu_ne _ _ (by omega)]
          · rw [zuA_eq, zu_ne _ _ (by omega)]
        have hL := ih (i + 1) _ _ (c + 1) (by omega) (q1.tp hT (nI (c + 1))) (zu_eq _ _ _) (by omega)
        have hg2 := hgd (i + 1) (by omega)
        unfold zNot
        cases hp : zPart (zOfT t n) m0 r (i + 1) with
        | inl e =>
          rw [hp] at hL hg2
          have he := hg2.2.1
          intro m
          refine (hL m).mo ?_ (fun k k1 k2 => zu23 k k2) (fun k k1 k2 k3 => q1.2.1 k k1 k2 k3) (fun q hq => by rw [q1.1]; exact zcd_lo _ _ _ _ (by omega))
          rw [show m + (e.2 - i) + 1 = (m + (e.2 - (i + 1)) + 1) + 1 by omega, stp]
        | inr x =>
          rw [hp] at hL hg2
          obtain ⟨b1, b2, b3⟩ := hg2
          obtain ⟨A3, s1, s2, s3, s4⟩ := hL
          refine ⟨A3, q1.tr s1.up, ?_, trivial, fun m => ?_⟩
          · rw [s1.2.2.2 d (by omega), zuA_eq, zu_ne _ _ (by omega)]
          · show zRR N h a L M t n (m + (x.1 - i)) d 1 F A i = zRR N h a L M t n m (zPopN (A 24) d) 0 (upd F 23 (nI (c + (30 :: x.2.2).length))) A3 x.1
            rw [show m + (x.1 - i) = (m + (x.1 - (i + 1))) + 1 by omega, stp, s4, zuu]
            have e1 : zPopN ((zuA (zuA (zuA A 22 (upd (A 22) c (nI 30))) 24 (upd (A 24) (d + 1) 1)) 25 (upd (A 25) (d + 1) 0)) 24) (d + 1) = zPopN (A 24) d := by
              rw [zPopN, zuA_ne _ _ (by decide), zuA_eq, zu_eq, if_pos rfl]
              exact zPopN_eq (fun q hq => zu_ne _ _ (by omega))
            rw [e1]
            exact zRR_c rfl (by rw [List.length_cons]; congr 2; omega)
      | false =>
        rw [if_neg zff]
        by_cases hk : (zOfT t n).1 i = 2
        · rw [if_pos hk]
          have hin : i < n := hu i (by omega)
          refine ⟨zuA A 22 (upd (A 22) c (nI (100 + (zOfT t n).2.2.1 i))), zAr.put d A c _, by rw [zuA_ne _ _ (by decide)], trivial, fun m => ?_⟩
          show zRR N h a L M t n (m + (i + 1 - i)) d 1 F A i = zRR N h a L M t n m (zPopN (A 24) d) 0 (upd F 23 (nI (c + 1))) (zuA A 22 (upd (A 22) c (nI (100 + (zOfT t n).2.2.1 i)))) (i + 1)
          rw [show m + (i + 1 - i) = m + 1 by omega]
          exact zRs_num hb hN hT hF (by omega) (by omega) hk
        · rw [if_neg hk]
          cases ho : ziss (zOfT t n) i 40 with
          | false =>
            rw [if_neg zff]
            intro m
            show zREr h a L M t n F A (1, i) (zRR N h a L M t n (m + (i - i) + 1) d 1 F A i)
            rw [zr_m0]
            refine zRs_err1 hb hT ?_
            unfold zstart
            rw [hf, hw, ho, decide_eq_false hk]
            rfl
          | true =>
            rw [if_pos rfl]
            have hin : i < n := ziss_lt hu ho
            have stp := fun m => zRs_opn (L := L) (M := M) (m := m) hb hN hT hF (show c < 2000 by omega) (show d < 5 by omega) false hf hw (fun _ => ho)
            rw [if_neg zff, if_neg zff] at stp
            have q1 : zAr d A (zuA (zuA (zuA A 22 (upd (A 22) c (nI 28))) 24 (upd (A 24) (d + 1) 2)) 25 (upd (A 25) (d + 1) 0)) c [28] := by
              refine ⟨?_, fun k k1 k2 k3 => ?_, fun q hq => ?_, fun q hq => ?_⟩
              · rw [zuA_ne _ _ (by decide), zuA_ne _ _ (by decide), zuA_eq]; rfl
              · rw [zuA_ne _ _ k3, zuA_ne _ _ k2, zuA_ne _ _ k1]
              · rw [zuA_ne _ _ (by decide), zuA_eq, zu_ne _ _ (by omega)]
              · rw [zuA_eq, zu_ne _ _ (by omega)]
            have e24 : zPopN ((zuA (zuA (zuA A 22 (upd (A 22) c (nI 28))) 24 (upd (A 24) (d + 1) 2)) 25 (upd (A 25) (d + 1) 0)) 24) (d + 1) = d + 1 := by
              rw [zPopN, zuA_ne _ _ (by decide), zuA_eq, zu_eq, if_neg (by decide)]
            have hL := zLx_all hb hN (show d + 1 < 7 by omega) hm0 hgd (zLw_v ih) (i + 1) _ _ (c + 1) (by omega) (q1.tp hT (nI (c + 1))) (zu_eq _ _ _) (by omega) e24 (by rw [zuA_eq, zu_eq])
            have hg2 := zAll_gd hu hm0 hgd (i + 1) (by omega)
            unfold zCls
            cases hp : zAll (zOfT t n) m0 (zPart (zOfT t n) m0 r) (i + 1) with
            | inl e =>
              rw [hp] at hL hg2
              have he := hg2.2.1
              intro m
              refine (hL m).mo ?_ (fun k k1 k2 => zu23 k k2) (fun k k1 k2 k3 => q1.2.1 k k1 k2 k3) (fun q hq => by rw [q1.1]; exact zcd_lo _ _ _ _ (by omega))
              rw [show m + (e.2 - i) + 1 = (m + (e.2 - (i + 1)) + 1) + 1 by omega, stp]
            | inr x =>
              rw [hp] at hL hg2
              obtain ⟨b1, b2, b3⟩ := hg2
              obtain ⟨A3, s1, s2, s3, s4⟩ := hL
              have hT4 : zTp (upd F 23 (nI (c + 1 + x.2.2.length))) A3 t n := (q1.tr s1.up).tp hT _
              have hend := fun m => zRw_304 (N := N) (h := h) (a := a) (L := L) (M := M) (m := m) hT4 (show d + 1 < 7 by omega) s3.1.2 s3.1.1.2 s3.2 s2
              dsimp only
              cases hc41 : ziss (zOfT t n) x.1 41 with
              | false =>
                rw [if_neg zff]
                intro m
                show zREr h a L M t n F A (1, x.1) (zRR N h a L M t n (m + (x.1 - i) + 1) d 1 F A i)
                refine ⟨upd (upd F 23 (nI (c + 1 + x.2.2.length))) 9 (nI (1 + 16 * zBg t n x.1)), A3, ?_, zu_eq _ _ _, fun k k1 k2 => by rw [zu_ne _ _ k1, zu_ne _ _ k2], fun k k1 k2 k3 => (s1.2.1 k k1 k2 k3).trans (q1.2.1 k k1 k2 k3), fun q hq => by rw [(q1.tr s1.up).1]; exact zcd_lo _ _ _ _ (by omega)⟩
                rw [show m + (x.1 - i) + 1 = ((m + 1) + (x.1 - (i + 1))) + 1 by omega, stp, s4, zuu, hend, hc41, if_pos rfl]
                unfold fX7_reads_399 fX7_reads_418
                rw [zI, if_neg (by rw [zc0_eq (by omega)]; omega), zQ_fails hb (x := 1) (w := 1) rfl]
                rfl
              | true =>
                rw [if_pos rfl]
                have hx := ziss_lt hu hc41
                refine ⟨zuA A3 22 (upd (A3 22) (c + 1 + x.2.2.length) (nI 29)), ?_, ?_, trivial, fun m => ?_⟩
                · have := (q1.tr s1.up).tr (zAr.put d A3 (c + ([28] ++ x.2.2).length) 29)
                  have e0 : c + ([28] ++ x.2.2).length = c + 1 + x.2.2.length := by
                    rw [List.length_append, List.length_singleton]; omega
                  rw [e0] at this
                  exact this
                · rw [zuA_ne _ _ (by decide), s1.2.2.2 d (by omega), zuA_eq, zu_ne _ _ (by omega)]
                · show zRR N h a L M t n (m + (x.1 + 1 - i)) d 1 F A i = zRR N h a L M t n m (zPopN (A 24) d) 0 (upd F 23 (nI (c + (28 :: (x.2.2 ++ [29])).length))) (zuA A3 22 (upd (A3 22) (c + 1 + x.2.2.length) (nI 29))) (x.1 + 1)
                  rw [show m + (x.1 + 1 - i) = ((m + 1) + (x.1 - (i + 1))) + 1 by omega, stp, s4, zuu, hend, hc41, if_neg ztf, if_neg (by omega), show (29 : Int32) = nI 29 from rfl, zQ_puts hb (zu_eq _ _ _) (by omega), zuu, zm1 (by omega), Nat.add_sub_cancel, zRd_379 hb hN (zTp_A (zTp_u hT (by decide)) (by rw [zuA_ne _ _ (by decide)]; exact (q1.tr s1.up).2.1 2 (by decide) (by decide) (by decide))) m x.1 0 d N (by omega) (by omega)]
                  have e1 : zPopN ((zuA A3 22 (upd (A3 22) (c + 1 + x.2.2.length) (nI 29))) 24) d = zPopN (A 24) d := zPopN_eq (fun q hq => by rw [zuA_ne _ _ (by decide)]; exact (q1.tr s1.up).2.2.1 q hq)
                  rw [e1]
                  exact zRR_c rfl (by rw [List.length_cons, List.length_append, List.length_singleton]; congr 2; omega)
/-- an expression and its semicolon -/
def zWhole (u : zTau) (m0 i : Nat) : zPR := match zAll u m0 (zPart u m0 5) i with
  | .inl e => .inl e
  | .inr x => if ziss u x.1 59 = true then .inr (x.1 + 1, x.2.1, x.2.2) else .inl (1, x.1)
def zRds (N : Nat) (h : jH) (a : Nat) (L : Nat → Int64) (M : Nat → Nat → Int64) (t : Nat → Nat) (n i : Nat) (F : Nat → Int32) (A : Nat → Nat → Int32) (c : Nat) (r : zPR) : Prop := match r with
  | .inl e => zREr h a L M t n F A e ((fX7_reads N a).1 (zQ h a t n F L A M i))
  | .inr x => ∃ A', A' 22 = zcd (A 22) c x.2.2 ∧ (∀ k, k ≠ 22 → k ≠ 24 → k ≠ 25 → A' k = A k) ∧ (fX7_reads N a).1 (zQ h a t n F L A M i) = some (1, zQ h a t n (upd F 23 (nI (c + x.2.2.length))) L A' M x.1)
theorem zR_reads (hb : h.2.2.2.2 0 ≤ a) (hN : 3000 ≤ N) {m0 : Nat} (hm0 : n < m0) {F : Nat → Int32} {A : Nat → Nat → Int32} (hT : zTp F A t n) {c i : Nat} (hF : F 23 = nI c) (hi : i ≤ n) (hc : 1000 ≤ c ∧ c + (n - i) ≤ 2000) : zRds N h a L M t n i F A c (zWhole (zOfT t n) m0 i) := by
  have hu := zOfT_un t n
  have hn := hT.2.1
  have hgd := zPart_gd hu hm0 5
  have hL := zLx_all hb hN (show 0 < 7 by omega) hm0 hgd (zLw_v (zR_part (L := L) (M := M) hb hN hm0 5 0 rfl)) i F (zuA A 25 (upd (A 25) 0 0)) c hi (zTp_A hT (zuA_ne _ _ (by decide))) hF hc rfl (by rw [zuA_eq, zu_eq])
  have hg2 := zAll_gd hu hm0 hgd i hi
  have e : (fX7_reads N a).1 (zQ h a t n F L A M i) = zRR N h a L M t n N 0 1 F (zuA A 25 (upd (A 25) 0 0)) i := by
    unfold fX7_reads
    rw [zr_g25, zsZ (Or.inl rfl), show (0 : Int32) = nI 0 from rfl, zr_s25 hb (by decide)]
  have hA : ∀ {cs A'}, zAr 0 (zuA A 25 (upd (A 25) 0 0)) A' c cs → A' 22 = zcd (A 22) c cs ∧ ∀ k, k ≠ 22 → k ≠ 24 → k ≠ 25 → A' k = A k := fun h => ⟨by rw [h.1, zuA_ne _ _ (by decide)], fun k k1 k2 k3 => by rw [h.2.1 k k1 k2 k3, zuA_ne _ _ k3]⟩
  unfold zWhole
  cases hp : zAll (zOfT t n) m0 (zPart (zOfT t n) m0 5) i with
  | inl x =>
    rw [hp] at hL hg2
    have he := hg2.2.2
    have := hL (N - (x.2 - i) - 1)
    rw [show N - (x.2 - i) - 1 + (x.2 - i) + 1 = N by omega] at this
    exact this.mo e (fun _ _ _ => rfl) (fun k k1 k2 k3 => zuA_ne _ _ k3) (fun q _ => by rw [zuA_ne _ _ (by decide)])
  | inr x =>
    rw [hp] at hL hg2
    obtain ⟨b1, b2, b3⟩ := hg2
    obtain ⟨A3, s1, s2, s3, s4⟩ := hL
    have hT4 : zTp (upd F 23 (nI (c + x.2.2.length))) A3 t n := s1.tp (zTp_A hT (zuA_ne _ _ (by decide))) _
    have s5 := s4 (N - (x.1 - i) - 1 + 1)
    rw [show N - (x.1 - i) - 1 + 1 + (x.1 - i) = N by omega, zRw_304 hT4 (show 0 < 7 by omega) s3.1.2 s3.1.1.2 s3.2 s2, if_pos rfl, ite_self] at s5
    dsimp only
    cases h59 : ziss (zOfT t n) x.1 59 with
    | true =>
      rw [if_pos rfl]
      refine ⟨A3, (hA s1).1, (hA s1).2, ?_⟩
      rw [e, s5]
      unfold fX7_reads_399
      rw [zI, if_pos (show nI 0 = 0 from rfl), zQ_isS hT4 (x := 59) (w := 59) rfl (by decide), zI, h59, if_neg zb1n, zQ_next hb hN hT4]
      rfl
    | false =>
      rw [if_neg zff]
      refine ⟨upd (upd F 23 (nI (c + x.2.2.length))) 9 (nI (1 + 16 * zBg t n x.1)), A3, ?_, zu_eq _ _ _, fun k k1 k2 => by rw [zu_ne _ _ k1, zu_ne _ _ k2], (hA s1).2, fun q hq => by rw [(hA s1).1]; exact zcd_lo _ _ _ _ (by omega)⟩
      rw [e, s5]
      unfold fX7_reads_399 fX7_reads_418
      rw [zI, if_pos (show nI 0 = 0 from rfl), zQ_isS hT4 (x := 59) (w := 59) rfl (by decide), zI, h59, if_pos zb_f, zQ_fails hb (x := 1) (w := 1) rfl]
      rfl
end
