/-! PURE A2: the law: the other cases, the loop -/
set_option maxRecDepth 100000
section
variable {N w b n C0 S0 D0 c i : Nat} {s : Nat → Int32} {B : zLB} {S : zMS} {H : jH} {nm : (Nat → Nat) × (Nat → Nat)} {T : (Nat → Nat) × Nat} {Y : zYy} {E : zEy} {U : zUy} {Mk : Nat → Option (zMS × zYy × zEy)} {K : Option Nat → Option Nat → Option Nat → Int32 → jM Int32}
theorem zop_0 (hn : n < 2 ^ 31) (hi : i + 7 ≤ n) (hL : zLst N w b n C0 S0 D0 s ((B, S), nm, T, Y, E, U, Mk) c H) : zCase N w b n C0 S0 D0 c i s K (fL_law_200 N K b (some w) (some (w + 40)) (some (w + 85)) (nI i)) H := by
  unfold fL_law_200
  obtain ⟨G', v, cc, ss, ⟨H1, e1, g1, f1, c1, s1⟩, h2, h3, h4⟩ := zBot_feed hL.1 hL.2.2.2.2.1 (((s (i + 1)).toInt64) <<< ((32 : Int32).toInt64 &&& 63) ||| (((s (i + 2)).toInt64) &&& 4294967295)) (((s (i + 3)).toInt64) <<< ((32 : Int32).toInt64 &&& 63) ||| (((s (i + 4)).toInt64) &&& 4294967295)) (((s (i + 5)).toInt64) <<< ((32 : Int32).toInt64 &&& 63) ||| (((s (i + 6)).toInt64) &&& 4294967295))
  obtain ⟨⟨b1, d1⟩, H2, e2, L2⟩ := hL.ref g1 f1 c1 s1 h2 h3 h4
  refine ⟨G', H2, ?_, L2⟩
  obtain ⟨i1, i2, i3, i4, i5, i6, -⟩ := zix_a (i := i)
  rw [i1, i2, i3, i4, i5, i6, zaI hL.sc (by omega) hn, zaI hL.sc (by omega) hn, zaI hL.sc (by omega) hn, zaI hL.sc (by omega) hn, zaI hL.sc (by omega) hn, zaI hL.sc (by omega) hn, zrc (c := 0) hL.cd0, jB_eq e1, zaI b1 (by omega) hn, zaI b1 (by omega) hn, zaI b1 (by omega) hn, zaI b1 (by omega) hn, zaI b1 (by omega) hn, zaI b1 (by omega) hn, zrc (c := 7) d1, jB_eq e2, zI, if_pos rfl]
theorem zop_28 (hn : n < 2 ^ 31) (hi : i + 7 ≤ n) (hL : zLst N w b n C0 S0 D0 s ((B, S), nm, T, Y, E, U, Mk) c H) : zCase N w b n C0 S0 D0 c i s K (fL_law_1094 N K b (some w) (some (w + 40)) (some (w + 85)) (nI i)) H := by
  unfold fL_law_1094
  obtain ⟨i1, i2, i3, i4, -⟩ := zix_a (i := i)
  have go : ∀ d : Bool, zCase N w b n C0 S0 D0 c i s K (fL_law_1127 N K b (some w) (some (w + 40)) (some (w + 85)) (nI i) (some w) (s (i + 1)) (s (i + 2)) (s (i + 3)) (zb d)) H ∨ ¬ (s (i + 4) = 0 ↔ d = false) := fun d => by
    by_cases hd : s (i + 4) = 0 ↔ d = false
    · left
      obtain ⟨G', v, cc, ss, ⟨H1, e1, g1, f1, c1, s1⟩, h2, h3, h4⟩ := zBot_see hL.1 hL.2.2.2.2.1 (s (i + 1)) (s (i + 2)) (s (i + 3)) d
      obtain ⟨⟨b1, d1⟩, H2, e2, L2⟩ := hL.ref g1 f1 c1 s1 h2 h3 h4
      refine ⟨G', H2, ?_, L2⟩
      unfold fL_law_1127 fL_law_1163
      rw [i1, i2, i3, i4, zrc (c := 0) hL.cd0, jB_eq e1, zaI b1 (by omega) hn, zaI b1 (by omega) hn, zaI b1 (by omega) hn, zaI b1 (by omega) hn, zI]
      cases d with
      | false => rw [if_pos (hd.mpr rfl), zrc (c := 7) d1, jB_eq (show (fX7_see (w + 40) (s (i + 1)) (s (i + 2)) (s (i + 3)) 0).1 H1 = some (v, H2) from e2), zI, if_pos rfl]
      | true => rw [if_neg (fun q => by have := hd.mp q; cases this), zrc (c := 7) d1, jB_eq (show (fX7_see (w + 40) (s (i + 1)) (s (i + 2)) (s (i + 3)) 1).1 H1 = some (v, H2) from e2), zI, if_pos rfl]
    · exact Or.inr hd
  have st : ∀ m : jM Int32, zCase N w b n C0 S0 D0 c i s K m H → (jB (jaI 9 (some b) (nI i + 1)) fun y1 => jB (jaI 9 (some b) (nI i + 2)) fun y2 => jB (jaI 9 (some b) (nI i + 3)) fun y3 => jB (jaI 9 (some b) (nI i + 4)) fun y4 => if y4 = 0 then (fL_law_1127 N K b (some w) (some (w + 40)) (some (w + 85)) (nI i) (some w) y1 y2 y3 0) else (fL_law_1127 N K b (some w) (some (w + 40)) (some (w + 85)) (nI i) (some w) y1 y2 y3 1)).1 H = m.1 H → zCase N w b n C0 S0 D0 c i s K (jB (jaI 9 (some b) (nI i + 1)) fun y1 => jB (jaI 9 (some b) (nI i + 2)) fun y2 => jB (jaI 9 (some b) (nI i + 3)) fun y3 => jB (jaI 9 (some b) (nI i + 4)) fun y4 => if y4 = 0 then (fL_law_1127 N K b (some w) (some (w + 40)) (some (w + 85)) (nI i) (some w) y1 y2 y3 0) else (fL_law_1127 N K b (some w) (some (w + 40)) (some (w + 85)) (nI i) (some w) y1 y2 y3 1)) H := fun m h e => by
    obtain ⟨G', H', e1, e2⟩ := h
    exact ⟨G', H', e.trans e1, e2⟩
  by_cases h4 : s (i + 4) = 0
  · rcases go false with h | h
    · refine st _ h ?_
      rw [i1, i2, i3, i4, zaI hL.sc (by omega) hn, zaI hL.sc (by omega) hn, zaI hL.sc (by omega) hn, zaI hL.sc (by omega) hn, zI, if_pos h4]
      rfl
    · exact absurd ⟨fun _ => rfl, fun _ => h4⟩ h
  · rcases go true with h | h
    · refine st _ h ?_
      rw [i1, i2, i3, i4, zaI hL.sc (by omega) hn, zaI hL.sc (by omega) hn, zaI hL.sc (by omega) hn, zaI hL.sc (by omega) hn, zI, if_neg h4]
      rfl
    · exact absurd ⟨fun q => absurd q h4, fun q => by cases q⟩ h
theorem zop_34 (hn : n < 2 ^ 31) (hi : i + 7 ≤ n) (hL : zLst N w b n C0 S0 D0 s ((B, S), nm, T, Y, E, U, Mk) c H) : zCase N w b n C0 S0 D0 c i s K (fL_law_1399 N K b (some w) (some (w + 40)) (some (w + 85)) (nI i)) H := by
  unfold fL_law_1399
  obtain ⟨i1, i2, -⟩ := zix_a (i := i)
  have go : ∀ d : Bool, zCase N w b n C0 S0 D0 c i s K (fL_law_1420 N K b (some w) (some (w + 40)) (some (w + 85)) (nI i) (some w) (s (i + 1)) (zb d)) H ∨ ¬ (s (i + 2) = 0 ↔ d = false) := fun d => by
    by_cases hd : s (i + 2) = 0 ↔ d = false
    · left
      obtain ⟨G', v, cc, ss, ⟨H1, e1, g1, f1, c1, s1⟩, h2, h3, h4⟩ := zBot_mark hL.1 hL.2.2.2.2.1 (s (i + 1)) d
      obtain ⟨⟨b1, d1⟩, H2, e2, L2⟩ := hL.ref g1 f1 c1 s1 h2 h3 h4
      refine ⟨G', H2, ?_, L2⟩
      unfold fL_law_1420 fL_law_1444
      rw [i1, i2, zrc (c := 0) hL.cd0, jB_eq e1, zaI b1 (by omega) hn, zaI b1 (by omega) hn, zI]
      cases d with
      | false => rw [if_pos (hd.mpr rfl), zrc (c := 7) d1, jB_eq (show (fX7_mark N (w + 40) (s (i + 1)) 0).1 H1 = some (v, H2) from e2), zI, if_pos rfl]
      | true => rw [if_neg (fun q => by have := hd.mp q; cases this), zrc (c := 7) d1, jB_eq (show (fX7_mark N (w + 40) (s (i + 1)) 1).1 H1 = some (v, H2) from e2), zI, if_pos rfl]
    · exact Or.inr hd
  by_cases h4 : s (i + 2) = 0
  · rcases go false with ⟨G', H', e1, e2⟩ | h
    · refine ⟨G', H', ?_, e2⟩
      rw [i1, i2, zaI hL.sc (by omega) hn, zaI hL.sc (by omega) hn, zI, if_pos h4]
      exact e1
    · exact absurd ⟨fun _ => rfl, fun _ => h4⟩ h
  · rcases go true with ⟨G', H', e1, e2⟩ | h
    · refine ⟨G', H', ?_, e2⟩
      rw [i1, i2, zaI hL.sc (by omega) hn, zaI hL.sc (by omega) hn, zI, if_neg h4]
      exact e1
    · exact absurd ⟨fun q => absurd q h4, fun q => by cases q⟩ h
theorem lg_self (x : Int64) : lg_cmp x x = 0 := by
  unfold lg_cmp
  rw [if_neg (show ¬ x > x from fun h => Int64.lt_irrefl h), if_pos rfl]
theorem zop_32 (hn : n < 2 ^ 31) (hi : i + 7 ≤ n) (hL : zLst N w b n C0 S0 D0 s ((B, S), nm, T, Y, E, U, Mk) c H) : zCase N w b n C0 S0 D0 c i s K (fL_law_1258 N K b (some w) (some (w + 40)) (some (w + 85)) (nI i)) H := by
  unfold fL_law_1258 fL_law_1347
  obtain ⟨i1, i2, i3, i4, -⟩ := zix_a (i := i)
  obtain ⟨hG, ⟨F, L, A, M, e1, e2⟩, ⟨o, e3⟩, ⟨e4, e5⟩, e6, ⟨e7, e8⟩, e9⟩ := id hL
  obtain ⟨z1, z2, z3⟩ := hG.lo
  -- what the component does
  have fin : ∀ (H1 : jH) (k5 : Int32), (fX0_rests N (some w) (s (i + 1)) (s (i + 2)) (s (i + 3)) (s (i + 4)) (some (w + 85))).1 H = some (k5, H1) → (∀ q, q < H.2.1 → q ≠ w + 85 → H1.1 q = H.1 q) → (∃ o, H1.1 (w + 85) = some (.inr (1, 1, .inr (.inl o))) ∧ (k5 = 0 → ∃ y, zO_rests (s (i + 1)) (s (i + 2)) (s (i + 3)) (s (i + 4)) = some y ∧ o 0 = y.toInt64)) → k5 = zb (zO_rests (s (i + 1)) (s (i + 2)) (s (i + 3)) (s (i + 4))).isNone → jLe H H1 → (H1.2.1 ≤ H.2.1 + 1 ∧ H1.2.2.2.1 ≤ H.2.2.2.1 + 6 ∧ H1.2.2.1 + H.2.1 = H.2.2.1 + H1.2.1) → zCase N w b n C0 S0 D0 c i s K (jB (jaI 9 (some b) (nI i + 1)) fun y1 => jB (jaI 9 (some b) (nI i + 2)) fun y2 => jB (jaI 9 (some b) (nI i + 3)) fun y3 => jB (jaI 9 (some b) (nI i + 4)) fun y4 => jB (fX0_rests N (some w) y1 y2 y3 y4 (some (w + 85))) fun y5 => jB (jaI 9 (some b) (nI i + 1)) fun y6 => jB (jaI 9 (some b) (nI i + 2)) fun y7 => jB (jaI 9 (some b) (nI i + 3)) fun y8 => jB (jaI 9 (some b) (nI i + 4)) fun y9 => jB (jrc 7 (some (w + 40))) fun b11 => jB (fX7_rests N b11 y6 y7 y8 y9) fun y10 => jB (jrc 7 (some (w + 40))) fun b13 => jB (fX7_thrown b13) fun y12 => if y12 = y5 then (if y5 = 0 then (jB (jaL 1 (some (w + 85)) 0) fun y14 => if (lg_cmp y14 (y10.toInt64)) = 0 then (fL_law_1477 N K b (some w) (some (w + 40)) (some (w + 85)) (nI i)) else (fL_law_1345 N b)) else (fL_law_1477 N K b (some w) (some (w + 40)) (some (w + 85)) (nI i))) else (fL_law_1328 N b)) H := fun H1 k5 r1 o1 ho hk hl hc => by
    obtain ⟨o', x1, x2⟩ := ho
    have hK : H1.2.2.2.2 = H.2.2.2.2 := hl.2.2.2.1
    have g1 : zCG N w ((B, S), nm, T, Y, E, U, Mk) H1 := hG.rf (fun q hq hn => o1 q hq (by omega)) hl
    have rr : H1 = rH H1 (w + 40) (F, L, A, M) := rH_of (fun j hj => by
      rw [o1 _ (by omega) (by omega), e1]
      exact rH_at j hj)
    have b1 : H1.1 b = some (.inr (9, n, .inl s)) := (o1 b (by omega) (by omega)).trans e4
    have d1 : jcd H1 (w + 40) = some 7 := by unfold jcd; rw [rr, rH_at0]; rfl
    obtain ⟨F', v, y1, y2, y3, y4⟩ := zRG_rests (h := H1) (L := L) (by rw [hK]; omega) e2 (s (i + 1)) (s (i + 2)) (s (i + 3)) (s (i + 4))
    rw [← rr] at y1
    have l2 := (fX7_rests N (w + 40) (s (i + 1)) (s (i + 2)) (s (i + 3)) (s (i + 4))).2 _ _ _ y1
    have L2 : zLst N w b n C0 S0 D0 s ((B, S), nm, T, Y, E, U, Mk) (c + 1) (rH H1 (w + 40) (F', L, A, M)) := by
      refine ⟨g1.rf (fun q hq hn => rH_out (by omega)) l2, ⟨F', L, A, M, (rH_rH H1 (w + 40) _ _).symm, y2⟩, ⟨o', by rw [rH_out (by omega)]; exact x1⟩, ⟨by rw [rH_out (by omega)]; exact b1, ?_⟩, e6.mo, ⟨?_, ?_⟩, ?_⟩
      · show b < H1.2.2.2.2 0
        rw [hK]; exact e5
      · show H1.2.1 + 40 * T.2 ≤ _
        have e7 : H.2.1 + 40 * T.2 ≤ C0 + 1200 * c := e7
        omega
      · show H1.2.2.2.1 + 400 * T.2 ≤ _
        have e8 : H.2.2.2.1 + 400 * T.2 ≤ S0 + 12000 * c := e8
        omega
      · show H1.2.2.1 + D0 = H1.2.1
        omega
    refine ⟨_, _, ?_, L2⟩
    have d2 : jcd (rH H1 (w + 40) (F', L, A, M)) (w + 40) = some 7 := by unfold jcd; rw [rH_at0]; rfl
    rw [i1, i2, i3, i4, zaI hL.sc (by omega) hn, zaI hL.sc (by omega) hn, zaI hL.sc (by omega) hn, zaI hL.sc (by omega) hn, jB_eq r1, zaI b1 (by omega) hn, zaI b1 (by omega) hn, zaI b1 (by omega) hn, zaI b1 (by omega) hn, zrc (c := 7) d1, jB_eq y1, zrc (c := 7) d2]
    unfold fX7_thrown
    rw [zA, zr_g0, zR, zI, if_pos (y3.trans hk.symm), zI]
    by_cases c5 : k5 = 0
    · obtain ⟨y, t1, t2⟩ := x2 c5
      rw [if_pos c5, show (0 : Int32) = nI 0 from rfl, zaL (show (rH H1 (w + 40) (F', L, A, M)).1 (w + 85) = _ by rw [rH_out (by omega)]; exact x1) (by decide) (by decide), t2, y4 y t1, lg_self, zI]
      exact if_pos rfl
    · rw [if_neg c5]
  rcases zc_rests (N := N) (w := w) (H := H) (by omega) z1 (s (i + 1)) (s (i + 2)) (s (i + 3)) (s (i + 4)) with ⟨y, t1, t2⟩ | ⟨t1, H', t2, t3, t4, t5, fs, t6⟩
  · refine fin (jset H (w + 85) (.inr (1, 1, .inr (.inl (vp_updL o 0 y.toInt64))))) 0 ?_ (fun q hq hne => zse_n _ _ hne) ⟨_, zse_e _ _ _, fun _ => ⟨y, t1, ?_⟩⟩ (by rw [t1]; rfl) (jsetA_le e3) ⟨Nat.le_succ _, Nat.le_add_right _ _, rfl⟩
    · unfold fX0_rests
      rw [zrc (c := 0) hL.cd0, zBHl t2, show (0 : Int32) = nI 0 from rfl, zsL e3 (by omega) (by decide) (by decide)]
      rfl
    · rfl
  · refine fin H' 1 ?_ (fun q hq _ => t3 q hq) ⟨o, (t3 _ (by omega)).trans e3, fun q => by cases q⟩ (by rw [t1]; rfl) t5 ⟨by rw [t4]; show H.2.1 + 1 ≤ _; omega, by rw [t4]; show H.2.2.2.1 + 6 ≤ _; omega, by rw [t4]; show H.2.2.1 + 1 + H.2.1 = H.2.2.1 + (H.2.1 + 1); omega⟩
    unfold fX0_rests fX0_rests_17
    rw [zrc (c := 0) hL.cd0, zBHr t2, zrc (c := 31) (by unfold jcd; rw [t6]; rfl)]
    rfl
theorem zLst.mo (hL : zLst N w b n C0 S0 D0 s ((B, S), nm, T, Y, E, U, Mk) c H) : zLst N w b n C0 S0 D0 s ((B, S), nm, T, Y, E, U, Mk) (c + 1) H := by
  obtain ⟨a1, a2, a3, a4, a5, ⟨a6, a7⟩, a8⟩ := hL
  exact ⟨a1, a2, a3, a4, a5.mo, ⟨by omega, by omega⟩, a8⟩
theorem zlw_lt (hn : n ≤ 1000) (hi : i ≤ n) : nI n - 7 < nI i ↔ n < i + 7 := by
  rw [Int32.lt_iff_toInt_lt]
  have e1 : (nI n - 7).toInt = (n : Int) - 7 := by
    rcases Nat.lt_or_ge n 7 with h | h
    · have : n = 0 ∨ n = 1 ∨ n = 2 ∨ n = 3 ∨ n = 4 ∨ n = 5 ∨ n = 6 := by omega
      rcases this with e | e | e | e | e | e | e <;> rw [e] <;> decide
    · rw [show (7 : Int32) = nI 7 from rfl, pk_sub h, nI_toInt (by omega)]
      omega
  rw [e1, nI_toInt (by omega)]
  omega
/-- what the law's loop comes to -/
theorem zlaw_lp (hn : n ≤ 448) : ∀ (f i c : Nat) (G : zGS) (H : jH), i ≤ n → n < i + 7 * f → 7 * c ≤ i → zLst N w b n C0 S0 D0 s G c H → ∃ H', (fL_law_23 N b f (some w) (some (w + 40)) (some (w + 85)) (nI i)).1 H = some (1, H') ∧ H'.2.1 ≤ C0 + 1200 * 64 ∧ H'.2.2.2.1 ≤ S0 + 12000 * 64 ∧ H'.2.2.1 + D0 = H'.2.1
  | 0, i, c, G, H, hi, hf, hc, hL => by omega
  | f + 1, i, c, G, H, hi, hf, hc, hL => by
    have hn31 : n < 2 ^ 31 := by omega
    obtain ⟨⟨B, S⟩, nm, T, Y, E, U, Mk⟩ := G
    have hln : ∀ K : Int32 → jM Int32, (jB (jln (some b)) K).1 H = (K (nI n)).1 H := fun K => zln hL.sc K
    rw [fL_law_23, hln, zI]
    by_cases c0 : n < i + 7
    · rw [if_pos ((zlw_lt (by omega) hi).mpr c0)]
      obtain ⟨a1, a2, a3, a4, a5, ⟨a6, a7⟩, a8⟩ := hL
      exact ⟨H, rfl, by omega, by omega, a8⟩
    · rw [if_neg (fun q => c0 ((zlw_lt (by omega) hi).mp q)), zaI hL.sc (by omega) hn31]
      have hi7 : i + 7 ≤ n := by omega
      have fin : ∀ m : jM Int32, zCase N w b n C0 S0 D0 c i s (fL_law_23 N b f) m H → ∃ H', m.1 H = some (1, H') ∧ H'.2.1 ≤ C0 + 1200 * 64 ∧ H'.2.2.2.1 ≤ S0 + 12000 * 64 ∧ H'.2.2.1 + D0 = H'.2.1 := fun m hm => by
        obtain ⟨G', H1, e1, e2⟩ := hm
        obtain ⟨H', r1, r2⟩ := zlaw_lp hn f (i + 7) (c + 1) G' H1 hi7 (by omega) (by omega) e2
        refine ⟨H', ?_, r2⟩
        rw [e1]
        unfold fL_law_1477
        rw [(zix_a (i := i)).2.2.2.2.2.2]
        exact r1
      have hc1 : c < 1000 := by omega
      by_cases k0 : (s i &&& 63) = 0
      · rw [zI, if_pos k0]
        exact fin _ (zop_0 hn31 hi7 hL)
      rw [zI, if_neg k0]
      by_cases k1 : (s i &&& 63) = 1
      · rw [zI, if_pos k1]
        exact fin _ (zop_1 hL)
      rw [zI, if_neg k1]
      by_cases k2 : (s i &&& 63) = 2
      · rw [zI, if_pos k2]
        exact fin _ (zop_2 hL)
      rw [zI, if_neg k2]
      by_cases k3 : (s i &&& 63) = 3
      · rw [zI, if_pos k3]
        exact fin _ (zop_3 hn31 hi7 hL)
      rw [zI, if_neg k3]
      by_cases k4 : (s i &&& 63) = 4
      · rw [zI, if_pos k4]
        exact fin _ (zop_4 hn31 hi7 hL)
      rw [zI, if_neg k4]
      by_cases k5 : (s i &&& 63) = 5
      · rw [zI, if_pos k5]
        exact fin _ (zop_5 hn31 hi7 hL)
      rw [zI, if_neg k5]
      by_cases k6 : (s i &&& 63) = 6
      · rw [zI, if_pos k6]
        exact fin _ (zop_6 hn31 hi7 hL)
      rw [zI, if_neg k6]
      by_cases k7 : (s i &&& 63) = 7
      · rw [zI, if_pos k7]
        exact fin _ (zop_7 hn31 hi7 hL)
      rw [zI, if_neg k7]
      by_cases k8 : (s i &&& 63) = 8
      · rw [zI, if_pos k8]
        exact fin _ (zop_8 hn31 hi7 hL)
      rw [zI, if_neg k8]
      by_cases k9 : (s i &&& 63) = 9
      · rw [zI, if_pos k9]
        exact fin _ (zop_9 hn31 hi7 hL)
      rw [zI, if_neg k9]
      by_cases k10 : (s i &&& 63) = 10
      · rw [zI, if_pos k10]
        exact fin _ (zop_10 hn31 hi7 hL)
      rw [zI, if_neg k10]
      by_cases k11 : (s i &&& 63) = 11
      · rw [zI, if_pos k11]
        exact fin _ (zop_11 hc1 hL)
      rw [zI, if_neg k11]
      by_cases k12 : (s i &&& 63) = 12
      · rw [zI, if_pos k12]
        exact fin _ (zop_12 hL)
      rw [zI, if_neg k12]
      by_cases k13 : (s i &&& 63) = 13
      · rw [zI, if_pos k13]
        exact fin _ (zop_13 hn31 hi7 hL)
      rw [zI, if_neg k13]
      by_cases k14 : (s i &&& 63) = 14
      · rw [zI, if_pos k14]
        exact fin _ (zop_14 hn31 hi7 hL)
      rw [zI, if_neg k14]
      by_cases k15 : (s i &&& 63) = 15
      · rw [zI, if_pos k15]
        exact fin _ (zop_15 hn31 hi7 hL)
      rw [zI, if_neg k15]
      by_cases k16 : (s i &&& 63) = 16
      · rw [zI, if_pos k16]
        exact fin _ (zop_16 hn31 hi7 hL)
      rw [zI, if_neg k16]
      by_cases k17 : (s i &&& 63) = 17
      · rw [zI, if_pos k17]
        exact fin _ (zop_17 hL)
      rw [zI, if_neg k17]
      by_cases k18 : (s i &&& 63) = 18
      · rw [zI, if_pos k18]
        exact fin _ (zop_18 hn31 hi7 hL)
      rw [zI, if_neg k18]
      by_cases k19 : (s i &&& 63) = 19
      · rw [zI, if_pos k19]
        exact fin _ (zop_19 hn31 hi7 hL)
      rw [zI, if_neg k19]
      by_cases k20 : (s i &&& 63) = 20
      · rw [zI, if_pos k20]
        exact fin _ (zop_20 hn31 hi7 hL)
      rw [zI, if_neg k20]
      by_cases k21 : (s i &&& 63) = 21
      · rw [zI, if_pos k21]
        exact fin _ (zop_21 hn31 hi7 hL)
      rw [zI, if_neg k21]
      by_cases k22 : (s i &&& 63) = 22
      · rw [zI, if_pos k22]
        exact fin _ (zop_22 hn31 hi7 hL)
      rw [zI, if_neg k22]
      by_cases k23 : (s i &&& 63) = 23
      · rw [zI, if_pos k23]
        exact fin _ (zop_23 hn31 hi7 hL)
      rw [zI, if_neg k23]
      by_cases k24 : (s i &&& 63) = 24
      · rw [zI, if_pos k24]
        exact fin _ (zop_24 hn31 hi7 hL)
      rw [zI, if_neg k24]
      by_cases k25 : (s i &&& 63) = 25
      · rw [zI, if_pos k25]
        exact fin _ (zop_25 hL)
      rw [zI, if_neg k25]
      by_cases k26 : (s i &&& 63) = 26
      · rw [zI, if_pos k26]
        exact fin _ (zop_26 hL)
      rw [zI, if_neg k26]
      by_cases k27 : (s i &&& 63) = 27
      · rw [zI, if_pos k27]
        exact fin _ (zop_27 hn31 hi7 hL)
      rw [zI, if_neg k27]
      by_cases k28 : (s i &&& 63) = 28
      · rw [zI, if_pos k28]
        exact fin _ (zop_28 hn31 hi7 hL)
      rw [zI, if_neg k28]
      by_cases k29 : (s i &&& 63) = 29
      · rw [zI, if_pos k29]
        exact fin _ (zop_29 hL)
      rw [zI, if_neg k29]
      by_cases k30 : (s i &&& 63) = 30
      · rw [zI, if_pos k30]
        exact fin _ (zop_30 hn31 hi7 hL)
      rw [zI, if_neg k30]
      by_cases k31 : (s i &&& 63) = 31
      · rw [zI, if_pos k31]
        exact fin _ (zop_31 hn31 hi7 hL)
      rw [zI, if_neg k31]
      by_cases k32 : (s i &&& 63) = 32
      · rw [zI, if_pos k32]
        exact fin _ (zop_32 hn31 hi7 hL)
      rw [zI, if_neg k32]
      by_cases k33 : (s i &&& 63) = 33
      · rw [zI, if_pos k33]
        exact fin _ (zop_33 hn31 hi7 hc1 hL)
      rw [zI, if_neg k33]
      by_cases k34 : (s i &&& 63) = 34
      · rw [zI, if_pos k34]
        exact fin _ (zop_34 hn31 hi7 hL)
      rw [zI, if_neg k34]
      by_cases k35 : (s i &&& 63) = 35
      · rw [zI, if_pos k35]
        exact fin _ (zop_35 hn31 hi7 hL)
      rw [zI, if_neg k35]
      exact fin _ ⟨_, H, rfl, hL.mo⟩
end
