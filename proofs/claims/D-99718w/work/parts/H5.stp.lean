/-! PURE 99: a call of both -/
set_option maxRecDepth 100000
/-- component and reference hold G, after c calls; the script -/
def zLst (N w b n C0 S0 D0 : Nat) (s : Nat → Int32) (G : zGS) (c : Nat) (H : jH) : Prop := zCG N w G H ∧ (∃ F L A M, H = rH H (w + 40) (F, L, A, M) ∧ zRG N (w + 40) G F A M) ∧ (∃ o, H.1 (w + 85) = some (.inr (1, 1, .inr (.inl o)))) ∧ (H.1 b = some (.inr (9, n, .inl s)) ∧ b < H.2.2.2.2 0) ∧ zHok c G ∧ (H.2.1 + 40 * G.2.2.1.2 ≤ C0 + 1200 * c ∧ H.2.2.2.1 + 400 * G.2.2.1.2 ≤ S0 + 12000 * c) ∧ H.2.2.1 + D0 = H.2.1
def zBot (N w c : Nat) (G : zGS) (H : jH) (m1 m2 : jM Int32) : Prop := ∃ G' v cc ss, zCal N w G' m1 v cc ss H ∧ zRal N (w + 40) G G' m2 v ∧ zHok (c + 1) G' ∧ (cc + 40 * G'.2.2.1.2 ≤ 1200 + 40 * G.2.2.1.2 ∧ ss + 400 * G'.2.2.1.2 ≤ 12000 + 400 * G.2.2.1.2)
section
variable {N w b n C0 S0 D0 c : Nat} {s : Nat → Int32} {G G' : zGS} {H : jH}
theorem zRal.of_rw {B : zLB} {S : zMS} {r : ((Nat → Nat) × (Nat → Nat)) × ((Nat → Nat) × Nat) × zYy × zEy × zUy × (Nat → Option (zMS × zYy × zEy))} {a : Nat} {m : jM Int32} {v : Int32} (h : zRW N a B S m v) : zRal N a ((B, S), r) ((B, S), r) m v := fun h' F L A M hb hG => by
  obtain ⟨F', L', A', e1, e2⟩ := zRG.rw (G := ((B, S), r)) h hb hG
  exact ⟨F', L', A', M, e1, e2⟩
/-- the reference's call -/
theorem zLst.ref {H1 : jH} {v : Int32} {m : jM Int32} {cc ss : Nat} (hL : zLst N w b n C0 S0 D0 s G c H) (hG1 : zCG N w G' H1) (hF : zFm (fun q => w ≤ q ∧ (q < w + 40 ∨ w + 86 ≤ q)) H H1) (hc : H1.2.1 ≤ H.2.1 + cc) (hs : H1.2.2.2.1 ≤ H.2.2.2.1 + ss) (h2 : zRal N (w + 40) G G' m v) (hok : zHok (c + 1) G') (hp : cc + 40 * G'.2.2.1.2 ≤ 1200 + 40 * G.2.2.1.2 ∧ ss + 400 * G'.2.2.1.2 ≤ 12000 + 400 * G.2.2.1.2) : (H1.1 b = some (.inr (9, n, .inl s)) ∧ jcd H1 (w + 40) = some 7) ∧ ∃ H2, m.1 H1 = some (v, H2) ∧ zLst N w b n C0 S0 D0 s G' (c + 1) H2 := by
  obtain ⟨hG, ⟨F, L, A, M, e1, e2⟩, ⟨o, e3⟩, ⟨e4, e5⟩, e6, ⟨e7, e8⟩, e9⟩ := hL
  obtain ⟨z1, z2, z3⟩ := hG.lo
  have hK : H1.2.2.2.2 = H.2.2.2.2 := hF.2.2.2.2
  have o1 : ∀ q, q < w ∨ (w + 40 ≤ q ∧ q < w + 86) → H1.1 q = H.1 q := fun q hq => hF.1 q (by omega) (by omega)
  have r1 : H1 = rH H1 (w + 40) (F, L, A, M) := rH_of (fun j hj => by
    rw [o1 _ (by omega), e1]
    exact rH_at j hj)
  obtain ⟨F', L', A', M', g1, g2⟩ := h2 H1 F L A M (by rw [hK]; omega) e2
  rw [← r1] at g1
  have l2 := m.2 _ _ _ g1
  have b1 : H1.1 b = some (.inr (9, n, .inl s)) := (o1 b (by omega)).trans e4
  refine ⟨⟨b1, ?_⟩, rH H1 (w + 40) (F', L', A', M'), g1, hG1.rf (fun q hq hn => rH_out (by omega)) l2, ⟨F', L', A', M', (rH_rH H1 (w + 40) _ _).symm, g2⟩, ⟨o, ?_⟩, ⟨?_, ?_⟩, hok, ⟨?_, ?_⟩, ?_⟩
  · unfold jcd
    rw [r1, rH_at0]
    rfl
  · rw [rH_out (by omega), o1 _ (by omega)]; exact e3
  · rw [rH_out (by omega)]; exact b1
  · show b < H1.2.2.2.2 0
    rw [hK]; exact e5
  · show H1.2.1 + _ ≤ _
    omega
  · show H1.2.2.2.1 + _ ≤ _
    omega
  · show H1.2.2.1 + D0 = H1.2.1
    have := hF.2.2.1
    omega
theorem zLst.cd0 (hL : zLst N w b n C0 S0 D0 s G c H) : jcd H w = some 0 := by
  obtain ⟨⟨k, X, f, R, Z, τ, h1, -⟩, -⟩ := hL
  unfold jcd
  rw [h1.wc]
  rfl
theorem zLst.sc (hL : zLst N w b n C0 S0 D0 s G c H) : H.1 b = some (.inr (9, n, .inl s)) := hL.2.2.2.1.1
theorem zix_a {i : Nat} : nI i + 1 = nI (i + 1) ∧ nI i + 2 = nI (i + 2) ∧ nI i + 3 = nI (i + 3) ∧ nI i + 4 = nI (i + 4) ∧ nI i + 5 = nI (i + 5) ∧ nI i + 6 = nI (i + 6) ∧ nI i + 7 = nI (i + 7) := ⟨nI_add i 1, nI_add i 2, nI_add i 3, nI_add i 4, nI_add i 5, nI_add i 6, nI_add i 7⟩
theorem zst0 {m1 m2 : Nat → jM Int32} {K bad : jM Int32} (hL : zLst N w b n C0 S0 D0 s G c H) (h : zBot N w c G H (m1 w) (m2 (w + 40))) : ∃ G' H', (jB (jrc 0 (some w)) fun b2 => jB (m1 b2) fun y1 => jB (jrc 7 (some (w + 40))) fun b4 => jB (m2 b4) fun y3 => if y1 = y3 then K else bad).1 H = K.1 H' ∧ zLst N w b n C0 S0 D0 s G' (c + 1) H' := by
  obtain ⟨G', v, cc, ss, ⟨H1, e1, g1, f1, c1, s1⟩, h2, h3, h4⟩ := h
  obtain ⟨⟨b1, d1⟩, H2, e2, L2⟩ := hL.ref g1 f1 c1 s1 h2 h3 h4
  refine ⟨G', H2, ?_, L2⟩
  rw [zrc (c := 0) hL.cd0, jB_eq e1, zrc (c := 7) d1, jB_eq e2, zI, if_pos rfl]
theorem zst1 {i : Nat} (hn : n < 2 ^ 31) (hi : i + 7 ≤ n) {m1 m2 : Nat → Int32 → jM Int32} {K bad : jM Int32} (hL : zLst N w b n C0 S0 D0 s G c H) (h : zBot N w c G H (m1 w (s (i + 1))) (m2 (w + 40) (s (i + 1)))) : ∃ G' H', (jB (jaI 9 (some b) (nI i + 1)) fun y1 => jB (jrc 0 (some w)) fun b3 => jB (m1 b3 y1) fun y2 => jB (jaI 9 (some b) (nI i + 1)) fun y4 => jB (jrc 7 (some (w + 40))) fun b6 => jB (m2 b6 y4) fun y5 => if y2 = y5 then K else bad).1 H = K.1 H' ∧ zLst N w b n C0 S0 D0 s G' (c + 1) H' := by
  obtain ⟨G', v, cc, ss, ⟨H1, e1, g1, f1, c1, s1⟩, h2, h3, h4⟩ := h
  obtain ⟨⟨b1, d1⟩, H2, e2, L2⟩ := hL.ref g1 f1 c1 s1 h2 h3 h4
  refine ⟨G', H2, ?_, L2⟩
  obtain ⟨i1, -⟩ := zix_a (i := i)
  rw [i1, zaI hL.sc (by omega) hn, zrc (c := 0) hL.cd0, jB_eq e1, zaI b1 (by omega) hn, zrc (c := 7) d1, jB_eq e2, zI, if_pos rfl]
theorem zst2 {i : Nat} (hn : n < 2 ^ 31) (hi : i + 7 ≤ n) {m1 m2 : Nat → Int32 → Int32 → jM Int32} {K bad : jM Int32} (hL : zLst N w b n C0 S0 D0 s G c H) (h : zBot N w c G H (m1 w (s (i + 1)) (s (i + 2))) (m2 (w + 40) (s (i + 1)) (s (i + 2)))) : ∃ G' H', (jB (jaI 9 (some b) (nI i + 1)) fun y1 => jB (jaI 9 (some b) (nI i + 2)) fun y2 => jB (jrc 0 (some w)) fun b4 => jB (m1 b4 y1 y2) fun y3 => jB (jaI 9 (some b) (nI i + 1)) fun y5 => jB (jaI 9 (some b) (nI i + 2)) fun y6 => jB (jrc 7 (some (w + 40))) fun b8 => jB (m2 b8 y5 y6) fun y7 => if y3 = y7 then K else bad).1 H = K.1 H' ∧ zLst N w b n C0 S0 D0 s G' (c + 1) H' := by
  obtain ⟨G', v, cc, ss, ⟨H1, e1, g1, f1, c1, s1⟩, h2, h3, h4⟩ := h
  obtain ⟨⟨b1, d1⟩, H2, e2, L2⟩ := hL.ref g1 f1 c1 s1 h2 h3 h4
  refine ⟨G', H2, ?_, L2⟩
  obtain ⟨i1, i2, -⟩ := zix_a (i := i)
  rw [i1, i2, zaI hL.sc (by omega) hn, zaI hL.sc (by omega) hn, zrc (c := 0) hL.cd0, jB_eq e1, zaI b1 (by omega) hn, zaI b1 (by omega) hn, zrc (c := 7) d1, jB_eq e2, zI, if_pos rfl]
theorem zst3 {i : Nat} (hn : n < 2 ^ 31) (hi : i + 7 ≤ n) {m1 m2 : Nat → Int32 → Int32 → Int32 → jM Int32} {K bad : jM Int32} (hL : zLst N w b n C0 S0 D0 s G c H) (h : zBot N w c G H (m1 w (s (i + 1)) (s (i + 2)) (s (i + 3))) (m2 (w + 40) (s (i + 1)) (s (i + 2)) (s (i + 3)))) : ∃ G' H', (jB (jaI 9 (some b) (nI i + 1)) fun y1 => jB (jaI 9 (some b) (nI i + 2)) fun y2 => jB (jaI 9 (some b) (nI i + 3)) fun y3 => jB (jrc 0 (some w)) fun b5 => jB (m1 b5 y1 y2 y3) fun y4 => jB (jaI 9 (some b) (nI i + 1)) fun y6 => jB (jaI 9 (some b) (nI i + 2)) fun y7 => jB (jaI 9 (some b) (nI i + 3)) fun y8 => jB (jrc 7 (some (w + 40))) fun b10 => jB (m2 b10 y6 y7 y8) fun y9 => if y4 = y9 then K else bad).1 H = K.1 H' ∧ zLst N w b n C0 S0 D0 s G' (c + 1) H' := by
  obtain ⟨G', v, cc, ss, ⟨H1, e1, g1, f1, c1, s1⟩, h2, h3, h4⟩ := h
  obtain ⟨⟨b1, d1⟩, H2, e2, L2⟩ := hL.ref g1 f1 c1 s1 h2 h3 h4
  refine ⟨G', H2, ?_, L2⟩
  obtain ⟨i1, i2, i3, -⟩ := zix_a (i := i)
  rw [i1, i2, i3, zaI hL.sc (by omega) hn, zaI hL.sc (by omega) hn, zaI hL.sc (by omega) hn, zrc (c := 0) hL.cd0, jB_eq e1, zaI b1 (by omega) hn, zaI b1 (by omega) hn, zaI b1 (by omega) hn, zrc (c := 7) d1, jB_eq e2, zI, if_pos rfl]
/-! calls that only look -/
theorem zBot.lo {B : zLB} {S : zMS} {r : ((Nat → Nat) × (Nat → Nat)) × ((Nat → Nat) × Nat) × zYy × zEy × zUy × (Nat → Option (zMS × zYy × zEy))} {m1 m2 : jM Int32} {v : Int32} (hG : zCG N w ((B, S), r) H) (hok : zHok c ((B, S), r)) (h1 : ∀ k : zKA, k.1 0 = w → zCW N k B S m1 v) (h2 : zRW N (w + 40) B S m2 v) : zBot N w c ((B, S), r) H m1 m2 := by
  obtain ⟨nm, T, Y, E, U, Mk⟩ := r
  exact ⟨_, v, 0, 0, hG.cw hok.1.2.1.1 h1, zRal.of_rw h2, hok.mo, by show 0 + 40 * T.2 ≤ 1200 + 40 * T.2; omega, by show 0 + 400 * T.2 ≤ 12000 + 400 * T.2; omega⟩
end
