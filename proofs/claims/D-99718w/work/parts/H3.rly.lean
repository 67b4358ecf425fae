/-! PURE 97: library, year over all that is kept: the reference -/
set_option maxRecDepth 100000
/-- a call of the reference: it answers v; all that is kept goes from G to G' -/
def zRal {α : Type} (N a : Nat) (G G' : zGS) (m : jM α) (v : α) : Prop := ∀ (h : jH) (F : Nat → Int32) (L : Nat → Int64) (A : Nat → Nat → Int32) (M : Nat → Nat → Int64), h.2.2.2.2 0 ≤ a → zRG N a G F A M → ∃ F' L' A' M', m.1 (rH h a (F, L, A, M)) = some (v, rH h a (F', L', A', M')) ∧ zRG N a G' F' A' M'
section
variable {N a : Nat} {h : jH} {F F' : Nat → Int32} {L : Nat → Int64} {A A' : Nat → Nat → Int32} {M M' : Nat → Nat → Int64} {B : zLB} {S : zMS} {nm : (Nat → Nat) × (Nat → Nat)} {T : (Nat → Nat) × Nat} {Y : zYy} {E : zEy} {U : zUy} {Mk : Nat → Option (zMS × zYy × zEy)}
theorem zTT.q (h : zTT T F A) : zTq F A T.1 T.2 := ⟨h.2.1, h.1.1, fun k hk => ⟨h.2.2 k hk, h.1.2 k hk⟩⟩
theorem zTok0_0 (t : Nat → Nat) : zTok0 (t, 0) := ⟨Nat.zero_le _, fun k hk => absurd hk (Nat.not_lt_zero k)⟩
theorem zRln.fy {s : Nat} (h : zRln s A Y) (hY : Y.1 ≤ 40) (hs : s < 5) (hA : ∀ j q, (j = 38 → q < 5) → (39 ≤ j → j ≤ 42 → q < 200) → A' j q = A j q) : zRln s A' Y := by
  obtain ⟨h1, h2⟩ := h
  refine ⟨(hA 38 s (by omega) (by omega)).trans h1, fun k hk => ?_⟩
  rw [hA 39 _ (by omega) (by omega), hA 40 _ (by omega) (by omega), hA 41 _ (by omega) (by omega), hA 42 _ (by omega) (by omega)]
  exact h2 k hk
theorem zRG.yf {c : Nat} (hok : zGok c ((B, S), nm, T, Y, E, U, Mk)) (hG : zRG N a ((B, S), nm, T, Y, E, U, Mk) F A M) (h1 : F' 1 = 0) (h54 : F' 54 = F 54) (hA : ∀ j q, (j = 38 → q < 5) → (39 ≤ j → j ≤ 42 → q < 200) → A' j q = A j q) : zRG N a ((B, S), nm, (T.1, 0), Y, E, U, Mk) F' A' M := by
  obtain ⟨g1, g2, g3, g4, g5, ⟨g6, g7⟩, ⟨g8, g9⟩, g10⟩ := hG
  have eA : ∀ k, (k < 38 ∨ 42 < k) → A' k = A k := fun k hk => funext fun q => hA k q (by omega) (by omega)
  refine ⟨g1.to (fun k k1 k2 => eA k (by omega)) g1.2.2.1 ?_, ?_, ?_, ⟨zTok0_0 _, h1, fun k hk => absurd hk (Nat.not_lt_zero k)⟩, g5.fy hok.2.2.2.1.1 (by decide) hA, ⟨g6.eq (fun k a b => eA k (by omega)), ?_⟩, ⟨h54.trans g8, by rw [eA 52 (by decide)]; exact g9⟩, fun j hj => ?_⟩
  · have h5 : zRs S A := g1.2.2.2.2.1
    unfold zRs at h5 ⊢
    rw [eA 48 (by decide)]
    exact h5
  · unfold zNS at g2 ⊢
    rw [eA 10 (by decide)]
    exact g2
  · unfold zNT at g3 ⊢
    rw [eA 10 (by decide)]
    exact g3
  · unfold zBl at g7 ⊢
    rw [eA 47 (by decide)]
    exact g7
  · obtain ⟨a1, a2⟩ := g10 j hj
    refine ⟨by rw [eA 53 (by decide)]; exact a1, fun x hx => ?_⟩
    obtain ⟨b1, b2, b3⟩ := a2 x hx
    obtain ⟨-, k2, k3⟩ := hok.2.2.2.2.2.2 j hj x hx
    exact ⟨by rw [eA 51 (by decide)]; exact b1, b2.fy k2.1 (by omega) hA, b3.eq (fun k a b => eA k (by omega))⟩
theorem zRal_year {c : Nat} (hok : zGok c ((B, S), nm, T, Y, E, U, Mk)) : zRal N a ((B, S), nm, T, Y, E, U, Mk) (zO_year ((B, S), nm, T, Y, E, U, Mk)).2 (fX7_year N a) (zO_year ((B, S), nm, T, Y, E, U, Mk)).1 := by
  intro h F L A M hb hG
  have hT := hG.2.2.2.1
  have hn : T.2 ≤ 1000 := hT.1.1
  rcases zR_year (L := L) (m0 := 1001) hb hG.1.1 hT.q hG.2.1 hG.2.2.1 (show T.2 < 1001 by omega) (by have := hG.1.1; omega) with ⟨e, e1, F', L', A', e2, e3, e4, e5⟩ | ⟨Y', e1, e2, F', L', A2, e3, e4, e5, e6, e7⟩
  · have eO : zO_year ((B, S), nm, T, Y, E, U, Mk) = (nI (e.1 + 16 * zBg T.1 T.2 e.2), (B, S), nm, (T.1, 0), Y, E, U, Mk) := by
      unfold zO_year
      dsimp only
      rw [e1]
    rw [eO]
    exact ⟨F', L', A', M, e2, hG.yf hok e3 e4 e5⟩
  · have eO : zO_year ((B, S), nm, T, Y, E, U, Mk) = (0, (B, S), nm, (T.1, 0), Y', E, U, Mk) := by
      unfold zO_year
      dsimp only
      rw [e1]
    rw [eO]
    refine ⟨F', L', zLL A2 5 0, M, e3, ?_⟩
    have hG2 := hG.yf hok e4 e5 e7
    obtain ⟨g1, g2, g3, g4, g5, ⟨g6, g7⟩, ⟨g8, g9⟩, g10⟩ := hG2
    have eA : ∀ k, (k < 38 ∨ 42 < k) → zLL A2 5 0 k = A2 k := fun k hk => zLL_o _ _ _ hk
    refine ⟨g1.to (fun k k1 k2 => eA k (by omega)) g1.2.2.1 ?_, ?_, ?_, ⟨g4.1, g4.2.1, fun k hk => absurd hk (Nat.not_lt_zero k)⟩, e6.to_ e2.1, ⟨g6.eq (fun k a b => eA k (by omega)), ?_⟩, ⟨g8, by rw [eA 52 (by decide)]; exact g9⟩, fun j hj => ?_⟩
    · have h5 : zRs S A2 := g1.2.2.2.2.1
      unfold zRs at h5 ⊢
      rw [eA 48 (by decide)]
      exact h5
    · unfold zNS at g2 ⊢
      rw [eA 10 (by decide)]
      exact g2
    · unfold zNT at g3 ⊢
      rw [eA 10 (by decide)]
      exact g3
    · unfold zBl at g7 ⊢
      rw [eA 47 (by decide)]
      exact g7
    · obtain ⟨a1, a2⟩ := g10 j hj
      refine ⟨by rw [eA 53 (by decide)]; exact a1, fun x hx => ?_⟩
      obtain ⟨b1, b2, b3⟩ := a2 x hx
      obtain ⟨-, k2, k3⟩ := hok.2.2.2.2.2.2 j hj x hx
      exact ⟨by rw [eA 51 (by decide)]; exact b1, b2.ot_ k2.1 (by omega), b3.eq (fun k a b => eA k (by omega))⟩
theorem zRe.lm (h : zRe N a B A) (h1 : A' 20 0 = A 20 0) (h2 : A' 21 0 = A 21 0) (h3 : ∀ q, q < 1000 → A' 22 q = A 22 q) : zRe N a B A' := by
  unfold zRe at h ⊢
  rw [h1, h2]
  cases hv : zEv B with
  | none => rw [hv] at h; exact h
  | some v =>
    rw [hv] at h
    refine ⟨h.1, fun h' F L A2 M hb x20 x21 x22 => ?_⟩
    exact h.2 h' F L A2 M hb x20 x21 (fun q hq => (x22 q hq).trans (h3 q hq))
theorem zRal_library {c : Nat} (hok : zGok c ((B, S), nm, T, Y, E, U, Mk)) : zRal N a ((B, S), nm, T, Y, E, U, Mk) (zO_lib ((B, S), nm, T, Y, E, U, Mk)).2 (fX7_library N a) (zO_lib ((B, S), nm, T, Y, E, U, Mk)).1 := by
  intro h F L A M hb hG
  have hT := hG.2.2.2.1
  have hn : T.2 ≤ 1000 := hT.1.1
  rcases zR_library (L := L) (M := M) (m0 := 1001) hb hG.1.1 hT.q (show T.2 < 1001 by omega) (by have := hG.1.1; omega) with ⟨e, e1, F', L', A', M', e2, e3, e4, e5, e6⟩ | ⟨D, e1, e2, F', L', A', M', e3, e4, e5, e6, e7, e8, e9, e10, e11, e12, e13⟩
  · have eO : zO_lib ((B, S), nm, T, Y, E, U, Mk) = (nI (e.1 + 16 * zBg T.1 T.2 e.2), (B, S), nm, (T.1, 0), Y, E, U, Mk) := by
      unfold zO_lib
      dsimp only
      rw [e1]
    rw [eO]
    refine ⟨F', L', A', M', e2, ?_⟩
    obtain ⟨⟨q1, q2, q3, ⟨r1, r2, r3, r4, r5, r6⟩, q5, q6⟩, g2, g3, g4, g5, ⟨g6, g7⟩, ⟨g8, g9⟩, g10⟩ := hG
    have hS3 : zS B ≤ 3 := q2.1
    have hT6 : zT B ≤ 6 := q2.2.1
    have hD12 : zD B ≤ 12 := q2.2.2.1
    have eA : ∀ k, (k < 10 ∨ 22 < k) → k ≠ 24 → k ≠ 25 → A' k = A k := fun k hk h24 h25 => funext fun q => e5 k q (by unfold zlm; omega)
    have l0 : ∀ j q, zlm j q → A' j q = A j q := e5
    refine ⟨⟨q1, q2, q3, ⟨(l0 10 0 (by unfold zlm; omega)).trans r1, (l0 10 1 (by unfold zlm; omega)).trans r2, (l0 10 2 (by unfold zlm; omega)).trans r3, fun k hk => ?_, fun t ht => ?_, fun i (hi : i < zD B) => (l0 19 i (by unfold zlm; omega)).trans (r6 i hi)⟩, ?_, q6.lm (l0 20 0 (by unfold zlm; omega)) (l0 21 0 (by unfold zlm; omega)) (fun q hq => l0 22 q (by unfold zlm; omega))⟩, ?_, ?_, ⟨zTok0_0 _, e3, fun k hk => absurd hk (Nat.not_lt_zero k)⟩, g5.eq (fun k a b => eA k (by omega) (by omega) (by omega)), ⟨g6.eq (fun k a b => eA k (by omega) (by omega) (by omega)), ?_⟩, ⟨e4.trans g8, by rw [eA 52 (by decide) (by decide) (by decide)]; exact g9⟩, fun j hj => ?_⟩
    · have hk : k < zS B := hk
      rw [l0 13 k (by unfold zlm; omega), l0 14 k (by unfold zlm; omega), l0 15 k (by unfold zlm; omega)]
      exact r4 k hk
    · have ht : t < zT B := ht
      rw [l0 16 t (by unfold zlm; omega), l0 17 t (by unfold zlm; omega), l0 18 t (by unfold zlm; omega)]
      exact r5 t ht
    · unfold zRs at q5 ⊢
      rw [eA 48 (by decide) (by decide) (by decide)]
      exact q5
    · obtain ⟨x1, x2, x3, x4⟩ := g2
      refine ⟨x1, x2, (l0 10 _ (by unfold zlm; omega)).trans x3, fun k hk => ⟨(e6 11 _ (fun _ => ?_) (by omega)).trans (x4 k hk).1, (x4 k hk).2⟩⟩
      have hk : k < zS B := hk
      omega
    · obtain ⟨x1, x2, x3, x4⟩ := g3
      refine ⟨x1, x2, (l0 10 _ (by unfold zlm; omega)).trans x3, fun k hk => ⟨(e6 12 _ (by omega) (fun _ => ?_)).trans (x4 k hk).1, (x4 k hk).2⟩⟩
      have hk : k < zT B := hk
      omega
    · unfold zBl at g7 ⊢
      rw [eA 47 (by decide) (by decide) (by decide)]
      exact g7
    · obtain ⟨a1, a2⟩ := g10 j hj
      refine ⟨by rw [eA 53 (by decide) (by decide) (by decide)]; exact a1, fun x hx => ?_⟩
      obtain ⟨b1, b2, b3⟩ := a2 x hx
      exact ⟨by rw [eA 51 (by decide) (by decide) (by decide)]; exact b1, b2.eq (fun k a b => eA k (by omega) (by omega) (by omega)), b3.eq (fun k a b => eA k (by omega) (by omega) (by omega))⟩
  · have eO : zO_lib ((B, S), nm, T, Y, E, U, Mk) = (0, (D.1, z00 D.1), (D.2.1, D.2.2.1), (T.1, 0), (0, Y.2), (0, E.2), (0, U.2), fun _ => none) := by
      unfold zO_lib
      dsimp only
      rw [e1]
    rw [eO]
    refine ⟨F', L', A', M', e3, e6, e7, e8, ⟨zTok0_0 _, e4, fun k hk => absurd hk (Nat.not_lt_zero k)⟩, ⟨e9, fun k hk => absurd hk (Nat.not_lt_zero k)⟩, ⟨⟨e10, fun k hk => absurd hk (Nat.not_lt_zero k)⟩, ?_⟩, ⟨e5, fun k hk => absurd hk (Nat.not_lt_zero k)⟩, fun j hj => ⟨e11 j hj, fun x hx => by cases hx⟩⟩
    have g7 := hG.2.2.2.2.2.1.2
    unfold zBl at g7 ⊢
    rw [e13]
    exact g7
end
