/-! PURE 74: a library as it is read: the component's draft -/
set_option maxRecDepth 100000
/-- a cell of kind k, made since lo -/
def zTg (τ : Nat → Nat) (lo : Nat) (H : jH) (q k : Nat) : Prop := τ q = k ∧ lo ≤ q ∧ q < H.2.1
/-- one that isn't changed any more -/
def zFz (τ : Nat → Nat) (lo : Nat) (H : jH) (q : Nat) : Prop := q < H.2.2.2.2 0 ∨ zTg τ lo H q 14
/-- skins, and what isn't changed any more, are as they were -/
def zFf (τ : Nat → Nat) (lo : Nat) (H H' : jH) : Prop := ∀ q, (q < H.2.2.2.2 0 ∨ (lo ≤ q ∧ q < H.2.1 ∧ (τ q = 13 ∨ τ q = 14))) → H'.1 q = H.1 q
/-- the draft's cells: lists 0 names, 1 what they name, 2 skins, 3 texts -/
def zLR (H : jH) (lo : Nat) (τ A cap n : Nat → Nat) (f : Nat → Nat → Option Nat) (dn : Nat) (dm : Nat → Int32) (ev : Option Nat) : Prop := H.2.2.2.2 0 ≤ lo ∧ (∀ j, j < 12 → zTg τ lo H (A j) (j + 1)) ∧ H.1 (A 0) = some (.inl (3, [.ref (A 1), .ref (A 3), .ref (A 5), .ref (A 7), .ref (A 9), .int (nI dn), va_rf ev, .ref (A 10)])) ∧ (∀ j, j < 4 → zAL H (A (2 * j + 1)) (A (2 * j + 2)) (cap j) (n j) (f j) ∧ 1 ≤ cap j ∧ cap j ≤ 20) ∧ H.1 (A 9) = some (.inr (0, 12, .inl dm)) ∧ H.1 (A 10) = some (.inl (5, [.ref (A 11)])) ∧ ∃ g, H.1 (A 11) = some (.inr (0, 4, .inl g))
/-- what they mean -/
def zLm (N : Nat) (H : jH) (lo : Nat) (τ : Nat → Nat) (f : Nat → Nat → Option Nat) (dn : Nat) (dm : Nat → Int32) (ev : Option Nat) (D : zDr) (sk tx what name : Nat → Nat) : Prop := (dn = zD D.1 ∧ ∀ i, i < zD D.1 → dm i = nI (zDa D.1 i)) ∧ (∀ i, i < zS D.1 → f 2 i = some (sk i) ∧ zTg τ lo H (sk i) 13 ∧ H.1 (sk i) = some (.inl (12, [.int (nI (zLi D.1 i)), .int (nI (zTh0 D.1 i)), .int (nI (zHo D.1 i))]))) ∧ (∀ i j, i < zS D.1 → j < zS D.1 → sk i = sk j → i = j) ∧ (∀ i, i < zT D.1 → f 3 i = some (tx i) ∧ zTg τ lo H (tx i) 14 ∧ H.1 (tx i) = some (.inl (13 + zKi D.1 i, [.int (nI (zGa D.1 i)), .int (nI (zLo D.1 i))]))) ∧ (∀ j, j < zS D.1 + zT D.1 → ∃ x y, f 0 j = some x ∧ f 1 j = some y ∧ zFz τ lo H x ∧ zFz τ lo H y ∧ H.1 x = some (.inl (10, [.long (nL (name j))])) ∧ H.1 y = some (.inl (11, [.int (nI (what j))]))) ∧ zNo (zS D.1) (zT D.1) D.2.1 D.2.2.1 (zS D.1 + zT D.1) what name ∧ ((zEv D.1 = none ∧ ev = none) ∨ ∃ v e, zEv D.1 = some v ∧ ev = some e ∧ zXe N H (fun q => zTg τ lo H q 14) 24 e v)
section
variable {H H1 : jH} {lo : Nat} {τ τ1 A cap n : Nat → Nat} {f f1 : Nat → Nat → Option Nat} {dn : Nat} {dm : Nat → Int32} {ev : Option Nat}
theorem zTg.le {q k : Nat} (h : zTg τ lo H q k) (h1 : ∀ q, q < H.2.1 → τ1 q = τ q) (hl : H.2.1 ≤ H1.2.1) : zTg τ1 lo H1 q k := ⟨(h1 q h.2.2).trans h.1, h.2.1, by have := h.2.2; omega⟩
theorem zFz.le {q : Nat} (h : zFz τ lo H q) (h1 : ∀ q, q < H.2.1 → τ1 q = τ q) (hl : H.2.1 ≤ H1.2.1) (hK : H1.2.2.2.2 = H.2.2.2.2) : zFz τ1 lo H1 q := by
  rcases h with h | h
  · exact Or.inl (by rw [hK]; exact h)
  · exact Or.inr (h.le h1 hl)
theorem zFz.at (h : zFf τ lo H H1) {q : Nat} (hq : zFz τ lo H q) : H1.1 q = H.1 q := by
  rcases hq with hq | hq
  · exact h q (Or.inl hq)
  · exact h q (Or.inr ⟨hq.2.1, hq.2.2, Or.inr hq.1⟩)
theorem zFf.tr {H2 : jH} (h1 : zFf τ lo H H1) (h2 : zFf τ1 lo H1 H2) (ht : ∀ q, q < H.2.1 → τ1 q = τ q) (hl : H.2.1 ≤ H1.2.1) (hK : H1.2.2.2.2 = H.2.2.2.2) : zFf τ lo H H2 := by
  intro q hq
  refine (h2 q ?_).trans (h1 q hq)
  rcases hq with hq | ⟨a, b, c⟩
  · exact Or.inl (by rw [hK]; exact hq)
  · exact Or.inr ⟨a, by omega, by rw [ht q b]; exact c⟩
/-- nothing of it is changed -/
theorem zLR.fr (h : zLR H lo τ A cap n f dn dm ev) (hf : ∀ q, lo ≤ q → q < H.2.1 → H1.1 q = H.1 q) (h1 : ∀ q, q < H.2.1 → τ1 q = τ q) (hl : jLe H H1) : zLR H1 lo τ1 A cap n f dn dm ev := by
  obtain ⟨a0, a1, a2, a3, a4, a5, g, a6⟩ := h
  have at_ : ∀ j, j < 12 → H1.1 (A j) = H.1 (A j) := fun j hj => hf _ (a1 j hj).2.1 (a1 j hj).2.2
  exact ⟨by rw [hl.2.2.2.1]; exact a0, fun j hj => (a1 j hj).le h1 hl.1, (at_ 0 (by decide)).trans a2, fun j hj => ⟨(a3 j hj).1.up (at_ _ (by omega)) (at_ _ (by omega)) hl, (a3 j hj).2⟩, (at_ 9 (by decide)).trans a4, (at_ 10 (by decide)).trans a5, g, (at_ 11 (by decide)).trans a6⟩
theorem zLm.fr {N : Nat} {D : zDr} {sk tx what name : Nat → Nat} (h : zLm N H lo τ f dn dm ev D sk tx what name) (hf : zFf τ lo H H1) (h1 : ∀ q, q < H.2.1 → τ1 q = τ q) (hl : H.2.1 ≤ H1.2.1) (hK : H1.2.2.2.2 = H.2.2.2.2) (h2 : ∀ i, i < zS D.1 → f1 2 i = f 2 i) (h3 : ∀ i, i < zT D.1 → f1 3 i = f 3 i) (h4 : ∀ i, i < zS D.1 + zT D.1 → f1 0 i = f 0 i ∧ f1 1 i = f 1 i) : zLm N H1 lo τ1 f1 dn dm ev D sk tx what name := by
  obtain ⟨a1, a2, a3, a4, a5, a6, a7⟩ := h
  refine ⟨a1, fun i hi => ?_, a3, fun i hi => ?_, fun j hj => ?_, a6, ?_⟩
  · obtain ⟨b1, b2, b3⟩ := a2 i hi
    exact ⟨(h2 i hi).trans b1, b2.le h1 hl, (hf _ (Or.inr ⟨b2.2.1, b2.2.2, Or.inl b2.1⟩)).trans b3⟩
  · obtain ⟨b1, b2, b3⟩ := a4 i hi
    exact ⟨(h3 i hi).trans b1, b2.le h1 hl, (hf _ (Or.inr ⟨b2.2.1, b2.2.2, Or.inr b2.1⟩)).trans b3⟩
  · obtain ⟨x, y, b1, b2, b3, b4, b5, b6⟩ := a5 j hj
    exact ⟨x, y, (h4 j hj).1.trans b1, (h4 j hj).2.trans b2, b3.le h1 hl hK, b4.le h1 hl hK, (zFz.at hf b3).trans b5, (zFz.at hf b4).trans b6⟩
  · rcases a7 with a7 | ⟨v, e, b1, b2, b3⟩
    · exact Or.inl a7
    · exact Or.inr ⟨v, e, b1, b2, b3.mo (fun q hq => ⟨hq.le h1 hl, hf q (Or.inr ⟨hq.2.1, hq.2.2, Or.inr hq.1⟩)⟩) (Nat.le_refl _)⟩
/-- one is added to a list -/
theorem zLR.add (h : zLR H lo τ A cap n f dn dm ev) {j : Nat} (hj : j < 4) (hn : n j ≤ 12) {x : Nat} (hx : zOk H (some x)) : ∃ H' A' τ' cap' g, (fJ2_add (A (2 * j + 1)) (some x)).1 H = some (1, H') ∧ zLR H' lo τ' A' cap' (zup n j (n j + 1)) (fun k => if k = j then g else f k) dn dm ev ∧ (∀ k, k ≠ 2 * j + 2 → A' k = A k) ∧ (∀ i, i < n j → g i = f j i) ∧ g (n j) = some x ∧ (∀ q, q < H.2.1 → τ' q = τ q) ∧ zFm (fun q => lo ≤ q) H H' ∧ zFf τ lo H H' ∧ H'.2.1 ≤ H.2.1 + 1 ∧ H'.2.2.2.1 ≤ H.2.2.2.1 + 20 ∧ jLe H H' := by
  obtain ⟨a0, a1, a2, a3, a4, a5, g0, a6⟩ := h
  obtain ⟨b1, b2, b3⟩ := a3 j hj
  obtain ⟨p1, p2, p3⟩ := a1 (2 * j + 1) (by omega)
  obtain ⟨r1, r2, r3⟩ := a1 (2 * j + 2) (by omega)
  obtain ⟨H', arr', cap', f', e1, e2, e3, e4, e5, e6⟩ := zAL_add b1 hx (by omega)
  have hl : jLe H H' := (fJ2_add (A (2 * j + 1)) (some x)).2 _ _ _ e1
  have at_ : ∀ q, q < H.2.1 → τ q ≠ 2 * j + 2 → τ q ≠ 2 * j + 3 → H'.1 q = H.1 q := fun q hq h2 h3 => e5.1 q hq (fun z => by
    rcases z with z | z
    · rw [z] at h2; exact h2 p1
    · rw [z.1] at h3; exact h3 r1)
  have harr : (arr' = A (2 * j + 2) ∧ cap' = cap j ∧ H'.2 = H.2) ∨ (arr' = H.2.1 ∧ H'.2.1 = H.2.1 + 1 ∧ cap' = zNc (cap j) ∧ n j = cap j ∧ H'.2.2.2.1 = H.2.2.2.1 + cap') := by
    rcases e6 with ⟨x1, x2, -, x3⟩ | ⟨x0, x1, x2, x3, x4⟩
    · exact Or.inl ⟨x1, x2, x3⟩
    · rw [if_neg (by omega)] at x3
      exact Or.inr ⟨x1, x2, x3, x0, x4⟩
  have hlo : lo ≤ H.2.1 := by omega
  have hcap : 1 ≤ cap' ∧ cap' ≤ 20 := by
    rcases harr with ⟨-, x, -⟩ | ⟨-, -, x, y, -⟩
    · omega
    · have : zNc (cap j) = cap j + max 1 (cap j / 2) := rfl
      omega
  have tag : ∀ k, k < 12 → zTg (fun q => if q = H.2.1 then 2 * j + 3 else τ q) lo H' (zup A (2 * j + 2) arr' k) (k + 1) := by
    intro k hk
    by_cases ek : k = 2 * j + 2
    · rw [ek, zup_e]
      rcases harr with ⟨x1, -, x3⟩ | ⟨x1, x2, -⟩
      · rw [x1]
        exact ⟨(if_neg (by omega)).trans r1, r2, by rw [x3]; exact r3⟩
      · rw [x1]
        exact ⟨if_pos rfl, hlo, by omega⟩
    · rw [zup_n _ _ ek]
      obtain ⟨y1, y2, y3⟩ := a1 k hk
      exact ⟨(if_neg (by omega)).trans y1, y2, Nat.lt_of_lt_of_le y3 hl.1⟩
  have keep : ∀ k, k < 12 → k ≠ 2 * j + 1 → k ≠ 2 * j + 2 → H'.1 (A k) = H.1 (A k) := fun k hk k1 k2 => at_ _ (a1 k hk).2.2 (by rw [(a1 k hk).1]; omega) (by rw [(a1 k hk).1]; omega)
  refine ⟨H', zup A (2 * j + 2) arr', fun q => if q = H.2.1 then 2 * j + 3 else τ q, zup cap j cap', f', e1, ⟨by rw [hl.2.2.2.1]; exact a0, tag, ?_, fun k hk => ?_, ?_, ?_, g0, ?_⟩, fun k hk => zup_n _ _ hk, e3, e4, fun q hq => if_neg (by omega), e5.mo (fun q _ hq => by
    rcases hq with hq | hq
    · rw [hq]; exact p2
    · rw [hq.1]; exact r2), fun q hq => ?_, ?_, ?_, hl⟩
  · rw [zup_n _ _ (show 0 ≠ 2 * j + 2 by omega), zup_n _ _ (show 1 ≠ 2 * j + 2 by omega), zup_n _ _ (show 3 ≠ 2 * j + 2 by omega), zup_n _ _ (show 5 ≠ 2 * j + 2 by omega), zup_n _ _ (show 7 ≠ 2 * j + 2 by omega), zup_n _ _ (show 9 ≠ 2 * j + 2 by omega), zup_n (k := 2 * j + 2) _ _ (show 10 ≠ 2 * j + 2 from fun z => ?_), keep 0 (by decide) (by omega) (by omega)]
    · exact a2
    · have := (a1 10 (by decide)).1
      omega
  · by_cases ek : k = j
    · rw [ek]
      dsimp only
      rw [if_pos rfl, zup_n _ _ (show 2 * j + 1 ≠ 2 * j + 2 by omega), zup_e, zup_e, zup_e]
      exact ⟨e2, hcap⟩
    · dsimp only
      rw [zup_n _ _ ek, zup_n _ _ ek, if_neg ek, zup_n _ _ (show 2 * k + 1 ≠ 2 * j + 2 by omega), zup_n _ _ (show 2 * k + 2 ≠ 2 * j + 2 by omega)]
      obtain ⟨c1, c2, c3⟩ := a3 k hk
      exact ⟨c1.up (keep _ (by omega) (by omega) (by omega)) (keep _ (by omega) (by omega) (by omega)) hl, c2, c3⟩
  · rw [zup_n _ _ (show 9 ≠ 2 * j + 2 by omega), keep 9 (by decide) (by omega) (by omega)]; exact a4
  · rw [zup_n _ _ (show 10 ≠ 2 * j + 2 by omega), zup_n _ _ (show 11 ≠ 2 * j + 2 by omega), keep 10 (by decide) (by omega) (by omega)]; exact a5
  · rw [zup_n _ _ (show 11 ≠ 2 * j + 2 by omega), keep 11 (by decide) (by omega) (by omega)]; exact a6
  · rcases hq with hq | ⟨q1, q2, q3⟩
    · exact e5.1 q (by omega) (fun z => by omega)
    · exact at_ q q2 (by omega) (by omega)
  · rcases harr with ⟨-, -, x⟩ | ⟨-, x, -⟩
    · rw [x]; omega
    · omega
  · rcases harr with ⟨-, -, x⟩ | ⟨-, -, -, -, x⟩
    · rw [x]; omega
    · omega
end
