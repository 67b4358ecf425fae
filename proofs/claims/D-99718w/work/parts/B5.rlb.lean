/-! PURE 42: the reference's library() -/
set_option maxRecDepth 100000
/-- its law is what was read -/
def zDev (u : zTau) (m0 : Nat) (D : zDr) : Prop := zEv D.1 = none ∨ ∃ i j v, zWhole u m0 i = .inr (j, v, D.2.2.2) ∧ zEv D.1 = some v
section
variable {u : zTau} {m0 : Nat}
theorem zDev.to {D D' : zDr} (h : zDev u m0 D) (h1 : D'.1.2.2 = D.1.2.2) (h2 : D'.2.2.2 = D.2.2.2) : zDev u m0 D' := by
  unfold zDev zEv at h ⊢
  rw [h1, h2]
  exact h
theorem zCl_in {i : Nat} {D : zDr} {x : Nat × zDr} (h : zCl u i D = .inr x) : x.2 = D := by
  unfold zCl at h
  by_cases c : ziss u i 59 = true
  · rw [if_pos c] at h; cases h; rfl
  · rw [if_neg c] at h; cases h
theorem zBo_in {i w lo hi : Nat} {k : Nat → zSR} {x : Nat × zDr} (h : zBo u i w lo hi k = .inr x) : ∃ l, k l = .inr x := by
  unfold zBo at h
  by_cases c : zisw u i w = true
  · rw [if_pos c] at h
    cases hz : zNu u (i + 1) lo hi with
    | inl e => rw [hz] at h; cases h
    | inr l => rw [hz] at h; exact ⟨l, h⟩
  · rw [if_neg c] at h; cases h
theorem zNe_in {i : Nat} {D : zDr} {k : zSR} {x : Nat × zDr} (h : zNe u i D k = .inr x) : k = .inr x := by
  unfold zNe at h
  cases hz : zNew u i D with
  | some e => rw [hz] at h; cases h
  | none => rw [hz] at h; exact h
theorem zDmp_in : ∀ {m i : Nat} {D : zDr} {x : Nat × zDr}, zDmp u m i D = .inr x → x.2.1.2.2 = D.1.2.2 ∧ x.2.2.2.2 = D.2.2.2
  | 0, i, D, x, h => by cases h
  | m + 1, i, D, x, h => by
    rw [zDmp] at h
    by_cases c1 : zD D.1 = 0 ∨ u.1 i = 2
    · rw [if_pos c1] at h
      by_cases c2 : u.1 i = 2
      · rw [if_pos c2] at h
        by_cases c3 : u.2.2.1 i ≤ 9
        · rw [if_pos c3] at h
          by_cases c4 : zD D.1 = 12
          · rw [if_pos c4] at h; cases h
          · rw [if_neg c4] at h
            have ih := zDmp_in h
            exact ⟨ih.1, ih.2⟩
        · rw [if_neg c3] at h; cases h
      · rw [if_neg c2] at h; cases h
    · rw [if_neg c1] at h
      rw [zCl_in h]
      exact ⟨rfl, rfl⟩
theorem zStm_ev {i : Nat} {D : zDr} {x : Nat × zDr} (hD : zDev u m0 D) (h : zStm u m0 i D = .inr x) : zDev u m0 x.2 := by
  unfold zStm at h
  by_cases c : zisw u i 382253 = true
  · rw [if_pos c] at h
    unfold zsSkin at h
    by_cases c2 : zS D.1 = 3
    · rw [if_pos c2] at h; cases h
    · rw [if_neg c2] at h
      obtain ⟨l, h⟩ := zBo_in (zNe_in h)
      obtain ⟨t, h⟩ := zBo_in h
      exact hD.to (by rw [zCl_in h]; rfl) (by rw [zCl_in h]; rfl)
  · rw [if_neg c] at h
    by_cases c : zisw u i 168728 = true
    · rw [if_pos c] at h
      unfold zsHole at h
      by_cases c2 : zNm u (i + 1) = true
      · rw [if_pos c2] at h
        cases hf : zFnd D.2.1 (zS D.1) (u.2.1 (i + 1)) with
        | none => rw [hf] at h; cases h
        | some k =>
          rw [hf] at h
          dsimp only at h
          by_cases c3 : u.1 (i + 2) = 2
          · rw [if_pos c3] at h
            by_cases c4 : u.2.2.1 (i + 2) < zLi D.1 k
            · rw [if_pos c4] at h
              by_cases c5 : (zHo D.1 k).testBit (u.2.2.1 (i + 2)) = true
              · rw [if_pos c5] at h; cases h
              · rw [if_neg c5] at h
                exact hD.to (by rw [zCl_in h]; rfl) (by rw [zCl_in h]; rfl)
            · rw [if_neg c4] at h; cases h
          · rw [if_neg c3] at h; cases h
      · rw [if_neg c2] at h; cases h
    · rw [if_neg c] at h
      by_cases c : zisw u i 397973 = true
      · rw [if_pos c] at h
        unfold zsText at h
        by_cases c2 : zT D.1 = 6
        · rw [if_pos c2] at h; cases h
        · rw [if_neg c2] at h
          have h := zNe_in h
          cases hk : zKd u (i + 2) with
          | none => rw [hk] at h; cases h
          | some k =>
            rw [hk] at h
            dsimp only at h
            cases hg : zIk u (i + 3) with
            | none => rw [hg] at h; cases h
            | some g =>
              rw [hg] at h
              obtain ⟨l, h⟩ := zBo_in h
              exact hD.to (by rw [zCl_in h]; rfl) (by rw [zCl_in h]; rfl)
      · rw [if_neg c] at h
        by_cases c : zisw u i 79828 = true
        · rw [if_pos c] at h
          unfold zsDamp at h
          by_cases c2 : zD D.1 = 0
          · rw [if_pos c2] at h
            exact hD.to (zDmp_in h).1 (zDmp_in h).2
          · rw [if_neg c2] at h; cases h
        · rw [if_neg c] at h
          by_cases c : zisw u i 10266418 = true
          · rw [if_pos c] at h
            unfold zsShows at h
            by_cases c2 : zEv D.1 = none
            · rw [if_pos c2] at h
              cases hw : zWhole u m0 (i + 1) with
              | inl e => rw [hw] at h; cases h
              | inr y =>
                rw [hw] at h
                cases h
                exact Or.inr ⟨i + 1, y.1, y.2.1, hw, rfl⟩
            · rw [if_neg c2] at h; cases h
          · rw [if_neg c] at h; cases h
theorem zLib_ev : ∀ {m i : Nat} {D D2 : zDr}, zDev u m0 D → zLib u m0 m i D = .inr D2 → zDev u m0 D2
  | 0, i, D, D2, hD, h => by cases h
  | m + 1, i, D, D2, hD, h => by
    rw [zLib] at h
    by_cases c : u.1 i = 0
    · rw [if_pos c] at h; cases h; exact hD
    · rw [if_neg c] at h
      cases hs : zStm u m0 i D with
      | inl e => rw [hs] at h; cases h
      | inr x => rw [hs] at h; exact zLib_ev (zStm_ev hD hs) h
end
theorem zDok_0 : zDok zD0 := ⟨⟨by decide, by decide, by decide, fun k hk => absurd hk (Nat.not_lt_zero k), fun k hk => absurd hk (Nat.not_lt_zero k), fun k hk => absurd hk (Nat.not_lt_zero k)⟩, Or.inl ⟨rfl, rfl⟩⟩
theorem zDev_0 (u : zTau) (m0 : Nat) : zDev u m0 zD0 := Or.inl rfl
theorem zHc_len {f g : Nat → Int32} : ∀ {cs : List Nat} {k k' : Nat}, zHc f k cs → (∀ q, q < cs.length → g (k' + q) = f (k + q)) → zHc g k' cs
  | [], _, _, _, _ => trivial
  | x :: r, k, k', h, hg => by
    refine ⟨?_, zHc_len h.2 (fun q hq => ?_)⟩
    · rw [← h.1]; exact hg 0 (Nat.succ_pos _)
    · have := hg (q + 1) (Nat.succ_lt_succ hq)
      rw [show k' + 1 + q = k' + (q + 1) by omega, show k + 1 + q = k + (q + 1) by omega]
      exact this
/-- what was read is laid: it is the library -/
theorem zRD_lays {N a : Nat} (hN : 3000 ≤ N) {u : zTau} (hu : ∀ i, u.2.2.1 i < 10000) {m0 : Nat} {D : zDr} {F : Nat → Int32} {A : Nat → Nat → Int32} {M : Nat → Nat → Int64} (hok : zDok D) (hev : zDev u m0 D) (hD : zRD D F A M) (A' : Nat → Nat → Int32) (hA : ∀ k, 10 ≤ k → k < 23 → A' k = zLaA A (A 20 1 - 1000) (A 21 1 - 1000) k) : zRb D.1 A' ∧ zRe N a D.1 A' ∧ zNS 0 A' (zLaM M) D.2.1 (zS D.1) ∧ zNT 0 A' (zLaM M) D.2.2.1 (zT D.1) := by
  obtain ⟨⟨d1, d2, d3⟩, d4, d5, d6, d7, d8, d9, d10⟩ := hD
  have hs3 := hok.1.1
  have ht6 := hok.1.2.1
  have hd12 := hok.1.2.2.1
  have a3 : ∀ j, j = 10 ∨ 13 ≤ j ∧ j ≤ 15 → ∀ q, q < 3 → A' j q = A j (3 + q) := by
    intro j hj q hq
    rw [hA j (by omega) (by omega)]
    unfold zLaA
    rw [if_pos hj, zsh_lo _ hq]
  have a6 : ∀ j, 16 ≤ j ∧ j ≤ 18 → ∀ q, q < 6 → A' j q = A j (6 + q) := by
    intro j hj q hq
    rw [hA j (by omega) (by omega)]
    unfold zLaA
    rw [if_neg (by omega), if_pos hj, zsh_lo _ hq]
  have a12 : ∀ q, q < 12 → A' 19 q = A 19 (12 + q) := by
    intro q hq
    rw [hA 19 (by omega) (by omega)]
    unfold zLaA
    rw [if_neg (by omega), if_neg (by omega), if_pos rfl, zsh_lo _ hq]
  have a22 : ∀ q, q < 1000 → A' 22 q = A 22 (1000 + q) := by
    intro q hq
    rw [hA 22 (by omega) (by omega)]
    unfold zLaA
    rw [if_neg (by omega), if_neg (by omega), if_neg (by omega), if_pos rfl, zsh_lo _ hq]
  have a20 : A' 20 0 = nI 0 := by
    rw [hA 20 (by omega) (by omega)]
    unfold zLaA
    rw [if_neg (by omega), if_neg (by omega), if_neg (by omega), if_neg (by omega), if_pos rfl, zu_eq, d7]
    rfl
  have a21 : A' 21 0 = nI D.2.2.2.length := by
    rw [hA 21 (by omega) (by omega)]
    unfold zLaA
    rw [if_neg (by omega), if_neg (by omega), if_neg (by omega), if_neg (by omega), if_neg (by omega), if_pos rfl, zu_eq, d8, show (1000 : Int32) = nI 1000 from rfl, pk_sub (by omega), Nat.add_sub_cancel_left]
  refine ⟨⟨?_, ?_, ?_, fun k hk => ?_, fun q hq => ?_, fun q hq => ?_⟩, ?_, ⟨hs3, by decide, ?_, fun k hk => ?_⟩, ⟨ht6, by decide, ?_, fun q hq => ?_⟩⟩
  · rw [a3 10 (Or.inl rfl) 0 (by decide)]; exact d1
  · rw [a3 10 (Or.inl rfl) 1 (by decide)]; exact d2
  · rw [a3 10 (Or.inl rfl) 2 (by decide)]; exact d3
  · rw [a3 13 (by omega) k (by omega), a3 14 (by omega) k (by omega), a3 15 (by omega) k (by omega)]; exact (d4 k hk).1
  · rw [a6 16 (by omega) q (by omega), a6 17 (by omega) q (by omega), a6 18 (by omega) q (by omega)]; exact (d5 q hq).1
  · rw [a12 q (by omega)]; exact d6 q hq
  · unfold zRe
    rcases hok.2 with ⟨g1, g2⟩ | ⟨⟨v, g1⟩, g2, g3⟩
    · rw [g1]
      dsimp only
      rw [a20, a21, g2]
      rfl
    · rw [g1]
      dsimp only
      rcases hev with g4 | ⟨i, j, v', g4, g5⟩
      · rw [g4] at g1; cases g1
      · rw [g5] at g1
        cases g1
        refine ⟨?_, fun h F' L' A2 M' hb x20 x21 x22 => ?_⟩
        · rw [a20, a21, nI_eq (by omega) (by decide)]
          exact fun e => g2 (List.eq_nil_of_length_eq_zero e)
        · exact zR_worked hN hu g4 (x20.trans a20) (x21.trans a21) (by omega) (show 0 + D.2.2.2.length = D.2.2.2.length by omega) (zHc_len d10 (fun q (hq : q < D.2.2.2.length) => by rw [Nat.zero_add, x22 q (by omega)]; exact a22 q (by omega))) h F' L' A2 M' hb rfl rfl rfl
  · rw [a3 10 (Or.inl rfl) (3 * 0) (by decide)]; exact d1
  · unfold zLaM
    rw [if_pos rfl, zsh_lo _ (by omega), show 3 + (3 * 0 + k) = 3 + k by omega]
    exact (d4 k hk).2
  · rw [a3 10 (Or.inl rfl) (3 * 0 + 1) (by decide)]; exact d2
  · unfold zLaM
    rw [if_neg (by decide), if_pos rfl, zsh_lo _ (by omega), show 6 + (6 * 0 + q) = 6 + q by omega]
    exact (d5 q hq).2
