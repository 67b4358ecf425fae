/-! PURE 26: what an expression is, out of tokens: the next one, its value, its codes; or what is wrong, and which token -/
set_option maxRecDepth 100000
abbrev zVV : Type := Int32 → Int32 → Int32 → Int32 → Int32
abbrev zPR : Type := (Nat × Nat) ⊕ (Nat × zVV × List Nat)
/-- kind; word; number; sign; where it begins -/
abbrev zTau : Type := (Nat → Nat) × (Nat → Nat) × (Nat → Nat) × (Nat → Nat) × (Nat → Nat)
def zOfT (t : Nat → Nat) (n : Nat) : zTau := (fun i => zTki t n (zBg t n i), fun i => zTw t n (zBg t n i), fun i => zTo t n (zBg t n i), fun i => t (zBg t n i), zBg t n)
def zisw (u : zTau) (i w : Nat) : Bool := decide (u.1 i = 1) && decide (u.2.1 i = w)
def ziss (u : zTau) (i c : Nat) : Bool := decide (u.1 i = 3) && decide (u.2.2.2.1 i = c)
abbrev zOp2 : Type := Nat × (Int32 → Int32 → Int32)
def zoT (u : zTau) (i : Nat) : Option zOp2 := if ziss u i 42 = true then some (22, fun x y => x * y) else none
def zoS (u : zTau) (i : Nat) : Option zOp2 := if ziss u i 43 = true then some (20, fun x y => x + y) else if ziss u i 45 = true then some (21, fun x y => x - y) else none
def zoC (u : zTau) (i : Nat) : Option zOp2 := if ziss u i 60 = true then some (24, fun x y => if x < y then 1 else 0) else if ziss u i 61 = true then some (25, fun x y => if x = y then 1 else 0) else none
def zoA (u : zTau) (i : Nat) : Option zOp2 := if zisw u i 1111 = true then some (26, fun x y => if ¬ x = 0 ∧ ¬ y = 0 then 1 else 0) else if zisw u i 423 = true then some (27, fun x y => if ¬ x = 0 ∨ ¬ y = 0 then 1 else 0) else none
def zv2 (g : Int32 → Int32 → Int32) (v w : zVV) : zVV := fun a b c d => g (v a b c d) (w a b c d)
def zChn (sub : Nat → zPR) (op : Nat → Option zOp2) : Nat → Nat → zVV → List Nat → zPR
  | 0, _, _, _ => .inl (0, 0)
  | m + 1, i, v, cs => match op i with
    | none => .inr (i, v, cs)
    | some g => match sub (i + 1) with
      | .inl e => .inl e
      | .inr x => zChn sub op m x.1 (zv2 g.2 v x.2.1) (cs ++ g.1 :: x.2.2)
def zSeq (sub : Nat → zPR) (op : Nat → Option zOp2) (m i : Nat) : zPR := match sub i with
  | .inl e => .inl e
  | .inr x => zChn sub op m x.1 x.2.1 x.2.2
def zTes (sub : Nat → zPR) (op : Nat → Option zOp2) (i : Nat) : zPR := match sub i with
  | .inl e => .inl e
  | .inr x => match op x.1 with
    | none => .inr x
    | some g => match sub (x.1 + 1) with
      | .inl e => .inl e
      | .inr y => .inr (y.1, zv2 g.2 x.2.1 y.2.1, x.2.2 ++ g.1 :: y.2.2)
def zTerm (u : zTau) (m : Nat) (part : Nat → zPR) : Nat → zPR := zSeq part (zoT u) m
def zSum (u : zTau) (m : Nat) (part : Nat → zPR) : Nat → zPR := zSeq (zTerm u m part) (zoS u) m
def zTest (u : zTau) (m : Nat) (part : Nat → zPR) : Nat → zPR := zTes (zSum u m part) (zoC u)
def zAll (u : zTau) (m : Nat) (part : Nat → zPR) : Nat → zPR := zSeq (zTest u m part) (zoA u) m
def zfa (u : zTau) (i : Nat) : Option Nat := if zisw u i 16922 = true then some 0 else if zisw u i 82528 = true then some 1 else if zisw u i 46472 = true then some 2 else if zisw u i 399749 = true then some 3 else none
def zfv (f : Nat) : zVV := fun a b c d => if f = 0 then a else if f = 1 then b else if f = 2 then c else d
def zvn (v : zVV) : zVV := fun a b c d => if v a b c d = 0 then 1 else 0
def zstart (u : zTau) (i : Nat) : Bool := (zfa u i).isSome || (zisw u i 10631 || (decide (u.1 i = 2) || ziss u i 40))
def zNot (r : zPR) : zPR := match r with
  | .inl e => .inl e
  | .inr x => .inr (x.1, zvn x.2.1, 30 :: x.2.2)
def zCls (u : zTau) (r : zPR) : zPR := match r with
  | .inl e => .inl e
  | .inr x => if ziss u x.1 41 = true then .inr (x.1 + 1, x.2.1, 28 :: (x.2.2 ++ [29])) else .inl (1, x.1)
def zPart (u : zTau) (m : Nat) : Nat → Nat → zPR
  | 0, i => if zstart u i = true then .inl (5, i) else .inl (1, i)
  | r + 1, i => match zfa u i with
    | some f => .inr (i + 1, zfv f, [f + 1])
    | none => if zisw u i 10631 = true then zNot (zPart u m r (i + 1)) else if u.1 i = 2 then .inr (i + 1, fun _ _ _ _ => nI (u.2.2.1 i), [100 + u.2.2.1 i]) else if ziss u i 40 = true then zCls u (zAll u m (zPart u m r) (i + 1)) else .inl (1, i)
/-! what they come to -/
def zGr (n i : Nat) (r : zPR) : Prop := match r with
  | .inl e => e.1 ≠ 0 ∧ i ≤ e.2 ∧ e.2 ≤ n
  | .inr x => i < x.1 ∧ x.1 ≤ n ∧ x.2.2.length + i = x.1
def zGd (n : Nat) (sub : Nat → zPR) : Prop := ∀ i, i ≤ n → zGr n i (sub i)
def zCk (sub : Nat → zPR) (op : Nat → Option zOp2) (P : Nat → zVV → List Nat → Prop) (r : zPR) : Prop := match r with
  | .inr x => P x.1 x.2.1 x.2.2 ∧ op x.1 = none
  | .inl e => e = (0, 0) ∨ ∃ i' v' cs' g, P i' v' cs' ∧ op i' = some g ∧ sub (i' + 1) = .inl e
theorem zChn_ok {sub : Nat → zPR} {op : Nat → Option zOp2} {P : Nat → zVV → List Nat → Prop} (hst : ∀ i v cs g x, P i v cs → op i = some g → sub (i + 1) = .inr x → P x.1 (zv2 g.2 v x.2.1) (cs ++ g.1 :: x.2.2)) : ∀ m i v cs, P i v cs → zCk sub op P (zChn sub op m i v cs)
  | 0, i, v, cs, hp => Or.inl rfl
  | m + 1, i, v, cs, hp => by
    rw [zChn]
    cases ho : op i with
    | none => exact ⟨hp, ho⟩
    | some g =>
      cases hs : sub (i + 1) with
      | inl e => exact Or.inr ⟨i, v, cs, g, hp, ho, hs⟩
      | inr x => exact zChn_ok hst m x.1 _ _ (hst i v cs g x hp ho hs)
theorem zChn_gd {n : Nat} {sub : Nat → zPR} {op : Nat → Option zOp2} (hg : zGd n sub) (ho : ∀ i, op i ≠ none → i < n) : ∀ m i v cs i0, i ≤ n → n < m + i → i0 < i → cs.length + i0 = i → zGr n i0 (zChn sub op m i v cs)
  | 0, i, v, cs, i0, hi, hm, h0, hl => by omega
  | m + 1, i, v, cs, i0, hi, hm, h0, hl => by
    rw [zChn]
    cases hop : op i with
    | none => exact ⟨h0, hi, hl⟩
    | some g =>
      have hin := ho i (by rw [hop]; exact fun h => (by cases h))
      have hs := hg (i + 1) (by omega)
      cases hsb : sub (i + 1) with
      | inl e =>
        rw [hsb] at hs
        exact ⟨hs.1, by have := hs.2.1; omega, hs.2.2⟩
      | inr x =>
        rw [hsb] at hs
        obtain ⟨a1, a2, a3⟩ := hs
        refine zChn_gd hg ho m x.1 _ _ i0 a2 (by omega) (by omega) ?_
        rw [List.length_append, List.length_cons]
        omega
theorem zSeq_gd {n m : Nat} {sub : Nat → zPR} {op : Nat → Option zOp2} (hg : zGd n sub) (ho : ∀ i, op i ≠ none → i < n) (hm : n < m) : zGd n (zSeq sub op m) := by
  intro i hi
  have hs := hg i hi
  unfold zSeq
  cases hsb : sub i with
  | inl e => rw [hsb] at hs; exact hs
  | inr x =>
    rw [hsb] at hs
    exact zChn_gd hg ho m x.1 _ _ i hs.2.1 (by omega) hs.1 hs.2.2
theorem zTes_gd {n : Nat} {sub : Nat → zPR} {op : Nat → Option zOp2} (hg : zGd n sub) (ho : ∀ i, op i ≠ none → i < n) : zGd n (zTes sub op) := by
  intro i hi
  have hs := hg i hi
  unfold zTes
  cases hsb : sub i with
  | inl e => rw [hsb] at hs; exact hs
  | inr x =>
    rw [hsb] at hs
    obtain ⟨b1, b2, b3⟩ := id hs
    dsimp only
    cases hop : op x.1 with
    | none => exact hs
    | some g =>
      have hin := ho x.1 (by rw [hop]; exact fun h => (by cases h))
      have hs2 := hg (x.1 + 1) (by omega)
      cases hsb2 : sub (x.1 + 1) with
      | inl e =>
        rw [hsb2] at hs2
        exact ⟨hs2.1, by have := hs2.2.1; omega, hs2.2.2⟩
      | inr y =>
        rw [hsb2] at hs2
        obtain ⟨a1, a2, a3⟩ := hs2
        refine ⟨by show i < y.1; omega, a2, ?_⟩
        show (x.2.2 ++ g.1 :: y.2.2).length + i = y.1
        rw [List.length_append, List.length_cons]
        omega
/-- tokens that are none at and behind n -/
def zUn (u : zTau) (n : Nat) : Prop := ∀ i, u.1 i ≠ 0 → i < n
section
variable {u : zTau} {n m : Nat}
theorem zisw_lt (hu : zUn u n) {i w : Nat} (h : zisw u i w = true) : i < n := by
  unfold zisw at h
  simp only [Bool.and_eq_true, decide_eq_true_eq] at h
  exact hu i (by omega)
theorem ziss_lt (hu : zUn u n) {i w : Nat} (h : ziss u i w = true) : i < n := by
  unfold ziss at h
  simp only [Bool.and_eq_true, decide_eq_true_eq] at h
  exact hu i (by omega)
theorem zoT_lt (hu : zUn u n) (i : Nat) (h : zoT u i ≠ none) : i < n := by
  unfold zoT at h
  by_cases h1 : ziss u i 42 = true
  · exact ziss_lt hu h1
  · rw [if_neg h1] at h; exact absurd rfl h
theorem zoS_lt (hu : zUn u n) (i : Nat) (h : zoS u i ≠ none) : i < n := by
  unfold zoS at h
  by_cases h1 : ziss u i 43 = true
  · exact ziss_lt hu h1
  · rw [if_neg h1] at h
    by_cases h2 : ziss u i 45 = true
    · exact ziss_lt hu h2
    · rw [if_neg h2] at h; exact absurd rfl h
theorem zoC_lt (hu : zUn u n) (i : Nat) (h : zoC u i ≠ none) : i < n := by
  unfold zoC at h
  by_cases h1 : ziss u i 60 = true
  · exact ziss_lt hu h1
  · rw [if_neg h1] at h
    by_cases h2 : ziss u i 61 = true
    · exact ziss_lt hu h2
    · rw [if_neg h2] at h; exact absurd rfl h
theorem zoA_lt (hu : zUn u n) (i : Nat) (h : zoA u i ≠ none) : i < n := by
  unfold zoA at h
  by_cases h1 : zisw u i 1111 = true
  · exact zisw_lt hu h1
  · rw [if_neg h1] at h
    by_cases h2 : zisw u i 423 = true
    · exact zisw_lt hu h2
    · rw [if_neg h2] at h; exact absurd rfl h
theorem zAll_gd (hu : zUn u n) (hm : n < m) {part : Nat → zPR} (hg : zGd n part) : zGd n (zAll u m part) := zSeq_gd (zTes_gd (zSeq_gd (zSeq_gd hg (zoT_lt hu) hm) (zoS_lt hu) hm) (zoC_lt hu)) (zoA_lt hu) hm
theorem zPart_gd (hu : zUn u n) (hm : n < m) : ∀ r, zGd n (zPart u m r)
  | 0 => by
    intro i hi
    unfold zPart
    by_cases h : zstart u i = true
    · rw [if_pos h]; exact ⟨show (_ : Nat) ≠ 0 from Nat.succ_ne_zero _, Nat.le_refl _, hi⟩
    · rw [if_neg h]; exact ⟨show (_ : Nat) ≠ 0 from Nat.succ_ne_zero _, Nat.le_refl _, hi⟩
  | r + 1 => by
    have ih := zPart_gd hu hm r
    intro i hi
    rw [zPart]
    cases hf : zfa u i with
    | some f =>
      have : i < n := by
        unfold zfa at hf
        by_cases h1 : zisw u i 16922 = true
        · exact zisw_lt hu h1
        · rw [if_neg h1] at hf
          by_cases h2 : zisw u i 82528 = true
          · exact zisw_lt hu h2
          · rw [if_neg h2] at hf
            by_cases h3 : zisw u i 46472 = true
            · exact zisw_lt hu h3
            · rw [if_neg h3] at hf
              by_cases h4 : zisw u i 399749 = true
              · exact zisw_lt hu h4
              · rw [if_neg h4] at hf; cases hf
      exact ⟨Nat.lt_succ_self i, this, Nat.add_comm 1 i⟩
    | none =>
      dsimp only
      by_cases h1 : zisw u i 10631 = true
      · rw [if_pos h1]
        have hin := zisw_lt hu h1
        have hs := ih (i + 1) (by omega)
        unfold zNot
        cases hp : zPart u m r (i + 1) with
        | inl e => rw [hp] at hs; exact ⟨hs.1, by have := hs.2.1; omega, hs.2.2⟩
        | inr x =>
          rw [hp] at hs
          obtain ⟨a1, a2, a3⟩ := hs
          refine ⟨by show i < x.1; omega, a2, ?_⟩
          show (30 :: x.2.2).length + i = x.1
          rw [List.length_cons]
          omega
      · rw [if_neg h1]
        by_cases h2 : u.1 i = 2
        · rw [if_pos h2]
          have hin := hu i (by omega)
          exact ⟨Nat.lt_succ_self i, hin, Nat.add_comm 1 i⟩
        · rw [if_neg h2]
          by_cases h3 : ziss u i 40 = true
          · rw [if_pos h3]
            have hin := ziss_lt hu h3
            have hs := zAll_gd hu hm ih (i + 1) (by omega)
            unfold zCls
            cases hp : zAll u m (zPart u m r) (i + 1) with
            | inl e => rw [hp] at hs; exact ⟨hs.1, by have := hs.2.1; omega, hs.2.2⟩
            | inr x =>
              rw [hp] at hs
              obtain ⟨a1, a2, a3⟩ := hs
              dsimp only at a1 a2 a3 ⊢
              by_cases h4 : ziss u x.1 41 = true
              · rw [if_pos h4]
                have hin2 := ziss_lt hu h4
                refine ⟨by show i < x.1 + 1; omega, hin2, ?_⟩
                show (28 :: (x.2.2 ++ [29])).length + i = x.1 + 1
                rw [List.length_cons, List.length_append, List.length_singleton]
                omega
              · rw [if_neg h4]
                exact ⟨show (1 : Nat) ≠ 0 from Nat.succ_ne_zero _, by show i ≤ x.1; omega, a2⟩
          · rw [if_neg h3]
            exact ⟨show (_ : Nat) ≠ 0 from Nat.succ_ne_zero _, Nat.le_refl _, hi⟩
end
/-! tokens of a tape -/
theorem zPo_ge (t : Nat → Nat) (n : Nat) : ∀ i, zBg t n i < n → i ≤ zPo t n i
  | 0, _ => Nat.zero_le _
  | i + 1, h => by
    have h1 : zBg t n i < n := by
      rcases Nat.lt_or_ge (zBg t n i) n with h2 | h2
      · exact h2
      · have e : zBg t n i = n := Nat.le_antisymm (zBg_le t n i) h2
        have : zBg t n (i + 1) = n := by
          have h3 : zPo t n (i + 1) = n := by
            show zTe t n (zBg t n i) = n
            unfold zTe
            rw [if_pos e]
          have h4 := zTb_ge t n (zPo t n (i + 1))
          have h5 := zBg_le t n (i + 1)
          unfold zBg at h5 ⊢
          omega
        omega
    have ih := zPo_ge t n i h1
    have h2 := zTb_ge t n (zPo t n i)
    have h3 : zBg t n i < zTe t n (zBg t n i) := zTe_gt h1
    show i + 1 ≤ zTe t n (zTb t n (zPo t n i))
    unfold zBg at h3
    omega
theorem zOfT_un (t : Nat → Nat) (n : Nat) : zUn (zOfT t n) n := by
  intro i h
  have h1 : zTki t n (zBg t n i) ≠ 0 := h
  have h2 : zBg t n i < n := by
    rcases Nat.lt_or_ge (zBg t n i) n with h2 | h2
    · exact h2
    · have e : zBg t n i = n := Nat.le_antisymm (zBg_le t n i) h2
      unfold zTki at h1
      rw [if_pos e] at h1
      exact absurd rfl h1
  have h3 := zPo_ge t n i h2
  have h4 := zTb_ge t n (zPo t n i)
  unfold zBg at h2
  omega
