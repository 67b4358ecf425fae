/-! PURE 36: a library out of tokens, in plain words -/
set_option maxRecDepth 100000
/-- the library so far; names of skins, of texts; codes of its law -/
abbrev zDr : Type := zLB × (Nat → Nat) × (Nat → Nat) × List Nat
abbrev zSR : Type := (Nat × Nat) ⊕ (Nat × zDr)
def zKp (w : Nat) : Bool := [382253, 6564799, 10792937, 168728, 397973, 79828, 10266418, 12584543, 274579016, 10793335, 456500, 138846, 385337, 1277953191, 8878099, 261003578, 296522, 10631, 1111, 423].contains w
def zNm (u : zTau) (i : Nat) : Bool := decide (u.1 i = 1) && !zKp (u.2.1 i)
def zFnd (nm : Nat → Nat) (c w : Nat) : Option Nat := zFs (fun k => decide (nm k = w)) c 0
def zNu (u : zTau) (i lo hi : Nat) : Nat ⊕ Nat := if u.1 i = 2 then (if lo ≤ u.2.2.1 i ∧ u.2.2.1 i ≤ hi then .inr (u.2.2.1 i) else .inl 4) else .inl 1
def zNew (u : zTau) (i : Nat) (D : zDr) : Option Nat := if zNm u i = true then (if (zFnd D.2.1 (zS D.1) (u.2.1 i)).isSome = true ∨ (zFnd D.2.2.1 (zT D.1) (u.2.1 i)).isSome = true then some 3 else none) else some 1
def zup (f : Nat → Nat) (k x : Nat) : Nat → Nat := fun j => if j = k then x else f j
def zaS (D : zDr) (nm l t : Nat) : zDr := ((zup D.1.1 0 (zS D.1 + 1), fun j => if j = 0 then zup (D.1.2.1 0) (zS D.1) l else if j = 1 then zup (D.1.2.1 1) (zS D.1) t else if j = 2 then zup (D.1.2.1 2) (zS D.1) 0 else D.1.2.1 j, D.1.2.2), zup D.2.1 (zS D.1) nm, D.2.2)
def zaT (D : zDr) (nm k g l : Nat) : zDr := ((zup D.1.1 1 (zT D.1 + 1), fun j => if j = 3 then zup (D.1.2.1 3) (zT D.1) k else if j = 4 then zup (D.1.2.1 4) (zT D.1) g else if j = 5 then zup (D.1.2.1 5) (zT D.1) l else D.1.2.1 j, D.1.2.2), D.2.1, zup D.2.2.1 (zT D.1) nm, D.2.2.2)
def zaH (D : zDr) (k b : Nat) : zDr := ((D.1.1, fun j => if j = 2 then zup (D.1.2.1 2) k (zHo D.1 k ||| 2 ^ b) else D.1.2.1 j, D.1.2.2), D.2)
def zaD (D : zDr) (x : Nat) : zDr := ((zup D.1.1 2 (zD D.1 + 1), fun j => if j = 6 then zup (D.1.2.1 6) (zD D.1) x else D.1.2.1 j, D.1.2.2), D.2)
def zaX (D : zDr) (v : zVV) (cs : List Nat) : zDr := ((D.1.1, D.1.2.1, some v), D.2.1, D.2.2.1, cs)
def zCl (u : zTau) (i : Nat) (D : zDr) : zSR := if ziss u i 59 = true then .inr (i + 1, D) else .inl (1, i)
def zBo (u : zTau) (i w lo hi : Nat) (k : Nat → zSR) : zSR := if zisw u i w = true then (match zNu u (i + 1) lo hi with
  | .inl e => .inl (e, i + 1)
  | .inr l => k l) else .inl (1, i)
def zNe (u : zTau) (i : Nat) (D : zDr) (k : zSR) : zSR := match zNew u i D with
  | some e => .inl (e, i)
  | none => k
def zsSkin (u : zTau) (i : Nat) (D : zDr) : zSR := if zS D.1 = 3 then .inl (5, i) else zNe u (i + 1) D (zBo u (i + 2) 6564799 1 6 fun l => zBo u (i + 4) 10792937 1 30 fun t => zCl u (i + 6) (zaS D (u.2.1 (i + 1)) l t))
def zsHole (u : zTau) (i : Nat) (D : zDr) : zSR := if zNm u (i + 1) = true then (match zFnd D.2.1 (zS D.1) (u.2.1 (i + 1)) with
  | none => .inl (2, i + 1)
  | some k => if u.1 (i + 2) = 2 then (if u.2.2.1 (i + 2) < zLi D.1 k then (if (zHo D.1 k).testBit (u.2.2.1 (i + 2)) = true then .inl (3, i + 2) else zCl u (i + 3) (zaH D k (u.2.2.1 (i + 2)))) else .inl (4, i + 2)) else .inl (1, i + 2)) else .inl (1, i + 1)
def zKd (u : zTau) (i : Nat) : Option Nat := if zisw u i 1277953191 = true then some 0 else if zisw u i 8878099 = true then some 1 else if zisw u i 261003578 = true then some 2 else if zisw u i 296522 = true then some 3 else none
def zIk (u : zTau) (i : Nat) : Option Nat := if zisw u i 138846 = true then some 1 else if zisw u i 385337 = true then some 0 else none
def zsText (u : zTau) (i : Nat) (D : zDr) : zSR := if zT D.1 = 6 then .inl (5, i) else zNe u (i + 1) D (match zKd u (i + 2) with
  | none => .inl (1, i + 2)
  | some k => match zIk u (i + 3) with
    | none => .inl (1, i + 3)
    | some g => zBo u (i + 4) 6564799 1 6 fun l => zCl u (i + 6) (zaT D (u.2.1 (i + 1)) k g l))
def zDmp (u : zTau) : Nat → Nat → zDr → zSR
  | 0, _, _ => .inl (0, 0)
  | m + 1, i, D => if zD D.1 = 0 ∨ u.1 i = 2 then (if u.1 i = 2 then (if u.2.2.1 i ≤ 9 then (if zD D.1 = 12 then .inl (5, i) else zDmp u m (i + 1) (zaD D (u.2.2.1 i))) else .inl (4, i)) else .inl (1, i)) else zCl u i D
def zsDamp (u : zTau) (m0 i : Nat) (D : zDr) : zSR := if zD D.1 = 0 then zDmp u m0 (i + 1) D else .inl (3, i)
def zsShows (u : zTau) (m0 i : Nat) (D : zDr) : zSR := if zEv D.1 = none then (match zWhole u m0 (i + 1) with
  | .inl e => .inl e
  | .inr x => .inr (x.1, zaX D x.2.1 x.2.2)) else .inl (3, i)
def zStm (u : zTau) (m0 i : Nat) (D : zDr) : zSR := if zisw u i 382253 = true then zsSkin u i D else if zisw u i 168728 = true then zsHole u i D else if zisw u i 397973 = true then zsText u i D else if zisw u i 79828 = true then zsDamp u m0 i D else if zisw u i 10266418 = true then zsShows u m0 i D else .inl (1, i)
def zLib (u : zTau) (m0 : Nat) : Nat → Nat → zDr → (Nat × Nat) ⊕ zDr
  | 0, _, _ => .inl (0, 0)
  | m + 1, i, D => if u.1 i = 0 then .inr D else match zStm u m0 i D with
    | .inl e => .inl e
    | .inr x => zLib u m0 m x.1 x.2
/-- nothing yet -/
def zD0 : zDr := ((fun _ => 0, fun _ _ => 0, none), fun _ => 0, fun _ => 0, [])
/-! what they come to -/
def zDok (D : zDr) : Prop := zLok D.1 ∧ ((zEv D.1 = none ∧ D.2.2.2 = []) ∨ (∃ v, zEv D.1 = some v) ∧ D.2.2.2 ≠ [] ∧ D.2.2.2.length ≤ 1000)
def zSg2 (n i : Nat) (r : zSR) : Prop := match r with
  | .inl e => e.1 ≠ 0 ∧ e.2 ≤ n
  | .inr x => i < x.1 ∧ x.1 ≤ n ∧ zDok x.2
theorem zSg2.mo {n i j : Nat} {r : zSR} (h : zSg2 n j r) (hi : i ≤ j) : zSg2 n i r := by
  cases r with
  | inl e => exact h
  | inr x => exact ⟨by have := h.1; omega, h.2⟩
theorem zSg2.er {n i e j : Nat} (he : e ≠ 0) (hj : j ≤ n) : zSg2 n i (.inl (e, j)) := ⟨he, hj⟩
section
variable {u : zTau} {n : Nat}
theorem zCl_sg (hu : zUn u n) {i : Nat} {D : zDr} (hi : i ≤ n) (hD : zDok D) : zSg2 n i (zCl u i D) := by
  unfold zCl
  by_cases h : ziss u i 59 = true
  · rw [if_pos h]
    exact ⟨Nat.lt_succ_self _, ziss_lt hu h, hD⟩
  · rw [if_neg h]; exact zSg2.er (by decide) hi
theorem zNu_c (u : zTau) (i lo hi : Nat) : (∃ e, e ≠ 0 ∧ zNu u i lo hi = .inl e) ∨ (u.1 i = 2 ∧ lo ≤ u.2.2.1 i ∧ u.2.2.1 i ≤ hi ∧ zNu u i lo hi = .inr (u.2.2.1 i)) := by
  unfold zNu
  by_cases h1 : u.1 i = 2
  · rw [if_pos h1]
    by_cases h2 : lo ≤ u.2.2.1 i ∧ u.2.2.1 i ≤ hi
    · rw [if_pos h2]; exact Or.inr ⟨h1, h2.1, h2.2, rfl⟩
    · rw [if_neg h2]; exact Or.inl ⟨4, by decide, rfl⟩
  · rw [if_neg h1]; exact Or.inl ⟨1, by decide, rfl⟩
theorem zBo_sg (hu : zUn u n) {i w lo hi : Nat} {k : Nat → zSR} (hin : i ≤ n) (hk : ∀ l, i + 1 < n → lo ≤ l → l ≤ hi → zSg2 n (i + 2) (k l)) : zSg2 n i (zBo u i w lo hi k) := by
  unfold zBo
  by_cases h : zisw u i w = true
  · rw [if_pos h]
    have h1 := zisw_lt hu h
    rcases zNu_c u (i + 1) lo hi with ⟨e, he, e2⟩ | ⟨a1, a2, a3, a4⟩
    · rw [e2]; exact zSg2.er he h1
    · rw [a4]
      exact (hk _ (hu _ (by omega)) a2 a3).mo (by omega)
  · rw [if_neg h]; exact zSg2.er (by decide) hin
theorem zNm_lt (hu : zUn u n) {i : Nat} (h : zNm u i = true) : i < n := by
  unfold zNm at h
  simp only [Bool.and_eq_true, decide_eq_true_eq] at h
  exact hu i (by omega)
theorem zNe_sg (hu : zUn u n) {i : Nat} {D : zDr} {k : zSR} (hin : i ≤ n) (hk : i < n → zSg2 n (i + 1) k) : zSg2 n i (zNe u i D k) := by
  unfold zNe zNew
  by_cases h : zNm u i = true
  · rw [if_pos h]
    have h1 := zNm_lt hu h
    by_cases h2 : (zFnd D.2.1 (zS D.1) (u.2.1 i)).isSome = true ∨ (zFnd D.2.2.1 (zT D.1) (u.2.1 i)).isSome = true
    · rw [if_pos h2]; exact zSg2.er (by decide) hin
    · rw [if_neg h2]; exact (hk h1).mo (by omega)
  · rw [if_neg h]; exact zSg2.er (by decide) hin
theorem zup_e (f : Nat → Nat) (k x : Nat) : zup f k x k = x := if_pos rfl
theorem zup_n (f : Nat → Nat) {k j : Nat} (x : Nat) (h : j ≠ k) : zup f k x j = f j := if_neg h
theorem zDok_S {D : zDr} (hD : zDok D) {nm l t : Nat} (hS : zS D.1 ≠ 3) (hl : 1 ≤ l ∧ l ≤ 6) (ht : 1 ≤ t ∧ t ≤ 30) : zDok (zaS D nm l t) := by
  obtain ⟨⟨b1, b2, b3, b4, b5, b6⟩, hE⟩ := hD
  refine ⟨⟨?_, b2, b3, fun k hk => ?_, b5, b6⟩, hE⟩
  · show zS D.1 + 1 ≤ 3
    omega
  · have hk : k < zS D.1 + 1 := hk
    show (1 ≤ zup (D.1.2.1 0) (zS D.1) l k ∧ zup (D.1.2.1 0) (zS D.1) l k ≤ 6) ∧ (1 ≤ zup (D.1.2.1 1) (zS D.1) t k ∧ zup (D.1.2.1 1) (zS D.1) t k ≤ 30) ∧ zup (D.1.2.1 2) (zS D.1) 0 k < 64
    by_cases e : k = zS D.1
    · rw [e, zup_e, zup_e, zup_e]; exact ⟨hl, ht, by decide⟩
    · rw [zup_n _ _ e, zup_n _ _ e, zup_n _ _ e]; exact b4 k (by omega)
theorem zDok_T {D : zDr} (hD : zDok D) {nm k g l : Nat} (hT : zT D.1 ≠ 6) (hk : k ≤ 3) (hg : g ≤ 1) (hl : 1 ≤ l ∧ l ≤ 6) : zDok (zaT D nm k g l) := by
  obtain ⟨⟨b1, b2, b3, b4, b5, b6⟩, hE⟩ := hD
  refine ⟨⟨b1, ?_, b3, b4, fun t ht => ?_, b6⟩, hE⟩
  · show zT D.1 + 1 ≤ 6
    omega
  · have ht : t < zT D.1 + 1 := ht
    show zup (D.1.2.1 3) (zT D.1) k t ≤ 3 ∧ zup (D.1.2.1 4) (zT D.1) g t ≤ 1 ∧ 1 ≤ zup (D.1.2.1 5) (zT D.1) l t ∧ zup (D.1.2.1 5) (zT D.1) l t ≤ 6
    by_cases e : t = zT D.1
    · rw [e, zup_e, zup_e, zup_e]; exact ⟨hk, hg, hl⟩
    · rw [zup_n _ _ e, zup_n _ _ e, zup_n _ _ e]; exact b5 t (by omega)
theorem zDok_H {D : zDr} (hD : zDok D) {k b : Nat} (hk : k < zS D.1) (hb : b < zLi D.1 k) : zDok (zaH D k b) := by
  obtain ⟨⟨b1, b2, b3, b4, b5, b6⟩, hE⟩ := hD
  refine ⟨⟨b1, b2, b3, fun j hj => ?_, b5, b6⟩, hE⟩
  have h1 := b4 j hj
  refine ⟨h1.1, h1.2.1, ?_⟩
  show zup (D.1.2.1 2) k (zHo D.1 k ||| 2 ^ b) j < 64
  by_cases e : j = k
  · rw [e, zup_e]
    have h2 := b4 k hk
    have h3 : (2 : Nat) ^ b < 2 ^ 6 := Nat.pow_lt_pow_right (by decide) (by omega)
    exact Nat.or_lt_two_pow (n := 6) h2.2.2 h3
  · rw [zup_n _ _ e]; exact h1.2.2
theorem zDok_D {D : zDr} (hD : zDok D) {x : Nat} (h12 : zD D.1 ≠ 12) (hx : x ≤ 9) : zDok (zaD D x) := by
  obtain ⟨⟨b1, b2, b3, b4, b5, b6⟩, hE⟩ := hD
  refine ⟨⟨b1, b2, ?_, b4, b5, fun i hi => ?_⟩, hE⟩
  · show zD D.1 + 1 ≤ 12
    omega
  · have hi : i < zD D.1 + 1 := hi
    show zup (D.1.2.1 6) (zD D.1) x i ≤ 9
    by_cases e : i = zD D.1
    · rw [e, zup_e]; exact hx
    · rw [zup_n _ _ e]; exact b6 i (by omega)
theorem zDmp_sg (hu : zUn u n) : ∀ m i D, i ≤ n → n < m + i → zDok D → zSg2 n i (zDmp u m i D)
  | 0, i, D, hi, hm, _ => by omega
  | m + 1, i, D, hi, hm, hD => by
    rw [zDmp]
    by_cases h1 : zD D.1 = 0 ∨ u.1 i = 2
    · rw [if_pos h1]
      by_cases h2 : u.1 i = 2
      · rw [if_pos h2]
        by_cases h3 : u.2.2.1 i ≤ 9
        · rw [if_pos h3]
          by_cases h4 : zD D.1 = 12
          · rw [if_pos h4]; exact zSg2.er (by decide) hi
          · rw [if_neg h4]
            exact (zDmp_sg hu m (i + 1) _ (hu i (by omega)) (by omega) (zDok_D hD h4 h3)).mo (by omega)
        · rw [if_neg h3]; exact zSg2.er (by decide) hi
      · rw [if_neg h2]; exact zSg2.er (by decide) hi
    · rw [if_neg h1]; exact zCl_sg hu hi hD
theorem zWhole_gd (hu : zUn u n) {m0 : Nat} (hm : n < m0) {i : Nat} (hi : i ≤ n) : zGr n i (match zWhole u m0 i with
    | .inl e => .inl e
    | .inr x => .inr (x.1 - 1, x.2)) ∧ ∀ x, zWhole u m0 i = .inr x → x.1 ≤ n ∧ 1 ≤ x.1 := by
  have h := zAll_gd hu hm (zPart_gd hu hm 5) i hi
  unfold zWhole
  cases hp : zAll u m0 (zPart u m0 5) i with
  | inl e => rw [hp] at h; exact ⟨h, fun x hx => (by cases hx)⟩
  | inr y =>
    rw [hp] at h
    dsimp only
    by_cases h59 : ziss u y.1 59 = true
    · rw [if_pos h59]
      refine ⟨?_, fun x hx => ?_⟩
      · show i < y.1 + 1 - 1 ∧ y.1 + 1 - 1 ≤ n ∧ y.2.2.length + i = y.1 + 1 - 1
        rw [Nat.add_sub_cancel]
        exact h
      · cases hx; exact ⟨ziss_lt hu h59, Nat.succ_le_succ (Nat.zero_le _)⟩
    · rw [if_neg h59]
      exact ⟨⟨show (1 : Nat) ≠ 0 by decide, show i ≤ y.1 by have := h.1; omega, h.2.1⟩, fun x hx => (by cases hx)⟩
theorem zStm_sg (hu : zUn u n) (hn : n ≤ 1000) {m0 : Nat} (hm : n < m0) {i : Nat} (hi : i ≤ n) {D : zDr} (hD : zDok D) : zSg2 n i (zStm u m0 i D) := by
  unfold zStm
  by_cases h1 : zisw u i 382253 = true
  · rw [if_pos h1]
    have hin := zisw_lt hu h1
    unfold zsSkin
    by_cases h2 : zS D.1 = 3
    · rw [if_pos h2]; exact zSg2.er (by decide) hi
    · rw [if_neg h2]
      exact (zNe_sg hu hin (fun a1 => (zBo_sg hu (by omega) (fun l a2 b1 b2 => zBo_sg hu (by omega) (fun t a3 c1 c2 => zCl_sg hu (by omega) (zDok_S hD h2 ⟨b1, b2⟩ ⟨c1, c2⟩)))).mo (by omega))).mo (by omega)
  · rw [if_neg h1]
    by_cases h1 : zisw u i 168728 = true
    · rw [if_pos h1]
      have hin := zisw_lt hu h1
      unfold zsHole
      by_cases h2 : zNm u (i + 1) = true
      · rw [if_pos h2]
        have hin2 := zNm_lt hu h2
        cases hf : zFnd D.2.1 (zS D.1) (u.2.1 (i + 1)) with
        | none => exact zSg2.er (by decide) hin
        | some k =>
          have hk := (zFs_lt hf).2.1
          dsimp only
          by_cases h3 : u.1 (i + 2) = 2
          · rw [if_pos h3]
            have hin3 := hu (i + 2) (by omega)
            by_cases h4 : u.2.2.1 (i + 2) < zLi D.1 k
            · rw [if_pos h4]
              by_cases h5 : (zHo D.1 k).testBit (u.2.2.1 (i + 2)) = true
              · rw [if_pos h5]; exact zSg2.er (by decide) (by omega)
              · rw [if_neg h5]
                exact (zCl_sg hu (by omega) (zDok_H hD (by omega) h4)).mo (by omega)
            · rw [if_neg h4]; exact zSg2.er (by decide) (by omega)
          · rw [if_neg h3]; exact zSg2.er (by decide) (by omega)
      · rw [if_neg h2]; exact zSg2.er (by decide) hin
    · rw [if_neg h1]
      by_cases h1 : zisw u i 397973 = true
      · rw [if_pos h1]
        have hin := zisw_lt hu h1
        unfold zsText
        by_cases h2 : zT D.1 = 6
        · rw [if_pos h2]; exact zSg2.er (by decide) hi
        · rw [if_neg h2]
          refine (zNe_sg hu hin (fun a1 => ?_)).mo (by omega)
          cases hk : zKd u (i + 2) with
          | none => exact zSg2.er (by decide) (by omega)
          | some k =>
            dsimp only
            have hk3 : k ≤ 3 ∧ i + 2 < n := by
              unfold zKd at hk
              by_cases c : zisw u (i + 2) 1277953191 = true
              · rw [if_pos c] at hk; cases hk; exact ⟨by decide, zisw_lt hu c⟩
              · rw [if_neg c] at hk
                by_cases c : zisw u (i + 2) 8878099 = true
                · rw [if_pos c] at hk; cases hk; exact ⟨by decide, zisw_lt hu c⟩
                · rw [if_neg c] at hk
                  by_cases c : zisw u (i + 2) 261003578 = true
                  · rw [if_pos c] at hk; cases hk; exact ⟨by decide, zisw_lt hu c⟩
                  · rw [if_neg c] at hk
                    by_cases c : zisw u (i + 2) 296522 = true
                    · rw [if_pos c] at hk; cases hk; exact ⟨by decide, zisw_lt hu c⟩
                    · rw [if_neg c] at hk; cases hk
            cases hg : zIk u (i + 3) with
            | none => exact zSg2.er (by decide) (by omega)
            | some g =>
              dsimp only
              have hg3 : g ≤ 1 ∧ i + 3 < n := by
                unfold zIk at hg
                by_cases c : zisw u (i + 3) 138846 = true
                · rw [if_pos c] at hg; cases hg; exact ⟨by decide, zisw_lt hu c⟩
                · rw [if_neg c] at hg
                  by_cases c : zisw u (i + 3) 385337 = true
                  · rw [if_pos c] at hg; cases hg; exact ⟨by decide, zisw_lt hu c⟩
                  · rw [if_neg c] at hg; cases hg
              exact (zBo_sg hu (by omega) (fun l a2 b1 b2 => zCl_sg hu (by omega) (zDok_T hD h2 hk3.1 hg3.1 ⟨b1, b2⟩))).mo (by omega)
      · rw [if_neg h1]
        by_cases h1 : zisw u i 79828 = true
        · rw [if_pos h1]
          have hin := zisw_lt hu h1
          unfold zsDamp
          by_cases h2 : zD D.1 = 0
          · rw [if_pos h2]
            exact (zDmp_sg hu m0 (i + 1) D hin (by omega) hD).mo (by omega)
          · rw [if_neg h2]; exact zSg2.er (by decide) hi
        · rw [if_neg h1]
          by_cases h1 : zisw u i 10266418 = true
          · rw [if_pos h1]
            have hin := zisw_lt hu h1
            unfold zsShows
            by_cases h2 : zEv D.1 = none
            · rw [if_pos h2]
              obtain ⟨g1, g2⟩ := zWhole_gd hu hm (show i + 1 ≤ n from hin)
              cases hw : zWhole u m0 (i + 1) with
              | inl e => rw [hw] at g1; exact ⟨g1.1, g1.2.2⟩
              | inr x =>
                rw [hw] at g1
                obtain ⟨g2, g2'⟩ := g2 x hw
                have g3 : i + 1 < x.1 - 1 ∧ x.1 - 1 ≤ n ∧ x.2.2.length + (i + 1) = x.1 - 1 := g1
                obtain ⟨g3, g4, g5⟩ := g3
                refine ⟨by show i < x.1; omega, g2, hD.1, Or.inr ⟨⟨x.2.1, rfl⟩, ?_, ?_⟩⟩
                · show x.2.2 ≠ []
                  intro e
                  rw [e] at g5
                  simp at g5
                  omega
                · show x.2.2.length ≤ 1000
                  omega
            · rw [if_neg h2]; exact zSg2.er (by decide) hi
          · rw [if_neg h1]; exact zSg2.er (by decide) hi
end
