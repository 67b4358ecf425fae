/-! PURE 8: the component's cells as one state -/
set_option maxRecDepth 100000
/-- a shelf: library, week, open lines; thick; layers; how many -/
abbrev zSS : Type := (Option Nat × Int32 × Int32) × (Nat → Int32) × (Nat → Int32) × (Nat → Int32)
/-- addresses: 0 the component, 1 its shelf, 2 facts, 3 library, 4 5 6 skins (list, array, how long it is), 7 8 9 texts, 10 damps, 11 the facts' object; of skins; of texts; the law of what shows -/
abbrev zKA : Type := (Nat → Nat) × (Nat → Nat) × (Nat → Nat) × Option Nat
/-- g, most, row, best, lines, seen -/
abbrev zCR : Type := Int64 × Int32 × (Nat → Int32) × (Nat → Int32) × Nat × Nat
abbrev zCS : Type := (Bool → zSS) × (Nat → Int32) × zCR
def zS4 (p : Nat) (x : zSS) (q : Nat) : Option jC :=
  if q = p then some (.inl (2, [va_rf x.1.1, .int x.1.2.1, .int x.1.2.2, .ref (p + 1), .ref (p + 2), .ref (p + 3)]))
  else if q = p + 1 then some (.inr (0, 3, .inl x.2.1)) else if q = p + 2 then some (.inr (0, 18, .inl x.2.2.1)) else if q = p + 3 then some (.inr (0, 18, .inl x.2.2.2)) else none
def zOr (a b : Option jC) : Option jC := match a with
  | some e => some e
  | none => b
def zMi (k : zKA) (c : zCS) (q : Nat) : Option jC :=
  if q = k.1 0 then some (.inl (0, [.ref (k.1 0 + 1), .ref (k.1 1), .ref (k.1 0 + 27), .ref c.2.2.2.2.2.2.1, .ref c.2.2.2.2.2.2.2, .ref (k.1 0 + 35), .ref (k.1 0 + 36), .long c.2.2.1, .ref (k.1 0 + 39)]))
  else if q = k.1 0 + 36 then some (.inl (6, [.ref (k.1 0 + 37), .ref (k.1 0 + 38), .int c.2.2.2.1, .ref (k.1 0)]))
  else if q = k.1 0 + 37 then some (.inr (0, 6, .inl c.2.2.2.2.1)) else if q = k.1 0 + 38 then some (.inr (0, 6, .inl c.2.2.2.2.2.1)) else if q = k.1 2 then some (.inr (0, 4, .inl c.2.1)) else none
def cH (h : jH) (k : zKA) (c : zCS) : jH := (fun q => zOr (zS4 (k.1 1) (c.1 true) q) (zOr (zS4 (k.1 0 + 27) (c.1 false) q) (zOr (zMi k c q) (h.1 q))), h.2)
def zka (k : zKA) (b : Bool) : Nat := if b = true then k.1 1 else k.1 0 + 27
def zX (X : Bool → zSS) (b : Bool) (x : zSS) : Bool → zSS := fun b' => if b' = b then x else X b'
theorem zX_eq (X : Bool → zSS) (b : Bool) (x : zSS) : zX X b x b = x := if_pos rfl
theorem zX_ne (X : Bool → zSS) {b b' : Bool} (x : zSS) (h : b' ≠ b) : zX X b x b' = X b' := if_neg h
theorem zX_X (X : Bool → zSS) (b : Bool) (x y : zSS) : zX (zX X b x) b y = zX X b y := by
  funext b'
  unfold zX
  by_cases e : b' = b
  · rw [if_pos e, if_pos e]
  · rw [if_neg e, if_neg e, if_neg e]
def zKok (k : zKA) : Prop := (k.1 1 = k.1 0 + 11 ∨ k.1 0 + 40 ≤ k.1 1) ∧ (k.1 2 = k.1 0 + 26 ∨ k.1 0 + 40 ≤ k.1 2) ∧ (k.1 2 < k.1 1 ∨ k.1 1 + 4 ≤ k.1 2)
def zcf (k : zKA) (q : Nat) : Prop := q ≠ k.1 0 ∧ (q < k.1 0 + 27 ∨ k.1 0 + 31 ≤ q) ∧ (q < k.1 0 + 36 ∨ k.1 0 + 39 ≤ q) ∧ (q < k.1 1 ∨ k.1 1 + 4 ≤ q) ∧ q ≠ k.1 2
theorem zS4_no {p : Nat} {x : zSS} {q : Nat} (h : q < p ∨ p + 4 ≤ q) : zS4 p x q = none := by
  unfold zS4
  rw [if_neg (by omega), if_neg (by omega), if_neg (by omega), if_neg (by omega)]
theorem zMi_no {k : zKA} {c : zCS} {q : Nat} (h : zcf k q) : zMi k c q = none := by
  obtain ⟨h1, h2, h3, h4, h5⟩ := h
  unfold zMi
  rw [if_neg h1, if_neg (by omega), if_neg (by omega), if_neg (by omega), if_neg h5]
theorem cH_fr {h : jH} {k : zKA} {c : zCS} {q : Nat} (hq : zcf k q) : (cH h k c).1 q = h.1 q := by
  show zOr (zS4 (k.1 1) (c.1 true) q) (zOr (zS4 (k.1 0 + 27) (c.1 false) q) (zOr (zMi k c q) (h.1 q))) = _
  rw [zS4_no (by have := hq.2.2.2.1; omega), zS4_no (by have := hq.2.1; omega), zMi_no hq]
  rfl
theorem cH_sh {h : jH} {k : zKA} {c : zCS} (hk : zKok k) (b : Bool) {j : Nat} (hj : j < 4) {e : jC} (he : zS4 (zka k b) (c.1 b) (zka k b + j) = some e) : (cH h k c).1 (zka k b + j) = some e := by
  cases b with
  | true =>
    show zOr (zS4 (k.1 1) (c.1 true) (zka k true + j)) _ = _
    rw [show zS4 (k.1 1) (c.1 true) (zka k true + j) = some e from he]
    rfl
  | false =>
    show zOr (zS4 (k.1 1) (c.1 true) (k.1 0 + 27 + j)) (zOr (zS4 (k.1 0 + 27) (c.1 false) (k.1 0 + 27 + j)) _) = _
    rw [zS4_no (by obtain ⟨h1, h2, h3⟩ := hk; omega), show zS4 (k.1 0 + 27) (c.1 false) (k.1 0 + 27 + j) = some e from he]
    rfl
theorem cH_mi {h : jH} {k : zKA} {c : zCS} {q : Nat} {e : jC} (h1 : q < k.1 1 ∨ k.1 1 + 4 ≤ q) (h2 : q < k.1 0 + 27 ∨ k.1 0 + 27 + 4 ≤ q) (he : zMi k c q = some e) : (cH h k c).1 q = some e := by
  show zOr (zS4 (k.1 1) (c.1 true) q) (zOr (zS4 (k.1 0 + 27) (c.1 false) q) (zOr (zMi k c q) (h.1 q))) = _
  rw [zS4_no h1, zS4_no h2, he]
  rfl
theorem cH_setS {h : jH} {k : zKA} {X : Bool → zSS} {f : Nat → Int32} {R : zCR} (hk : zKok k) (b : Bool) {x : zSS} {j : Nat} (hj : j < 4) {e : jC} (he : zS4 (zka k b) x (zka k b + j) = some e) (ho : ∀ i, i < 4 → i ≠ j → zS4 (zka k b) x (zka k b + i) = zS4 (zka k b) (X b) (zka k b + i)) : jset (cH h k (X, f, R)) (zka k b + j) e = cH h k (zX X b x, f, R) := by
  obtain ⟨k1, k2, k3⟩ := hk
  refine Prod.ext (funext fun q => ?_) rfl
  show (if q = zka k b + j then some e else zOr (zS4 (k.1 1) (X true) q) (zOr (zS4 (k.1 0 + 27) (X false) q) (zOr (zMi k (X, f, R) q) (h.1 q)))) = zOr (zS4 (k.1 1) (zX X b x true) q) (zOr (zS4 (k.1 0 + 27) (zX X b x false) q) (zOr (zMi k (X, f, R) q) (h.1 q)))
  cases b with
  | true =>
    rw [show zX X true x true = x from rfl, show zX X true x false = X false from rfl]
    have hz : zka k true = k.1 1 := rfl
    rw [hz] at he ho ⊢
    by_cases hq : q = k.1 1 + j
    · rw [if_pos hq, hq, he]; rfl
    · rw [if_neg hq]
      by_cases hr : k.1 1 ≤ q ∧ q < k.1 1 + 4
      · have := ho (q - k.1 1) (by omega) (by omega)
        rw [Nat.add_sub_cancel' hr.1] at this
        rw [this]
      · rw [zS4_no (x := x) (by omega), zS4_no (x := X true) (by omega)]
  | false =>
    rw [show zX X false x true = X true from rfl, show zX X false x false = x from rfl]
    have hz : zka k false = k.1 0 + 27 := rfl
    rw [hz] at he ho ⊢
    by_cases hq : q = k.1 0 + 27 + j
    · rw [if_pos hq, zS4_no (by omega), hq, he]; rfl
    · rw [if_neg hq]
      by_cases hr : k.1 0 + 27 ≤ q ∧ q < k.1 0 + 27 + 4
      · have := ho (q - (k.1 0 + 27)) (by omega) (by omega)
        rw [Nat.add_sub_cancel' hr.1] at this
        rw [this]
      · rw [zS4_no (p := k.1 0 + 27) (x := x) (by omega), zS4_no (p := k.1 0 + 27) (x := X false) (by omega)]
theorem cH_setM {h : jH} {k : zKA} {X : Bool → zSS} {f f' : Nat → Int32} {R R' : zCR} {p : Nat} {e : jC} (h1 : p < k.1 1 ∨ k.1 1 + 4 ≤ p) (h2 : p < k.1 0 + 27 ∨ k.1 0 + 27 + 4 ≤ p) (he : zMi k (X, f', R') p = some e) (ho : ∀ q, q ≠ p → zMi k (X, f', R') q = zMi k (X, f, R) q) : jset (cH h k (X, f, R)) p e = cH h k (X, f', R') := by
  refine Prod.ext (funext fun q => ?_) rfl
  show (if q = p then some e else zOr (zS4 (k.1 1) (X true) q) (zOr (zS4 (k.1 0 + 27) (X false) q) (zOr (zMi k (X, f, R) q) (h.1 q)))) = zOr (zS4 (k.1 1) (X true) q) (zOr (zS4 (k.1 0 + 27) (X false) q) (zOr (zMi k (X, f', R') q) (h.1 q)))
  by_cases hq : q = p
  · rw [if_pos hq, hq, zS4_no h1, zS4_no h2, he]; rfl
  · rw [if_neg hq, ho q hq]
theorem cH_cd {h : jH} {k : zKA} {c : zCS} {q ci : Nat} {fs : List Value} (e : (cH h k c).1 q = some (.inl (ci, fs))) : jcd (cH h k c) q = some ci := by
  unfold jcd
  rw [e]
  rfl
section
variable {α : Type} {h : jH} {k : zKA} {X : Bool → zSS} {f : Nat → Int32} {g : Int64} {mo : Int32} {ro be : Nat → Int32} {ln se : Nat} {R : zCR} {b : Bool}
theorem zc_cw : (cH h k (X, f, R)).1 (k.1 0) = some (.inl (0, [.ref (k.1 0 + 1), .ref (k.1 1), .ref (k.1 0 + 27), .ref R.2.2.2.2.1, .ref R.2.2.2.2.2, .ref (k.1 0 + 35), .ref (k.1 0 + 36), .long R.1, .ref (k.1 0 + 39)])) ∨ ¬ zKok k := by
  by_cases hk : zKok k
  · refine Or.inl (cH_mi (by obtain ⟨h1, h2, h3⟩ := hk; omega) (by omega) ?_)
    unfold zMi
    rw [if_pos rfl]
  · exact Or.inr hk
theorem zc_w (hk : zKok k) : (cH h k (X, f, R)).1 (k.1 0) = some (.inl (0, [.ref (k.1 0 + 1), .ref (k.1 1), .ref (k.1 0 + 27), .ref R.2.2.2.2.1, .ref R.2.2.2.2.2, .ref (k.1 0 + 35), .ref (k.1 0 + 36), .long R.1, .ref (k.1 0 + 39)])) := zc_cw.resolve_right (fun q => q hk)
theorem zc_l (hk : zKok k) : (cH h k (X, f, R)).1 (k.1 0 + 36) = some (.inl (6, [.ref (k.1 0 + 37), .ref (k.1 0 + 38), .int R.2.1, .ref (k.1 0)])) := by
  refine cH_mi (by obtain ⟨h1, h2, h3⟩ := hk; omega) (by omega) ?_
  unfold zMi
  rw [if_neg (by omega), if_pos rfl]
theorem zc_ro (hk : zKok k) : (cH h k (X, f, R)).1 (k.1 0 + 37) = some (.inr (0, 6, .inl R.2.2.1)) := by
  refine cH_mi (by obtain ⟨h1, h2, h3⟩ := hk; omega) (by omega) ?_
  unfold zMi
  rw [if_neg (by omega), if_neg (by omega), if_pos rfl]
theorem zc_be (hk : zKok k) : (cH h k (X, f, R)).1 (k.1 0 + 38) = some (.inr (0, 6, .inl R.2.2.2.1)) := by
  refine cH_mi (by obtain ⟨h1, h2, h3⟩ := hk; omega) (by omega) ?_
  unfold zMi
  rw [if_neg (by omega), if_neg (by omega), if_neg (by omega), if_pos rfl]
theorem zc_fo (hk : zKok k) : (cH h k (X, f, R)).1 (k.1 2) = some (.inr (0, 4, .inl f)) := by
  obtain ⟨h1, h2, h3⟩ := hk
  refine cH_mi (by omega) (by omega) ?_
  unfold zMi
  rw [if_neg (by omega), if_neg (by omega), if_neg (by omega), if_neg (by omega), if_pos rfl]
theorem zc_s0 (hk : zKok k) : (cH h k (X, f, R)).1 (zka k b) = some (.inl (2, [va_rf (X b).1.1, .int (X b).1.2.1, .int (X b).1.2.2, .ref (zka k b + 1), .ref (zka k b + 2), .ref (zka k b + 3)])) := by
  refine cH_sh (j := 0) hk b (by decide) ?_
  unfold zS4
  rw [if_pos (by omega)]
theorem zc_s1 (hk : zKok k) : (cH h k (X, f, R)).1 (zka k b + 1) = some (.inr (0, 3, .inl (X b).2.1)) := by
  refine cH_sh (j := 1) hk b (by decide) ?_
  unfold zS4
  rw [if_neg (by omega), if_pos (by omega)]
theorem zc_s2 (hk : zKok k) : (cH h k (X, f, R)).1 (zka k b + 2) = some (.inr (0, 18, .inl (X b).2.2.1)) := by
  refine cH_sh (j := 2) hk b (by decide) ?_
  unfold zS4
  rw [if_neg (by omega), if_neg (by omega), if_pos (by omega)]
theorem zc_s3 (hk : zKok k) : (cH h k (X, f, R)).1 (zka k b + 3) = some (.inr (0, 18, .inl (X b).2.2.2)) := by
  refine cH_sh (j := 3) hk b (by decide) ?_
  unfold zS4
  rw [if_neg (by omega), if_neg (by omega), if_neg (by omega), if_pos (by omega)]
/-! the component's own fields -/
theorem zc_g0_0 (hk : zKok k) (K : Option Nat → jM α) : (jB (jgR [0] 0 (some (k.1 0))) K).1 (cH h k (X, f, R)) = (K (some (k.1 0 + 1))).1 (cH h k (X, f, R)) := zgRs (zc_w hk) (by decide) rfl K
theorem zc_g0_1 (hk : zKok k) (K : Option Nat → jM α) : (jB (jgR [0] 1 (some (k.1 0))) K).1 (cH h k (X, f, R)) = (K (some (zka k true))).1 (cH h k (X, f, R)) := zgRs (x := zka k true) (zc_w hk) (by decide) rfl K
theorem zc_g0_2 (hk : zKok k) (K : Option Nat → jM α) : (jB (jgR [0] 2 (some (k.1 0))) K).1 (cH h k (X, f, R)) = (K (some (zka k false))).1 (cH h k (X, f, R)) := zgRs (x := zka k false) (zc_w hk) (by decide) rfl K
theorem zc_g0_3 (hk : zKok k) (K : Option Nat → jM α) : (jB (jgR [0] 3 (some (k.1 0))) K).1 (cH h k (X, f, R)) = (K (some R.2.2.2.2.1)).1 (cH h k (X, f, R)) := zgRs (zc_w hk) (by decide) rfl K
theorem zc_g0_4 (hk : zKok k) (K : Option Nat → jM α) : (jB (jgR [0] 4 (some (k.1 0))) K).1 (cH h k (X, f, R)) = (K (some R.2.2.2.2.2)).1 (cH h k (X, f, R)) := zgRs (zc_w hk) (by decide) rfl K
theorem zc_g0_5 (hk : zKok k) (K : Option Nat → jM α) : (jB (jgR [0] 5 (some (k.1 0))) K).1 (cH h k (X, f, R)) = (K (some (k.1 0 + 35))).1 (cH h k (X, f, R)) := zgRs (zc_w hk) (by decide) rfl K
theorem zc_g0_6 (hk : zKok k) (K : Option Nat → jM α) : (jB (jgR [0] 6 (some (k.1 0))) K).1 (cH h k (X, f, R)) = (K (some (k.1 0 + 36))).1 (cH h k (X, f, R)) := zgRs (zc_w hk) (by decide) rfl K
theorem zc_g0_7 (hk : zKok k) (K : Int64 → jM α) : (jB (jgL [0] 7 (some (k.1 0))) K).1 (cH h k (X, f, R)) = (K R.1).1 (cH h k (X, f, R)) := zgL (zc_w hk) (by decide) rfl K
theorem zc_g0_8 (hk : zKok k) (K : Option Nat → jM α) : (jB (jgR [0] 8 (some (k.1 0))) K).1 (cH h k (X, f, R)) = (K (some (k.1 0 + 39))).1 (cH h k (X, f, R)) := zgRs (zc_w hk) (by decide) rfl K
theorem zc_r0 (hk : zKok k) (K : Nat → jM α) : (jB (jrc 0 (some (k.1 0))) K).1 (cH h k (X, f, R)) = (K (k.1 0)).1 (cH h k (X, f, R)) := zrc (cH_cd (zc_w hk)) K
theorem zc_r6 (hk : zKok k) (K : Nat → jM α) : (jB (jrc 6 (some (k.1 0 + 36))) K).1 (cH h k (X, f, R)) = (K (k.1 0 + 36)).1 (cH h k (X, f, R)) := zrc (cH_cd (zc_l hk)) K
theorem zc_p0_7 (hk : zKok k) (hb : h.2.2.2.2 0 ≤ k.1 0) (x : Int64) (K : Unit → jM α) : (jB (jpL [0] 7 (some (k.1 0)) x) K).1 (cH h k (X, f, g, R.2)) = (K ()).1 (cH h k (X, f, x, R.2)) := by
  refine (zpV (zc_w hk) (by decide) hb (by show 7 < 9; decide) K).trans ?_
  refine congrArg (K ()).1 ?_
  refine cH_setM (by obtain ⟨h1, h2, h3⟩ := hk; omega) (by omega) ?_ (fun q hq => ?_)
  · unfold zMi
    rw [if_pos rfl]
    rfl
  · unfold zMi
    rw [if_neg hq, if_neg hq]
/-! the laying's -/
theorem zc_g6_0 (hk : zKok k) (K : Option Nat → jM α) : (jB (jgR [6] 0 (some (k.1 0 + 36))) K).1 (cH h k (X, f, R)) = (K (some (k.1 0 + 37))).1 (cH h k (X, f, R)) := zgRs (zc_l hk) (by decide) rfl K
theorem zc_g6_1 (hk : zKok k) (K : Option Nat → jM α) : (jB (jgR [6] 1 (some (k.1 0 + 36))) K).1 (cH h k (X, f, R)) = (K (some (k.1 0 + 38))).1 (cH h k (X, f, R)) := zgRs (zc_l hk) (by decide) rfl K
theorem zc_g6_2 (hk : zKok k) (K : Int32 → jM α) : (jB (jgI [6] 2 (some (k.1 0 + 36))) K).1 (cH h k (X, f, R)) = (K R.2.1).1 (cH h k (X, f, R)) := zgI (zc_l hk) (by decide) rfl K
theorem zc_g6_3 (hk : zKok k) (K : Option Nat → jM α) : (jB (jgR [6] 3 (some (k.1 0 + 36))) K).1 (cH h k (X, f, R)) = (K (some (k.1 0))).1 (cH h k (X, f, R)) := zgRs (zc_l hk) (by decide) rfl K
theorem zc_p6_2 (hk : zKok k) (hb : h.2.2.2.2 0 ≤ k.1 0) (x : Int32) (K : Unit → jM α) : (jB (jpI [6] 2 (some (k.1 0 + 36)) x) K).1 (cH h k (X, f, g, mo, R.2.2)) = (K ()).1 (cH h k (X, f, g, x, R.2.2)) := by
  refine (zpV (zc_l hk) (by decide) (Nat.le_trans hb (Nat.le_add_right _ _)) (by show 2 < 4; decide) K).trans ?_
  refine congrArg (K ()).1 ?_
  refine cH_setM (by obtain ⟨h1, h2, h3⟩ := hk; omega) (by omega) ?_ (fun q hq => ?_)
  · unfold zMi
    rw [if_neg (by omega), if_pos rfl]
    rfl
  · unfold zMi
    rw [if_neg hq, if_neg hq]
theorem zc_aro (hk : zKok k) {i : Nat} (hi : i < 6) (K : Int32 → jM α) : (jB (jaI 0 (some (k.1 0 + 37)) (nI i)) K).1 (cH h k (X, f, R)) = (K (R.2.2.1 i)).1 (cH h k (X, f, R)) := zaI (zc_ro hk) hi (by decide) K
theorem zc_abe (hk : zKok k) {i : Nat} (hi : i < 6) (K : Int32 → jM α) : (jB (jaI 0 (some (k.1 0 + 38)) (nI i)) K).1 (cH h k (X, f, R)) = (K (R.2.2.2.1 i)).1 (cH h k (X, f, R)) := zaI (zc_be hk) hi (by decide) K
theorem zc_sro (hk : zKok k) (hb : h.2.2.2.2 0 ≤ k.1 0) {i : Nat} (hi : i < 6) (x : Int32) (K : Unit → jM α) : (jB (jsI 0 (some (k.1 0 + 37)) (nI i) x) K).1 (cH h k (X, f, g, mo, ro, R.2.2.2)) = (K ()).1 (cH h k (X, f, g, mo, upd ro i x, R.2.2.2)) := by
  refine (zsI (zc_ro hk) (Nat.le_trans hb (Nat.le_add_right _ _)) hi (by decide) K).trans ?_
  refine congrArg (K ()).1 ?_
  refine cH_setM (by obtain ⟨h1, h2, h3⟩ := hk; omega) (by omega) ?_ (fun q hq => ?_)
  · unfold zMi
    rw [if_neg (by omega), if_neg (by omega), if_pos rfl]
  · unfold zMi
    rw [if_neg hq, if_neg hq]
/-! facts -/
theorem zc_afo (hk : zKok k) {i : Nat} (hi : i < 4) (K : Int32 → jM α) : (jB (jaI 0 (some (k.1 2)) (nI i)) K).1 (cH h k (X, f, R)) = (K (f i)).1 (cH h k (X, f, R)) := zaI (zc_fo hk) hi (by decide) K
theorem zc_sfo (hk : zKok k) (hb : h.2.2.2.2 0 ≤ k.1 2) {i : Nat} (hi : i < 4) (x : Int32) (K : Unit → jM α) : (jB (jsI 0 (some (k.1 2)) (nI i) x) K).1 (cH h k (X, f, R)) = (K ()).1 (cH h k (X, upd f i x, R)) := by
  refine (zsI (zc_fo hk) hb hi (by decide) K).trans ?_
  refine congrArg (K ()).1 ?_
  obtain ⟨h1, h2, h3⟩ := hk
  refine cH_setM (by omega) (by omega) ?_ (fun q hq => ?_)
  · unfold zMi
    rw [if_neg (by omega), if_neg (by omega), if_neg (by omega), if_neg (by omega), if_pos rfl]
  · unfold zMi
    rw [if_neg hq, if_neg hq]
theorem zc_sfo0 (hk : zKok k) (hb : h.2.2.2.2 0 ≤ k.1 2) (x : Int32) (K : Unit → jM α) : (jB (jsI 0 (some (k.1 2)) 0 x) K).1 (cH h k (X, f, R)) = (K ()).1 (cH h k (X, upd f 0 x, R)) := zc_sfo (i := 0) hk hb (by decide) x K
theorem zc_sfo1 (hk : zKok k) (hb : h.2.2.2.2 0 ≤ k.1 2) (x : Int32) (K : Unit → jM α) : (jB (jsI 0 (some (k.1 2)) 1 x) K).1 (cH h k (X, f, R)) = (K ()).1 (cH h k (X, upd f 1 x, R)) := zc_sfo (i := 1) hk hb (by decide) x K
theorem zc_sfo2 (hk : zKok k) (hb : h.2.2.2.2 0 ≤ k.1 2) (x : Int32) (K : Unit → jM α) : (jB (jsI 0 (some (k.1 2)) 2 x) K).1 (cH h k (X, f, R)) = (K ()).1 (cH h k (X, upd f 2 x, R)) := zc_sfo (i := 2) hk hb (by decide) x K
theorem zc_sfo3 (hk : zKok k) (hb : h.2.2.2.2 0 ≤ k.1 2) (x : Int32) (K : Unit → jM α) : (jB (jsI 0 (some (k.1 2)) 3 x) K).1 (cH h k (X, f, R)) = (K ()).1 (cH h k (X, upd f 3 x, R)) := zc_sfo (i := 3) hk hb (by decide) x K
/-! shelves -/
theorem zc_g2_0 (hk : zKok k) (K : Option Nat → jM α) : (jB (jgR [2] 0 (some (zka k b))) K).1 (cH h k (X, f, R)) = (K (X b).1.1).1 (cH h k (X, f, R)) := zgR (zc_s0 hk) (by decide) rfl K
theorem zc_g2_1 (hk : zKok k) (K : Int32 → jM α) : (jB (jgI [2] 1 (some (zka k b))) K).1 (cH h k (X, f, R)) = (K (X b).1.2.1).1 (cH h k (X, f, R)) := zgI (zc_s0 hk) (by decide) rfl K
theorem zc_g2_2 (hk : zKok k) (K : Int32 → jM α) : (jB (jgI [2] 2 (some (zka k b))) K).1 (cH h k (X, f, R)) = (K (X b).1.2.2).1 (cH h k (X, f, R)) := zgI (zc_s0 hk) (by decide) rfl K
theorem zc_g2_3 (hk : zKok k) (K : Option Nat → jM α) : (jB (jgR [2] 3 (some (zka k b))) K).1 (cH h k (X, f, R)) = (K (some (zka k b + 1))).1 (cH h k (X, f, R)) := zgRs (zc_s0 hk) (by decide) rfl K
theorem zc_g2_4 (hk : zKok k) (K : Option Nat → jM α) : (jB (jgR [2] 4 (some (zka k b))) K).1 (cH h k (X, f, R)) = (K (some (zka k b + 2))).1 (cH h k (X, f, R)) := zgRs (zc_s0 hk) (by decide) rfl K
theorem zc_g2_5 (hk : zKok k) (K : Option Nat → jM α) : (jB (jgR [2] 5 (some (zka k b))) K).1 (cH h k (X, f, R)) = (K (some (zka k b + 3))).1 (cH h k (X, f, R)) := zgRs (zc_s0 hk) (by decide) rfl K
theorem zc_r2 (hk : zKok k) (K : Nat → jM α) : (jB (jrc 2 (some (zka k b))) K).1 (cH h k (X, f, R)) = (K (zka k b)).1 (cH h k (X, f, R)) := zrc (cH_cd (zc_s0 hk)) K
theorem zc_a1 (hk : zKok k) {i : Nat} (hi : i < 3) (K : Int32 → jM α) : (jB (jaI 0 (some (zka k b + 1)) (nI i)) K).1 (cH h k (X, f, R)) = (K ((X b).2.1 i)).1 (cH h k (X, f, R)) := zaI (zc_s1 hk) hi (by decide) K
theorem zc_a2 (hk : zKok k) {i : Nat} (hi : i < 18) (K : Int32 → jM α) : (jB (jaI 0 (some (zka k b + 2)) (nI i)) K).1 (cH h k (X, f, R)) = (K ((X b).2.2.1 i)).1 (cH h k (X, f, R)) := zaI (zc_s2 hk) hi (by decide) K
theorem zc_a3 (hk : zKok k) {i : Nat} (hi : i < 18) (K : Int32 → jM α) : (jB (jaI 0 (some (zka k b + 3)) (nI i)) K).1 (cH h k (X, f, R)) = (K ((X b).2.2.2 i)).1 (cH h k (X, f, R)) := zaI (zc_s3 hk) hi (by decide) K
theorem zkb (hk : zKok k) (hb : h.2.2.2.2 0 ≤ k.1 0) (j : Nat) : h.2.2.2.2 0 ≤ zka k b + j := by
  obtain ⟨h1, h2, h3⟩ := hk
  cases b with
  | true => show _ ≤ k.1 1 + j; omega
  | false => show _ ≤ k.1 0 + 27 + j; omega
theorem zc_p2_0 (hk : zKok k) (hb : h.2.2.2.2 0 ≤ k.1 0) (x : Option Nat) (K : Unit → jM α) : (jB (jpR [2] 0 (some (zka k b)) x) K).1 (cH h k (X, f, R)) = (K ()).1 (cH h k (zX X b ((x, (X b).1.2), (X b).2), f, R)) := by
  refine (zpV (zc_s0 hk) (by decide) (zkb hk hb 0) (by show 0 < 6; decide) K).trans ?_
  refine congrArg (K ()).1 ?_
  refine cH_setS (j := 0) hk b (by decide) ?_ (fun i _ hi => ?_)
  · unfold zS4
    rw [if_pos (by omega)]
    rfl
  · unfold zS4
    rw [if_neg (c := zka k b + i = zka k b) (by omega), if_neg (c := zka k b + i = zka k b) (by omega)]
theorem zc_p2_1 (hk : zKok k) (hb : h.2.2.2.2 0 ≤ k.1 0) (x : Int32) (K : Unit → jM α) : (jB (jpI [2] 1 (some (zka k b)) x) K).1 (cH h k (X, f, R)) = (K ()).1 (cH h k (zX X b (((X b).1.1, x, (X b).1.2.2), (X b).2), f, R)) := by
  refine (zpV (zc_s0 hk) (by decide) (zkb hk hb 0) (by show 1 < 6; decide) K).trans ?_
  refine congrArg (K ()).1 ?_
  refine cH_setS (j := 0) hk b (by decide) ?_ (fun i _ hi => ?_)
  · unfold zS4
    rw [if_pos (by omega)]
    rfl
  · unfold zS4
    rw [if_neg (c := zka k b + i = zka k b) (by omega), if_neg (c := zka k b + i = zka k b) (by omega)]
theorem zc_p2_2 (hk : zKok k) (hb : h.2.2.2.2 0 ≤ k.1 0) (x : Int32) (K : Unit → jM α) : (jB (jpI [2] 2 (some (zka k b)) x) K).1 (cH h k (X, f, R)) = (K ()).1 (cH h k (zX X b (((X b).1.1, (X b).1.2.1, x), (X b).2), f, R)) := by
  refine (zpV (zc_s0 hk) (by decide) (zkb hk hb 0) (by show 2 < 6; decide) K).trans ?_
  refine congrArg (K ()).1 ?_
  refine cH_setS (j := 0) hk b (by decide) ?_ (fun i _ hi => ?_)
  · unfold zS4
    rw [if_pos (by omega)]
    rfl
  · unfold zS4
    rw [if_neg (c := zka k b + i = zka k b) (by omega), if_neg (c := zka k b + i = zka k b) (by omega)]
theorem zc_t1 (hk : zKok k) (y : Nat → Int32) : jset (cH h k (X, f, R)) (zka k b + 1) (.inr (0, 3, .inl y)) = cH h k (zX X b ((X b).1, y, (X b).2.2), f, R) := by
  refine cH_setS (j := 1) hk b (by decide) ?_ (fun i h4 hi => ?_)
  · unfold zS4
    rw [if_neg (by omega), if_pos (by omega)]
  · unfold zS4
    rw [if_neg (c := zka k b + i = zka k b + 1) (by omega), if_neg (c := zka k b + i = zka k b + 1) (by omega)]
theorem zc_t2 (hk : zKok k) (y : Nat → Int32) : jset (cH h k (X, f, R)) (zka k b + 2) (.inr (0, 18, .inl y)) = cH h k (zX X b ((X b).1, (X b).2.1, y, (X b).2.2.2), f, R) := by
  refine cH_setS (j := 2) hk b (by decide) ?_ (fun i h4 hi => ?_)
  · unfold zS4
    rw [if_neg (by omega), if_neg (by omega), if_pos (by omega)]
  · unfold zS4
    rw [if_neg (c := zka k b + i = zka k b + 2) (by omega), if_neg (c := zka k b + i = zka k b + 2) (by omega)]
theorem zc_t3 (hk : zKok k) (y : Nat → Int32) : jset (cH h k (X, f, R)) (zka k b + 3) (.inr (0, 18, .inl y)) = cH h k (zX X b ((X b).1, (X b).2.1, (X b).2.2.1, y), f, R) := by
  refine cH_setS (j := 3) hk b (by decide) ?_ (fun i h4 hi => ?_)
  · unfold zS4
    rw [if_neg (by omega), if_neg (by omega), if_neg (by omega), if_pos (by omega)]
  · unfold zS4
    rw [if_neg (c := zka k b + i = zka k b + 3) (by omega), if_neg (c := zka k b + i = zka k b + 3) (by omega)]
theorem zc_u1 (hk : zKok k) (hb : h.2.2.2.2 0 ≤ k.1 0) {i : Nat} (hi : i < 3) (x : Int32) (K : Unit → jM α) : (jB (jsI 0 (some (zka k b + 1)) (nI i) x) K).1 (cH h k (X, f, R)) = (K ()).1 (cH h k (zX X b ((X b).1, upd (X b).2.1 i x, (X b).2.2), f, R)) := by
  refine (zsI (zc_s1 hk) (zkb hk hb 1) hi (by decide) K).trans ?_
  rw [zc_t1 hk]
theorem zc_u2 (hk : zKok k) (hb : h.2.2.2.2 0 ≤ k.1 0) {i : Nat} (hi : i < 18) (x : Int32) (K : Unit → jM α) : (jB (jsI 0 (some (zka k b + 2)) (nI i) x) K).1 (cH h k (X, f, R)) = (K ()).1 (cH h k (zX X b ((X b).1, (X b).2.1, upd (X b).2.2.1 i x, (X b).2.2.2), f, R)) := by
  refine (zsI (zc_s2 hk) (zkb hk hb 2) hi (by decide) K).trans ?_
  rw [zc_t2 hk]
theorem zc_u3 (hk : zKok k) (hb : h.2.2.2.2 0 ≤ k.1 0) {i : Nat} (hi : i < 18) (x : Int32) (K : Unit → jM α) : (jB (jsI 0 (some (zka k b + 3)) (nI i) x) K).1 (cH h k (X, f, R)) = (K ()).1 (cH h k (zX X b ((X b).1, (X b).2.1, (X b).2.2.1, upd (X b).2.2.2 i x), f, R)) := by
  refine (zsI (zc_s3 hk) (zkb hk hb 3) hi (by decide) K).trans ?_
  rw [zc_t3 hk]
end
