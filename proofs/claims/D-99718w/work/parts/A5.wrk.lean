/-! PURE 32: the reference works an expression out: single steps -/
set_option maxRecDepth 100000
def zst (A : Nat → Nat → Int32) (j d : Nat) (x : Int32) : Nat → Nat → Int32 := zuA A j (upd (A j) d x)
theorem zst_e (A : Nat → Nat → Int32) (j d : Nat) (x : Int32) : zst A j d x j d = x := by
  unfold zst
  rw [zuA_eq, zu_eq]
theorem zst_j (A : Nat → Nat → Int32) {j j' d : Nat} (x : Int32) (h : j' ≠ j) : zst A j d x j' = A j' := zuA_ne _ _ h
theorem zst_q (A : Nat → Nat → Int32) {j j' d q : Nat} (x : Int32) (h : q ≠ d) : zst A j d x j' q = A j' q := by
  unfold zst
  by_cases e : j' = j
  · rw [e, zuA_eq, zu_ne _ _ h]
  · rw [zuA_ne _ _ e]
theorem zst_d (A : Nat → Nat → Int32) {j d : Nat} (x : Int32) : zuA A j (upd (A j) d x) = zst A j d x := rfl
def zHc (f : Nat → Int32) : Nat → List Nat → Prop
  | _, [] => True
  | k, x :: r => f k = nI x ∧ zHc f (k + 1) r
theorem zHc_app {f : Nat → Int32} : ∀ {cs ds : List Nat} {k : Nat}, zHc f k (cs ++ ds) → zHc f k cs ∧ zHc f (k + cs.length) ds
  | [], ds, k, h => ⟨trivial, h⟩
  | x :: r, ds, k, h => by
    obtain ⟨h1, h2⟩ := h
    obtain ⟨h3, h4⟩ := zHc_app (cs := r) h2
    refine ⟨⟨h1, h3⟩, ?_⟩
    rw [List.length_cons, show k + (r.length + 1) = k + 1 + r.length by omega]
    exact h4
theorem zHc_cd : ∀ (cs : List Nat) (f : Nat → Int32) (c : Nat), zHc (zcd f c cs) c cs
  | [], _, _ => trivial
  | x :: r, f, c => ⟨by rw [zcd, zcd_lo r _ _ _ (by omega)]; exact if_pos rfl, zHc_cd r _ _⟩
def zPw0 (o : Nat → Int32) : Nat → Int32 → Nat × Int32
  | 0, v => (0, v)
  | d + 1, v => if o (d + 1) = 1 then zPw0 o d (if v = 0 then 1 else 0) else (d + 1, v)
theorem zPw0_le (o : Nat → Int32) : ∀ d v, (zPw0 o d v).1 ≤ d
  | 0, _ => Nat.le_refl _
  | d + 1, v => by
    unfold zPw0
    split
    · have := zPw0_le o d (if v = 0 then 1 else 0); omega
    · exact Nat.le_refl _
theorem zPw0_eq {o o' : Nat → Int32} : ∀ {d : Nat} {v : Int32}, (∀ q, q ≤ d → o' q = o q) → zPw0 o' d v = zPw0 o d v
  | 0, _, _ => rfl
  | d + 1, v, h => by
    unfold zPw0
    rw [h (d + 1) (Nat.le_refl _), zPw0_eq (d := d) (fun q hq => h q (by omega))]
/-- what is pending in a depth: a sum; a test; the tests -/
def zW1s (A : Nat → Nat → Int32) (d : Nat) : Int32 := if A 31 d = 21 then A 30 d - A 32 d else A 30 d + A 32 d
def zW2 (A : Nat → Nat → Int32) (d : Nat) : Int32 := if A 29 d = 24 then (if A 28 d < zW1s A d then 1 else 0) else if A 29 d = 25 then (if A 28 d = zW1s A d then 1 else 0) else zW1s A d
def zW3 (A : Nat → Nat → Int32) (d : Nat) : Int32 := if A 27 d = 26 then (if ¬ A 26 d = 0 ∧ ¬ zW2 A d = 0 then 1 else 0) else if A 27 d = 27 then (if ¬ A 26 d = 0 ∨ ¬ zW2 A d = 0 then 1 else 0) else zW2 A d
def zSum1 (A : Nat → Nat → Int32) (d : Nat) : Nat → Nat → Int32 := zst (zst A 30 d (zW1s A d)) 33 d 0
def zTes1 (A : Nat → Nat → Int32) (d : Nat) : Nat → Nat → Int32 := zst (zst (zst (zst (zSum1 A d) 26 d (zW3 A d)) 29 d 0) 30 d 0) 31 d 20
def zTer1 (A : Nat → Nat → Int32) (p : Nat × Int32) : Nat → Nat → Int32 := zst A 32 p.1 (if A 33 p.1 = 0 then p.2 else A 32 p.1 * p.2)
def zOpn1 (A : Nat → Nat → Int32) (d : Nat) (b : Int32) : Nat → Nat → Int32 := zst (zst (zst (zst (zst (zst A 34 d b) 27 d 0) 29 d 0) 30 d 0) 31 d 20) 33 d 0
section
variable {α : Type} {N : Nat} {h : jH} {a : Nat} {F : Nat → Int32} {L : Nat → Int64} {A : Nat → Nat → Int32} {M : Nat → Nat → Int64}
theorem zW_sums (hb : h.2.2.2.2 0 ≤ a) {d : Nat} (hd : d < 7) (K : Unit → jM α) : (jB (fX7_sums a (nI d)) K).1 (rH h a (F, L, A, M)) = (K ()).1 (rH h a (F, L, zSum1 A d, M)) := by
  unfold fX7_sums fX7_sums_45
  simp (disch := omega) only [zA, zr_g30, zr_g31, zr_g32, zr_g33, zr_a30, zr_a31, zr_a32, zr_s30 hb, zr_s33 hb, zIB]
  unfold zSum1 zW1s
  by_cases c : A 31 d = 21
  · rw [if_pos c, if_pos c]; rfl
  · rw [if_neg c, if_neg c]; rfl
theorem zW_opens (hb : h.2.2.2.2 0 ≤ a) {d : Nat} (hd : d < 7) (K : Unit → jM α) : (jB (fX7_opens a (nI d)) K).1 (rH h a (F, L, A, M)) = (K ()).1 (rH h a (F, L, zst (zst (zst (zst (zst A 27 d 0) 29 d 0) 30 d 0) 31 d 20) 33 d 0, M)) := by
  unfold fX7_opens
  simp (disch := omega) only [zA, zr_g27, zr_g29, zr_g30, zr_g31, zr_g33, zr_s27 hb, zr_s29 hb, zr_s30 hb, zr_s31 hb, zr_s33 hb]
  rfl
theorem zW_tests (hb : h.2.2.2.2 0 ≤ a) {d : Nat} (hd : d < 7) (K : Unit → jM α) : (jB (fX7_tests a (nI d)) K).1 (rH h a (F, L, A, M)) = (K ()).1 (rH h a (F, L, zTes1 A d, M)) := by
  have e136 : ∀ x, (jB (fX7_tests_136 a (nI d) x) K).1 (rH h a (F, L, zSum1 A d, M)) = (K ()).1 (rH h a (F, L, zst (zst (zst (zst (zSum1 A d) 26 d x) 29 d 0) 30 d 0) 31 d 20, M)) := by
    intro x
    unfold fX7_tests_136
    simp (disch := omega) only [zA, zr_g26, zr_g29, zr_g30, zr_g31, zr_s26 hb, zr_s29 hb, zr_s30 hb, zr_s31 hb]
    rfl
  have s26 : zSum1 A d 26 = A 26 := by unfold zSum1; rw [zst_j _ _ (by decide), zst_j _ _ (by decide)]
  have s27 : zSum1 A d 27 = A 27 := by unfold zSum1; rw [zst_j _ _ (by decide), zst_j _ _ (by decide)]
  have s28 : zSum1 A d 28 = A 28 := by unfold zSum1; rw [zst_j _ _ (by decide), zst_j _ _ (by decide)]
  have s29 : zSum1 A d 29 = A 29 := by unfold zSum1; rw [zst_j _ _ (by decide), zst_j _ _ (by decide)]
  have s30 : zSum1 A d 30 d = zW1s A d := by unfold zSum1; rw [zst_j _ _ (by decide), zst_e]
  have e106 : ∀ x, (jB (fX7_tests_106 a (nI d) x) K).1 (rH h a (F, L, zSum1 A d, M)) = (K ()).1 (rH h a (F, L, zst (zst (zst (zst (zSum1 A d) 26 d (if A 27 d = 27 then (if ¬ A 26 d = 0 ∨ ¬ x = 0 then 1 else 0) else x)) 29 d 0) 30 d 0) 31 d 20, M)) := by
    intro x
    unfold fX7_tests_106 fX7_tests_130 fX7_tests_135
    simp (disch := omega) only [zA, zr_g26, zr_g27, zr_a26, zr_a27, zIB, s26, s27, e136]
    by_cases c1 : A 27 d = 27
    · rw [if_pos c1, if_pos c1]
      by_cases c2 : A 26 d = 0
      · rw [if_pos c2]
        by_cases c3 : x = 0
        · rw [if_pos c3, if_neg (by simp [c2, c3])]
        · rw [if_neg c3, if_pos (Or.inr c3)]
      · rw [if_neg c2, if_pos (Or.inl c2)]
    · rw [if_neg c1, if_neg c1]
  have e76 : ∀ x, (jB (fX7_tests_76 a (nI d) x) K).1 (rH h a (F, L, zSum1 A d, M)) = (K ()).1 (rH h a (F, L, zst (zst (zst (zst (zSum1 A d) 26 d (if A 27 d = 26 then (if ¬ A 26 d = 0 ∧ ¬ x = 0 then 1 else 0) else if A 27 d = 27 then (if ¬ A 26 d = 0 ∨ ¬ x = 0 then 1 else 0) else x)) 29 d 0) 30 d 0) 31 d 20, M)) := by
    intro x
    unfold fX7_tests_76 fX7_tests_104 fX7_tests_105
    simp (disch := omega) only [zA, zr_g26, zr_g27, zr_a26, zr_a27, zIB, s26, s27, e106]
    by_cases c1 : A 27 d = 26
    · have c1' : ¬ A 27 d = 27 := by rw [c1]; decide
      rw [if_pos c1, if_pos c1, if_neg c1', if_neg c1']
      by_cases c2 : A 26 d = 0
      · rw [if_pos c2, if_neg (by simp [c2])]
      · rw [if_neg c2]
        by_cases c3 : x = 0
        · rw [if_pos c3, if_neg (by simp [c3])]
        · rw [if_neg c3, if_pos ⟨c2, c3⟩]
    · rw [if_neg c1, if_neg c1]
  have e44 : ∀ x, (jB (fX7_tests_44 a (nI d) x) K).1 (rH h a (F, L, zSum1 A d, M)) = (jB (fX7_tests_76 a (nI d) (if A 29 d = 25 then (if A 28 d = zW1s A d then 1 else 0) else x)) K).1 (rH h a (F, L, zSum1 A d, M)) := by
    intro x
    unfold fX7_tests_44 fX7_tests_75
    simp (disch := omega) only [zA, zr_g28, zr_g29, zr_g30, zr_a28, zr_a29, zr_a30, zIB, s28, s29, s30]
    by_cases c1 : A 29 d = 25
    · rw [if_pos c1, if_pos c1]
      by_cases c2 : A 28 d = zW1s A d
      · rw [if_pos c2, if_pos c2]
      · rw [if_neg c2, if_neg c2]
    · rw [if_neg c1, if_neg c1]
  unfold fX7_tests
  rw [zA, zW_sums hb hd]
  unfold fX7_tests_43
  simp (disch := omega) only [zA, zr_g28, zr_g29, zr_g30, zr_a28, zr_a29, zr_a30, zIB, s28, s29, s30]
  unfold zTes1 zW3 zW2
  by_cases c1 : A 29 d = 24
  · have c1' : ¬ A 29 d = 25 := by rw [c1]; decide
    rw [if_pos c1, if_pos c1]
    by_cases c2 : A 28 d < zW1s A d
    · rw [if_neg (Int32.not_le.mpr c2), if_pos c2, e44, if_neg c1', e76]
    · rw [if_pos (Int32.not_lt.mp c2), if_neg c2, e44, if_neg c1', e76]
  · rw [if_neg c1, if_neg c1, e44, e76]
/-- the working out goes on -/
abbrev zWW (N : Nat) (h : jH) (a : Nat) (F : Nat → Int32) (L : Nat → Int64) (M : Nat → Nat → Int64) (m d k : Nat) (A : Nat → Nat → Int32) : Option (Int32 × jH) := (fX7_worked_14 N a m 0 (nI d) (nI k)).1 (rH h a (F, L, A, M))
theorem zWk_300 (hb : h.2.2.2.2 0 ≤ a) {m d k : Nat} (hd : d < 7) (x : Int32) : (fX7_worked_300 N (fX7_worked_14 N a m) a 0 (nI d) (nI k) x).1 (rH h a (F, L, A, M)) = zWW N h a F L M m d (k + 1) (zTer1 A (d, x)) := by
  unfold fX7_worked_300 fX7_worked_328 fX7_worked_329
  simp (disch := omega) only [zr_g32, zr_g33, zr_a32, zr_a33, zI, zr_s32 hb, zc1_da]
  unfold zTer1
  by_cases c : A 33 d = 0
  · rw [if_pos c, if_pos c]; rfl
  · rw [if_neg c, if_neg c]; rfl
theorem zWk_268 (hb : h.2.2.2.2 0 ≤ a) {m k : Nat} : ∀ d j x, d < j → d < 7 → (fX7_worked_268 N (fX7_worked_14 N a m) a j 0 (nI d) (nI k) x).1 (rH h a (F, L, A, M)) = zWW N h a F L M m (zPw0 (A 34) d x).1 (k + 1) (zTer1 A (zPw0 (A 34) d x))
  | 0, j + 1, x, hj, hd => by
    rw [fX7_worked_268, zI, if_pos (by decide), zWk_300 hb hd]
    rfl
  | d + 1, j + 1, x, hj, hd => by
    have ih := fun x => zWk_268 hb (m := m) (k := k) d j x (by omega) (by omega)
    rw [fX7_worked_268]
    unfold fX7_worked_292
    simp (disch := omega) only [zI, zc0_ge, if_neg (show ¬ d + 1 ≤ 0 by omega), zr_g34, zr_a34, zm1, Nat.add_sub_cancel]
    rw [zPw0]
    by_cases c : A 34 (d + 1) = 1
    · rw [if_pos c, if_pos c]
      by_cases c2 : x = 0
      · rw [if_pos c2, if_pos c2]; exact ih 1
      · rw [if_neg c2, if_neg c2]; exact ih 0
    · rw [if_neg c, if_neg c]
      exact zWk_300 hb hd x
end
