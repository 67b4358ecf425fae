/-! PURE 66: expressions as objects: what they come to -/
set_option maxRecDepth 100000
/-- an expression object comes to v in every heap that is as H where P -/
def zXe (N : Nat) (H : jH) (P : Nat → Prop) (D e : Nat) (v : zVV) : Prop := ∀ H2 : jH, (∀ q x, P q → H.1 q = some x → H2.1 q = some x) → ∀ (fa fo : Nat) (f : Nat → Int32), H2.1 fa = some (.inl (5, [.ref fo])) → H2.1 fo = some (.inr (0, 4, .inl f)) → ∀ d, D ≤ d → (e_of N d e (some fa)).1 H2 = some (v (f 0) (f 1) (f 2) (f 3), H2)
theorem zXe.mo {N D D' e : Nat} {H H' : jH} {P P' : Nat → Prop} {v : zVV} (h : zXe N H P D e v) (hP : ∀ q, P q → P' q ∧ H'.1 q = H.1 q) (hD : D ≤ D') : zXe N H' P' D' e v := fun H2 h2 fa fo f a1 a2 d hd => h H2 (fun q x hq hx => h2 q x (hP q hq).1 ((hP q hq).2.trans hx)) fa fo f a1 a2 d (by omega)
section
variable {N : Nat} {H : jH} {P : Nat → Prop} {q : Nat}
theorem zXe_n {x : Int32} (hq : P q) (h : H.1 q = some (.inl (18, [.int x]))) : zXe N H P 1 q (fun _ _ _ _ => x) := by
  intro H2 h2 fa fo f a1 a2 d hd
  obtain ⟨d, rfl⟩ : ∃ d', d = d' + 1 := ⟨d - 1, by omega⟩
  have e1 := h2 q _ hq h
  rw [e_of]
  unfold d_Expression_of fX16_of
  rw [zcl (c := 18) (by unfold jcd; rw [e1]; rfl), zI, if_neg (by decide), zI, if_pos rfl, zgI e1 (by decide) rfl]
  rfl
theorem zXe_f {k : Nat} (hk : k < 4) (hq : P q) (h : H.1 q = some (.inl (17, [.int (nI k)]))) : zXe N H P 1 q (zfv k) := by
  intro H2 h2 fa fo f a1 a2 d hd
  obtain ⟨d, rfl⟩ : ∃ d', d = d' + 1 := ⟨d - 1, by omega⟩
  have e1 := h2 q _ hq h
  rw [e_of]
  unfold d_Expression_of fX15_of
  rw [zcl (c := 17) (by unfold jcd; rw [e1]; rfl), zI, if_pos rfl, zgRs a1 (by decide) rfl, zgI e1 (by decide) rfl, zaI a2 hk (by decide)]
  have : k = 0 ∨ k = 1 ∨ k = 2 ∨ k = 3 := by omega
  rcases this with e | e | e | e <;> rw [e] <;> rfl
theorem zXe_t {D e : Nat} {v : zVV} (hq : P q) (h : H.1 q = some (.inl (19, [.ref e]))) (he : zXe N H P D e v) : zXe N H P (D + 1) q (zvn v) := by
  intro H2 h2 fa fo f a1 a2 d hd
  obtain ⟨d, rfl⟩ : ∃ d', d = d' + 1 := ⟨d - 1, by omega⟩
  have e1 := h2 q _ hq h
  have e2 := he H2 h2 fa fo f a1 a2 d (by omega)
  rw [e_of]
  unfold d_Expression_of fX17_of fX17_of_16
  rw [zcl (c := 19) (by unfold jcd; rw [e1]; rfl), zI, if_neg (by decide), zI, if_neg (by decide), zI, if_pos rfl, zgRs e1 (by decide) rfl, znn, jB_eq e2, zI]
  unfold zvn
  by_cases c : v (f 0) (f 1) (f 2) (f 3) = 0
  · rw [if_pos c, if_pos c]; rfl
  · rw [if_neg c, if_neg c]; rfl
end
/-- what a link makes of two numbers, by its class -/
def zOpf (c : Nat) : Int32 → Int32 → Int32 := if c = 21 then fun x y => x * y else if c = 22 then fun x y => x + y else if c = 23 then fun x y => x - y else if c = 24 then fun x y => if x < y then 1 else 0 else if c = 25 then fun x y => if x = y then 1 else 0 else if c = 26 then fun x y => if ¬ x = 0 ∧ ¬ y = 0 then 1 else 0 else fun x y => if ¬ x = 0 ∨ ¬ y = 0 then 1 else 0
theorem zlw {c l : Nat} {H : jH} {fs : List Value} (h : H.1 l = some (.inl (c, fs))) (h1 : 21 ≤ c) (h2 : c ≤ 27) (x y : Int32) : (d_Link_with l x y).1 H = some (zOpf c x y, H) := by
  have hc : c = 21 ∨ c = 22 ∨ c = 23 ∨ c = 24 ∨ c = 25 ∨ c = 26 ∨ c = 27 := by omega
  unfold d_Link_with
  rw [zcl (c := c) (by unfold jcd; rw [h]; rfl)]
  rcases hc with e | e | e | e | e | e | e <;> rw [e]
  · rfl
  · rfl
  · rfl
  · show (fX23_with l x y).1 H = some (if x < y then 1 else 0, H)
    unfold fX23_with fX23_with_10
    rw [zI]
    by_cases c : x < y
    · rw [if_pos c, if_neg (Int32.not_le.mpr c)]; rfl
    · rw [if_neg c, if_pos (Int32.not_lt.mp c)]; rfl
  · show (fX24_with l x y).1 H = some (if x = y then 1 else 0, H)
    unfold fX24_with fX24_with_10
    rw [zI]
    by_cases c : x = y
    · rw [if_pos c, if_pos c]; rfl
    · rw [if_neg c, if_neg c]; rfl
  · show (fX25_with l x y).1 H = some (if ¬ x = 0 ∧ ¬ y = 0 then 1 else 0, H)
    unfold fX25_with fX25_with_12 fX25_with_13
    rw [zI]
    by_cases c : x = 0
    · rw [if_pos c, if_neg (fun q => q.1 c)]; rfl
    · rw [if_neg c, zI]
      by_cases c2 : y = 0
      · rw [if_pos c2, if_neg (fun q => q.2 c2)]; rfl
      · rw [if_neg c2, if_pos ⟨c, c2⟩]; rfl
  · show (fX26_with l x y).1 H = some (if ¬ x = 0 ∨ ¬ y = 0 then 1 else 0, H)
    unfold fX26_with fX26_with_8 fX26_with_13
    rw [zI]
    by_cases c : x = 0
    · rw [if_pos c, zI]
      by_cases c2 : y = 0
      · rw [if_pos c2, if_neg (fun q => q.elim (fun q => q c) (fun q => q c2))]; rfl
      · rw [if_neg c2, if_pos (Or.inr c2)]; rfl
    · rw [if_neg c, if_pos (Or.inl c)]; rfl
/-- a chain's value behind k links -/
def zCvv (v0 : zVV) (cl : Nat → Nat) (ww : Nat → zVV) : Nat → zVV
  | 0 => v0
  | k + 1 => zv2 (zOpf (cl k)) (zCvv v0 cl ww k) (ww k)
/-- a chain: its first, its list, links by class and what they come to; where P is known of its parts -/
def zCn (N : Nat) (H : jH) (P : Nat → Prop) (D q0 cq p arr cap k : Nat) (v0 : zVV) (cl : Nat → Nat) (ww : Nat → zVV) : Prop := H.1 cq = some (.inl (20, [.ref q0, .ref p])) ∧ zXe N H P D q0 v0 ∧ ∃ f, zAL H p arr cap k f ∧ ∀ j, j < k → ∃ l e, f j = some l ∧ P l ∧ H.1 l = some (.inl (cl j, [.ref e])) ∧ 21 ≤ cl j ∧ cl j ≤ 27 ∧ zXe N H P D e (ww j)
theorem zXe_c {N : Nat} {H : jH} {P P' : Nat → Prop} {D q0 cq p arr cap k : Nat} {v0 : zVV} {cl : Nat → Nat} {ww : Nat → zVV} (hN : k < N) (h : zCn N H P D q0 cq p arr cap k v0 cl ww) (hP : ∀ q, P q → P' q) (h1 : P' cq) (h2 : P' p) (h3 : P' arr) : zXe N H P' (D + 1) cq (zCvv v0 cl ww k) := by
  intro H2 hh fa fo f a1 a2 d hd
  obtain ⟨d, rfl⟩ : ∃ d', d = d' + 1 := ⟨d - 1, by omega⟩
  obtain ⟨b1, b2, g, ⟨⟨mc, c1⟩, c2, c3, c4, c5, -⟩, b4⟩ := h
  have e1 := hh cq _ h1 b1
  have e2 := hh p _ h2 c1
  have e3 := hh arr _ h3 c2
  have e4 := b2 H2 (fun q x hq => hh q x (hP q hq)) fa fo f a1 a2 d (by omega)
  have loop : ∀ (j m i : Nat), i + j = k → j < m → (fX18_of_11 N (e_of N d) cq m (some fa) (zCvv v0 cl ww i (f 0) (f 1) (f 2) (f 3)) (nI i)).1 H2 = some (zCvv v0 cl ww k (f 0) (f 1) (f 2) (f 3), H2) := by
    intro j
    induction j with
    | zero =>
      intro m i hi hm
      obtain ⟨m, rfl⟩ : ∃ m', m = m' + 1 := ⟨m - 1, by omega⟩
      rw [fX18_of_11, zgRs e1 (by decide) rfl, zrc (c := 4) (by unfold jcd; rw [e2]; rfl), zal_size e2, zI, if_pos (nI_le (by omega) (by omega)), show i = k by omega]
      rfl
    | succ j ih =>
      intro m i hi hm
      obtain ⟨m, rfl⟩ : ∃ m', m = m' + 1 := ⟨m - 1, by omega⟩
      obtain ⟨l, e, f1, f2, f3, f4, f5, f6⟩ := b4 i (by omega)
      have e5 := hh l _ (hP l f2) f3
      have e6 := f6 H2 (fun q x hq => hh q x (hP q hq)) fa fo f a1 a2 d (by omega)
      have hcl : jcd H2 l = some (cl i) := by unfold jcd; rw [e5]; rfl
      have hmem : cl i ∈ okl_WornSkin_Link := by
        have hc : cl i = 21 ∨ cl i = 22 ∨ cl i = 23 ∨ cl i = 24 ∨ cl i = 25 ∨ cl i = 26 ∨ cl i = 27 := by omega
        rcases hc with e | e | e | e | e | e | e <;> rw [e] <;> decide
      have eon : ∀ x : Int32, (d_Link_on (e_of N d) l x (some fa)).1 H2 = some (zOpf (cl i) x (ww i (f 0) (f 1) (f 2) (f 3)), H2) := by
        intro x
        have e19 : (fX19_on (e_of N d) l x (some fa)).1 H2 = some (zOpf (cl i) x (ww i (f 0) (f 1) (f 2) (f 3)), H2) := by
          unfold fX19_on
          rw [zgRs e5 hmem rfl, znn, jB_eq e6, jB_eq (zlw e5 f4 f5 _ _)]
          rfl
        unfold d_Link_on
        rw [zcl hcl]
        have hc : cl i = 21 ∨ cl i = 22 ∨ cl i = 23 ∨ cl i = 24 ∨ cl i = 25 ∨ cl i = 26 ∨ cl i = 27 := by omega
        rcases hc with e | e | e | e | e | e | e <;> rw [e] at e19 ⊢ <;> exact e19
      rw [fX18_of_11, zgRs e1 (by decide) rfl, zrc (c := 4) (by unfold jcd; rw [e2]; rfl), zal_size e2, zI, if_neg (nI_ge (by omega) (by omega)), zgRs e1 (by decide) rfl, zrc (c := 4) (by unfold jcd; rw [e2]; rfl), zal_get e2 e3 (by omega) c4 (by omega), f1, zck hcl hmem, znn, jB_eq (eon _), zc1_da]
      exact ih m (i + 1) (by omega) (by omega)
  rw [e_of]
  unfold d_Expression_of fX18_of
  rw [zcl (c := 20) (by unfold jcd; rw [e1]; rfl), zI, if_neg (by decide), zI, if_neg (by decide), zI, if_neg (by decide), zI, if_pos rfl, zgRs e1 (by decide) rfl, znn, jB_eq e4]
  exact loop k N 0 (by omega) hN
