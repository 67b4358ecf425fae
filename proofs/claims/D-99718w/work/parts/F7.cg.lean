/-! PURE 81: all that the component keeps -/
set_option maxRecDepth 100000
theorem zI_ex (x : Int32) : ∃ n, x = nI n := ⟨x.toUInt32.toNat, by
  apply Int32.toBitVec_inj.mp
  show x.toBitVec = BitVec.ofNat 32 x.toBitVec.toNat
  apply BitVec.eq_of_toNat_eq
  rw [BitVec.toNat_ofNat, Nat.mod_eq_of_lt x.toBitVec.isLt]⟩
/-- a cell of kind t that the component made -/
def zOw (w : Nat) (τ : Nat → Nat) (H : jH) (q t : Nat) : Prop := τ q = t ∧ w ≤ q ∧ (q < w + 40 ∨ w + 86 ≤ q) ∧ q < H.2.1
def zFx (i : Nat) : Prop := i ≤ 10 ∨ (27 ≤ i ∧ i ≤ 30) ∨ (35 ≤ i ∧ i ≤ 39)
/-- the shelf, the trial, facts, and the component's own cells -/
def zG1 (N w : Nat) (k : zKA) (X : Bool → zSS) (f : Nat → Int32) (R : zCR) (τ : Nat → Nat) (B : zLB) (S : zMS) (H : jH) : Prop := 3000 ≤ N ∧ k.1 0 = w ∧ zKok k ∧ (H.2.2.2.2 0 ≤ w ∧ w + 86 ≤ H.2.1) ∧ H = cH H k (X, f, R) ∧ zSm k B S (X true) ∧ (∀ i, i < 40 → zFx i → τ (w + i) = 6) ∧ (∀ i, i < 4 → zOw w τ H (k.1 1 + i) 1) ∧ zOw w τ H (k.1 2) 2
/-- the library, in cells that aren't changed -/
def zCbp (k : zKA) (B : zLB) (Z : Nat → Option jC) : Prop := (∃ v0 v1, Z (k.1 3) = some (.inl (3, [v0, v1, .ref (k.1 4), .ref (k.1 7), .ref (k.1 10), .int (nI (zD B)), va_rf k.2.2.2, .ref (k.1 11)]))) ∧ ((∃ v, Z (k.1 4) = some (.inl (4, [v, .ref (k.1 5), .int (nI (zS B))]))) ∧ (∃ f, Z (k.1 5) = some (.inr (4, k.1 6, zRf f)) ∧ ∀ i, i < zS B → f i = some (k.2.1 i)) ∧ zS B ≤ k.1 6 ∧ k.1 6 < 2 ^ 31 ∧ ∀ i, i < zS B → Z (k.2.1 i) = some (.inl (12, [.int (nI (zLi B i)), .int (nI (zTh0 B i)), .int (nI (zHo B i))]))) ∧ ((∃ v, Z (k.1 7) = some (.inl (4, [v, .ref (k.1 8), .int (nI (zT B))]))) ∧ (∃ f, Z (k.1 8) = some (.inr (4, k.1 9, zRf f)) ∧ ∀ i, i < zT B → f i = some (k.2.2.1 i)) ∧ zT B ≤ k.1 9 ∧ k.1 9 < 2 ^ 31 ∧ ∀ i, i < zT B → Z (k.2.2.1 i) = some (.inl (13 + zKi B i, [.int (nI (zGa B i)), .int (nI (zLo B i))]))) ∧ (∃ d, Z (k.1 10) = some (.inr (0, 12, .inl d)) ∧ ∀ i, i < zD B → d i = nI (zDa B i)) ∧ Z (k.1 11) = some (.inl (5, [.ref (k.1 2)]))
def zEz (N : Nat) (k : zKA) (B : zLB) (Z : Nat → Option jC) : Prop := (zEv B = none ∧ k.2.2.2 = none) ∨ ∃ v e, zEv B = some v ∧ k.2.2.2 = some e ∧ ∀ H2 : jH, (∀ q x, Z q = some x → H2.1 q = some x) → ∀ (fa fo : Nat) (f : Nat → Int32), H2.1 fa = some (.inl (5, [.ref fo])) → H2.1 fo = some (.inr (0, 4, .inl f)) → ∀ d, 24 ≤ d → (e_of N d e (some fa)).1 H2 = some (v (f 0) (f 1) (f 2) (f 3), H2)
def zG2 (N : Nat) (k : zKA) (B : zLB) (nm : (Nat → Nat) × (Nat → Nat)) (Z : Nat → Option jC) : Prop := zLok B ∧ zCbp k B Z ∧ zEz N k B Z ∧ ∃ pn po what name, zNl (Z, 0, 0, 0, fun _ => 0) (k.1 3) pn po (zS B + zT B) what name ∧ zNo (zS B) (zT B) nm.1 nm.2 (zS B + zT B) what name
def zGY (p : Nat) (Y : zYy) (Z : Nat → Option jC) : Prop := ∃ l, zLis Z p Y l
def zG3 (w : Nat) (τ : Nat → Nat) (Z : Nat → Option jC) (H : jH) : Prop := ∀ q e, Z q = some e → H.1 q = some e ∧ (q < H.2.2.2.2 0 ∨ zOw w τ H q 0)
/-- what is seen -/
def zG4 (w : Nat) (τ : Nat → Nat) (Z : Nat → Option jC) (E : zEy) (p : Nat) (H : jH) : Prop := ∃ (arr cap : Nat) (f : Nat → Option Nat) (r : Nat → Nat), zAL H p arr cap E.1 f ∧ zOw w τ H p 3 ∧ zOw w τ H arr 3 ∧ (1 ≤ cap ∧ cap ≤ 20) ∧ ∀ i, i < E.1 → f i = some (r i) ∧ ∃ b, Z (r i) = some (.inr (0, 4, .inl b)) ∧ b 0 = nI (E.2 i).1 ∧ b 1 = nI (E.2 i).2.1 ∧ b 2 = nI (E.2 i).2.2.1 ∧ b 3 = zb (E.2 i).2.2.2
/-- shelves behind -/
def zG5 (w : Nat) (k : zKA) (B : zLB) (τ : Nat → Nat) (U : zUy) (H : jH) : Prop := ∃ (arr cap : Nat) (f : Nat → Option Nat) (bs : Nat → Nat) (xs : Nat → zSS), zAL H (w + 35) arr cap U.1 f ∧ (0 < cap → zOw w τ H arr 4) ∧ cap ≤ 40 ∧ (∀ j, j < U.1 → f j = some (bs j) ∧ w + 86 ≤ bs j ∧ (∀ i, i < 4 → zOw w τ H (bs j + i) 5 ∧ H.1 (bs j + i) = zS4 (bs j) (xs j) (bs j + i)) ∧ zSm k B (U.2 j) (xs j)) ∧ ∀ i j, i < j → j < U.1 → bs i + 4 ≤ bs j
/-- marks -/
def zG6 (w : Nat) (k : zKA) (B : zLB) (Z : Nat → Option jC) (Mk : Nat → Option (zMS × zYy × zEy)) (H : jH) : Prop := ∃ mf, H.1 (w + 39) = some (.inr (6, 4, zRf mf)) ∧ ∀ j, j < 4 → (Mk j = none ∧ mf j = none) ∨ ∃ (x : zMS × zYy × zEy) (q sh ln se : Nat) (xs : zSS) (l r : Nat → Nat), Mk j = some x ∧ mf j = some q ∧ Z q = some (.inl (32, [.ref sh, .ref ln, .ref se])) ∧ (∀ i, i < 4 → Z (sh + i) = zS4 sh xs (sh + i)) ∧ zSm k B x.1 xs ∧ zLis Z ln x.2.1 l ∧ zSe Z se x.2.2 r
/-- the reader -/
def zG7 (w : Nat) (T : (Nat → Nat) × Nat) (H : jH) : Prop := (∃ dr i d, zRt w T.1 T.2 dr (nI T.2) i d H) ∧ zRa w H ∧ ∃ so pl va, H.1 (w + 8) = some (.inr (0, 1001, .inl so)) ∧ H.1 (w + 9) = some (.inr (1, 1001, .inr (.inl va))) ∧ H.1 (w + 10) = some (.inr (0, 1001, .inl pl))
/-- the component holds it -/
def zCG (N w : Nat) (G : zGS) (H : jH) : Prop := ∃ k X f R Z τ, zG1 N w k X f R τ G.1.1 G.1.2 H ∧ zG2 N k G.1.1 G.2.1 Z ∧ zGY R.2.2.2.2.1 G.2.2.2.1 Z ∧ zG3 w τ Z H ∧ zG4 w τ Z G.2.2.2.2.1 R.2.2.2.2.2 H ∧ zG5 w k G.1.1 τ G.2.2.2.2.2.1 H ∧ zG6 w k G.1.1 Z G.2.2.2.2.2.2 H ∧ zG7 w G.2.2.1 H
section
variable {N w : Nat} {k : zKA} {X : Bool → zSS} {f : Nat → Int32} {R : zCR} {τ τ1 : Nat → Nat} {Z Z1 : Nat → Option jC} {B : zLB} {S : zMS} {H H1 : jH} {nm : (Nat → Nat) × (Nat → Nat)} {T : (Nat → Nat) × Nat} {Y : zYy} {E : zEy} {U : zUy} {Mk : Nat → Option (zMS × zYy × zEy)} {p : Nat}
theorem zOw.le {q t : Nat} (h : zOw w τ H q t) (ht : ∀ q, q < H.2.1 → τ1 q = τ q) (hl : H.2.1 ≤ H1.2.1) : zOw w τ1 H1 q t := ⟨(ht q h.2.2.2).trans h.1, h.2.1, h.2.2.1, by have := h.2.2.2; omega⟩
theorem zOw.l5 {q t : Nat} (h : zOw w τ H q t) (h5 : t ≠ 5) (ht : ∀ q, q < H.2.1 → τ q ≠ 5 → τ1 q = τ q) (hl : H.2.1 ≤ H1.2.1) : zOw w τ1 H1 q t := ⟨(ht q h.2.2.2 (by rw [h.1]; exact h5)).trans h.1, h.2.1, h.2.2.1, by have := h.2.2.2; omega⟩
/-- it lies outside of the cells that calls work with -/
theorem zG1.cf (h : zG1 N w k X f R τ B S H) {q : Nat} (hq : q < w ∨ (τ q ≠ 1 ∧ τ q ≠ 2 ∧ τ q ≠ 6)) : zcf k q := by
  obtain ⟨-, h0, hk, -, -, -, h6, h1, h2⟩ := h
  obtain ⟨k1, k2, k3⟩ := hk
  rw [h0] at k1 k2
  have ne : ∀ i, i < 40 → zFx i → q ≠ w + i := fun i hi hx e => by
    rcases hq with hq | hq
    · omega
    · rw [e] at hq; exact hq.2.2 (h6 i hi hx)
  unfold zcf
  rw [h0]
  refine ⟨ne 0 (by decide) (Or.inl (by decide)), ?_, ?_, ?_, ?_⟩
  · rcases Nat.lt_or_ge q (w + 27) with c | c
    · exact Or.inl c
    · rcases Nat.lt_or_ge q (w + 31) with d | d
      · exact absurd (by omega) (ne (q - w) (by omega) (Or.inr (Or.inl ⟨by omega, by omega⟩)))
      · exact Or.inr d
  · rcases Nat.lt_or_ge q (w + 36) with c | c
    · exact Or.inl c
    · rcases Nat.lt_or_ge q (w + 39) with d | d
      · exact absurd (by omega) (ne (q - w) (by omega) (Or.inr (Or.inr ⟨by omega, by omega⟩)))
      · exact Or.inr d
  · rcases Nat.lt_or_ge q (k.1 1) with c | c
    · exact Or.inl c
    · rcases Nat.lt_or_ge q (k.1 1 + 4) with d | d
      · exfalso
        have := (h1 (q - k.1 1) (by omega)).1
        rw [show k.1 1 + (q - k.1 1) = q by omega] at this
        rcases hq with hq | hq
        · omega
        · exact hq.1 this
      · exact Or.inr d
  · intro e
    rcases hq with hq | hq
    · have := h2.2.1
      omega
    · rw [e] at hq; exact hq.2.1 h2.1
theorem zG1.cfZ (h : zG1 N w k X f R τ B S H) (h3 : zG3 w τ Z H) : zVw H k Z := fun q e he => by
  obtain ⟨a1, a2⟩ := h3 q e he
  refine ⟨a1, h.cf ?_⟩
  rcases a2 with a2 | a2
  · have := h.2.2.2.1.1
    exact Or.inl (by omega)
  · rw [a2.1]; exact Or.inr ⟨by decide, by decide, by decide⟩
theorem zCb.of (hb : zCbp k B Z) (hv : zVw H k Z) (hB : zLok B) : zCb k B H := by
  obtain ⟨⟨v0, v1, a1⟩, ⟨⟨v2, b1⟩, ⟨g, b2, b3⟩, b4, b5, b6⟩, ⟨⟨v3, c1⟩, ⟨g', c2, c3⟩, c4, c5, c6⟩, ⟨d, d1, d2⟩, e1⟩ := hb
  exact ⟨⟨v0, v1, (hv _ _ a1).1⟩, (hv _ _ a1).2, ⟨⟨v2, (hv _ _ b1).1⟩, (hv _ _ b1).2, ⟨g, (hv _ _ b2).1, b3⟩, (hv _ _ b2).2, b4, b5, fun i hi => hv _ _ (b6 i hi)⟩, ⟨⟨v3, (hv _ _ c1).1⟩, (hv _ _ c1).2, ⟨g', (hv _ _ c2).1, c3⟩, (hv _ _ c2).2, c4, c5, fun i hi => hv _ _ (c6 i hi)⟩, ⟨⟨d, (hv _ _ d1).1, d2⟩, (hv _ _ d1).2⟩, (hv _ _ e1).1, (hv _ _ e1).2, hB⟩
theorem zCe.of (he : zEz N k B Z) (hb : zCbp k B Z) (hv : zVw H k Z) (hk : zKok k) : zCe N k B H := by
  unfold zCe
  rcases he with ⟨e1, e2⟩ | ⟨v, e, e1, e2, e3⟩
  · rw [e1, e2]; trivial
  · rw [e1, e2]
    intro X f R
    have hf : (cH H k (X, f, R)).1 (k.1 11) = some (.inl (5, [.ref (k.1 2)])) := (cH_fr (hv _ _ hb.2.2.2.2).2).trans (hv _ _ hb.2.2.2.2).1
    exact e3 _ (fun q x hx => (cH_fr (hv q x hx).2).trans (hv q x hx).1) (k.1 11) (k.1 2) f hf (zc_fo hk) 40 (by decide)
theorem zG1.cx (h : zG1 N w k X f R τ B S H) (h2 : zG2 N k B nm Z) (h3 : zG3 w τ Z H) (hS : zSok B S) : zCX N H k true B S X := by
  have hv := h.cfZ h3
  exact ⟨h.1, h.2.2.1, h2.1, hS, zCb.of h2.2.1 hv h2.1, zCe.of h2.2.2.1 h2.2.1 hv h.2.2.1, h.2.2.2.2.2.1, by rw [h.2.1]; exact h.2.2.2.1.1⟩
theorem cH_cH (H : jH) (k : zKA) (c c' : zCS) : cH (cH H k c) k c' = cH H k c' := by
  refine Prod.ext (funext fun q => ?_) rfl
  show zOr (zS4 (k.1 1) (c'.1 true) q) (zOr (zS4 (k.1 0 + 27) (c'.1 false) q) (zOr (zMi k c' q) (zOr (zS4 (k.1 1) (c.1 true) q) (zOr (zS4 (k.1 0 + 27) (c.1 false) q) (zOr (zMi k c q) (H.1 q)))))) = zOr (zS4 (k.1 1) (c'.1 true) q) (zOr (zS4 (k.1 0 + 27) (c'.1 false) q) (zOr (zMi k c' q) (H.1 q)))
  have s4 : ∀ (p : Nat) (x y : zSS), zS4 p x q = none → zS4 p y q = none := fun p x y => by
    unfold zS4
    split
    · exact fun h => by cases h
    · split
      · exact fun h => by cases h
      · split
        · exact fun h => by cases h
        · split
          · exact fun h => by cases h
          · exact fun _ => rfl
  have mi : zMi k c' q = none → zMi k c q = none := by
    unfold zMi
    split
    · exact fun h => by cases h
    · split
      · exact fun h => by cases h
      · split
        · exact fun h => by cases h
        · split
          · exact fun h => by cases h
          · split
            · exact fun h => by cases h
            · exact fun _ => rfl
  cases h1 : zS4 (k.1 1) (c'.1 true) q with
  | some e => rfl
  | none =>
    cases h2 : zS4 (k.1 0 + 27) (c'.1 false) q with
    | some e => rfl
    | none =>
      cases h3 : zMi k c' q with
      | some e => rfl
      | none =>
        rw [s4 _ _ (c.1 true) h1, s4 _ _ (c.1 false) h2, mi h3]
        rfl
/-! what is left of it if other cells change -/
theorem zG3.fr (h : zG3 w τ Z H) (hf : ∀ q, (q < H.2.2.2.2 0 ∨ zOw w τ H q 0) → H1.1 q = H.1 q) (ht : ∀ q, q < H.2.1 → τ q ≠ 5 → τ1 q = τ q) (hl : jLe H H1) : zG3 w τ1 Z H1 := fun q e he => by
  obtain ⟨a1, a2⟩ := h q e he
  refine ⟨(hf q a2).trans a1, ?_⟩
  rw [hl.2.2.2.1]
  rcases a2 with a2 | a2
  · exact Or.inl a2
  · exact Or.inr (a2.l5 (by decide) ht hl.1)
theorem zG4.fr (h : zG4 w τ Z E p H) (hf : ∀ q, zOw w τ H q 3 → H1.1 q = H.1 q) (ht : ∀ q, q < H.2.1 → τ q ≠ 5 → τ1 q = τ q) (hl : jLe H H1) (hZ : ∀ q e, Z q = some e → Z1 q = some e) : zG4 w τ1 Z1 E p H1 := by
  obtain ⟨arr, cap, g, r, a1, a2, a3, a4, a5⟩ := h
  refine ⟨arr, cap, g, r, a1.up (hf _ a2) (hf _ a3) hl, a2.l5 (by decide) ht hl.1, a3.l5 (by decide) ht hl.1, a4, fun i hi => ?_⟩
  obtain ⟨b1, b, b2, b3⟩ := a5 i hi
  exact ⟨b1, b, hZ _ _ b2, b3⟩
theorem zG5.fr (h : zG5 w k B τ U H) (hc : ∀ q, q < H.2.2.2.2 0 → H1.1 q = H.1 q) (hK : H.2.2.2.2 52 < H.2.2.2.2 0) (h35 : H1.1 (w + 35) = H.1 (w + 35)) (hf : ∀ q, (zOw w τ H q 4 ∨ zOw w τ H q 5) → H1.1 q = H.1 q) (ht : ∀ q, q < H.2.1 → τ1 q = τ q) (hl : jLe H H1) : zG5 w k B τ1 U H1 := by
  obtain ⟨arr, cap, g, bs, xs, a1, a2, a3, a4, a5⟩ := h
  have ha : H1.1 arr = H.1 arr := by
    rcases Nat.eq_zero_or_pos cap with c | c
    · exact hc arr (by rw [a1.2.2.2.2.2.2.2.1 c]; exact hK)
    · exact hf arr (Or.inl (a2 c))
  refine ⟨arr, cap, g, bs, xs, a1.up h35 ha hl, fun c => (a2 c).le ht hl.1, a3, fun j hj => ?_, a5⟩
  obtain ⟨b1, b2, b3, b4⟩ := a4 j hj
  exact ⟨b1, b2, fun i hi => ⟨(b3 i hi).1.le ht hl.1, (hf _ (Or.inr (b3 i hi).1)).trans (b3 i hi).2⟩, b4⟩
theorem zLis.mo {g g' : Nat → Option jC} {p : Nat} {Y : zYy} {l : Nat → Nat} (h : zLis g p Y l) (hg : ∀ q e, g q = some e → g' q = some e) : zLis g' p Y l := by
  obtain ⟨⟨v, arr, cap, ff, a1, a2, a3, a4, a5⟩, b⟩ := h
  exact ⟨⟨v, arr, cap, ff, hg _ _ a1, hg _ _ a2, a3, a4, a5⟩, fun i hi => hg _ _ (b i hi)⟩
theorem zSe.mo {g g' : Nat → Option jC} {p : Nat} {E : zEy} {r : Nat → Nat} (h : zSe g p E r) (hg : ∀ q e, g q = some e → g' q = some e) : zSe g' p E r := by
  obtain ⟨⟨v, arr, cap, ff, a1, a2, a3, a4, a5⟩, b⟩ := h
  refine ⟨⟨v, arr, cap, ff, hg _ _ a1, hg _ _ a2, a3, a4, a5⟩, fun i hi => ?_⟩
  obtain ⟨x, b1, b2⟩ := b i hi
  exact ⟨x, hg _ _ b1, b2⟩
theorem zS4_ex (p : Nat) (x : zSS) {i : Nat} (hi : i < 4) : ∃ e, zS4 p x (p + i) = some e := by
  have : i = 0 ∨ i = 1 ∨ i = 2 ∨ i = 3 := by omega
  unfold zS4
  rcases this with e | e | e | e <;> subst e
  · rw [if_pos (by omega)]; exact ⟨_, rfl⟩
  · rw [if_neg (by omega), if_pos (by omega)]; exact ⟨_, rfl⟩
  · rw [if_neg (by omega), if_neg (by omega), if_pos (by omega)]; exact ⟨_, rfl⟩
  · rw [if_neg (by omega), if_neg (by omega), if_neg (by omega), if_pos (by omega)]; exact ⟨_, rfl⟩
theorem zG6.fr (h : zG6 w k B Z Mk H) (h39 : H1.1 (w + 39) = H.1 (w + 39)) (hZ : ∀ q e, Z q = some e → Z1 q = some e) : zG6 w k B Z1 Mk H1 := by
  obtain ⟨mf, a1, a2⟩ := h
  refine ⟨mf, h39.trans a1, fun j hj => ?_⟩
  rcases a2 j hj with b | ⟨x, q, sh, ln, se, xs, l, r, b1, b2, b3, b4, b5, b6, b7⟩
  · exact Or.inl b
  · refine Or.inr ⟨x, q, sh, ln, se, xs, l, r, b1, b2, hZ _ _ b3, fun i hi => ?_, b5, b6.mo hZ, b7.mo hZ⟩
    obtain ⟨e, he⟩ := zS4_ex sh xs hi
    rw [he]
    exact hZ _ _ ((b4 i hi).trans he)
theorem zG7.fr (h : zG7 w T H) (hc : ∀ q, q < H.2.2.2.2 0 → H1.1 q = H.1 q) (hf : ∀ q, w < q → q < w + 11 → H1.1 q = H.1 q) (hl : jLe H H1) : zG7 w T H1 := by
  obtain ⟨⟨dr, i, d, k1, k2, ⟨tp, k3, k4⟩, k5, k6, k7⟩, ⟨⟨g2, a2, b2⟩, ⟨g3, a3, b3⟩, ⟨g4, a4, b4⟩, ⟨g5, a5, b5⟩, g6, a6, b6⟩, so, pl, va, s1, s2, s3⟩ := h
  have hK := hl.2.2.2.1
  have h1 := hl.1
  refine ⟨⟨dr, i, d, k1.fr hc hK, (hf _ (by omega) (by omega)).trans k2, ⟨tp, (hf _ (by omega) (by omega)).trans k3, k4⟩, k5, by rw [hK]; exact k6, by omega⟩, ?_, so, pl, va, (hf _ (by omega) (by omega)).trans s1, (hf _ (by omega) (by omega)).trans s2, (hf _ (by omega) (by omega)).trans s3⟩
  unfold zRa
  rw [hK]
  exact ⟨⟨g2, (hf _ (by omega) (by omega)).trans a2, b2⟩, ⟨g3, (hf _ (by omega) (by omega)).trans a3, b3⟩, ⟨g4, (hf _ (by omega) (by omega)).trans a4, b4⟩, ⟨g5, (hf _ (by omega) (by omega)).trans a5, b5⟩, g6, (hf _ (by omega) (by omega)).trans a6, b6⟩
end
