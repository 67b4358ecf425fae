/-! PURE 9: the component's library, its reading -/
set_option maxRecDepth 100000
abbrev zRf (f : Nat → Option Nat) : jX := .inr (.inr (.inr (.inr f)))
theorem zal_size {α : Type} {p arr n : Nat} {v : Value} {H : jH} (h1 : H.1 p = some (.inl (4, [v, .ref arr, .int (nI n)]))) (K : Int32 → jM α) : (jB (fJ2_size p) K).1 H = (K (nI n)).1 H := by
  unfold fJ2_size
  rw [zA, zgI h1 (by decide) rfl]
  rfl
theorem zal_get {α : Type} {p arr cap n i : Nat} {v : Value} {f : Nat → Option Nat} {H : jH} (h1 : H.1 p = some (.inl (4, [v, .ref arr, .int (nI n)]))) (h2 : H.1 arr = some (.inr (4, cap, zRf f))) (hi : i < n) (hn : n ≤ cap) (hc : cap < 2 ^ 31) (K : Option Nat → jM α) : (jB (fJ2_get p (nI i)) K).1 H = (K (f i)).1 H := by
  have a1 : ¬ nI i < 0 := nI_pos (by omega)
  have a2 : nI i < nI n := nI_lt hi (by omega)
  have e1 : (fJ3_checkIndex (nI i) (nI n)).1 H = some (nI i, H) := by
    unfold fJ3_checkIndex fJ4_checkIndex
    rw [if_neg a1, if_pos a2]
    rfl
  have e2 : (fJ2_elementData p (nI i)).1 H = some (f i, H) := by
    unfold fJ2_elementData
    rw [zgRs h1 (by decide) rfl, zaR h2 (Nat.lt_of_lt_of_le hi hn) hc]
    rfl
  unfold fJ2_get
  rw [zA, zgI h1 (by decide) rfl, zA, jB_eq e1, zA, jB_eq e2]
  rfl
def zCb (k : zKA) (B : zLB) (h : jH) : Prop :=
  (∃ v0 v1, h.1 (k.1 3) = some (.inl (3, [v0, v1, .ref (k.1 4), .ref (k.1 7), .ref (k.1 10), .int (nI (zD B)), va_rf k.2.2.2, .ref (k.1 11)]))) ∧ zcf k (k.1 3) ∧
  ((∃ v, h.1 (k.1 4) = some (.inl (4, [v, .ref (k.1 5), .int (nI (zS B))]))) ∧ zcf k (k.1 4) ∧ (∃ f, h.1 (k.1 5) = some (.inr (4, k.1 6, zRf f)) ∧ ∀ i, i < zS B → f i = some (k.2.1 i)) ∧ zcf k (k.1 5) ∧ zS B ≤ k.1 6 ∧ k.1 6 < 2 ^ 31 ∧
    ∀ i, i < zS B → h.1 (k.2.1 i) = some (.inl (12, [.int (nI (zLi B i)), .int (nI (zTh0 B i)), .int (nI (zHo B i))])) ∧ zcf k (k.2.1 i)) ∧
  ((∃ v, h.1 (k.1 7) = some (.inl (4, [v, .ref (k.1 8), .int (nI (zT B))]))) ∧ zcf k (k.1 7) ∧ (∃ f, h.1 (k.1 8) = some (.inr (4, k.1 9, zRf f)) ∧ ∀ i, i < zT B → f i = some (k.2.2.1 i)) ∧ zcf k (k.1 8) ∧ zT B ≤ k.1 9 ∧ k.1 9 < 2 ^ 31 ∧
    ∀ i, i < zT B → h.1 (k.2.2.1 i) = some (.inl (13 + zKi B i, [.int (nI (zGa B i)), .int (nI (zLo B i))])) ∧ zcf k (k.2.2.1 i)) ∧
  ((∃ d, h.1 (k.1 10) = some (.inr (0, 12, .inl d)) ∧ ∀ i, i < zD B → d i = nI (zDa B i)) ∧ zcf k (k.1 10)) ∧
  h.1 (k.1 11) = some (.inl (5, [.ref (k.1 2)])) ∧ zcf k (k.1 11) ∧ zLok B
def zCe (N : Nat) (k : zKA) (B : zLB) (h : jH) : Prop := match zEv B, k.2.2.2 with
  | none, none => True
  | some v, some e => ∀ (X : Bool → zSS) (f : Nat → Int32) (R : zCR), (eof N e (some (k.1 11))).1 (cH h k (X, f, R)) = some (v (f 0) (f 1) (f 2) (f 3), cH h k (X, f, R))
  | _, _ => False
/-- open lines of all skins -/
def zOf (S : zMS) : Nat := zMk (fun q => (zOp S (q / 6)).testBit (q % 6)) 18
def zSm (k : zKA) (B : zLB) (S : zMS) (x : zSS) : Prop := x.1.1 = some (k.1 3) ∧ x.1.2.1 = nI (zWk S) ∧ x.1.2.2 = nI (zOf S) ∧ (∀ s, s < zS B → x.2.1 s = nI (zTh S s)) ∧ ∀ q, q < 18 → x.2.2.1 q = nI (z8 (zPl S q)) ∧ x.2.2.2 q = nI (zPl S q).length
def zCX (N : Nat) (h : jH) (k : zKA) (b : Bool) (B : zLB) (S : zMS) (X : Bool → zSS) : Prop := 3000 ≤ N ∧ zKok k ∧ zLok B ∧ zSok B S ∧ zCb k B h ∧ zCe N k B h ∧ zSm k B S (X b) ∧ h.2.2.2.2 0 ≤ k.1 0
theorem zOf_lt (S : zMS) : zOf S < 262144 := zMk_lt _ 18
theorem zOf_tb (S : zMS) {s l : Nat} (hs : s < 3) (hl : l < 6) : (zOf S).testBit (6 * s + l) = (zOp S s).testBit l := by
  unfold zOf
  rw [zMk_tb, decide_eq_true (by omega), Bool.true_and]
  have e1 : (6 * s + l) / 6 = s := by omega
  have e2 : (6 * s + l) % 6 = l := by omega
  rw [e1, e2]
section
variable {α : Type} {N : Nat} {h : jH} {k : zKA} {c : zCS} {B : zLB} {S : zMS} {X : Bool → zSS} {f : Nat → Int32} {R : zCR} {b : Bool}
theorem zl_g3_2 (hC : zCb k B h) (K : Option Nat → jM α) : (jB (jgR [3] 2 (some (k.1 3))) K).1 (cH h k c) = (K (some (k.1 4))).1 (cH h k c) := by
  obtain ⟨⟨v0, v1, e⟩, hf, -⟩ := hC
  exact zgRs ((cH_fr hf).trans e) (by decide) rfl K
theorem zl_g3_3 (hC : zCb k B h) (K : Option Nat → jM α) : (jB (jgR [3] 3 (some (k.1 3))) K).1 (cH h k c) = (K (some (k.1 7))).1 (cH h k c) := by
  obtain ⟨⟨v0, v1, e⟩, hf, -⟩ := hC
  exact zgRs ((cH_fr hf).trans e) (by decide) rfl K
theorem zl_g3_4 (hC : zCb k B h) (K : Option Nat → jM α) : (jB (jgR [3] 4 (some (k.1 3))) K).1 (cH h k c) = (K (some (k.1 10))).1 (cH h k c) := by
  obtain ⟨⟨v0, v1, e⟩, hf, -⟩ := hC
  exact zgRs ((cH_fr hf).trans e) (by decide) rfl K
theorem zl_g3_5 (hC : zCb k B h) (K : Int32 → jM α) : (jB (jgI [3] 5 (some (k.1 3))) K).1 (cH h k c) = (K (nI (zD B))).1 (cH h k c) := by
  obtain ⟨⟨v0, v1, e⟩, hf, -⟩ := hC
  exact zgI ((cH_fr hf).trans e) (by decide) rfl K
theorem zl_g3_6 (hC : zCb k B h) (K : Option Nat → jM α) : (jB (jgR [3] 6 (some (k.1 3))) K).1 (cH h k c) = (K k.2.2.2).1 (cH h k c) := by
  obtain ⟨⟨v0, v1, e⟩, hf, -⟩ := hC
  exact zgR ((cH_fr hf).trans e) (by decide) rfl K
theorem zl_g3_7 (hC : zCb k B h) (K : Option Nat → jM α) : (jB (jgR [3] 7 (some (k.1 3))) K).1 (cH h k c) = (K (some (k.1 11))).1 (cH h k c) := by
  obtain ⟨⟨v0, v1, e⟩, hf, -⟩ := hC
  exact zgRs ((cH_fr hf).trans e) (by decide) rfl K
theorem zl_r3 (hC : zCb k B h) (K : Nat → jM α) : (jB (jrc 3 (some (k.1 3))) K).1 (cH h k c) = (K (k.1 3)).1 (cH h k c) := by
  obtain ⟨⟨v0, v1, e⟩, hf, -⟩ := hC
  exact zrc (cH_cd ((cH_fr hf).trans e)) K
theorem zl_g5_0 (hC : zCb k B h) (K : Option Nat → jM α) : (jB (jgR [5] 0 (some (k.1 11))) K).1 (cH h k c) = (K (some (k.1 2))).1 (cH h k c) := zgRs ((cH_fr hC.2.2.2.2.2.2.1).trans hC.2.2.2.2.2.1) (by decide) rfl K
theorem zl_r4 (hC : zCb k B h) (K : Nat → jM α) : (jB (jrc 4 (some (k.1 4))) K).1 (cH h k c) = (K (k.1 4)).1 (cH h k c) := by
  obtain ⟨-, -, ⟨⟨v, e⟩, hf, -⟩, -⟩ := hC
  exact zrc (cH_cd ((cH_fr hf).trans e)) K
theorem zl_r7 (hC : zCb k B h) (K : Nat → jM α) : (jB (jrc 4 (some (k.1 7))) K).1 (cH h k c) = (K (k.1 7)).1 (cH h k c) := by
  obtain ⟨-, -, -, ⟨⟨v, e⟩, hf, -⟩, -⟩ := hC
  exact zrc (cH_cd ((cH_fr hf).trans e)) K
theorem zl_size4 (hC : zCb k B h) (K : Int32 → jM α) : (jB (fJ2_size (k.1 4)) K).1 (cH h k c) = (K (nI (zS B))).1 (cH h k c) := by
  obtain ⟨-, -, ⟨⟨v, e⟩, hf, -⟩, -⟩ := hC
  exact zal_size ((cH_fr hf).trans e) K
theorem zl_size7 (hC : zCb k B h) (K : Int32 → jM α) : (jB (fJ2_size (k.1 7)) K).1 (cH h k c) = (K (nI (zT B))).1 (cH h k c) := by
  obtain ⟨-, -, -, ⟨⟨v, e⟩, hf, -⟩, -⟩ := hC
  exact zal_size ((cH_fr hf).trans e) K
theorem zl_get4 (hC : zCb k B h) {i : Nat} (hi : i < zS B) (K : Option Nat → jM α) : (jB (fJ2_get (k.1 4) (nI i)) K).1 (cH h k c) = (K (some (k.2.1 i))).1 (cH h k c) := by
  obtain ⟨-, -, ⟨⟨v, e⟩, hf, ⟨g, e2, e3⟩, hf2, h1, h2, -⟩, -⟩ := hC
  rw [zal_get ((cH_fr hf).trans e) ((cH_fr hf2).trans e2) hi h1 h2, e3 i hi]
theorem zl_get7 (hC : zCb k B h) {i : Nat} (hi : i < zT B) (K : Option Nat → jM α) : (jB (fJ2_get (k.1 7) (nI i)) K).1 (cH h k c) = (K (some (k.2.2.1 i))).1 (cH h k c) := by
  obtain ⟨-, -, -, ⟨⟨v, e⟩, hf, ⟨g, e2, e3⟩, hf2, h1, h2, -⟩, -⟩ := hC
  rw [zal_get ((cH_fr hf).trans e) ((cH_fr hf2).trans e2) hi h1 h2, e3 i hi]
theorem zl_skin (hC : zCb k B h) {i : Nat} (hi : i < zS B) : (cH h k c).1 (k.2.1 i) = some (.inl (12, [.int (nI (zLi B i)), .int (nI (zTh0 B i)), .int (nI (zHo B i))])) := by
  obtain ⟨-, -, ⟨-, -, -, -, -, -, hs⟩, -⟩ := hC
  exact (cH_fr (hs i hi).2).trans (hs i hi).1
theorem zl_text (hC : zCb k B h) {i : Nat} (hi : i < zT B) : (cH h k c).1 (k.2.2.1 i) = some (.inl (13 + zKi B i, [.int (nI (zGa B i)), .int (nI (zLo B i))])) := by
  obtain ⟨-, -, -, ⟨-, -, -, -, -, -, hs⟩, -⟩ := hC
  exact (cH_fr (hs i hi).2).trans (hs i hi).1
theorem zl_k (hC : zCb k B h) {i : Nat} (hi : i < zT B) : 13 + zKi B i ∈ [13, 14, 15, 16] := by
  have := (hC.2.2.2.2.2.2.2.2.2.2.2.1 i hi).1
  have : zKi B i = 0 ∨ zKi B i = 1 ∨ zKi B i = 2 ∨ zKi B i = 3 := by omega
  rcases this with e | e | e | e <;> rw [e] <;> decide
theorem zl_ck12 (hC : zCb k B h) {i : Nat} (hi : i < zS B) (K : Unit → jM α) : (jB (jck [12] (some (k.2.1 i))) K).1 (cH h k c) = (K ()).1 (cH h k c) := zck (cH_cd (zl_skin hC hi)) (by decide) K
theorem zl_ck13 (hC : zCb k B h) {i : Nat} (hi : i < zT B) (K : Unit → jM α) : (jB (jck [13, 14, 15, 16] (some (k.2.2.1 i))) K).1 (cH h k c) = (K ()).1 (cH h k c) := zck (cH_cd (zl_text hC hi)) (zl_k hC hi) K
theorem zl_g12_0 (hC : zCb k B h) {i : Nat} (hi : i < zS B) (K : Int32 → jM α) : (jB (jgI [12] 0 (some (k.2.1 i))) K).1 (cH h k c) = (K (nI (zLi B i))).1 (cH h k c) := zgI (zl_skin hC hi) (by decide) rfl K
theorem zl_g12_1 (hC : zCb k B h) {i : Nat} (hi : i < zS B) (K : Int32 → jM α) : (jB (jgI [12] 1 (some (k.2.1 i))) K).1 (cH h k c) = (K (nI (zTh0 B i))).1 (cH h k c) := zgI (zl_skin hC hi) (by decide) rfl K
theorem zl_g12_2 (hC : zCb k B h) {i : Nat} (hi : i < zS B) (K : Int32 → jM α) : (jB (jgI [12] 2 (some (k.2.1 i))) K).1 (cH h k c) = (K (nI (zHo B i))).1 (cH h k c) := zgI (zl_skin hC hi) (by decide) rfl K
theorem zl_g13_0 (hC : zCb k B h) {i : Nat} (hi : i < zT B) (K : Int32 → jM α) : (jB (jgI [13, 14, 15, 16] 0 (some (k.2.2.1 i))) K).1 (cH h k c) = (K (nI (zGa B i))).1 (cH h k c) := zgI (zl_text hC hi) (zl_k hC hi) rfl K
theorem zl_g13_1 (hC : zCb k B h) {i : Nat} (hi : i < zT B) (K : Int32 → jM α) : (jB (jgI [13, 14, 15, 16] 1 (some (k.2.2.1 i))) K).1 (cH h k c) = (K (nI (zLo B i))).1 (cH h k c) := zgI (zl_text hC hi) (zl_k hC hi) rfl K
theorem zl_cls (hC : zCb k B h) {i : Nat} (hi : i < zT B) (K : Nat → jM α) : (jB (jcls (some (k.2.2.1 i))) K).1 (cH h k c) = (K (13 + zKi B i)).1 (cH h k c) := zcl (cH_cd (zl_text hC hi)) K
theorem zl_wet (hC : zCb k B h) {i : Nat} (hi : i < zT B) (x : Int32) : (d_Text_wet (k.2.2.1 i) x).1 (cH h k c) = some (if zKi B i = 1 then x + 1 else x, cH h k c) := by
  have := (hC.2.2.2.2.2.2.2.2.2.2.2.1 i hi).1
  have : zKi B i = 0 ∨ zKi B i = 1 ∨ zKi B i = 2 ∨ zKi B i = 3 := by omega
  unfold d_Text_wet
  rw [zl_cls hC hi]
  rcases this with e | e | e | e <;> rw [e] <;> rfl
theorem zl_deep (hC : zCb k B h) {i : Nat} (hi : i < zT B) (x : Int32) : (d_Text_deep (k.2.2.1 i) x).1 (cH h k c) = some (if zKi B i = 2 then x - 1 else x, cH h k c) := by
  have := (hC.2.2.2.2.2.2.2.2.2.2.2.1 i hi).1
  have : zKi B i = 0 ∨ zKi B i = 1 ∨ zKi B i = 2 ∨ zKi B i = 3 := by omega
  unfold d_Text_deep
  rw [zl_cls hC hi]
  rcases this with e | e | e | e <;> rw [e] <;> rfl
theorem zl_kind (hC : zCb k B h) {i : Nat} (hi : i < zT B) : (d_Text_kind (k.2.2.1 i)).1 (cH h k c) = some (nI (zKi B i), cH h k c) := by
  have := (hC.2.2.2.2.2.2.2.2.2.2.2.1 i hi).1
  have : zKi B i = 0 ∨ zKi B i = 1 ∨ zKi B i = 2 ∨ zKi B i = 3 := by omega
  unfold d_Text_kind
  rw [zl_cls hC hi]
  rcases this with e | e | e | e <;> rw [e] <;> rfl
theorem zl_oath (hC : zCb k B h) {i : Nat} (hi : i < zT B) : (d_Text_isOath (k.2.2.1 i)).1 (cH h k c) = some (zb (decide (zKi B i = 3)), cH h k c) := by
  have := (hC.2.2.2.2.2.2.2.2.2.2.2.1 i hi).1
  have : zKi B i = 0 ∨ zKi B i = 1 ∨ zKi B i = 2 ∨ zKi B i = 3 := by omega
  unfold d_Text_isOath
  rw [zl_cls hC hi]
  rcases this with e | e | e | e <;> rw [e] <;> rfl
theorem zl_damp (hC : zCb k B h) {w : Nat} (hw : w < 2 ^ 31) : (fX4_damp (k.1 3) (nI w)).1 (cH h k c) = some (nI (zDp B w), cH h k c) := by
  have hd := hC.2.2.2.2.2.2.2.2.2.1
  obtain ⟨⟨d, e1, e2⟩, hf⟩ := hC.2.2.2.2.1
  unfold zDp
  by_cases hz : zD B = 0
  · simp (disch := omega) only [fX4_damp, fX4_damp_22, zl_g3_5 hC, zl_g3_4 hC, zc0_le, zc0_ge, zc0_lt, zc0_gt, zc0_eq, zI, zR, zRn0, zRn1, zRnb, jR_run, zRn0B, zRn1B, zRnbB, znn, nI_add, pk_mul, nI_leI, nI_ltI, nI_eq, if_true, if_false, ite_true, ite_false, znz7, znz6, hz]
    rfl
  · have hz' : ¬ nI (zD B) = 0 := nI_ne0 (by omega) (by omega)
    have hm : w % zD B < zD B := Nat.mod_lt _ (by omega)
    have e3 : nI w - nI w / nI (zD B) * nI (zD B) = nI (w % zD B) := pk_rem hw (by omega) (by omega)
    simp (disch := omega) only [fX4_damp, fX4_damp_22, zl_g3_5 hC, zl_g3_4 hC, zc0_le, zc0_ge, zc0_lt, zc0_gt, zI, zR, zRn0, zRn1, zRnb, jR_run, zRn0B, zRn1B, zRnbB, znn, nI_add, pk_mul, nI_leI, nI_ltI, nI_eq, if_true, if_false, ite_true, ite_false, znz7, znz6, hz, hz', e3, znz hz']
    rw [zaI ((cH_fr hf).trans e1) (show w % zD B < 12 by omega) (by decide), e2 _ hm]
    rfl
theorem zs_skins (hk : zKok k) (hC : zCb k B h) (hlib : (X b).1.1 = some (k.1 3)) (K : Int32 → jM α) : (jB (fX3_skins (zka k b)) K).1 (cH h k (X, f, R)) = (K (nI (zS B))).1 (cH h k (X, f, R)) := by
  unfold fX3_skins
  simp only [zA, zc_g2_0 hk, hlib, zl_g3_2 hC, zl_r4 hC, zl_size4 hC, zR]
theorem zs_texts (hk : zKok k) (hC : zCb k B h) (hlib : (X b).1.1 = some (k.1 3)) (K : Int32 → jM α) : (jB (fX3_texts (zka k b)) K).1 (cH h k (X, f, R)) = (K (nI (zT B))).1 (cH h k (X, f, R)) := by
  unfold fX3_texts
  simp only [zA, zc_g2_0 hk, hlib, zl_g3_3 hC, zl_r7 hC, zl_size7 hC, zR]
theorem zs_skin (hk : zKok k) (hC : zCb k B h) (hlib : (X b).1.1 = some (k.1 3)) {s : Nat} (hs : s < zS B) (K : Option Nat → jM α) : (jB (fX3_skin (zka k b) (nI s)) K).1 (cH h k (X, f, R)) = (K (some (k.2.1 s))).1 (cH h k (X, f, R)) := by
  unfold fX3_skin
  simp (disch := exact hs) only [zA, zc_g2_0 hk, hlib, zl_g3_2 hC, zl_r4 hC, zl_get4 hC, zl_ck12 hC, zR]
theorem zs_text (hk : zKok k) (hC : zCb k B h) (hlib : (X b).1.1 = some (k.1 3)) {t : Nat} (ht : t < zT B) (K : Option Nat → jM α) : (jB (fX3_text (zka k b) (nI t)) K).1 (cH h k (X, f, R)) = (K (some (k.2.2.1 t))).1 (cH h k (X, f, R)) := by
  unfold fX3_text
  simp (disch := exact ht) only [zA, zc_g2_0 hk, hlib, zl_g3_3 hC, zl_r7 hC, zl_get7 hC, zl_ck13 hC, zR]
theorem zs_shows (hX : zCX N h k b B S X) {t : Nat} (ht : t < zT B) (deep damp thin : Int32) (f : Nat → Int32) : ∃ f', (fX4_shows N (k.1 3) (some (k.2.2.1 t)) deep damp thin).1 (cH h k (X, f, R)) = some (zb (zShow B t deep damp thin), cH h k (X, f', R)) := by
  obtain ⟨hN, hk, hL, -, hC, hE, -, hb⟩ := hX
  have hf : h.2.2.2.2 0 ≤ k.1 2 := by obtain ⟨h1, h2, h3⟩ := hk; omega
  have hg := (hL.2.2.2.2.1 t ht).2.1
  have e1 : (fX4_shows N (k.1 3) (some (k.2.2.1 t)) deep damp thin).1 (cH h k (X, f, R)) = (fX4_shows_26 N (k.1 3) thin (if zKi B t = 1 then damp + 1 else damp) (if zKi B t = 2 then deep - 1 else deep) (nI (zGa B t))).1 (cH h k (X, f, R)) := by
    unfold fX4_shows
    rw [znn, jB_eq (zl_wet hC ht damp), znn, jB_eq (zl_deep hC ht deep), zl_g13_0 hC ht, zI]
    have : zGa B t = 0 ∨ zGa B t = 1 := by omega
    rcases this with e | e <;> rw [e] <;> rfl
  rw [e1]
  unfold zCe at hE
  unfold zShow
  cases hv : zEv B with
  | none =>
    rw [hv] at hE
    cases hx : k.2.2.2 with
    | none =>
      refine ⟨f, ?_⟩
      simp (disch := omega) only [fX4_shows_26, fX4_shows_52, fX4_shows_116, zl_g3_6 hC, zl_g3_7 hC, zl_g5_0 hC, zc_afo hk, zc_sfo hk hf, zc0_le, zc0_ge, zc0_lt, zc0_gt, zc0_eq, zc1_le, zc1_ge, zc1_lt, zc1_gt, zc1_eq, zc1_ad, zc1_da, zc1_mu, zc1_um, zc1_sb, zc2_le, zc2_ge, zc2_lt, zc2_gt, zc2_eq, zc2_ad, zc2_da, zc2_mu, zc2_um, zc2_sb, zc3_le, zc3_ge, zc3_lt, zc3_gt, zc3_eq, zc3_ad, zc3_da, zc3_mu, zc3_um, zc3_sb, zI, zR, zRn0, zRn1, zRnb, jR_run, zRn0B, zRn1B, zRnbB, znn, nI_add, pk_mul, nI_leI, nI_ltI, nI_eq, if_true, if_false, ite_true, ite_false, hx]
      by_cases hc : (if zKi B t = 1 then damp + 1 else damp) ≤ (if zKi B t = 2 then deep - 1 else deep) * 2 - nI (zGa B t)
      · rw [if_pos hc, decide_eq_false (Int32.not_lt.mpr hc)]; rfl
      · rw [if_neg hc, decide_eq_true (Int32.not_le.mp hc)]; rfl
    | some e => rw [hx] at hE; exact hE.elim
  | some v =>
    rw [hv] at hE
    cases hx : k.2.2.2 with
    | none => rw [hx] at hE; exact hE.elim
    | some e =>
      rw [hx] at hE
      have hE := hE X (upd (upd (upd (upd f 0 (if zKi B t = 1 then damp + 1 else damp)) 1 (if zKi B t = 2 then deep - 1 else deep)) 2 (nI (zGa B t))) 3 thin) R
      simp (disch := omega) only [zu_eq, zu_ne] at hE
      refine ⟨upd (upd (upd (upd f 0 (if zKi B t = 1 then damp + 1 else damp)) 1 (if zKi B t = 2 then deep - 1 else deep)) 2 (nI (zGa B t))) 3 thin, ?_⟩
      have hne : ¬ (some e : Option Nat) = none := by simp
      simp (disch := omega) only [fX4_shows_26, fX4_shows_52, fX4_shows_116, zl_g3_6 hC, zl_g3_7 hC, zl_g5_0 hC, zc_afo hk, zc_sfo hk hf, zc0_le, zc0_ge, zc0_lt, zc0_gt, zc0_eq, zc1_le, zc1_ge, zc1_lt, zc1_gt, zc1_eq, zc1_ad, zc1_da, zc1_mu, zc1_um, zc1_sb, zc2_le, zc2_ge, zc2_lt, zc2_gt, zc2_eq, zc2_ad, zc2_da, zc2_mu, zc2_um, zc2_sb, zc3_le, zc3_ge, zc3_lt, zc3_gt, zc3_eq, zc3_ad, zc3_da, zc3_mu, zc3_um, zc3_sb, zI, zR, zRn0, zRn1, zRnb, jR_run, zRn0B, zRn1B, zRnbB, znn, nI_add, pk_mul, nI_leI, nI_ltI, nI_eq, if_true, if_false, ite_true, ite_false, hx, hne, zc_sfo0 hk hf, zc_sfo1 hk hf, zc_sfo2 hk hf, zc_sfo3 hk hf]
      rw [jB_eq hE]
      by_cases hz : v (if zKi B t = 1 then damp + 1 else damp) (if zKi B t = 2 then deep - 1 else deep) (nI (zGa B t)) thin = 0
      · rw [if_pos hz, decide_eq_false (fun q => q hz)]; rfl
      · rw [if_neg hz, decide_eq_true hz]; rfl
end
