/-! PURE 50: what is seen, in slots of the reference -/
set_option maxRecDepth 100000
/-- how many; skin, deep, damp, whether it shows -/
abbrev zEy : Type := Nat × (Nat → Nat × Nat × Nat × Bool)
def zEok (B : zLB) (E : zEy) : Prop := E.1 ≤ 8 ∧ ∀ k, k < E.1 → (E.2 k).1 < zS B ∧ ((E.2 k).2.1 ≤ 9 ∧ (E.2 k).2.2.1 ≤ 9)
def zRse (s : Nat) (A : Nat → Nat → Int32) (E : zEy) : Prop := A 43 s = nI E.1 ∧ ∀ k, k < E.1 → A 44 (8 * s + k) = nI (E.2 k).1 ∧ A 45 (8 * s + k) = nI (E.2 k).2.1 ∧ A 46 (8 * s + k) = nI (E.2 k).2.2.1 ∧ A 47 (8 * s + k) = zb (E.2 k).2.2.2
/-- booleans -/
def zBl (A : Nat → Nat → Int32) : Prop := ∀ q, q < 40 → A 47 q = 0 ∨ A 47 q = 1
section
variable (A : Nat → Nat → Int32) (f1 f2 f3 f4 g : Nat → Int32)
theorem zL44_2 : zL4 A 44 f1 f2 f3 f4 45 = f2 := zL4_2 A 44 f1 f2 f3 f4
theorem zL44_3 : zL4 A 44 f1 f2 f3 f4 46 = f3 := zL4_3 A 44 f1 f2 f3 f4
theorem zL44_4 : zL4 A 44 f1 f2 f3 f4 47 = f4 := zL4_4 A 44 f1 f2 f3 f4
theorem zL44_u2 : zuA (zL4 A 44 f1 f2 f3 f4) 45 g = zL4 A 44 f1 g f3 f4 := zL4_u2 A 44 f1 f2 f3 f4 g
theorem zL44_u3 : zuA (zL4 A 44 f1 f2 f3 f4) 46 g = zL4 A 44 f1 f2 g f4 := zL4_u3 A 44 f1 f2 f3 f4 g
theorem zL44_u4 : zuA (zL4 A 44 f1 f2 f3 f4) 47 g = zL4 A 44 f1 f2 f3 g := zL4_u4 A 44 f1 f2 f3 f4 g
theorem zL44_A : zL4 A 44 (A 44) (A 45) (A 46) (A 47) = A := zL4_A A 44
end
section
variable {α : Type} {N : Nat} {h : jH} {a : Nat} {F : Nat → Int32} {L : Nat → Int64} {A : Nat → Nat → Int32} {M : Nat → Nat → Int64}
theorem zR_ls14 (hb : h.2.2.2.2 0 ≤ a) (hB : zBl A) {f g : Nat} (hf : f ≤ 4) (hg : g ≤ 4) (hfg : f ≠ g) : ∀ (i k m : Nat), k + i = 8 → i < m → (fX7_laysSeen_14 N a m (nI f) (nI g) (nI k)).1 (rH h a (F, L, zL4 A 44 (zcp (A 44) (8 * f) (8 * g) k) (zcp (A 45) (8 * f) (8 * g) k) (zcp (A 46) (8 * f) (8 * g) k) (zcp (A 47) (8 * f) (8 * g) k), M)) = some ((), rH h a (F, L, zL4 A 44 (zcp (A 44) (8 * f) (8 * g) 8) (zcp (A 45) (8 * f) (8 * g) 8) (zcp (A 46) (8 * f) (8 * g) 8) (zcp (A 47) (8 * f) (8 * g) 8), M))
  | 0, k, m + 1, hk, hm => by
    rw [fX7_laysSeen_14, zI, if_pos (show 8 ≤ nI k from (nI_le (by omega) (by omega) : nI 8 ≤ nI k)), show k = 8 by omega]
    rfl
  | i + 1, k, m + 1, hk, hm => by
    have ih := zR_ls14 hb hB hf hg hfg i (k + 1) m (by omega) (by omega)
    have hd : 8 * f + k < 8 * g ∨ 8 * g + k ≤ 8 * f + k := by omega
    rw [fX7_laysSeen_14, zI, if_neg (show ¬ 8 ≤ nI k from (nI_ge (by omega) (by omega) : ¬ nI 8 ≤ nI k))]
    rw [zr_g44, zr_g44, show (8 : Int32) * nI f + nI k = nI (8 * f + k) by rw [zc8_mu, nI_add], show (8 : Int32) * nI g + nI k = nI (8 * g + k) by rw [zc8_mu, nI_add], zr_a44 (by omega), zr_s44 hb (by omega), zL4_1, zcp_o _ hd, zcp_s, zL4_u1]
    rw [zr_g45, zr_g45, zr_a45 (by omega), zr_s45 hb (by omega), zL44_2, zcp_o _ hd, zcp_s, zL44_u2]
    rw [zr_g46, zr_g46, zr_a46 (by omega), zr_s46 hb (by omega), zL44_3, zcp_o _ hd, zcp_s, zL44_u3]
    rw [zr_g47, zr_g47, zr_a47 (by omega), zL44_4, zcp_o _ hd, zsZ (hB _ (by omega)), zr_s47 hb (by omega), zL44_4, zcp_s, zL44_u4, zc1_da]
    exact ih
def zLS (A : Nat → Nat → Int32) (f g : Nat) : Nat → Nat → Int32 := zL4 (zst A 43 g (A 43 f)) 44 (zcp (A 44) (8 * f) (8 * g) 8) (zcp (A 45) (8 * f) (8 * g) 8) (zcp (A 46) (8 * f) (8 * g) 8) (zcp (A 47) (8 * f) (8 * g) 8)
theorem zR_ls (hb : h.2.2.2.2 0 ≤ a) (hN : 3000 ≤ N) (hB : zBl A) {x y : Int32} {f g : Nat} (hx : x = nI f) (hy : y = nI g) (hf : f ≤ 4) (hg : g ≤ 4) (hfg : f ≠ g) (K : Unit → jM α) : (jB (fX7_laysSeen N a x y) K).1 (rH h a (F, L, A, M)) = (K ()).1 (rH h a (F, L, zLS A f g, M)) := by
  have hB2 : zBl (zst A 43 g (A 43 f)) := fun q hq => by rw [zst_j _ _ (by decide)]; exact hB q hq
  have e := zR_ls14 (N := N) (F := F) (L := L) (A := zst A 43 g (A 43 f)) (M := M) hb hB2 hf hg hfg 8 0 N rfl (by omega)
  rw [zcp_0, zcp_0, zcp_0, zcp_0, zL44_A, zst_j _ _ (by decide), zst_j _ _ (by decide), zst_j _ _ (by decide), zst_j _ _ (by decide)] at e
  refine jB_eq ?_
  unfold fX7_laysSeen
  rw [hx, hy, zr_g43, zr_g43, zr_a43 (by omega), zr_s43 hb (by omega), zst_d]
  exact e
theorem zLS_o (A : Nat → Nat → Int32) (f g : Nat) {j : Nat} (h : j < 43 ∨ 47 < j) : zLS A f g j = A j := by
  unfold zLS
  rw [zL4_o _ _ _ _ _ _ (by omega), zst_j _ _ (by omega)]
theorem zLS_43 (A : Nat → Nat → Int32) (f g : Nat) : zLS A f g 43 = upd (A 43) g (A 43 f) := by
  unfold zLS
  rw [zL4_o _ _ _ _ _ _ (by omega)]
  unfold zst
  rw [zuA_eq]
theorem zLS_l (A : Nat → Nat → Int32) (f g : Nat) {j : Nat} (h1 : 44 ≤ j) (h2 : j ≤ 47) : zLS A f g j = zcp (A j) (8 * f) (8 * g) 8 := by
  have : j = 44 ∨ j = 45 ∨ j = 46 ∨ j = 47 := by omega
  unfold zLS
  rcases this with e | e | e | e
  · rw [e, zL4_1]
  · rw [e, zL44_2]
  · rw [e, zL44_3]
  · rw [e, zL44_4]
theorem zRse.to_ {f : Nat} {E : zEy} (hf : zRse f A E) (hE : E.1 ≤ 8) {g : Nat} : zRse g (zLS A f g) E := by
  refine ⟨by rw [zLS_43, zu_eq]; exact hf.1, fun k hk => ?_⟩
  rw [zLS_l A f g (by decide) (by decide), zLS_l A f g (by decide) (by decide), zLS_l A f g (by decide) (by decide), zLS_l A f g (by decide) (by decide), zcp_i _ (by omega), zcp_i _ (by omega), zcp_i _ (by omega), zcp_i _ (by omega)]
  exact hf.2 k hk
theorem zRse.ot_ {s : Nat} {E : zEy} (hs : zRse s A E) (hE : E.1 ≤ 8) {f g : Nat} (hg : s ≠ g) : zRse s (zLS A f g) E := by
  refine ⟨by rw [zLS_43, zu_ne _ _ hg]; exact hs.1, fun k hk => ?_⟩
  rw [zLS_l A f g (by decide) (by decide), zLS_l A f g (by decide) (by decide), zLS_l A f g (by decide) (by decide), zLS_l A f g (by decide) (by decide), zcp_o _ (by omega), zcp_o _ (by omega), zcp_o _ (by omega), zcp_o _ (by omega)]
  exact hs.2 k hk
theorem zBl.ls (hB : zBl A) {f g : Nat} (hf : f ≤ 4) : zBl (zLS A f g) := by
  intro q hq
  rw [zLS_l A f g (by decide) (by decide)]
  unfold zcp
  split
  · exact hB _ (by omega)
  · exact hB q hq
end
