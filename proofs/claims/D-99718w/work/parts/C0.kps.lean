/-! PURE 47: rows of shelves; the reference keeps one behind, goes back to one -/
set_option maxRecDepth 100000
/-- a shelf in a row of numbers -/
def zRw0 (f : Nat → Int32) (b : Nat) (S : zMS) : Prop := f b = nI (zWk S) ∧ (∀ k, k < 3 → f (b + 1 + k) = nI (zTh S k) ∧ f (b + 4 + k) = nI (zOp S k)) ∧ ∀ q, q < 18 → f (b + 7 + q) = nI (z7 (zPl S q))
theorem zRw0_s {S : zMS} {A : Nat → Nat → Int32} : zRs S A ↔ zRw0 (A 48) 0 S := by
  unfold zRs zRw0
  simp only [Nat.zero_add]
theorem zcy_in (f g : Nat → Int32) {i j n q : Nat} (h : q < n) : va_cpy f g i j n (j + q) = f (i + q) := by
  unfold va_cpy
  rw [if_pos (by omega)]
  congr 1
  omega
theorem zRw0.ex {f g : Nat → Int32} {b b' : Nat} {S : zMS} (h : zRw0 f b S) (hg : ∀ q, q < 25 → g (b' + q) = f (b + q)) : zRw0 g b' S := by
  refine ⟨?_, fun k hk => ⟨?_, ?_⟩, fun q hq => ?_⟩
  · have := hg 0 (by omega); rw [Nat.add_zero, Nat.add_zero] at this; rw [this]; exact h.1
  · have := hg (1 + k) (by omega); rw [← Nat.add_assoc, ← Nat.add_assoc] at this; rw [this]; exact (h.2.1 k hk).1
  · have := hg (4 + k) (by omega); rw [← Nat.add_assoc, ← Nat.add_assoc] at this; rw [this]; exact (h.2.1 k hk).2
  · have := hg (7 + q) (by omega); rw [← Nat.add_assoc, ← Nat.add_assoc] at this; rw [this]; exact h.2.2 q hq
theorem zRw0.cp {f g : Nat → Int32} {i j : Nat} {S : zMS} (h : zRw0 f i S) : zRw0 (va_cpy f g i j 25) j S := h.ex (fun q hq => zcy_in f g hq)
/-- shelves behind, the oldest first -/
abbrev zUy : Type := Nat × (Nat → zMS)
def zUk (U : zUy) (S : zMS) : zUy := if U.1 = 16 then (16, fun j => if j = 15 then S else U.2 (j + 1)) else (U.1 + 1, fun j => if j = U.1 then S else U.2 j)
theorem zUk_le {U : zUy} (h : U.1 ≤ 16) (S : zMS) : (zUk U S).1 ≤ 16 ∧ 1 ≤ (zUk U S).1 := by
  unfold zUk
  by_cases e : U.1 = 16
  · rw [if_pos e]; exact ⟨Nat.le_refl _, show 1 ≤ 16 by decide⟩
  · rw [if_neg e]; exact ⟨by show U.1 + 1 ≤ 16; omega, by show 1 ≤ U.1 + 1; omega⟩
section
variable {α : Type} {N : Nat} {h : jH} {a : Nat} {F : Nat → Int32} {L : Nat → Int64} {A : Nat → Nat → Int32} {M : Nat → Nat → Int64}
theorem zR_k11 (hb : h.2.2.2.2 0 ≤ a) : ∀ (i k m : Nat), k + i = 375 → i < m → (fX7_keeps_11 N a m (nI k)).1 (rH h a (F, L, zuA A 52 (zsh (A 52) 25 k), M)) = (fX7_keeps_39 N a).1 (rH h a (F, L, zuA A 52 (zsh (A 52) 25 375), M))
  | 0, k, m + 1, hk, hm => by
    rw [fX7_keeps_11, zI, if_pos (show 375 ≤ nI k from (nI_le (by omega) (by omega) : nI 375 ≤ nI k)), show k = 375 by omega]
  | i + 1, k, m + 1, hk, hm => by
    have ih := zR_k11 hb i (k + 1) m (by omega) (by omega)
    rw [fX7_keeps_11, zI, if_neg (show ¬ 375 ≤ nI k from (nI_ge (by omega) (by omega) : ¬ nI 375 ≤ nI k)), zr_g52, zr_g52, zc25_da, zr_a52 (by omega), zuA_eq, zsh_hi _ (by omega), zr_s52 hb (by omega), zuA_eq, zuA_zuA, Nat.add_comm k 25, zsh_s, zc1_da]
    exact ih
theorem zR_keeps (hb : h.2.2.2.2 0 ≤ a) (hN : 3000 ≤ N) {U : zUy} {S : zMS} (hU : U.1 ≤ 16) (hF : F 54 = nI U.1) (hR : ∀ j, j < U.1 → zRw0 (A 52) (25 * j) (U.2 j)) (hS : zRw0 (A 48) 0 S) : ∃ f, (∀ j, j < (zUk U S).1 → zRw0 f (25 * j) ((zUk U S).2 j)) ∧ ∀ K : Unit → jM α, (jB (fX7_keeps N a) K).1 (rH h a (F, L, A, M)) = (K ()).1 (rH h a (upd F 54 (nI (zUk U S).1), L, zuA A 52 f, M)) := by
  have e49 : ∀ (F' : Nat → Int32) (g : Nat → Int32) (d : Nat), d < 16 → F' 54 = nI d → (fX7_keeps_49 N a).1 (rH h a (F', L, zuA A 52 g, M)) = some ((), rH h a (upd F' 54 (nI (d + 1)), L, zuA A 52 (va_cpy (A 48) g 0 (25 * d) 25), M)) := by
    intro F' g d hd hF'
    unfold fX7_keeps_49
    rw [zr_g48, zr_g52, zr_g54, hF', zc25_mu, jB_eq (zr_cp48_52 hb hN (show 25 * d + 25 ≤ 400 by omega)), zr_g54, hF', zc1_da, zr_p54 hb, zuA_ne _ _ (show 48 ≠ 52 by decide), zuA_eq, zuA_zuA]
    rfl
  have eA : zuA A 52 (A 52) = A := funext fun j => by
    by_cases e : j = 52
    · rw [e, zuA_eq]
    · rw [zuA_ne _ _ e]
  unfold zUk
  by_cases c : U.1 = 16
  · rw [if_pos c]
    refine ⟨va_cpy (A 48) (zsh (A 52) 25 375) 0 (25 * 15) 25, fun j hj => ?_, fun K => ?_⟩
    · have hj : j < 16 := hj
      show zRw0 _ (25 * j) (if j = 15 then S else U.2 (j + 1))
      by_cases e : j = 15
      · rw [if_pos e, e]; exact hS.cp
      · rw [if_neg e]
        refine (hR (j + 1) (by omega)).ex (fun q hq => ?_)
        rw [pk_cpy_out (by omega), zsh_lo _ (by omega)]
        congr 1
        omega
    · have e1 := zR_k11 (N := N) (F := F) (L := L) (A := A) (M := M) hb 375 0 N rfl (by omega)
      rw [zsh_0, eA] at e1
      refine jB_eq ?_
      unfold fX7_keeps
      rw [zr_g54, hF, zI, if_pos (show nI U.1 = 16 by rw [c]; rfl)]
      refine Eq.trans e1 ?_
      unfold fX7_keeps_39
      rw [zr_g54, hF, c, show nI 16 - 1 = nI 15 from rfl, zr_p54 hb, e49 _ _ 15 (by decide) (zu_eq _ _ _), zuu]
  · rw [if_neg c]
    refine ⟨va_cpy (A 48) (A 52) 0 (25 * U.1) 25, fun j hj => ?_, fun K => ?_⟩
    · have hj : j < U.1 + 1 := hj
      show zRw0 _ (25 * j) (if j = U.1 then S else U.2 j)
      by_cases e : j = U.1
      · rw [if_pos e, e]; exact hS.cp
      · rw [if_neg e]
        exact (hR j (by omega)).ex (fun q hq => pk_cpy_out (by omega))
    · refine jB_eq ?_
      unfold fX7_keeps
      rw [zr_g54, hF, zI, if_neg (show ¬ nI U.1 = 16 from fun q => c ((nI_eq (b := 16) (by omega) (by decide)).mp q))]
      have := e49 F (A 52) U.1 (by omega) hF
      rw [eA] at this
      exact this
theorem zR_undo (hb : h.2.2.2.2 0 ≤ a) (hN : 3000 ≤ N) {U : zUy} (hU : U.1 ≤ 16) (hF : F 54 = nI U.1) (hR : ∀ j, j < U.1 → zRw0 (A 52) (25 * j) (U.2 j)) : (fX7_undo N a).1 (rH h a (F, L, A, M)) = if U.1 = 0 then some (0, rH h a (upd F 0 0, L, A, M)) else some (1, rH h a (upd (upd F 0 0) 54 (nI (U.1 - 1)), L, zuA A 48 (va_cpy (A 52) (A 48) (25 * (U.1 - 1)) 0 25), M)) := by
  unfold fX7_undo
  rw [zr_p0 hb, zr_g54, zu_ne _ _ (show 54 ≠ 0 by decide), hF, zI]
  by_cases c : U.1 = 0
  · rw [if_pos c, if_pos (show nI U.1 = 0 by rw [c]; rfl)]
    rfl
  · rw [if_neg c, if_neg (show ¬ nI U.1 = 0 from fun q => c ((nI_eq (b := 0) (by omega) (by decide)).mp q)), zr_g54, zu_ne _ _ (show 54 ≠ 0 by decide), hF, zc1_sb (by omega), zr_p54 hb, zr_g52, zr_g54, zu_eq, zr_g48, zc25_mu, jB_eq (zr_cp52_48 hb hN (show 25 * (U.1 - 1) + 25 ≤ 400 by omega))]
    rfl
end
