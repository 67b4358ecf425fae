/-! PURE 7: the reference's writing and scraping -/
set_option maxRecDepth 100000
def zRow (S : zMS) (f : Nat → Int32) : Prop := f 0 = nI (zWk S) ∧ (∀ k, k < 3 → f (1 + k) = nI (zTh S k) ∧ f (4 + k) = nI (zOp S k)) ∧ ∀ q, q < 18 → f (7 + q) = nI (z7 (zPl S q))
theorem zsub_le {a b : Nat} (ha : a < 2 ^ 30) (hb : b < 2 ^ 30) : nI a - nI b ≤ 0 ↔ a ≤ b := by
  rw [Int32.le_iff_toInt_le, pk_sub_toInt ha hb]
  have : (0 : Int32).toInt = 0 := by decide
  omega
theorem zb_or (b : Bool) {g : Nat} (hg : g ≤ 1) : zb b ||| nI g = zb (b || decide (g = 1)) := by
  have : g = 0 ∨ g = 1 := by omega
  rcases this with rfl | rfl <;> cases b <;> decide
theorem zb_or1 (b : Bool) : zb b ||| 1 = zb (b || true) := by cases b <;> decide
theorem zb_or0 (b : Bool) : zb b ||| 0 = zb (b || false) := by cases b <;> decide
theorem zFs_ext {p : Nat → Bool} : ∀ {j j' i : Nat}, j ≤ j' → (∀ q, i + j ≤ q → q < i + j' → p q = false) → zFs p j' i = zFs p j i
  | 0, j', i, _, h => zFs_no.mpr (fun t h1 h2 => h t (by omega) h2)
  | j + 1, 0, i, hj, _ => by omega
  | j + 1, j' + 1, i, hj, h => by
    rw [zFs, zFs, zFs_ext (j := j) (j' := j') (by omega) (fun q h1 h2 => h q (by omega) (by omega))]
theorem zCw_out {B : zLB} {S : zMS} (hB : zLok B) {t k l : Nat} (ht : t < zT B) (hl : zLi B k ≤ l) : zCw B S t k l = false := by
  rw [Bool.eq_false_iff]
  intro h
  have := ((zCw_spec hB ht).mp h).2.1
  have := (hB.2.2.2.2.1 t ht).2.2.1
  omega
section
variable {N : Nat} {h : jH} {a : Nat} {F : Nat → Int32} {L : Nat → Int64} {A : Nat → Nat → Int32} {M : Nat → Nat → Int64} {B : zLB} {S : zMS}
theorem zr_can33 (hX : zRX N a B S A) {t k l : Nat} (ht : t < zT B) (hk : k < zS B) (hl : l + zLo B t ≤ zLi B k) : ∀ (j n i : Nat), i + j = l + zLo B t → j < n →
    (fX7_canWrite_33 N a n (nI t) (nI k) (nI l) (nI i)).1 (rH h a (F, L, A, M)) = some (zb (zAl (zFr B S k) j i), rH h a (F, L, A, M))
  | 0, n + 1, i, hi, hn => by
    have hs3 := hX.2.1.1
    have hT := hX.2.1.2.1
    have h6 := (hX.2.1.2.2.2.1 k hk).1.2
    have e18 := (hX.2.2.2.1.2.2.2.2.1 t ht).2.2
    have e : l + zLo B t ≤ i := by omega
    simp (disch := omega) only [fX7_canWrite_33, fX7_canWrite_107, fX7_canWrite_99, zr_g15, zr_a15, zr_g18, zr_a18, zr_g48, zr_a48, zr_a48_0, zr_a48_1, zr_a48_2, zr_a48_3, zc0_le, zc0_ge, zc0_lt, zc0_gt, zc0_eq, zc1_le, zc1_ge, zc1_lt, zc1_gt, zc1_eq, zc1_ad, zc1_da, zc1_mu, zc1_um, zc1_sb, zc4_le, zc4_ge, zc4_lt, zc4_gt, zc4_eq, zc4_ad, zc4_da, zc4_mu, zc4_um, zc4_sb, zc6_le, zc6_ge, zc6_lt, zc6_gt, zc6_eq, zc6_ad, zc6_da, zc6_mu, zc6_um, zc6_sb, zc7_le, zc7_ge, zc7_lt, zc7_gt, zc7_eq, zc7_ad, zc7_da, zc7_mu, zc7_um, zc7_sb, zc5764801_le, zc5764801_ge, zc5764801_lt, zc5764801_gt, zc5764801_eq, zc5764801_ad, zc5764801_da, zc5764801_mu, zc5764801_um, zc5764801_sb, zI, zR, zRn0, zRn1, zRnb, jR_run, zRn0B, zRn1B, zRnbB, znn, nI_add, pk_mul, nI_leI, nI_ltI, nI_eq, if_true, if_false, ite_true, ite_false, e18, e]
    rfl
  | j + 1, n + 1, i, hi, hn => by
    have hs3 := hX.2.1.1
    have hT := hX.2.1.2.1
    have h6 := (hX.2.1.2.2.2.1 k hk).1.2
    have hho := (hX.2.1.2.2.2.1 k hk).2.2
    have e18 := (hX.2.2.2.1.2.2.2.2.1 t ht).2.2
    have e15 := (hX.2.2.2.1.2.2.2.1 k hk).2.2
    have e48 := (hX.2.2.2.2.1.2.1 k (by omega)).2
    have hop := (hX.2.2.1.2.1 k (by omega)).2
    have hp := zPl_ok hX.2.1 hX.2.2.1 (q := 6 * k + i) (by omega)
    have e7 : A 48 (7 + 6 * k + i) = nI (z7 (zPl S (6 * k + i))) := by
      rw [Nat.add_assoc]
      exact hX.2.2.2.2.1.2.2 (6 * k + i) (by omega)
    have e : ¬ l + zLo B t ≤ i := by omega
    have hp7 := hp.2.2.2.1
    have hli : i < zLi B k := by omega
    have ih := zr_can33 hX ht hk hl j n (i + 1) (by omega) (by omega)
    rw [show zAl (zFr B S k) (j + 1) i = (zFr B S k i && zAl (zFr B S k) j (i + 1)) from rfl]
    by_cases b1 : (zHo B k).testBit i = true
    · have hf : zFr B S k i = false := by simp [zFr, b1]
      simp (disch := omega) only [fX7_canWrite_33, fX7_canWrite_107, fX7_canWrite_99, zr_g15, zr_a15, zr_g18, zr_a18, zr_g48, zr_a48, zr_a48_0, zr_a48_1, zr_a48_2, zr_a48_3, zc0_le, zc0_ge, zc0_lt, zc0_gt, zc0_eq, zc1_le, zc1_ge, zc1_lt, zc1_gt, zc1_eq, zc1_ad, zc1_da, zc1_mu, zc1_um, zc1_sb, zc4_le, zc4_ge, zc4_lt, zc4_gt, zc4_eq, zc4_ad, zc4_da, zc4_mu, zc4_um, zc4_sb, zc6_le, zc6_ge, zc6_lt, zc6_gt, zc6_eq, zc6_ad, zc6_da, zc6_mu, zc6_um, zc6_sb, zc7_le, zc7_ge, zc7_lt, zc7_gt, zc7_eq, zc7_ad, zc7_da, zc7_mu, zc7_um, zc7_sb, zc5764801_le, zc5764801_ge, zc5764801_lt, zc5764801_gt, zc5764801_eq, zc5764801_ad, zc5764801_da, zc5764801_mu, zc5764801_um, zc5764801_sb, zI, zR, zRn0, zRn1, zRnb, jR_run, zRn0B, zRn1B, zRnbB, znn, nI_add, pk_mul, nI_leI, nI_ltI, nI_eq, if_true, if_false, ite_true, ite_false, e18, e, e15, zbit1, b1]
      rw [hf]
      rfl
    · by_cases b2 : (zOp S k).testBit i = true
      · have hf : zFr B S k i = false := by simp [zFr, b2]
        simp (disch := omega) only [fX7_canWrite_33, fX7_canWrite_107, fX7_canWrite_99, zr_g15, zr_a15, zr_g18, zr_a18, zr_g48, zr_a48, zr_a48_0, zr_a48_1, zr_a48_2, zr_a48_3, zc0_le, zc0_ge, zc0_lt, zc0_gt, zc0_eq, zc1_le, zc1_ge, zc1_lt, zc1_gt, zc1_eq, zc1_ad, zc1_da, zc1_mu, zc1_um, zc1_sb, zc4_le, zc4_ge, zc4_lt, zc4_gt, zc4_eq, zc4_ad, zc4_da, zc4_mu, zc4_um, zc4_sb, zc6_le, zc6_ge, zc6_lt, zc6_gt, zc6_eq, zc6_ad, zc6_da, zc6_mu, zc6_um, zc6_sb, zc7_le, zc7_ge, zc7_lt, zc7_gt, zc7_eq, zc7_ad, zc7_da, zc7_mu, zc7_um, zc7_sb, zc5764801_le, zc5764801_ge, zc5764801_lt, zc5764801_gt, zc5764801_eq, zc5764801_ad, zc5764801_da, zc5764801_mu, zc5764801_um, zc5764801_sb, zI, zR, zRn0, zRn1, zRnb, jR_run, zRn0B, zRn1B, zRnbB, znn, nI_add, pk_mul, nI_leI, nI_ltI, nI_eq, if_true, if_false, ite_true, ite_false, e18, e, e15, zbit1, b1, e48, b2]
        rw [hf]
        rfl
      · by_cases b3 : z7 (zPl S (6 * k + i)) < 5764801
        · simp (disch := omega) only [fX7_canWrite_33, fX7_canWrite_107, fX7_canWrite_99, zr_g15, zr_a15, zr_g18, zr_a18, zr_g48, zr_a48, zr_a48_0, zr_a48_1, zr_a48_2, zr_a48_3, zc0_le, zc0_ge, zc0_lt, zc0_gt, zc0_eq, zc1_le, zc1_ge, zc1_lt, zc1_gt, zc1_eq, zc1_ad, zc1_da, zc1_mu, zc1_um, zc1_sb, zc4_le, zc4_ge, zc4_lt, zc4_gt, zc4_eq, zc4_ad, zc4_da, zc4_mu, zc4_um, zc4_sb, zc6_le, zc6_ge, zc6_lt, zc6_gt, zc6_eq, zc6_ad, zc6_da, zc6_mu, zc6_um, zc6_sb, zc7_le, zc7_ge, zc7_lt, zc7_gt, zc7_eq, zc7_ad, zc7_da, zc7_mu, zc7_um, zc7_sb, zc5764801_le, zc5764801_ge, zc5764801_lt, zc5764801_gt, zc5764801_eq, zc5764801_ad, zc5764801_da, zc5764801_mu, zc5764801_um, zc5764801_sb, zI, zR, zRn0, zRn1, zRnb, jR_run, zRn0B, zRn1B, zRnbB, znn, nI_add, pk_mul, nI_leI, nI_ltI, nI_eq, if_true, if_false, ite_true, ite_false, e18, e, e15, zbit1, b1, e48, b2, e7, b3]
          have b3' := (z7_full hp.2.2.1).mp b3
          have hf : zFr B S k i = true := by simp [zFr, hli, b1, b2, b3']
          rw [ih, hf]
          rfl
        · have b3' : ¬ (zPl S (6 * k + i)).length < 9 := fun q => b3 ((z7_full hp.2.2.1).mpr q)
          have hf : zFr B S k i = false := by simp [zFr, b3']
          simp (disch := omega) only [fX7_canWrite_33, fX7_canWrite_107, fX7_canWrite_99, zr_g15, zr_a15, zr_g18, zr_a18, zr_g48, zr_a48, zr_a48_0, zr_a48_1, zr_a48_2, zr_a48_3, zc0_le, zc0_ge, zc0_lt, zc0_gt, zc0_eq, zc1_le, zc1_ge, zc1_lt, zc1_gt, zc1_eq, zc1_ad, zc1_da, zc1_mu, zc1_um, zc1_sb, zc4_le, zc4_ge, zc4_lt, zc4_gt, zc4_eq, zc4_ad, zc4_da, zc4_mu, zc4_um, zc4_sb, zc6_le, zc6_ge, zc6_lt, zc6_gt, zc6_eq, zc6_ad, zc6_da, zc6_mu, zc6_um, zc6_sb, zc7_le, zc7_ge, zc7_lt, zc7_gt, zc7_eq, zc7_ad, zc7_da, zc7_mu, zc7_um, zc7_sb, zc5764801_le, zc5764801_ge, zc5764801_lt, zc5764801_gt, zc5764801_eq, zc5764801_ad, zc5764801_da, zc5764801_mu, zc5764801_um, zc5764801_sb, zI, zR, zRn0, zRn1, zRnb, jR_run, zRn0B, zRn1B, zRnbB, znn, nI_add, pk_mul, nI_leI, nI_ltI, nI_eq, if_true, if_false, ite_true, ite_false, e18, e, e15, zbit1, b1, e48, b2, e7, b3]
          rw [hf]
          rfl
theorem zr_can (hX : zRX N a B S A) {t k l : Nat} (ht : t < zT B) (hk : k < zS B) (hl : l < 6) : (fX7_canWrite N a (nI t) (nI k) (nI l)).1 (rH h a (F, L, A, M)) = some (zb (zCw B S t k l), rH h a (F, L, A, M)) := by
  have hN := hX.1
  have hs3 := hX.2.1.1
  have hT := hX.2.1.2.1
  have h6 := (hX.2.1.2.2.2.1 k hk).1.2
  have hlo := (hX.2.1.2.2.2.2.1 t ht).2.2
  have e18 := (hX.2.2.2.1.2.2.2.2.1 t ht).2.2
  have e13 := (hX.2.2.2.1.2.2.2.1 k hk).1
  have e48 := (hX.2.2.2.2.1.2.1 k (by omega)).1
  have hth := (hX.2.2.1.2.1 k (by omega)).1
  by_cases hz : zTh S k = 0
  · have ez : zCw B S t k l = false := by simp [zCw, hz]
    rw [ez]
    simp (disch := omega) only [fX7_canWrite, fX7_canWrite_28, zr_g13, zr_a13, zr_g18, zr_a18, zr_g48, zr_a48, zr_a48_0, zr_a48_1, zr_a48_2, zr_a48_3, zc0_le, zc0_ge, zc0_lt, zc0_gt, zc0_eq, zc1_le, zc1_ge, zc1_lt, zc1_gt, zc1_eq, zc1_ad, zc1_da, zc1_mu, zc1_um, zc1_sb, zI, zR, zRn0, zRn1, zRnb, jR_run, zRn0B, zRn1B, zRnbB, znn, nI_add, pk_mul, nI_leI, nI_ltI, nI_eq, if_true, if_false, ite_true, ite_false, e48, hz]
    rfl
  · by_cases hc : l + zLo B t ≤ zLi B k
    · have e := zr_can33 (h := h) (F := F) (L := L) (M := M) hX ht hk hc (zLo B t) N l rfl (by omega)
      have ez : zCw B S t k l = zAl (zFr B S k) (zLo B t) l := by simp [zCw, hz]
      rw [ez]
      simp (disch := omega) only [fX7_canWrite, fX7_canWrite_28, zr_g13, zr_a13, zr_g18, zr_a18, zr_g48, zr_a48, zr_a48_0, zr_a48_1, zr_a48_2, zr_a48_3, zc0_le, zc0_ge, zc0_lt, zc0_gt, zc0_eq, zc1_le, zc1_ge, zc1_lt, zc1_gt, zc1_eq, zc1_ad, zc1_da, zc1_mu, zc1_um, zc1_sb, zI, zR, zRn0, zRn1, zRnb, jR_run, zRn0B, zRn1B, zRnbB, znn, nI_add, pk_mul, nI_leI, nI_ltI, nI_eq, if_true, if_false, ite_true, ite_false, e48, hz, e18, e13, hc]
      exact e
    · have ez : zCw B S t k l = false := by
        rw [Bool.eq_false_iff]
        exact fun q => hc ((zCw_spec hX.2.1 ht).mp q).2.1
      rw [ez]
      simp (disch := omega) only [fX7_canWrite, fX7_canWrite_28, zr_g13, zr_a13, zr_g18, zr_a18, zr_g48, zr_a48, zr_a48_0, zr_a48_1, zr_a48_2, zr_a48_3, zc0_le, zc0_ge, zc0_lt, zc0_gt, zc0_eq, zc1_le, zc1_ge, zc1_lt, zc1_gt, zc1_eq, zc1_ad, zc1_da, zc1_mu, zc1_um, zc1_sb, zI, zR, zRn0, zRn1, zRnb, jR_run, zRn0B, zRn1B, zRnbB, znn, nI_add, pk_mul, nI_leI, nI_ltI, nI_eq, if_true, if_false, ite_true, ite_false, e48, hz, e18, e13, hc]
      rfl
theorem zRow_w1 {f : Nat → Int32} (hr : zRow S f) {t k i : Nat} (hk : k < 3) (hi : i < 6) : zRow (zW1 S t k i) (upd (upd f (7 + 6 * k + i) (nI (z7 (zPl S (6 * k + i)) * 7 + t + 1))) (4 + k) (nI (zOp S k ||| 2 ^ i))) := by
  refine ⟨?_, fun k' h' => ⟨?_, ?_⟩, fun q hq => ?_⟩
  · simp (disch := omega) only [zu_ne]
    exact hr.1
  · simp (disch := omega) only [zu_ne]
    exact (hr.2.1 k' h').1
  · show _ = nI (if k' = k then zOp S k ||| 2 ^ i else zOp S k')
    by_cases e : k' = k
    · subst e
      rw [zu_eq, if_pos rfl]
    · rw [if_neg e]
      simp (disch := omega) only [zu_ne]
      exact (hr.2.1 k' h').2
  · rw [zW1_pl]
    by_cases e : q = 6 * k + i
    · rw [if_pos e, e, ← Nat.add_assoc, zu_ne _ _ (by omega), zu_eq]
      rfl
    · rw [if_neg e]
      simp (disch := omega) only [zu_ne]
      exact hr.2.2 q hq
theorem zr_writes3 (hb : h.2.2.2.2 0 ≤ a) {t k l lo : Nat} (ht : t < 12) (hk : k < 3) (hl : l + lo ≤ 6) : ∀ (j n i : Nat) (S : zMS) (A : Nat → Nat → Int32), zRs S A → A 18 t = nI lo → i + j = l + lo → j < n →
    ∃ A', zRs (zWi t k j i S) A' ∧ (∀ q, q ≠ 48 → A' q = A q) ∧ (fX7_writes_3 N a n (nI t) (nI k) (nI l) (nI i)).1 (rH h a (F, L, A, M)) = some ((), rH h a (F, L, A', M))
  | 0, n + 1, i, S, A, hr, e18, hi, hn => by
    have e : l + lo ≤ i := by omega
    refine ⟨A, hr, fun _ _ => rfl, ?_⟩
    simp (disch := omega) only [fX7_writes_3, fX7_writes_74, zr_g18, zr_a18, zr_s18 hb, zr_g48, zr_a48, zr_s48 hb, zr_a48_0, zr_a48_1, zr_a48_2, zr_a48_3, zr_s48_0 hb, zc0_le, zc0_ge, zc0_lt, zc0_gt, zc0_eq, zc1_le, zc1_ge, zc1_lt, zc1_gt, zc1_eq, zc1_ad, zc1_da, zc1_mu, zc1_um, zc1_sb, zc4_le, zc4_ge, zc4_lt, zc4_gt, zc4_eq, zc4_ad, zc4_da, zc4_mu, zc4_um, zc4_sb, zc6_le, zc6_ge, zc6_lt, zc6_gt, zc6_eq, zc6_ad, zc6_da, zc6_mu, zc6_um, zc6_sb, zc7_le, zc7_ge, zc7_lt, zc7_gt, zc7_eq, zc7_ad, zc7_da, zc7_mu, zc7_um, zc7_sb, zI, zR, zRn0, zRn1, zRnb, jR_run, zRn0B, zRn1B, zRnbB, znn, nI_add, pk_mul, nI_leI, nI_ltI, nI_eq, if_true, if_false, ite_true, ite_false, e18, e]
  | j + 1, n + 1, i, S, A, hr, e18, hi, hn => by
    have e : ¬ l + lo ≤ i := by omega
    have e7 : A 48 (7 + 6 * k + i) = nI (z7 (zPl S (6 * k + i))) := by
      rw [Nat.add_assoc]
      exact hr.2.2 (6 * k + i) (by omega)
    have e4 := (hr.2.1 k hk).2
    have hr' : zRs (zW1 S t k i) (zuA (zuA A 48 (upd (A 48) (7 + 6 * k + i) (nI (z7 (zPl S (6 * k + i)) * 7 + t + 1)))) 48 (upd (upd (A 48) (7 + 6 * k + i) (nI (z7 (zPl S (6 * k + i)) * 7 + t + 1))) (4 + k) (nI (zOp S k ||| 2 ^ i)))) := by
      show zRow _ _
      rw [zuA_eq]
      exact zRow_w1 hr hk (by omega)
    obtain ⟨A', h1, h2, h3⟩ := zr_writes3 hb ht hk hl j n (i + 1) _ _ hr' (by simp (disch := omega) only [zuA_ne]; exact e18) (by omega) (by omega)
    refine ⟨A', h1, fun q hq => (h2 q hq).trans (by simp (disch := omega) only [zuA_ne]), ?_⟩
    simp (disch := omega) only [fX7_writes_3, fX7_writes_74, zr_g18, zr_a18, zr_s18 hb, zr_g48, zr_a48, zr_s48 hb, zr_a48_0, zr_a48_1, zr_a48_2, zr_a48_3, zr_s48_0 hb, zc0_le, zc0_ge, zc0_lt, zc0_gt, zc0_eq, zc1_le, zc1_ge, zc1_lt, zc1_gt, zc1_eq, zc1_ad, zc1_da, zc1_mu, zc1_um, zc1_sb, zc4_le, zc4_ge, zc4_lt, zc4_gt, zc4_eq, zc4_ad, zc4_da, zc4_mu, zc4_um, zc4_sb, zc6_le, zc6_ge, zc6_lt, zc6_gt, zc6_eq, zc6_ad, zc6_da, zc6_mu, zc6_um, zc6_sb, zc7_le, zc7_ge, zc7_lt, zc7_gt, zc7_eq, zc7_ad, zc7_da, zc7_mu, zc7_um, zc7_sb, zI, zR, zRn0, zRn1, zRnb, jR_run, zRn0B, zRn1B, zRnbB, znn, nI_add, pk_mul, nI_leI, nI_ltI, nI_eq, if_true, if_false, ite_true, ite_false, e18, e, e7, zuA_eq, zu_ne, e4, zshl, zor]
    exact h3
theorem zr_writes (hX : zRX N a B S A) (hb : h.2.2.2.2 0 ≤ a) {t k l : Nat} (ht : t < zT B) (hk : k < zS B) (hw : zCw B S t k l = true) :
    ∃ A', zRX N a B (zWr B S t k l) A' ∧ (∀ q, q ≠ 48 → A' q = A q) ∧ (fX7_writes N a (nI t) (nI k) (nI l)).1 (rH h a (F, L, A, M)) = some ((), rH h a (F, L, A', M)) := by
  have hN := hX.1
  have hs3 := hX.2.1.1
  have hT := hX.2.1.2.1
  have h6 := (hX.2.1.2.2.2.1 k hk).1.2
  have hlo := (hX.2.1.2.2.2.2.1 t ht).2.2
  have hc := ((zCw_spec hX.2.1 ht).mp hw).2.1
  obtain ⟨A', h1, h2, h3⟩ := zr_writes3 (N := N) (F := F) (L := L) (M := M) hb (show t < 12 by omega) (show k < 3 by omega) (show l + zLo B t ≤ 6 by omega) (zLo B t) N l S A hX.2.2.2.2.1 (hX.2.2.2.1.2.2.2.2.1 t ht).2.2 rfl (by omega)
  exact ⟨A', hX.to (fun q _ hq => h2 q (by omega)) (zSok_wr hX.2.1 hX.2.2.1 ht hk hw) h1, h2, h3⟩
theorem zr_scraped20 (hX : zRX N a B S A) {k m : Nat} (hk : k < 3) (hm : m < 64) (hmo : ∀ l, m.testBit l = true → (zOp S k).testBit l = true) : ∀ (j n i : Nat), i + j = 6 → j < n →
    (fX7_scrapedBy_20 N a n (nI k) (nI m) (zb (zAny (fun l => m.testBit l && decide (zGa B (zHd S (6 * k + l)) = 1)) i)) (zb (zAny (fun l => m.testBit l && decide (zKi B (zHd S (6 * k + l)) = 3)) i)) (nI i)).1 (rH h a (F, L, A, M)) = some (if m = 0 then 0 else 1 + zb (zSg B S k m) + zb (zSo B S k m), rH h a (F, L, A, M))
  | 0, n + 1, i, hi, hn => by
    have e : i = 6 := by omega
    subst e
    unfold zSg zSo
    by_cases hz : m = 0
    · simp (disch := omega) only [fX7_scrapedBy_20, fX7_scrapedBy_100, fX7_scrapedBy_115, zr_g16, zr_a16, zr_g17, zr_a17, zr_g48, zr_a48, zr_a48_0, zr_a48_1, zr_a48_2, zr_a48_3, zc0_le, zc0_ge, zc0_lt, zc0_gt, zc0_eq, zc1_le, zc1_ge, zc1_lt, zc1_gt, zc1_eq, zc1_ad, zc1_da, zc1_mu, zc1_um, zc1_sb, zc3_le, zc3_ge, zc3_lt, zc3_gt, zc3_eq, zc3_ad, zc3_da, zc3_mu, zc3_um, zc3_sb, zc6_le, zc6_ge, zc6_lt, zc6_gt, zc6_eq, zc6_ad, zc6_da, zc6_mu, zc6_um, zc6_sb, zc7_le, zc7_ge, zc7_lt, zc7_gt, zc7_eq, zc7_ad, zc7_da, zc7_mu, zc7_um, zc7_sb, zI, zR, zRn0, zRn1, zRnb, jR_run, zRn0B, zRn1B, zRnbB, znn, nI_add, pk_mul, nI_leI, nI_ltI, nI_eq, if_true, if_false, ite_true, ite_false, znz7, znz6, hz]
      rfl
    · simp (disch := omega) only [fX7_scrapedBy_20, fX7_scrapedBy_100, fX7_scrapedBy_115, zr_g16, zr_a16, zr_g17, zr_a17, zr_g48, zr_a48, zr_a48_0, zr_a48_1, zr_a48_2, zr_a48_3, zc0_le, zc0_ge, zc0_lt, zc0_gt, zc0_eq, zc1_le, zc1_ge, zc1_lt, zc1_gt, zc1_eq, zc1_ad, zc1_da, zc1_mu, zc1_um, zc1_sb, zc3_le, zc3_ge, zc3_lt, zc3_gt, zc3_eq, zc3_ad, zc3_da, zc3_mu, zc3_um, zc3_sb, zc6_le, zc6_ge, zc6_lt, zc6_gt, zc6_eq, zc6_ad, zc6_da, zc6_mu, zc6_um, zc6_sb, zc7_le, zc7_ge, zc7_lt, zc7_gt, zc7_eq, zc7_ad, zc7_da, zc7_mu, zc7_um, zc7_sb, zI, zR, zRn0, zRn1, zRnb, jR_run, zRn0B, zRn1B, zRnbB, znn, nI_add, pk_mul, nI_leI, nI_ltI, nI_eq, if_true, if_false, ite_true, ite_false, znz7, znz6, hz]
      rfl
  | j + 1, n + 1, i, hi, hn => by
    have hT := hX.2.1.2.1
    have e : ¬ 6 ≤ i := by omega
    have ih := zr_scraped20 hX hk hm hmo j n (i + 1) (by omega) (by omega)
    by_cases hbt : m.testBit i = true
    · have hne := hX.2.2.1.2.2.2.1 k i hk (by omega) (hmo i hbt)
      have hp := zPl_ok hX.2.1 hX.2.2.1 (q := 6 * k + i) (by omega)
      have e7 : A 48 (7 + 6 * k + i) = nI (z7 (zPl S (6 * k + i))) := by
        rw [Nat.add_assoc]
        exact hX.2.2.2.2.1.2.2 (6 * k + i) (by omega)
      cases hpl : zPl S (6 * k + i) with
      | nil => exact absurd hpl hne
      | cons t r =>
        rw [hpl] at hp e7
        have ht := hp.2.1 t List.mem_cons_self
        have hhd : zHd S (6 * k + i) = t := by unfold zHd; rw [hpl]; rfl
        have em := z7_m (r := r) (show t < 6 by omega) (Nat.lt_trans hp.2.2.2.1 (by decide))
        have e17 := (hX.2.2.2.1.2.2.2.2.1 t ht).2.1
        have e16 := (hX.2.2.2.1.2.2.2.2.1 t ht).1
        have hki := (hX.2.1.2.2.2.2.1 t ht).1
        have hga := (hX.2.1.2.2.2.2.1 t ht).2.1
        have hbt' : ¬ m.testBit i = false := by rw [hbt]; decide
        simp only [zAny, hbt, hhd, Bool.true_and] at ih
        by_cases h3 : zKi B t = 3
        · simp (disch := omega) only [fX7_scrapedBy_20, fX7_scrapedBy_100, fX7_scrapedBy_94, fX7_scrapedBy_91, fX7_scrapedBy_115, zr_g16, zr_a16, zr_g17, zr_a17, zr_g48, zr_a48, zr_a48_0, zr_a48_1, zr_a48_2, zr_a48_3, zc0_le, zc0_ge, zc0_lt, zc0_gt, zc0_eq, zc1_le, zc1_ge, zc1_lt, zc1_gt, zc1_eq, zc1_ad, zc1_da, zc1_mu, zc1_um, zc1_sb, zc3_le, zc3_ge, zc3_lt, zc3_gt, zc3_eq, zc3_ad, zc3_da, zc3_mu, zc3_um, zc3_sb, zc6_le, zc6_ge, zc6_lt, zc6_gt, zc6_eq, zc6_ad, zc6_da, zc6_mu, zc6_um, zc6_sb, zc7_le, zc7_ge, zc7_lt, zc7_gt, zc7_eq, zc7_ad, zc7_da, zc7_mu, zc7_um, zc7_sb, zI, zR, zRn0, zRn1, zRnb, jR_run, zRn0B, zRn1B, zRnbB, znn, nI_add, pk_mul, nI_leI, nI_ltI, nI_eq, if_true, if_false, ite_true, ite_false, znz7, znz6, e, zbit0, hbt', e7, em, e17, e16, h3, zb_or, zb_or1]
          rw [h3] at ih
          exact ih
        · rw [decide_eq_false h3] at ih
          simp (disch := omega) only [fX7_scrapedBy_20, fX7_scrapedBy_100, fX7_scrapedBy_94, fX7_scrapedBy_91, fX7_scrapedBy_115, zr_g16, zr_a16, zr_g17, zr_a17, zr_g48, zr_a48, zr_a48_0, zr_a48_1, zr_a48_2, zr_a48_3, zc0_le, zc0_ge, zc0_lt, zc0_gt, zc0_eq, zc1_le, zc1_ge, zc1_lt, zc1_gt, zc1_eq, zc1_ad, zc1_da, zc1_mu, zc1_um, zc1_sb, zc3_le, zc3_ge, zc3_lt, zc3_gt, zc3_eq, zc3_ad, zc3_da, zc3_mu, zc3_um, zc3_sb, zc6_le, zc6_ge, zc6_lt, zc6_gt, zc6_eq, zc6_ad, zc6_da, zc6_mu, zc6_um, zc6_sb, zc7_le, zc7_ge, zc7_lt, zc7_gt, zc7_eq, zc7_ad, zc7_da, zc7_mu, zc7_um, zc7_sb, zI, zR, zRn0, zRn1, zRnb, jR_run, zRn0B, zRn1B, zRnbB, znn, nI_add, pk_mul, nI_leI, nI_ltI, nI_eq, if_true, if_false, ite_true, ite_false, znz7, znz6, e, zbit0, hbt', e7, em, e17, e16, h3, zb_or, zb_or0]
          exact ih
    · have hbt' : m.testBit i = false := by rw [Bool.eq_false_iff]; exact hbt
      simp only [zAny, hbt', Bool.false_and, Bool.or_false] at ih
      simp (disch := omega) only [fX7_scrapedBy_20, fX7_scrapedBy_100, fX7_scrapedBy_94, fX7_scrapedBy_115, zr_g16, zr_a16, zr_g17, zr_a17, zr_g48, zr_a48, zr_a48_0, zr_a48_1, zr_a48_2, zr_a48_3, zc0_le, zc0_ge, zc0_lt, zc0_gt, zc0_eq, zc1_le, zc1_ge, zc1_lt, zc1_gt, zc1_eq, zc1_ad, zc1_da, zc1_mu, zc1_um, zc1_sb, zc3_le, zc3_ge, zc3_lt, zc3_gt, zc3_eq, zc3_ad, zc3_da, zc3_mu, zc3_um, zc3_sb, zc6_le, zc6_ge, zc6_lt, zc6_gt, zc6_eq, zc6_ad, zc6_da, zc6_mu, zc6_um, zc6_sb, zc7_le, zc7_ge, zc7_lt, zc7_gt, zc7_eq, zc7_ad, zc7_da, zc7_mu, zc7_um, zc7_sb, zI, zR, zRn0, zRn1, zRnb, jR_run, zRn0B, zRn1B, zRnbB, znn, nI_add, pk_mul, nI_leI, nI_ltI, nI_eq, if_true, if_false, ite_true, ite_false, znz7, znz6, e, zbit0, hbt']
      exact ih
theorem zSb_zb (k w : Nat) : (if zOp S k &&& w = 0 then (0 : Int32) else 1 + zb (zSg B S k (zOp S k &&& w)) + zb (zSo B S k (zOp S k &&& w))) = nI (zSb B S k w) := by
  unfold zSb
  split
  · rfl
  · cases zSg B S k (zOp S k &&& w) <;> cases zSo B S k (zOp S k &&& w) <;> decide
theorem zr_scraped (hX : zRX N a B S A) {k w : Nat} (hk : k < 3) : (fX7_scrapedBy N a (nI k) (nI w)).1 (rH h a (F, L, A, M)) = some (nI (zSb B S k w), rH h a (F, L, A, M)) := by
  have hN := hX.1
  have e4 := (hX.2.2.2.2.1.2.1 k hk).2
  have hop := (hX.2.2.1.2.1 k hk).2
  have hm : zOp S k &&& w < 64 := Nat.lt_of_le_of_lt Nat.and_le_left hop
  have e := zr_scraped20 (h := h) (F := F) (L := L) (M := M) hX hk hm (fun l hl => by rw [Nat.testBit_and, Bool.and_eq_true] at hl; exact hl.1) 6 N 0 rfl (by omega)
  rw [zSb_zb] at e
  simp (disch := omega) only [fX7_scrapedBy, zr_g48, zr_a48, zr_a48_0, zr_a48_1, zr_a48_2, zr_a48_3, zc0_le, zc0_ge, zc0_lt, zc0_gt, zc0_eq, zc4_le, zc4_ge, zc4_lt, zc4_gt, zc4_eq, zc4_ad, zc4_da, zc4_mu, zc4_um, zc4_sb, zI, zR, zRn0, zRn1, zRnb, jR_run, zRn0B, zRn1B, zRnbB, znn, nI_add, pk_mul, nI_leI, nI_ltI, nI_eq, if_true, if_false, ite_true, ite_false, e4, zand]
  exact e
theorem zr_scrapes63 (hb : h.2.2.2.2 0 ≤ a) {k : Nat} (hk : k < 3) : ∀ (j n i : Nat) (A : Nat → Nat → Int32), i + j = 6 → j < n →
    ∃ A', (∀ q, q ≠ 48 → A' q = A q) ∧ (∀ q, q < 25 → A' 48 q = if 7 + 6 * k + i ≤ q ∧ q < 7 + 6 * k + 6 then 0 else A 48 q) ∧ (fX7_scrapes_63 N a n (nI k) (nI i)).1 (rH h a (F, L, A, M)) = some ((), rH h a (F, L, A', M))
  | 0, n + 1, i, A, hi, hn => by
    have e : 6 ≤ i := by omega
    refine ⟨A, fun _ _ => rfl, fun q _ => by rw [if_neg (by omega)], ?_⟩
    simp (disch := omega) only [fX7_scrapes_63, fX7_scrapes_90, zr_g48, zr_a48, zr_s48 hb, zr_a48_0, zr_a48_1, zr_a48_2, zr_a48_3, zr_s48_0 hb, zc0_le, zc0_ge, zc0_lt, zc0_gt, zc0_eq, zc1_le, zc1_ge, zc1_lt, zc1_gt, zc1_eq, zc1_ad, zc1_da, zc1_mu, zc1_um, zc1_sb, zc6_le, zc6_ge, zc6_lt, zc6_gt, zc6_eq, zc6_ad, zc6_da, zc6_mu, zc6_um, zc6_sb, zc7_le, zc7_ge, zc7_lt, zc7_gt, zc7_eq, zc7_ad, zc7_da, zc7_mu, zc7_um, zc7_sb, zI, zR, zRn0, zRn1, zRnb, jR_run, zRn0B, zRn1B, zRnbB, znn, nI_add, pk_mul, nI_leI, nI_ltI, nI_eq, if_true, if_false, ite_true, ite_false, e]
  | j + 1, n + 1, i, A, hi, hn => by
    have e : ¬ 6 ≤ i := by omega
    obtain ⟨A', h1, h2, h3⟩ := zr_scrapes63 hb hk j n (i + 1) (zuA A 48 (upd (A 48) (7 + 6 * k + i) 0)) (by omega) (by omega)
    refine ⟨A', fun q hq => (h1 q hq).trans (zuA_ne _ _ hq), fun q hq => ?_, ?_⟩
    · rw [h2 q hq, zuA_eq]
      by_cases e1 : q = 7 + 6 * k + i
      · rw [e1, zu_eq, if_neg (by omega), if_pos (by omega)]
      · rw [zu_ne _ _ e1]
        by_cases e2 : 7 + 6 * k + (i + 1) ≤ q ∧ q < 7 + 6 * k + 6
        · rw [if_pos e2, if_pos (by omega)]
        · rw [if_neg e2, if_neg (by omega)]
    · simp (disch := omega) only [fX7_scrapes_63, fX7_scrapes_90, zr_g48, zr_a48, zr_s48 hb, zr_a48_0, zr_a48_1, zr_a48_2, zr_a48_3, zr_s48_0 hb, zc0_le, zc0_ge, zc0_lt, zc0_gt, zc0_eq, zc1_le, zc1_ge, zc1_lt, zc1_gt, zc1_eq, zc1_ad, zc1_da, zc1_mu, zc1_um, zc1_sb, zc6_le, zc6_ge, zc6_lt, zc6_gt, zc6_eq, zc6_ad, zc6_da, zc6_mu, zc6_um, zc6_sb, zc7_le, zc7_ge, zc7_lt, zc7_gt, zc7_eq, zc7_ad, zc7_da, zc7_mu, zc7_um, zc7_sb, zI, zR, zRn0, zRn1, zRnb, jR_run, zRn0B, zRn1B, zRnbB, znn, nI_add, pk_mul, nI_leI, nI_ltI, nI_eq, if_true, if_false, ite_true, ite_false, e]
      exact h3
theorem zr_scrapes (hX : zRX N a B S A) (hb : h.2.2.2.2 0 ≤ a) {k w : Nat} (hk : k < 3) :
    ∃ A', zRX N a B (zSc B S k w) A' ∧ (∀ q, q ≠ 48 → A' q = A q) ∧ (fX7_scrapes N a (nI k) (nI w)).1 (rH h a (F, L, A, M)) = some ((), rH h a (F, L, A', M)) := by
  have hN := hX.1
  have e1 := (hX.2.2.2.2.1.2.1 k hk).1
  have e4 := (hX.2.2.2.2.1.2.1 k hk).2
  have hth := (hX.2.2.1.2.1 k hk).1
  have hsb : zSb B S k w ≤ 3 := by
    unfold zSb
    split
    · omega
    · split <;> split <;> omega
  have esb := zr_scraped (h := h) (F := F) (L := L) (M := M) (w := w) hX hk
  have hsc := zSok_sc hX.2.2.1 (w := w) hk
  have hr := hX.2.2.2.2.1
  have ecut : (fX7_scrapes N a (nI k) (nI w)).1 (rH h a (F, L, A, M)) = (if nI (zTh S k) - nI (zSb B S k w) ≤ 0 then (fX7_scrapes_63 N a N (nI k) 0).1 (rH h a (F, L, zuA A 48 (upd (upd (upd (upd (A 48) (1 + k) (nI (zTh S k) - nI (zSb B S k w))) (4 + k) (nI (zan (zOp S k) w))) (1 + k) 0) (4 + k) 0), M)) else some ((), rH h a (F, L, zuA A 48 (upd (upd (A 48) (1 + k) (nI (zTh S k) - nI (zSb B S k w))) (4 + k) (nI (zan (zOp S k) w))), M))) := by
    unfold fX7_scrapes
    simp (disch := omega) only [zr_g48, zr_a48, zr_s48 hb, zr_a48_0, zr_a48_1, zr_a48_2, zr_a48_3, zr_s48_0 hb, zc0_le, zc0_ge, zc0_lt, zc0_gt, zc0_eq, zc1_le, zc1_ge, zc1_lt, zc1_gt, zc1_eq, zc1_ad, zc1_da, zc1_mu, zc1_um, zc1_sb, zc4_le, zc4_ge, zc4_lt, zc4_gt, zc4_eq, zc4_ad, zc4_da, zc4_mu, zc4_um, zc4_sb, zI, zR, zRn0, zRn1, zRnb, jR_run, zRn0B, zRn1B, zRnbB, znn, nI_add, pk_mul, nI_leI, nI_ltI, nI_eq, if_true, if_false, ite_true, ite_false, e1]
    rw [jB_eq esb]
    simp (disch := omega) only [zr_g48, zr_a48, zr_s48 hb, zr_a48_0, zr_a48_1, zr_a48_2, zr_a48_3, zr_s48_0 hb, zc0_le, zc0_ge, zc0_lt, zc0_gt, zc0_eq, zc1_le, zc1_ge, zc1_lt, zc1_gt, zc1_eq, zc1_ad, zc1_da, zc1_mu, zc1_um, zc1_sb, zc4_le, zc4_ge, zc4_lt, zc4_gt, zc4_eq, zc4_ad, zc4_da, zc4_mu, zc4_um, zc4_sb, zI, zR, zRn0, zRn1, zRnb, jR_run, zRn0B, zRn1B, zRnbB, znn, nI_add, pk_mul, nI_leI, nI_ltI, nI_eq, if_true, if_false, ite_true, ite_false, e4, zuA_eq, zu_eq, zu_ne, zandn, zuA_zuA]
  rw [ecut]
  unfold zSc at hsc ⊢
  by_cases hz : zTh S k - zSb B S k w = 0
  · rw [if_pos ((zsub_le (by omega) (by omega)).mpr (by omega)), if_pos hz]
    rw [if_pos hz] at hsc
    obtain ⟨A', h1, h2, h3⟩ := zr_scrapes63 (N := N) (F := F) (L := L) (M := M) (h := h) hb hk 6 N 0 (zuA A 48 (upd (upd (upd (upd (A 48) (1 + k) (nI (zTh S k) - nI (zSb B S k w))) (4 + k) (nI (zan (zOp S k) w))) (1 + k) 0) (4 + k) 0)) rfl (by omega)
    refine ⟨A', hX.to (fun q _ hq => (h1 q (by omega)).trans (zuA_ne _ _ (by omega))) hsc ?_, fun q hq => (h1 q hq).trans (zuA_ne _ _ hq), h3⟩
    rw [zuA_eq] at h2
    refine ⟨?_, fun k' h' => ⟨?_, ?_⟩, fun q hq => ?_⟩
    · rw [h2 0 (by omega), if_neg (by omega)]
      simp (disch := omega) only [zu_ne]
      exact hr.1
    · rw [h2 (1 + k') (by omega), if_neg (by omega)]
      show _ = nI (if k' = k then 0 else zTh S k')
      by_cases e : k' = k
      · subst e
        rw [if_pos rfl, zu_ne _ _ (by omega), zu_eq]
        rfl
      · rw [if_neg e]
        simp (disch := omega) only [zu_ne]
        exact (hr.2.1 k' h').1
    · rw [h2 (4 + k') (by omega), if_neg (by omega)]
      show _ = nI (if k' = k then 0 else zOp S k')
      by_cases e : k' = k
      · subst e
        rw [if_pos rfl, zu_eq]
        rfl
      · rw [if_neg e]
        simp (disch := omega) only [zu_ne]
        exact (hr.2.1 k' h').2
    · rw [h2 (7 + q) (by omega)]
      show _ = nI (z7 (if 6 * k ≤ q ∧ q < 6 * k + 6 then [] else zPl S q))
      by_cases e : 6 * k ≤ q ∧ q < 6 * k + 6
      · rw [if_pos e, if_pos (by omega)]
        rfl
      · rw [if_neg e, if_neg (by omega)]
        simp (disch := omega) only [zu_ne]
        exact hr.2.2 q hq
  · have hnz : ¬ nI (zTh S k) - nI (zSb B S k w) ≤ 0 := fun q => hz (by
      have := (zsub_le (a := zTh S k) (b := zSb B S k w) (by omega) (by omega)).mp q
      omega)
    rw [if_neg hnz, if_neg hz]
    rw [if_neg hz] at hsc
    refine ⟨_, hX.to (fun q _ hq => zuA_ne _ _ (by omega)) hsc ?_, fun q hq => zuA_ne _ _ hq, rfl⟩
    show zRow _ _
    rw [zuA_eq]
    refine ⟨?_, fun k' h' => ⟨?_, ?_⟩, fun q hq => ?_⟩
    · simp (disch := omega) only [zu_ne]
      exact hr.1
    · show _ = nI (if k' = k then zTh S k - zSb B S k w else zTh S k')
      by_cases e : k' = k
      · subst e
        rw [if_pos rfl, zu_ne _ _ (by omega), zu_eq, pk_sub (by omega)]
      · rw [if_neg e]
        simp (disch := omega) only [zu_ne]
        exact (hr.2.1 k' h').1
    · show _ = nI (if k' = k then zan (zOp S k) w else zOp S k')
      by_cases e : k' = k
      · subst e
        rw [if_pos rfl, zu_eq]
      · rw [if_neg e]
        simp (disch := omega) only [zu_ne]
        exact (hr.2.1 k' h').2
    · simp (disch := omega) only [zu_ne]
      exact hr.2.2 q hq
theorem zr_place2 (hX : zRX N a B S A) {t k : Nat} (ht : t < zT B) (hk : k < zS B) : ∀ (j n l : Nat), l + j = zLi B k → j < n →
    (fX7_placeOf_2 N a n (nI t) (nI k) (nI l)).1 (rH h a (F, L, A, M)) = some (zo (zFs (fun l => zCw B S t k l) j l), rH h a (F, L, A, M))
  | 0, n + 1, l, hl, hn => by
    have hs3 := hX.2.1.1
    have h6 := (hX.2.1.2.2.2.1 k hk).1.2
    have e13 := (hX.2.2.2.1.2.2.2.1 k hk).1
    have e : zLi B k ≤ l := by omega
    simp (disch := omega) only [fX7_placeOf_2, fX7_placeOf_30, fX7_placeOf_22, zr_g13, zr_a13, zc0_le, zc0_ge, zc0_lt, zc0_gt, zc0_eq, zc1_le, zc1_ge, zc1_lt, zc1_gt, zc1_eq, zc1_ad, zc1_da, zc1_mu, zc1_um, zc1_sb, zI, zR, zRn0, zRn1, zRnb, jR_run, zRn0B, zRn1B, zRnbB, znn, nI_add, pk_mul, nI_leI, nI_ltI, nI_eq, if_true, if_false, ite_true, ite_false, e13, e]
    rfl
  | j + 1, n + 1, l, hl, hn => by
    have hs3 := hX.2.1.1
    have h6 := (hX.2.1.2.2.2.1 k hk).1.2
    have e13 := (hX.2.2.2.1.2.2.2.1 k hk).1
    have e : ¬ zLi B k ≤ l := by omega
    have ec := zr_can (h := h) (F := F) (L := L) (M := M) hX ht hk (show l < 6 by omega)
    simp (disch := omega) only [fX7_placeOf_2, fX7_placeOf_30, fX7_placeOf_22, zr_g13, zr_a13, zc0_le, zc0_ge, zc0_lt, zc0_gt, zc0_eq, zc1_le, zc1_ge, zc1_lt, zc1_gt, zc1_eq, zc1_ad, zc1_da, zc1_mu, zc1_um, zc1_sb, zI, zR, zRn0, zRn1, zRnb, jR_run, zRn0B, zRn1B, zRnbB, znn, nI_add, pk_mul, nI_leI, nI_ltI, nI_eq, if_true, if_false, ite_true, ite_false, e13, e]
    rw [jB_eq ec, zI, zFs]
    cases hc : zCw B S t k l with
    | true => rfl
    | false =>
      rw [if_pos zb_f]
      exact zr_place2 hX ht hk j n (l + 1) (by omega) (by omega)
theorem zr_place (hX : zRX N a B S A) {t k : Nat} (ht : t < zT B) (hk : k < zS B) : (fX7_placeOf N a (nI t) (nI k)).1 (rH h a (F, L, A, M)) = some (zo (zPc B S t k), rH h a (F, L, A, M)) := by
  have hN := hX.1
  have h6 := (hX.2.1.2.2.2.1 k hk).1.2
  unfold zPc
  rw [zFs_ext (j := zLi B k) h6 (fun q h1 _ => zCw_out hX.2.1 ht (by omega))]
  exact zr_place2 hX ht hk (zLi B k) N 0 (by omega) (by omega)
end
