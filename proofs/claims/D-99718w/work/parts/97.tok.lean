/-! PURE 24: the tape in words, numbers, signs; the reference's reading of one -/
set_option maxRecDepth 100000
def nL (n : Nat) : Int64 := Int64.ofNat n
theorem nL_toInt {n : Nat} (h : n < 2 ^ 63) : (nL n).toInt = n := Int64.toInt_ofNat_of_lt h
theorem nL_add (a b : Nat) : nL a + nL b = nL (a + b) := (Int64.ofNat_add a b).symm
theorem nL_mul (a b : Nat) : nL a * nL b = nL (a * b) := (Int64.ofNat_mul a b).symm
theorem nL_sub {a b : Nat} (h : b ≤ a) : nL a - nL b = nL (a - b) := by
  have : nL a = nL (a - b) + nL b := by rw [nL_add, Nat.sub_add_cancel h]
  rw [this, Int64.add_sub_cancel]
theorem nL_eq {a b : Nat} (ha : a < 2 ^ 63) (hb : b < 2 ^ 63) : nL a = nL b ↔ a = b := by
  rw [← Int64.toInt_inj, nL_toInt ha, nL_toInt hb]
  omega
theorem nL_lt {a b : Nat} (ha : a < 2 ^ 63) (hb : b < 2 ^ 63) : nL a < nL b ↔ a < b := by
  rw [Int64.lt_iff_toInt_lt, nL_toInt ha, nL_toInt hb]
  omega
theorem nL_i2l {a : Nat} (ha : a < 2 ^ 31) : (nI a).toInt64 = nL a := by
  rw [← Int64.toInt_inj, nL_toInt (by omega), Int32.toInt_toInt64, nI_toInt ha]
theorem nL_l2i {a : Nat} (ha : a < 2 ^ 31) : (nL a).toInt32 = nI a := by
  rw [← nL_i2l ha, lg_l2i_i2l]
theorem nL_c0 {a b : Nat} (ha : a < 2 ^ 63) (hb : b < 2 ^ 63) : lg_cmp (nL a) (nL b) = 0 ↔ a = b := by
  unfold lg_cmp
  simp only [gt_iff_lt, nL_lt hb ha, nL_eq ha hb]
  by_cases h1 : b < a
  · rw [if_pos h1]; exact ⟨fun h => absurd h (by decide), fun h => by omega⟩
  · rw [if_neg h1]
    by_cases h2 : a = b
    · rw [if_pos h2]; exact ⟨fun _ => h2, fun _ => rfl⟩
    · rw [if_neg h2]; exact ⟨fun h => absurd h (by decide), fun h => absurd h h2⟩
theorem nL_cl {a b : Nat} (ha : a < 2 ^ 63) (hb : b < 2 ^ 63) : lg_cmp (nL a) (nL b) < 0 ↔ a < b := by
  unfold lg_cmp
  simp only [gt_iff_lt, nL_lt hb ha, nL_eq ha hb]
  by_cases h1 : b < a
  · rw [if_pos h1]; exact ⟨fun h => absurd h (by decide), fun h => by omega⟩
  · rw [if_neg h1]
    by_cases h2 : a = b
    · rw [if_pos h2]; exact ⟨fun h => absurd h (by decide), fun h => by omega⟩
    · rw [if_neg h2]; exact ⟨fun _ => by omega, fun _ => by decide⟩
theorem nL_ce {a b : Nat} (ha : a < 2 ^ 63) (hb : b < 2 ^ 63) : lg_cmp (nL a) (nL b) ≤ 0 ↔ a ≤ b := by
  unfold lg_cmp
  simp only [gt_iff_lt, nL_lt hb ha, nL_eq ha hb]
  by_cases h1 : b < a
  · rw [if_pos h1]; exact ⟨fun h => absurd h (by decide), fun h => by omega⟩
  · rw [if_neg h1]
    by_cases h2 : a = b
    · rw [if_pos h2]; exact ⟨fun _ => by omega, fun _ => by decide⟩
    · rw [if_neg h2]; exact ⟨fun _ => by omega, fun _ => by decide⟩
/-! the tape -/
def zRn (p : Nat → Bool) : Nat → Nat → Nat
  | 0, k => k
  | j + 1, k => if p k = true then zRn p j (k + 1) else k
theorem zRn_ge (p : Nat → Bool) : ∀ j k, k ≤ zRn p j k
  | 0, k => Nat.le_refl _
  | j + 1, k => by
    have := zRn_ge p j (k + 1)
    unfold zRn
    split <;> omega
theorem zRn_le (p : Nat → Bool) : ∀ j k, zRn p j k ≤ k + j
  | 0, k => Nat.le_refl _
  | j + 1, k => by
    have := zRn_le p j (k + 1)
    unfold zRn
    split <;> omega
def zisW (c : Nat) : Bool := decide (c = 32) || decide (c = 10)
def zisL (c : Nat) : Bool := decide (97 ≤ c) && decide (c ≤ 122)
def zisD (c : Nat) : Bool := decide (48 ≤ c) && decide (c ≤ 57)
def zisS (c : Nat) : Bool := (decide (40 ≤ c) && decide (c ≤ 43)) || (decide (c = 45) || (decide (59 ≤ c) && decide (c ≤ 61)))
def zVl (base off : Nat) (t : Nat → Nat) (b : Nat) : Nat → Nat
  | 0 => 0
  | m + 1 => base * zVl base off t b m + t (b + m) - off
def zTb (t : Nat → Nat) (n k : Nat) : Nat := zRn (fun q => zisW (t q)) (n - k) k
def zTe (t : Nat → Nat) (n b : Nat) : Nat := if b = n then n else if zisL (t b) = true then zRn (fun q => zisL (t q)) (n - b) b else if zisD (t b) = true then zRn (fun q => zisD (t q)) (n - b) b else b + 1
def zTki (t : Nat → Nat) (n b : Nat) : Nat := if b = n then 0 else if zisL (t b) = true then (if zTe t n b - b ≤ 8 then 1 else 4) else if zisD (t b) = true then (if zTe t n b - b ≤ 4 then 2 else 4) else if zisS (t b) = true then 3 else 4
def zTw (t : Nat → Nat) (n b : Nat) : Nat := if b = n then 0 else if zisL (t b) = true then zVl 27 96 t b (min 8 (zTe t n b - b)) else 0
def zTo (t : Nat → Nat) (n b : Nat) : Nat := if b = n then 0 else if zisL (t b) = true then 0 else if zisD (t b) = true then zVl 10 48 t b (min 4 (zTe t n b - b)) else 0
theorem zTb_ge (t : Nat → Nat) (n k : Nat) : k ≤ zTb t n k := zRn_ge _ _ _
theorem zTb_le {t : Nat → Nat} {n k : Nat} (h : k ≤ n) : zTb t n k ≤ n := by
  have := zRn_le (fun q => zisW (t q)) (n - k) k
  unfold zTb
  omega
theorem zTe_le {t : Nat → Nat} {n b : Nat} (h : b ≤ n) : zTe t n b ≤ n := by
  have h1 := zRn_le (fun q => zisL (t q)) (n - b) b
  have h2 := zRn_le (fun q => zisD (t q)) (n - b) b
  unfold zTe
  split
  · omega
  · split
    · omega
    · split <;> omega
theorem zRn_gt {p : Nat → Bool} {j k : Nat} (hj : 0 < j) (hp : p k = true) : k < zRn p j k := by
  cases j with
  | zero => omega
  | succ j =>
    have := zRn_ge p j (k + 1)
    rw [zRn, if_pos hp]
    omega
theorem zTe_gt {t : Nat → Nat} {n b : Nat} (h : b < n) : b < zTe t n b := by
  unfold zTe
  rw [if_neg (by omega)]
  by_cases h1 : zisL (t b) = true
  · rw [if_pos h1]; exact zRn_gt (by omega) h1
  · rw [if_neg h1]
    by_cases h2 : zisD (t b) = true
    · rw [if_pos h2]; exact zRn_gt (by omega) h2
    · rw [if_neg h2]; omega
/-- where the token behind i others begins to be looked for; where it begins -/
def zPo (t : Nat → Nat) (n : Nat) : Nat → Nat
  | 0 => 0
  | i + 1 => zTe t n (zTb t n (zPo t n i))
def zBg (t : Nat → Nat) (n i : Nat) : Nat := zTb t n (zPo t n i)
theorem zPo_le (t : Nat → Nat) (n : Nat) : ∀ i, zPo t n i ≤ n
  | 0 => Nat.zero_le _
  | i + 1 => zTe_le (zTb_le (zPo_le t n i))
theorem zBg_le (t : Nat → Nat) (n i : Nat) : zBg t n i ≤ n := zTb_le (zPo_le t n i)
theorem zVl_b {base off lim : Nat} {t : Nat → Nat} {b : Nat} (hb : 1 ≤ base) : ∀ m, (∀ q, q < m → off < t (b + q) + 1 ∧ t (b + q) < off + base) → zVl base off t b m < base ^ m
  | 0, _ => by simp [zVl]
  | m + 1, h => by
    have ih := zVl_b (lim := lim) (t := t) hb m (fun q hq => h q (by omega))
    obtain ⟨h1, h2⟩ := h m (by omega)
    rw [zVl, Nat.pow_succ]
    have h3 : base * zVl base off t b m + base ≤ base * base ^ m := by
      rw [← Nat.mul_succ]
      exact Nat.mul_le_mul_left _ ih
    rw [Nat.mul_comm (base ^ m) base]
    omega
