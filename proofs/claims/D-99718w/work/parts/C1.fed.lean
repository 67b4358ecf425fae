/-! PURE 48: the tape is fed, in plain words -/
set_option maxRecDepth 100000
def zby (w : Int64) (s : Int32) : Int32 := (((w.toUInt64 >>> (s.toInt64.toUInt64 &&& Int64.toUInt64 63)).toInt64) &&& 255).toInt32
theorem zby_255 (x : Int64) : ∃ c, c < 256 ∧ (x &&& 255).toInt32 = nI c := by
  have h1 : (x &&& 255).toBitVec.toNat < 256 := by
    rw [Int64.toBitVec_and, BitVec.toNat_and]
    exact Nat.lt_of_le_of_lt Nat.and_le_right (by decide)
  refine ⟨(x &&& 255).toBitVec.toNat, h1, ?_⟩
  have h2 : x &&& 255 = nL (x &&& 255).toBitVec.toNat := by
    apply Int64.toBitVec_inj.mp
    show _ = BitVec.ofNat 64 _
    rw [BitVec.ofNat_toNat]
    rfl
  generalize (x &&& 255).toBitVec.toNat = c at h1 h2
  rw [h2, nL_l2i (by omega)]
def zbc (w : Int64) (s : Int32) : Nat := (zby w s).toNatClampNeg
theorem zby_n (w : Int64) (s : Int32) : zby w s = nI (zbc w s) ∧ zbc w s < 256 := by
  obtain ⟨c, h1, h2⟩ := zby_255 ((w.toUInt64 >>> (s.toInt64.toUInt64 &&& Int64.toUInt64 63)).toInt64)
  have h3 : zby w s = nI c := h2
  unfold zbc
  rw [h3, nI_clamp (by omega)]
  exact ⟨rfl, h1⟩
/-- one sign more -/
def zFd1 (T : (Nat → Nat) × Nat) (c : Nat) : (Nat → Nat) × Nat := if (c = 10 ∨ 32 ≤ c ∧ c ≤ 126) ∧ T.2 < 1000 then (zup T.1 T.2 c, T.2 + 1) else T
/-- some signs of a word, from one on -/
def zFdw (w : Int64) : Nat → Nat → (Nat → Nat) × Nat → (Nat → Nat) × Nat
  | 0, _, T => T
  | j + 1, k, T => zFdw w j (k + 1) (zFd1 T (zbc w (nI (56 - 8 * k))))
def zFed (x y z : Int64) (T : (Nat → Nat) × Nat) : (Nat → Nat) × Nat := zFdw z 8 0 (zFdw y 8 0 (zFdw x 8 0 T))
def zTok0 (T : (Nat → Nat) × Nat) : Prop := T.2 ≤ 1000 ∧ ∀ k, k < T.2 → T.1 k < 128
theorem zFd1_ok {T : (Nat → Nat) × Nat} (h : zTok0 T) (c : Nat) : zTok0 (zFd1 T c) := by
  unfold zFd1
  by_cases e : (c = 10 ∨ 32 ≤ c ∧ c ≤ 126) ∧ T.2 < 1000
  · rw [if_pos e]
    refine ⟨by show T.2 + 1 ≤ 1000; omega, fun k hk => ?_⟩
    have hk : k < T.2 + 1 := hk
    show zup T.1 T.2 c k < 128
    by_cases e2 : k = T.2
    · rw [e2, zup_e]; omega
    · rw [zup_n _ _ e2]; exact h.2 k (by omega)
  · rw [if_neg e]; exact h
theorem zFdw_ok (w : Int64) : ∀ j k T, zTok0 T → zTok0 (zFdw w j k T)
  | 0, _, _, h => h
  | j + 1, k, T, h => zFdw_ok w j (k + 1) _ (zFd1_ok h _)
theorem zFed_ok {x y z : Int64} {T : (Nat → Nat) × Nat} (h : zTok0 T) : zTok0 (zFed x y z T) := zFdw_ok _ _ _ _ (zFdw_ok _ _ _ _ (zFdw_ok _ _ _ _ h))
theorem zFd1_le (T : (Nat → Nat) × Nat) (c : Nat) : (zFd1 T c).2 ≤ T.2 + 1 := by
  unfold zFd1
  split
  · exact Nat.le_refl _
  · omega
theorem zFdw_le (w : Int64) : ∀ j k T, (zFdw w j k T).2 ≤ T.2 + j
  | 0, _, _ => Nat.le_refl _
  | j + 1, k, T => by
    have h1 := zFdw_le w j (k + 1) (zFd1 T (zbc w (nI (56 - 8 * k))))
    have h2 := zFd1_le T (zbc w (nI (56 - 8 * k)))
    rw [zFdw]
    omega
