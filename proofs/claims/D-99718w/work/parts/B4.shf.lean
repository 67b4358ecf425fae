/-! PURE 41 (printed by shf.py): the reference lays a library, begins a shelf -/
set_option maxRecDepth 100000
def zsh {α : Type} (f : Nat → α) (c k : Nat) : Nat → α := fun q => if q < k then f (c + q) else f q
theorem zsh_0 {α : Type} (f : Nat → α) (c : Nat) : zsh f c 0 = f := funext fun q => if_neg (Nat.not_lt_zero q)
theorem zsh_s (f : Nat → Int32) (c k : Nat) : upd (zsh f c k) k (f (c + k)) = zsh f c (k + 1) := by
  funext q
  unfold zsh
  by_cases e : q = k
  · rw [e, zu_eq, if_pos (Nat.lt_succ_self k)]
  · rw [zu_ne _ _ e]
    by_cases e2 : q < k
    · rw [if_pos e2, if_pos (by omega)]
    · rw [if_neg e2, if_neg (by omega)]
theorem zsh_sL (f : Nat → Int64) (c k : Nat) : vp_updL (zsh f c k) k (f (c + k)) = zsh f c (k + 1) := by
  funext q
  unfold zsh
  by_cases e : q = k
  · rw [e, pk_uLs, if_pos (Nat.lt_succ_self k)]
  · rw [pk_uLn e]
    by_cases e2 : q < k
    · rw [if_pos e2, if_pos (by omega)]
    · rw [if_neg e2, if_neg (by omega)]
theorem zsh_hi {α : Type} (f : Nat → α) {c k q : Nat} (h : k ≤ q) : zsh f c k q = f q := if_neg (by omega)
theorem zsh_lo {α : Type} (f : Nat → α) {c k q : Nat} (h : q < k) : zsh f c k q = f (c + q) := if_pos h
section
variable {α : Type} {N : Nat} {h : jH} {a : Nat} {F : Nat → Int32} {L : Nat → Int64} {A : Nat → Nat → Int32} {M : Nat → Nat → Int64}
theorem zR_sh10_2 (hb : h.2.2.2.2 0 ≤ a) : ∀ (i k m : Nat), k + i = 3 → i < m → (fX7_shifts_2 N m (some (a + 2)) (nI 3) (nI k)).1 (rH h a (F, L, zuA A 10 (zsh (A 10) 3 k), M)) = some ((), rH h a (F, L, zuA A 10 (zsh (A 10) 3 3), M))
  | 0, k, m + 1, hk, hm => by
    rw [fX7_shifts_2, zI, if_pos (nI_le (by omega) (by omega)), show k = 3 by omega]
    rfl
  | i + 1, k, m + 1, hk, hm => by
    have ih := zR_sh10_2 hb i (k + 1) m (by omega) (by omega)
    rw [fX7_shifts_2, zI, if_neg (nI_ge (by omega) (by omega)), nI_add, zr_a10 (by omega), zuA_eq, zsh_hi _ (by omega), zr_s10 hb (by omega), zuA_eq, zuA_zuA, zsh_s, zc1_da]
    exact ih
theorem zR_sh10 (hb : h.2.2.2.2 0 ≤ a) (hN : 3000 ≤ N) (K : Unit → jM α) : (jB (fX7_shifts N (some (a + 2)) 3) K).1 (rH h a (F, L, A, M)) = (K ()).1 (rH h a (F, L, zuA A 10 (zsh (A 10) 3 3), M)) := by
  have := zR_sh10_2 (N := N) (F := F) (L := L) (A := A) (M := M) hb 3 0 N rfl (by omega)
  rw [zsh_0] at this
  have e : zuA A 10 (A 10) = A := funext fun j => by
    by_cases e : j = 10
    · rw [e, zuA_eq]
    · rw [zuA_ne _ _ e]
  rw [e] at this
  exact jB_eq this
theorem zR_sh13_2 (hb : h.2.2.2.2 0 ≤ a) : ∀ (i k m : Nat), k + i = 3 → i < m → (fX7_shifts_2 N m (some (a + 5)) (nI 3) (nI k)).1 (rH h a (F, L, zuA A 13 (zsh (A 13) 3 k), M)) = some ((), rH h a (F, L, zuA A 13 (zsh (A 13) 3 3), M))
  | 0, k, m + 1, hk, hm => by
    rw [fX7_shifts_2, zI, if_pos (nI_le (by omega) (by omega)), show k = 3 by omega]
    rfl
  | i + 1, k, m + 1, hk, hm => by
    have ih := zR_sh13_2 hb i (k + 1) m (by omega) (by omega)
    rw [fX7_shifts_2, zI, if_neg (nI_ge (by omega) (by omega)), nI_add, zr_a13 (by omega), zuA_eq, zsh_hi _ (by omega), zr_s13 hb (by omega), zuA_eq, zuA_zuA, zsh_s, zc1_da]
    exact ih
theorem zR_sh13 (hb : h.2.2.2.2 0 ≤ a) (hN : 3000 ≤ N) (K : Unit → jM α) : (jB (fX7_shifts N (some (a + 5)) 3) K).1 (rH h a (F, L, A, M)) = (K ()).1 (rH h a (F, L, zuA A 13 (zsh (A 13) 3 3), M)) := by
  have := zR_sh13_2 (N := N) (F := F) (L := L) (A := A) (M := M) hb 3 0 N rfl (by omega)
  rw [zsh_0] at this
  have e : zuA A 13 (A 13) = A := funext fun j => by
    by_cases e : j = 13
    · rw [e, zuA_eq]
    · rw [zuA_ne _ _ e]
  rw [e] at this
  exact jB_eq this
theorem zR_sh14_2 (hb : h.2.2.2.2 0 ≤ a) : ∀ (i k m : Nat), k + i = 3 → i < m → (fX7_shifts_2 N m (some (a + 6)) (nI 3) (nI k)).1 (rH h a (F, L, zuA A 14 (zsh (A 14) 3 k), M)) = some ((), rH h a (F, L, zuA A 14 (zsh (A 14) 3 3), M))
  | 0, k, m + 1, hk, hm => by
    rw [fX7_shifts_2, zI, if_pos (nI_le (by omega) (by omega)), show k = 3 by omega]
    rfl
  | i + 1, k, m + 1, hk, hm => by
    have ih := zR_sh14_2 hb i (k + 1) m (by omega) (by omega)
    rw [fX7_shifts_2, zI, if_neg (nI_ge (by omega) (by omega)), nI_add, zr_a14 (by omega), zuA_eq, zsh_hi _ (by omega), zr_s14 hb (by omega), zuA_eq, zuA_zuA, zsh_s, zc1_da]
    exact ih
theorem zR_sh14 (hb : h.2.2.2.2 0 ≤ a) (hN : 3000 ≤ N) (K : Unit → jM α) : (jB (fX7_shifts N (some (a + 6)) 3) K).1 (rH h a (F, L, A, M)) = (K ()).1 (rH h a (F, L, zuA A 14 (zsh (A 14) 3 3), M)) := by
  have := zR_sh14_2 (N := N) (F := F) (L := L) (A := A) (M := M) hb 3 0 N rfl (by omega)
  rw [zsh_0] at this
  have e : zuA A 14 (A 14) = A := funext fun j => by
    by_cases e : j = 14
    · rw [e, zuA_eq]
    · rw [zuA_ne _ _ e]
  rw [e] at this
  exact jB_eq this
theorem zR_sh15_2 (hb : h.2.2.2.2 0 ≤ a) : ∀ (i k m : Nat), k + i = 3 → i < m → (fX7_shifts_2 N m (some (a + 7)) (nI 3) (nI k)).1 (rH h a (F, L, zuA A 15 (zsh (A 15) 3 k), M)) = some ((), rH h a (F, L, zuA A 15 (zsh (A 15) 3 3), M))
  | 0, k, m + 1, hk, hm => by
    rw [fX7_shifts_2, zI, if_pos (nI_le (by omega) (by omega)), show k = 3 by omega]
    rfl
  | i + 1, k, m + 1, hk, hm => by
    have ih := zR_sh15_2 hb i (k + 1) m (by omega) (by omega)
    rw [fX7_shifts_2, zI, if_neg (nI_ge (by omega) (by omega)), nI_add, zr_a15 (by omega), zuA_eq, zsh_hi _ (by omega), zr_s15 hb (by omega), zuA_eq, zuA_zuA, zsh_s, zc1_da]
    exact ih
theorem zR_sh15 (hb : h.2.2.2.2 0 ≤ a) (hN : 3000 ≤ N) (K : Unit → jM α) : (jB (fX7_shifts N (some (a + 7)) 3) K).1 (rH h a (F, L, A, M)) = (K ()).1 (rH h a (F, L, zuA A 15 (zsh (A 15) 3 3), M)) := by
  have := zR_sh15_2 (N := N) (F := F) (L := L) (A := A) (M := M) hb 3 0 N rfl (by omega)
  rw [zsh_0] at this
  have e : zuA A 15 (A 15) = A := funext fun j => by
    by_cases e : j = 15
    · rw [e, zuA_eq]
    · rw [zuA_ne _ _ e]
  rw [e] at this
  exact jB_eq this
theorem zR_sh16_2 (hb : h.2.2.2.2 0 ≤ a) : ∀ (i k m : Nat), k + i = 6 → i < m → (fX7_shifts_2 N m (some (a + 8)) (nI 6) (nI k)).1 (rH h a (F, L, zuA A 16 (zsh (A 16) 6 k), M)) = some ((), rH h a (F, L, zuA A 16 (zsh (A 16) 6 6), M))
  | 0, k, m + 1, hk, hm => by
    rw [fX7_shifts_2, zI, if_pos (nI_le (by omega) (by omega)), show k = 6 by omega]
    rfl
  | i + 1, k, m + 1, hk, hm => by
    have ih := zR_sh16_2 hb i (k + 1) m (by omega) (by omega)
    rw [fX7_shifts_2, zI, if_neg (nI_ge (by omega) (by omega)), nI_add, zr_a16 (by omega), zuA_eq, zsh_hi _ (by omega), zr_s16 hb (by omega), zuA_eq, zuA_zuA, zsh_s, zc1_da]
    exact ih
theorem zR_sh16 (hb : h.2.2.2.2 0 ≤ a) (hN : 3000 ≤ N) (K : Unit → jM α) : (jB (fX7_shifts N (some (a + 8)) 6) K).1 (rH h a (F, L, A, M)) = (K ()).1 (rH h a (F, L, zuA A 16 (zsh (A 16) 6 6), M)) := by
  have := zR_sh16_2 (N := N) (F := F) (L := L) (A := A) (M := M) hb 6 0 N rfl (by omega)
  rw [zsh_0] at this
  have e : zuA A 16 (A 16) = A := funext fun j => by
    by_cases e : j = 16
    · rw [e, zuA_eq]
    · rw [zuA_ne _ _ e]
  rw [e] at this
  exact jB_eq this
theorem zR_sh17_2 (hb : h.2.2.2.2 0 ≤ a) : ∀ (i k m : Nat), k + i = 6 → i < m → (fX7_shifts_2 N m (some (a + 9)) (nI 6) (nI k)).1 (rH h a (F, L, zuA A 17 (zsh (A 17) 6 k), M)) = some ((), rH h a (F, L, zuA A 17 (zsh (A 17) 6 6), M))
  | 0, k, m + 1, hk, hm => by
    rw [fX7_shifts_2, zI, if_pos (nI_le (by omega) (by omega)), show k = 6 by omega]
    rfl
  | i + 1, k, m + 1, hk, hm => by
    have ih := zR_sh17_2 hb i (k + 1) m (by omega) (by omega)
    rw [fX7_shifts_2, zI, if_neg (nI_ge (by omega) (by omega)), nI_add, zr_a17 (by omega), zuA_eq, zsh_hi _ (by omega), zr_s17 hb (by omega), zuA_eq, zuA_zuA, zsh_s, zc1_da]
    exact ih
theorem zR_sh17 (hb : h.2.2.2.2 0 ≤ a) (hN : 3000 ≤ N) (K : Unit → jM α) : (jB (fX7_shifts N (some (a + 9)) 6) K).1 (rH h a (F, L, A, M)) = (K ()).1 (rH h a (F, L, zuA A 17 (zsh (A 17) 6 6), M)) := by
  have := zR_sh17_2 (N := N) (F := F) (L := L) (A := A) (M := M) hb 6 0 N rfl (by omega)
  rw [zsh_0] at this
  have e : zuA A 17 (A 17) = A := funext fun j => by
    by_cases e : j = 17
    · rw [e, zuA_eq]
    · rw [zuA_ne _ _ e]
  rw [e] at this
  exact jB_eq this
theorem zR_sh18_2 (hb : h.2.2.2.2 0 ≤ a) : ∀ (i k m : Nat), k + i = 6 → i < m → (fX7_shifts_2 N m (some (a + 10)) (nI 6) (nI k)).1 (rH h a (F, L, zuA A 18 (zsh (A 18) 6 k), M)) = some ((), rH h a (F, L, zuA A 18 (zsh (A 18) 6 6), M))
  | 0, k, m + 1, hk, hm => by
    rw [fX7_shifts_2, zI, if_pos (nI_le (by omega) (by omega)), show k = 6 by omega]
    rfl
  | i + 1, k, m + 1, hk, hm => by
    have ih := zR_sh18_2 hb i (k + 1) m (by omega) (by omega)
    rw [fX7_shifts_2, zI, if_neg (nI_ge (by omega) (by omega)), nI_add, zr_a18 (by omega), zuA_eq, zsh_hi _ (by omega), zr_s18 hb (by omega), zuA_eq, zuA_zuA, zsh_s, zc1_da]
    exact ih
theorem zR_sh18 (hb : h.2.2.2.2 0 ≤ a) (hN : 3000 ≤ N) (K : Unit → jM α) : (jB (fX7_shifts N (some (a + 10)) 6) K).1 (rH h a (F, L, A, M)) = (K ()).1 (rH h a (F, L, zuA A 18 (zsh (A 18) 6 6), M)) := by
  have := zR_sh18_2 (N := N) (F := F) (L := L) (A := A) (M := M) hb 6 0 N rfl (by omega)
  rw [zsh_0] at this
  have e : zuA A 18 (A 18) = A := funext fun j => by
    by_cases e : j = 18
    · rw [e, zuA_eq]
    · rw [zuA_ne _ _ e]
  rw [e] at this
  exact jB_eq this
theorem zR_sh19_2 (hb : h.2.2.2.2 0 ≤ a) : ∀ (i k m : Nat), k + i = 12 → i < m → (fX7_shifts_2 N m (some (a + 11)) (nI 12) (nI k)).1 (rH h a (F, L, zuA A 19 (zsh (A 19) 12 k), M)) = some ((), rH h a (F, L, zuA A 19 (zsh (A 19) 12 12), M))
  | 0, k, m + 1, hk, hm => by
    rw [fX7_shifts_2, zI, if_pos (nI_le (by omega) (by omega)), show k = 12 by omega]
    rfl
  | i + 1, k, m + 1, hk, hm => by
    have ih := zR_sh19_2 hb i (k + 1) m (by omega) (by omega)
    rw [fX7_shifts_2, zI, if_neg (nI_ge (by omega) (by omega)), nI_add, zr_a19 (by omega), zuA_eq, zsh_hi _ (by omega), zr_s19 hb (by omega), zuA_eq, zuA_zuA, zsh_s, zc1_da]
    exact ih
theorem zR_sh19 (hb : h.2.2.2.2 0 ≤ a) (hN : 3000 ≤ N) (K : Unit → jM α) : (jB (fX7_shifts N (some (a + 11)) 12) K).1 (rH h a (F, L, A, M)) = (K ()).1 (rH h a (F, L, zuA A 19 (zsh (A 19) 12 12), M)) := by
  have := zR_sh19_2 (N := N) (F := F) (L := L) (A := A) (M := M) hb 12 0 N rfl (by omega)
  rw [zsh_0] at this
  have e : zuA A 19 (A 19) = A := funext fun j => by
    by_cases e : j = 19
    · rw [e, zuA_eq]
    · rw [zuA_ne _ _ e]
  rw [e] at this
  exact jB_eq this
theorem zR_sh22_2 (hb : h.2.2.2.2 0 ≤ a) : ∀ (i k m : Nat), k + i = 1000 → i < m → (fX7_shifts_2 N m (some (a + 14)) (nI 1000) (nI k)).1 (rH h a (F, L, zuA A 22 (zsh (A 22) 1000 k), M)) = some ((), rH h a (F, L, zuA A 22 (zsh (A 22) 1000 1000), M))
  | 0, k, m + 1, hk, hm => by
    rw [fX7_shifts_2, zI, if_pos (nI_le (by omega) (by omega)), show k = 1000 by omega]
    rfl
  | i + 1, k, m + 1, hk, hm => by
    have ih := zR_sh22_2 hb i (k + 1) m (by omega) (by omega)
    rw [fX7_shifts_2, zI, if_neg (nI_ge (by omega) (by omega)), nI_add, zr_a22 (by omega), zuA_eq, zsh_hi _ (by omega), zr_s22 hb (by omega), zuA_eq, zuA_zuA, zsh_s, zc1_da]
    exact ih
theorem zR_sh22 (hb : h.2.2.2.2 0 ≤ a) (hN : 3000 ≤ N) (K : Unit → jM α) : (jB (fX7_shifts N (some (a + 14)) 1000) K).1 (rH h a (F, L, A, M)) = (K ()).1 (rH h a (F, L, zuA A 22 (zsh (A 22) 1000 1000), M)) := by
  have := zR_sh22_2 (N := N) (F := F) (L := L) (A := A) (M := M) hb 1000 0 N rfl (by omega)
  rw [zsh_0] at this
  have e : zuA A 22 (A 22) = A := funext fun j => by
    by_cases e : j = 22
    · rw [e, zuA_eq]
    · rw [zuA_ne _ _ e]
  rw [e] at this
  exact jB_eq this
theorem zR_sh11_2 (hb : h.2.2.2.2 0 ≤ a) : ∀ (i k m : Nat), k + i = 3 → i < m → (fX7_shiftsNames_2 N m (some (a + 3)) (nI 3) (nI k)).1 (rH h a (F, L, A, zuA M 11 (zsh (M 11) 3 k))) = some ((), rH h a (F, L, A, zuA M 11 (zsh (M 11) 3 3)))
  | 0, k, m + 1, hk, hm => by
    rw [fX7_shiftsNames_2, zI, if_pos (nI_le (by omega) (by omega)), show k = 3 by omega]
    rfl
  | i + 1, k, m + 1, hk, hm => by
    have ih := zR_sh11_2 hb i (k + 1) m (by omega) (by omega)
    rw [fX7_shiftsNames_2, zI, if_neg (nI_ge (by omega) (by omega)), nI_add, zr_a11 (by omega), zuA_eq, zsh_hi _ (by omega), zr_s11 hb (by omega), zuA_eq, zuA_zuA, zsh_sL, zc1_da]
    exact ih
theorem zR_sh11 (hb : h.2.2.2.2 0 ≤ a) (hN : 3000 ≤ N) (K : Unit → jM α) : (jB (fX7_shiftsNames N (some (a + 3)) 3) K).1 (rH h a (F, L, A, M)) = (K ()).1 (rH h a (F, L, A, zuA M 11 (zsh (M 11) 3 3))) := by
  have := zR_sh11_2 (N := N) (F := F) (L := L) (A := A) (M := M) hb 3 0 N rfl (by omega)
  rw [zsh_0] at this
  have e : zuA M 11 (M 11) = M := funext fun j => by
    by_cases e : j = 11
    · rw [e, zuA_eq]
    · rw [zuA_ne _ _ e]
  rw [e] at this
  exact jB_eq this
theorem zR_sh12_2 (hb : h.2.2.2.2 0 ≤ a) : ∀ (i k m : Nat), k + i = 6 → i < m → (fX7_shiftsNames_2 N m (some (a + 4)) (nI 6) (nI k)).1 (rH h a (F, L, A, zuA M 12 (zsh (M 12) 6 k))) = some ((), rH h a (F, L, A, zuA M 12 (zsh (M 12) 6 6)))
  | 0, k, m + 1, hk, hm => by
    rw [fX7_shiftsNames_2, zI, if_pos (nI_le (by omega) (by omega)), show k = 6 by omega]
    rfl
  | i + 1, k, m + 1, hk, hm => by
    have ih := zR_sh12_2 hb i (k + 1) m (by omega) (by omega)
    rw [fX7_shiftsNames_2, zI, if_neg (nI_ge (by omega) (by omega)), nI_add, zr_a12 (by omega), zuA_eq, zsh_hi _ (by omega), zr_s12 hb (by omega), zuA_eq, zuA_zuA, zsh_sL, zc1_da]
    exact ih
theorem zR_sh12 (hb : h.2.2.2.2 0 ≤ a) (hN : 3000 ≤ N) (K : Unit → jM α) : (jB (fX7_shiftsNames N (some (a + 4)) 6) K).1 (rH h a (F, L, A, M)) = (K ()).1 (rH h a (F, L, A, zuA M 12 (zsh (M 12) 6 6))) := by
  have := zR_sh12_2 (N := N) (F := F) (L := L) (A := A) (M := M) hb 6 0 N rfl (by omega)
  rw [zsh_0] at this
  have e : zuA M 12 (M 12) = M := funext fun j => by
    by_cases e : j = 12
    · rw [e, zuA_eq]
    · rw [zuA_ne _ _ e]
  rw [e] at this
  exact jB_eq this
/-- as it is laid: arrays, names -/
def zLaA (A : Nat → Nat → Int32) (x y : Int32) : Nat → Nat → Int32 := fun j => if j = 10 ∨ 13 ≤ j ∧ j ≤ 15 then zsh (A j) 3 3 else if 16 ≤ j ∧ j ≤ 18 then zsh (A j) 6 6 else if j = 19 then zsh (A 19) 12 12 else if j = 22 then zsh (A 22) 1000 1000 else if j = 20 then upd (A 20) 0 x else if j = 21 then upd (A 21) 0 y else A j
def zLaM (M : Nat → Nat → Int64) : Nat → Nat → Int64 := fun j => if j = 11 then zsh (M 11) 3 3 else if j = 12 then zsh (M 12) 6 6 else M j
theorem zuA_c {β : Type} {A B : Nat → Nat → β} (h : ∀ j, A j = B j) : A = B := funext h
theorem zR_lays (hb : h.2.2.2.2 0 ≤ a) (hN : 3000 ≤ N) (K : Unit → jM α) : (jB (fX7_lays N a) K).1 (rH h a (F, L, A, M)) = (K ()).1 (rH h a (F, L, zLaA A (A 20 1 - 1000) (A 21 1 - 1000), zLaM M)) := by
  unfold fX7_lays
  simp (disch := omega) only [zA, zr_g10, zr_g11, zr_g12, zr_g13, zr_g14, zr_g15, zr_g16, zr_g17, zr_g18, zr_g19, zr_g20, zr_g21, zr_g22, zR_sh10 hb hN, zR_sh11 hb hN, zR_sh12 hb hN, zR_sh13 hb hN, zR_sh14 hb hN, zR_sh15 hb hN, zR_sh16 hb hN, zR_sh17 hb hN, zR_sh18 hb hN, zR_sh19 hb hN, zR_sh22 hb hN, zr_a20_1, zr_a21_1]
  rw [show (0 : Int32) = nI 0 from rfl, zr_s20 hb (by decide)]
  simp (disch := omega) only [zA, zr_g21, zr_a21_1]
  rw [zr_s21 hb (by decide), zR]
  refine congrArg (K ()).1 ?_
  refine congrArg (rH h a) ?_
  refine Prod.ext rfl (Prod.ext rfl (Prod.ext (funext fun j => ?_) (funext fun j => ?_)))
  · show zuA _ 21 _ j = zLaA A _ _ j
    unfold zLaA
    simp (disch := omega) only [zuA_ne, zuA_eq]
    unfold zuA
    have hj : j = 10 ∨ j = 13 ∨ j = 14 ∨ j = 15 ∨ j = 16 ∨ j = 17 ∨ j = 18 ∨ j = 19 ∨ j = 20 ∨ j = 21 ∨ j = 22 ∨ (j ≠ 10 ∧ j ≠ 13 ∧ j ≠ 14 ∧ j ≠ 15 ∧ j ≠ 16 ∧ j ≠ 17 ∧ j ≠ 18 ∧ j ≠ 19 ∧ j ≠ 20 ∧ j ≠ 21 ∧ j ≠ 22) := by omega
    rcases hj with e | e | e | e | e | e | e | e | e | e | e | e
    · subst e; rfl
    · subst e; rfl
    · subst e; rfl
    · subst e; rfl
    · subst e; rfl
    · subst e; rfl
    · subst e; rfl
    · subst e; rfl
    · subst e; rfl
    · subst e; rfl
    · subst e; rfl
    · rw [if_neg (by omega), if_neg (by omega), if_neg (by omega), if_neg (by omega), if_neg (by omega), if_neg (by omega), if_neg (by omega), if_neg (by omega), if_neg (by omega), if_neg (by omega), if_neg (by omega), if_neg (by omega), if_neg (by omega), if_neg (by omega), if_neg (by omega), if_neg (by omega), if_neg (by omega)]
  · show zuA _ 12 _ j = zLaM M j
    unfold zLaM
    simp (disch := omega) only [zuA_ne, zuA_eq]
    unfold zuA
    by_cases e : j = 12
    · subst e; rfl
    · rw [if_neg e]
      by_cases e2 : j = 11
      · subst e2; rfl
      · rw [if_neg e2, if_neg e2, if_neg e]
/-- a new shelf -/
def zF48 (f : Nat → Int32) (g : Nat → Int32) (S k : Nat) : Nat → Int32 := fun q => if 1 ≤ q ∧ q < 1 + k then g (q - 1) else if q < 25 then 0 else f q
theorem zR_fr23 (hb : h.2.2.2.2 0 ≤ a) {f : Nat → Int32} {S : Nat} (hS : A 10 0 = nI S) (h3 : S ≤ 3) : ∀ (i k m : Nat), k + i = S → i < m → (fX7_fresh0_23 N a m (nI k)).1 (rH h a (F, L, zuA A 48 (zF48 f (A 14) S k), M)) = some ((), rH h a (F, L, zuA A 48 (zF48 f (A 14) S S), M))
  | 0, k, m + 1, hk, hm => by
    rw [fX7_fresh0_23, zr_g10, zr_a10_0, zuA_ne _ _ (by decide), hS, zI, if_pos (nI_le (by omega) (by omega)), show k = S by omega]
    rfl
  | i + 1, k, m + 1, hk, hm => by
    have ih := zR_fr23 hb (f := f) hS h3 i (k + 1) m (by omega) (by omega)
    rw [fX7_fresh0_23, zr_g10, zr_a10_0, zuA_ne _ _ (by decide), hS, zI, if_neg (nI_ge (by omega) (by omega)), zr_g48, zr_g14, zr_a14 (by omega), zuA_ne _ _ (by decide), zc1_ad, zr_s48 hb (by omega), zuA_eq, zuA_zuA, zc1_da]
    refine Eq.trans ?_ ih
    have e : upd (zF48 f (A 14) S k) (1 + k) (A 14 k) = zF48 f (A 14) S (k + 1) := by
      funext q
      unfold zF48
      by_cases e : q = 1 + k
      · rw [e, zu_eq, if_pos (by omega), Nat.add_sub_cancel_left]
      · rw [zu_ne _ _ e]
        by_cases e2 : 1 ≤ q ∧ q < 1 + k
        · rw [if_pos e2, if_pos (show 1 ≤ q ∧ q < 1 + (k + 1) by omega)]
        · rw [if_neg e2, if_neg (show ¬ (1 ≤ q ∧ q < 1 + (k + 1)) by omega)]
    rw [e]
theorem zR_fr2 (hb : h.2.2.2.2 0 ≤ a) (hN : 3000 ≤ N) {f : Nat → Int32} {S : Nat} (hS : A 10 0 = nI S) (h3 : S ≤ 3) : ∀ (i k m : Nat), k + i = 25 → i < m → (fX7_fresh0_2 N a m (nI k)).1 (rH h a (F, L, zuA A 48 (fun q => if q < k then 0 else f q), M)) = some ((), rH h a (F, L, zuA A 48 (zF48 f (A 14) S S), M))
  | 0, k, m + 1, hk, hm => by
    rw [fX7_fresh0_2, zI, if_pos (show 25 ≤ nI k from nI_le (a := 25) (by omega) (by omega)), show k = 25 by omega]
    have := zR_fr23 (N := N) (F := F) (L := L) (M := M) hb (f := f) hS h3 S 0 N (by omega) (by omega)
    have e : zF48 f (A 14) S 0 = fun q => if q < 25 then 0 else f q := by
      funext q
      unfold zF48
      rw [if_neg (by omega)]
    rw [e] at this
    exact this
  | i + 1, k, m + 1, hk, hm => by
    have ih := zR_fr2 hb hN (f := f) hS h3 i (k + 1) m (by omega) (by omega)
    rw [fX7_fresh0_2, zI, if_neg (show ¬ 25 ≤ nI k from (nI_ge (by omega) (by omega) : ¬ nI 25 ≤ nI k)), zr_g48, zr_s48 hb (by omega), zuA_eq, zuA_zuA, zc1_da]
    refine Eq.trans ?_ ih
    have e : upd (fun q => if q < k then 0 else f q) k 0 = fun q => if q < k + 1 then 0 else f q := by
      funext q
      by_cases e : q = k
      · rw [e, zu_eq, if_pos (Nat.lt_succ_self k)]
      · rw [zu_ne _ _ e]
        by_cases e2 : q < k
        · rw [if_pos e2, if_pos (by omega)]
        · rw [if_neg e2, if_neg (by omega)]
    rw [e]
theorem zR_fresh0 (hb : h.2.2.2.2 0 ≤ a) (hN : 3000 ≤ N) {S : Nat} (hS : A 10 0 = nI S) (h3 : S ≤ 3) (K : Unit → jM α) : (jB (fX7_fresh0 N a) K).1 (rH h a (F, L, A, M)) = (K ()).1 (rH h a (F, L, zuA A 48 (zF48 (A 48) (A 14) S S), M)) := by
  have := zR_fr2 (N := N) (F := F) (L := L) (M := M) hb hN (f := A 48) hS h3 25 0 N rfl (by omega)
  have e : zuA A 48 (fun q => if q < 0 then 0 else A 48 q) = A := funext fun j => by
    by_cases e : j = 48
    · rw [e, zuA_eq]; funext q; exact if_neg (Nat.not_lt_zero q)
    · rw [zuA_ne _ _ e]
  rw [e] at this
  exact jB_eq this
theorem zF48_rs {B : zLB} (f : Nat → Int32) {g : Nat → Int32} (hg : ∀ k, k < zS B → g k = nI (zTh0 B k)) (h3 : zS B ≤ 3) (A : Nat → Nat → Int32) : zRs (z00 B) (zuA A 48 (zF48 f g (zS B) (zS B))) := by
  unfold zRs
  rw [zuA_eq]
  refine ⟨?_, fun k hk => ⟨?_, ?_⟩, fun q hq => ?_⟩
  · unfold zF48
    rw [if_neg (by omega), if_pos (by decide)]
    rfl
  · unfold zF48
    show _ = nI (if k < zS B then zTh0 B k else 0)
    by_cases e : k < zS B
    · rw [if_pos (by omega), if_pos e, Nat.add_sub_cancel_left]; exact hg k e
    · rw [if_neg (by omega), if_neg e, if_pos (by omega)]; rfl
  · unfold zF48
    rw [if_neg (by omega), if_pos (by omega)]
    rfl
  · unfold zF48
    rw [if_neg (by omega), if_pos (by omega)]
    rfl
end
