/-! PURE 4: what stays good -/
set_option maxRecDepth 100000
theorem zRdL_mem {B : zLB} {damp thin : Int32} : ∀ {r : List Nat} {d t : Nat}, zRdL B damp thin d r = some t → t ∈ r
  | [], _, _, h => by cases h
  | u :: r, d, t, h => by
    unfold zRdL at h
    split at h
    · cases h; exact List.mem_cons_self
    · exact List.mem_cons_of_mem _ (zRdL_mem h)
theorem zRd_mem {B : zLB} {S : zMS} {k l t : Nat} {d : Int32} (h : zRd B S k l d = some t) : t ∈ zPl S (6 * k + l) := by
  unfold zRd at h
  split at h
  · exact List.mem_of_mem_head? h
  · exact zRdL_mem h
theorem zRd_lt {B : zLB} {S : zMS} (hS : zSok B S) {k l t : Nat} {d : Int32} (hk : k < 3) (hl : l < 6) (h : zRd B S k l d = some t) : t < zT B := (hS.2.2.1 k l hk hl).2 t (zRd_mem h)
theorem zRd_out {B : zLB} {S : zMS} (hS : zSok B S) {k l : Nat} {d : Int32} (hk : k < 3) (hl : l < 6) (ho : zS B ≤ k ∨ zLi B k ≤ l) : zRd B S k l d = none := by
  have he := hS.2.2.2.2.1 k l hk hl ho
  unfold zRd
  rw [he]
  split <;> rfl
theorem zOp_out {B : zLB} {S : zMS} (hS : zSok B S) {k l : Nat} (hk : k < 3) (hl : l < 6) (ho : zS B ≤ k ∨ zLi B k ≤ l) : (zOp S k).testBit l = false := by
  have he := hS.2.2.2.2.1 k l hk hl ho
  rw [Bool.eq_false_iff]
  exact fun h => hS.2.2.2.1 k l hk hl h he
theorem zCw_spec {B : zLB} {S : zMS} (hB : zLok B) {t k l : Nat} (ht : t < zT B) : zCw B S t k l = true ↔ zTh S k ≠ 0 ∧ l + zLo B t ≤ zLi B k ∧ ∀ i, l ≤ i → i < l + zLo B t → (zHo B k).testBit i = false ∧ (zOp S k).testBit i = false ∧ (zPl S (6 * k + i)).length < 9 := by
  have hlo := (hB.2.2.2.2.1 t ht).2.2
  unfold zCw
  rw [Bool.and_eq_true, zAl_t]
  simp only [zFr, Bool.and_eq_true, Bool.not_eq_true', decide_eq_true_eq, decide_eq_false_iff_not]
  constructor
  · rintro ⟨h1, h2⟩
    refine ⟨h1, ?_, fun i a b => (h2 i a b).2⟩
    have := (h2 (l + zLo B t - 1) (by omega) (by omega)).1
    omega
  · rintro ⟨h1, h2, h3⟩
    exact ⟨h1, fun i a b => ⟨by omega, h3 i a b⟩⟩
theorem zWi_th (t k : Nat) : ∀ j i S, zTh (zWi t k j i S) = zTh S
  | 0, _, _ => rfl
  | j + 1, i, S => by rw [zWi, zWi_th t k j]; rfl
theorem zWi_wk (t k : Nat) : ∀ j i S, zWk (zWi t k j i S) = zWk S
  | 0, _, _ => rfl
  | j + 1, i, S => by rw [zWi, zWi_wk t k j]; rfl
theorem zWi_opo (t k : Nat) {k' : Nat} (hk : k' ≠ k) : ∀ j i S, zOp (zWi t k j i S) k' = zOp S k'
  | 0, _, _ => rfl
  | j + 1, i, S => by
    rw [zWi, zWi_opo t k hk j]
    show (if k' = k then zOp S k ||| 2 ^ i else zOp S k') = _
    rw [if_neg hk]
theorem zW1_op (S : zMS) (t k i : Nat) : zOp (zW1 S t k i) k = zOp S k ||| 2 ^ i := if_pos rfl
theorem zW1_pl (S : zMS) (t k i q : Nat) : zPl (zW1 S t k i) q = if q = 6 * k + i then t :: zPl S q else zPl S q := by
  show (if q = 6 * k + i then t :: zPl S (6 * k + i) else zPl S q) = _
  by_cases h : q = 6 * k + i
  · rw [if_pos h, if_pos h, h]
  · rw [if_neg h, if_neg h]
theorem zWi_op (t k b : Nat) : ∀ j i S, (zOp (zWi t k j i S) k).testBit b = ((zOp S k).testBit b || decide (i ≤ b ∧ b < i + j))
  | 0, i, S => by
    have : decide (i ≤ b ∧ b < i + 0) = false := decide_eq_false (by omega)
    rw [this, Bool.or_false]; rfl
  | j + 1, i, S => by
    rw [zWi, zWi_op t k b j, zW1_op, Nat.testBit_or, Nat.testBit_two_pow, Bool.or_assoc]
    congr 1
    rw [← Bool.decide_or]
    apply decide_eq_decide.mpr
    omega
theorem zWi_op64 (t k : Nat) : ∀ j i S, zOp S k < 64 → i + j ≤ 6 → zOp (zWi t k j i S) k < 64
  | 0, _, _, h, _ => h
  | j + 1, i, S, h, hi => by
    rw [zWi]
    refine zWi_op64 t k j (i + 1) _ ?_ (by omega)
    rw [zW1_op]
    exact Nat.or_lt_two_pow (n := 6) h (Nat.pow_lt_pow_right (a := 2) (by decide) (show i < 6 by omega))
theorem zWi_pl (t k q : Nat) : ∀ j i S, zPl (zWi t k j i S) q = if 6 * k + i ≤ q ∧ q < 6 * k + i + j then t :: zPl S q else zPl S q
  | 0, i, S => by rw [if_neg (by omega)]; rfl
  | j + 1, i, S => by
    rw [zWi, zWi_pl t k q j, zW1_pl]
    by_cases h : q = 6 * k + i
    · rw [if_neg (by omega), if_pos h, if_pos (by omega)]
    · rw [if_neg h]
      by_cases h2 : 6 * k + (i + 1) ≤ q ∧ q < 6 * k + (i + 1) + j
      · rw [if_pos h2, if_pos (by omega)]
      · rw [if_neg h2, if_neg (by omega)]
theorem zSok_wr {B : zLB} {S : zMS} (hB : zLok B) (hS : zSok B S) {t k l : Nat} (ht : t < zT B) (hk : k < zS B) (hw : zCw B S t k l = true) : zSok B (zWr B S t k l) := by
  obtain ⟨w1, w2, w3⟩ := (zCw_spec hB ht).mp hw
  obtain ⟨s1, s2, s3, s4, s5, s6⟩ := hS
  have hk3 : k < 3 := by have := hB.1; omega
  have hli := (hB.2.2.2.1 k hk).1.2
  unfold zWr
  refine ⟨by rw [zWi_wk]; exact s1, fun k' h' => ⟨by rw [zWi_th]; exact (s2 k' h').1, ?_⟩, fun k' l' h' hl' => ?_, fun k' l' h' hl' ho => ?_, fun k' l' h' hl' ho => ?_, fun k' h' h0 => ?_⟩
  · by_cases e : k' = k
    · subst e; exact zWi_op64 _ _ _ _ _ (s2 _ h').2 (by omega)
    · rw [zWi_opo t k e]; exact (s2 k' h').2
  · rw [zWi_pl]
    split
    · rename_i hq
      have e : k' = k := by omega
      subst e
      have := (w3 l' (by omega) (by omega)).2.2
      refine ⟨by simp only [List.length_cons]; omega, fun x hx => ?_⟩
      rcases List.mem_cons.mp hx with rfl | hx
      · exact ht
      · exact (s3 _ l' h' hl').2 x hx
    · exact s3 k' l' h' hl'
  · rw [zWi_pl]
    split
    · exact List.cons_ne_nil _ _
    · rename_i hq
      refine s4 k' l' h' hl' ?_
      by_cases e : k' = k
      · subst e
        rw [zWi_op, Bool.or_eq_true, decide_eq_true_eq] at ho
        rcases ho with ho | ho
        · exact ho
        · exact absurd (show 6 * k' + l ≤ 6 * k' + l' ∧ 6 * k' + l' < 6 * k' + l + zLo B t by omega) hq
      · rw [zWi_opo t k e] at ho; exact ho
  · rw [zWi_pl, if_neg]
    · exact s5 k' l' h' hl' ho
    · intro hq
      have e : k' = k := by omega
      subst e
      omega
  · rw [zWi_th] at h0
    have e : k' ≠ k := fun e => w1 (e ▸ h0)
    rw [zWi_opo t k e]
    refine ⟨(s6 k' h' h0).1, fun l' hl' => ?_⟩
    rw [zWi_pl, if_neg]
    · exact (s6 k' h' h0).2 l' hl'
    · intro hq; omega
theorem zan_lt {a b n : Nat} (h : a < 2 ^ n) : zan a b < 2 ^ n := by
  apply Nat.lt_pow_two_of_testBit
  intro i hi
  rw [zan_tb, Nat.testBit_lt_two_pow (Nat.lt_of_lt_of_le h (Nat.pow_le_pow_right (by decide) hi))]
  rfl
theorem zSok_sc {B : zLB} {S : zMS} (hS : zSok B S) {k w : Nat} (hk : k < 3) : zSok B (zSc B S k w) := by
  obtain ⟨s1, s2, s3, s4, s5, s6⟩ := hS
  unfold zSc
  by_cases hz : zTh S k - zSb B S k w = 0
  · rw [if_pos hz]
    refine ⟨s1, fun k' h' => ?_, fun k' l' h' hl' => ?_, fun k' l' h' hl' ho => ?_, fun k' l' h' hl' ho => ?_, fun k' h' h0 => ?_⟩
    · show (if k' = k then 0 else zTh S k') ≤ 30 ∧ (if k' = k then 0 else zOp S k') < 64
      by_cases e : k' = k
      · rw [if_pos e, if_pos e]; omega
      · rw [if_neg e, if_neg e]; exact s2 k' h'
    · show (if 6 * k ≤ 6 * k' + l' ∧ 6 * k' + l' < 6 * k + 6 then [] else zPl S (6 * k' + l')).length ≤ 9 ∧ ∀ t ∈ (if 6 * k ≤ 6 * k' + l' ∧ 6 * k' + l' < 6 * k + 6 then [] else zPl S (6 * k' + l')), t < zT B
      split
      · exact ⟨by simp, fun t h => by cases h⟩
      · exact s3 k' l' h' hl'
    · have ho : (if k' = k then 0 else zOp S k').testBit l' = true := ho
      show (if 6 * k ≤ 6 * k' + l' ∧ 6 * k' + l' < 6 * k + 6 then [] else zPl S (6 * k' + l')) ≠ []
      by_cases e : k' = k
      · rw [if_pos e] at ho; simp at ho
      · rw [if_neg e] at ho
        rw [if_neg (by omega)]
        exact s4 k' l' h' hl' ho
    · show (if 6 * k ≤ 6 * k' + l' ∧ 6 * k' + l' < 6 * k + 6 then [] else zPl S (6 * k' + l')) = []
      split
      · rfl
      · exact s5 k' l' h' hl' ho
    · have h0 : (if k' = k then 0 else zTh S k') = 0 := h0
      refine ⟨?_, fun l' hl' => ?_⟩
      · show (if k' = k then 0 else zOp S k') = 0
        by_cases e : k' = k
        · rw [if_pos e]
        · rw [if_neg e] at h0 ⊢; exact (s6 k' h' h0).1
      · show (if 6 * k ≤ 6 * k' + l' ∧ 6 * k' + l' < 6 * k + 6 then [] else zPl S (6 * k' + l')) = []
        by_cases e : k' = k
        · rw [if_pos (by omega)]
        · rw [if_neg e] at h0
          rw [if_neg (by omega)]; exact (s6 k' h' h0).2 l' hl'
  · rw [if_neg hz]
    refine ⟨s1, fun k' h' => ?_, fun k' l' h' hl' => s3 k' l' h' hl', fun k' l' h' hl' ho => ?_, fun k' l' h' hl' ho => s5 k' l' h' hl' ho, fun k' h' h0 => ?_⟩
    · show (if k' = k then zTh S k - zSb B S k w else zTh S k') ≤ 30 ∧ (if k' = k then zan (zOp S k) w else zOp S k') < 64
      by_cases e : k' = k
      · rw [if_pos e, if_pos e]
        exact ⟨Nat.le_trans (Nat.sub_le _ _) (s2 k hk).1, zan_lt (n := 6) (s2 k hk).2⟩
      · rw [if_neg e, if_neg e]; exact s2 k' h'
    · have ho : (if k' = k then zan (zOp S k) w else zOp S k').testBit l' = true := ho
      refine s4 k' l' h' hl' ?_
      by_cases e : k' = k
      · subst e
        rw [if_pos rfl, zan_tb, Bool.and_eq_true] at ho
        exact ho.1
      · rw [if_neg e] at ho; exact ho
    · have h0 : (if k' = k then zTh S k - zSb B S k w else zTh S k') = 0 := h0
      by_cases e : k' = k
      · rw [if_pos e] at h0; exact absurd h0 hz
      · rw [if_neg e] at h0
        refine ⟨?_, (s6 k' h' h0).2⟩
        show (if k' = k then zan (zOp S k) w else zOp S k') = 0
        rw [if_neg e]; exact (s6 k' h' h0).1
theorem zSok_nx {B : zLB} {S : zMS} (hS : zSok B S) (hw : zWk S + 1 < 1000000) : zSok B (zNx S) := ⟨hw, hS.2⟩
theorem zSok_00 {B : zLB} (hB : zLok B) : zSok B (z00 B) := by
  refine ⟨show 0 < 1000000 by omega, fun k hk => ?_, fun k l _ _ => ⟨by simp [zPl, z00], fun t h => by cases h⟩, fun k l _ _ h => ?_, fun k l _ _ _ => rfl, fun k _ _ => ⟨rfl, fun _ _ => rfl⟩⟩
  · show (if k < zS B then zTh0 B k else 0) ≤ 30 ∧ 0 < 64
    refine ⟨?_, by omega⟩
    split
    · rename_i h; exact (hB.2.2.2.1 k h).2.1.2
    · omega
  · have h : (0 : Nat).testBit l = true := h
    simp at h
