/-! PURE 3: libraries and shelves as plain values; what is read, written, scraped -/
set_option maxRecDepth 100000
/-- numbers (0 skins, 1 texts, 2 damps); tables (0 lines, 1 thick, 2 holes of skins; 3 kind, 4 gall, 5 lines of texts; 6 damps); the law of what shows -/
abbrev zLB : Type := (Nat → Nat) × (Nat → Nat → Nat) × Option (Int32 → Int32 → Int32 → Int32 → Int32)
def zS (B : zLB) : Nat := B.1 0
def zT (B : zLB) : Nat := B.1 1
def zD (B : zLB) : Nat := B.1 2
def zLi (B : zLB) (k : Nat) : Nat := B.2.1 0 k
def zTh0 (B : zLB) (k : Nat) : Nat := B.2.1 1 k
def zHo (B : zLB) (k : Nat) : Nat := B.2.1 2 k
def zKi (B : zLB) (t : Nat) : Nat := B.2.1 3 t
def zGa (B : zLB) (t : Nat) : Nat := B.2.1 4 t
def zLo (B : zLB) (t : Nat) : Nat := B.2.1 5 t
def zDa (B : zLB) (i : Nat) : Nat := B.2.1 6 i
def zEv (B : zLB) : Option (Int32 → Int32 → Int32 → Int32 → Int32) := B.2.2
/-- week; thick, open lines of skins; piles of lines, the uppermost first -/
abbrev zMS : Type := Nat × (Nat → Nat) × (Nat → Nat) × (Nat → List Nat)
def zWk (S : zMS) : Nat := S.1
def zTh (S : zMS) (k : Nat) : Nat := S.2.1 k
def zOp (S : zMS) (k : Nat) : Nat := S.2.2.1 k
def zPl (S : zMS) (q : Nat) : List Nat := S.2.2.2 q
def zLok (B : zLB) : Prop := zS B ≤ 3 ∧ zT B ≤ 6 ∧ zD B ≤ 12 ∧
  (∀ k, k < zS B → (1 ≤ zLi B k ∧ zLi B k ≤ 6) ∧ (1 ≤ zTh0 B k ∧ zTh0 B k ≤ 30) ∧ zHo B k < 64) ∧
  (∀ t, t < zT B → zKi B t ≤ 3 ∧ zGa B t ≤ 1 ∧ 1 ≤ zLo B t ∧ zLo B t ≤ 6) ∧ ∀ i, i < zD B → zDa B i ≤ 9
def zSok (B : zLB) (S : zMS) : Prop := zWk S < 1000000 ∧
  (∀ k, k < 3 → zTh S k ≤ 30 ∧ zOp S k < 64) ∧
  (∀ k l, k < 3 → l < 6 → (zPl S (6 * k + l)).length ≤ 9 ∧ ∀ t ∈ zPl S (6 * k + l), t < zT B) ∧
  (∀ k l, k < 3 → l < 6 → (zOp S k).testBit l = true → zPl S (6 * k + l) ≠ []) ∧
  (∀ k l, k < 3 → l < 6 → (zS B ≤ k ∨ zLi B k ≤ l) → zPl S (6 * k + l) = []) ∧
  ∀ k, k < 3 → zTh S k = 0 → zOp S k = 0 ∧ ∀ l, l < 6 → zPl S (6 * k + l) = []
/-! piles as numbers -/
def z7 : List Nat → Nat
  | [] => 0
  | t :: r => z7 r * 7 + t + 1
def z8 : List Nat → Nat
  | [] => 0
  | t :: r => z8 r + t * 8 ^ r.length
theorem z7_pos (r : List Nat) : z7 r = 0 ↔ r = [] := by
  cases r with
  | nil => simp [z7]
  | cons t r => simp [z7]
theorem z7_lt : ∀ r : List Nat, (∀ t ∈ r, t < 6) → z7 r < 7 ^ r.length
  | [], _ => by simp [z7]
  | t :: r, h => by
    have ih := z7_lt r (fun x hx => h x (List.mem_cons_of_mem _ hx))
    have ht := h t List.mem_cons_self
    simp only [z7, List.length_cons, Nat.pow_succ]
    omega
theorem z7_ge : ∀ (t : Nat) (r : List Nat), 7 ^ r.length ≤ z7 (t :: r)
  | t, [] => by simp [z7]
  | t, u :: r => by
    have ih := z7_ge u r
    rw [z7, List.length_cons, Nat.pow_succ]
    omega
theorem z7_mod {t : Nat} {r : List Nat} (h : t < 6) : z7 (t :: r) % 7 = t + 1 := by
  simp only [z7]
  omega
theorem z7_div {t : Nat} {r : List Nat} (h : t < 6) : z7 (t :: r) / 7 = z7 r := by
  simp only [z7]
  omega
theorem z7_big {r : List Nat} (h : ∀ t ∈ r, t < 6) (hl : r.length ≤ 9) : z7 r < 40353607 := by
  have h1 := z7_lt r h
  have h2 : 7 ^ r.length ≤ 7 ^ 9 := Nat.pow_le_pow_right (by decide) hl
  have h3 : (7 : Nat) ^ 9 = 40353607 := by decide
  omega
theorem z7_full {r : List Nat} (h : ∀ t ∈ r, t < 6) : z7 r < 5764801 ↔ r.length < 9 := by
  constructor
  · intro h1
    cases r with
    | nil => decide
    | cons t r =>
      have h2 := z7_ge t r
      rcases Nat.lt_or_ge r.length 8 with h3 | h3
      · simp only [List.length_cons]; omega
      · have h4 : 7 ^ 8 ≤ 7 ^ r.length := Nat.pow_le_pow_right (by decide) h3
        have h5 : (7 : Nat) ^ 8 = 5764801 := by decide
        omega
  · intro h1
    have h2 := z7_lt r h
    have h3 : 7 ^ r.length ≤ 7 ^ 8 := Nat.pow_le_pow_right (by decide) (by omega)
    have h4 : (7 : Nat) ^ 8 = 5764801 := by decide
    omega
theorem z7_inj : ∀ {r s : List Nat}, (∀ t ∈ r, t < 6) → (∀ t ∈ s, t < 6) → z7 r = z7 s → r = s
  | [], [], _, _, _ => rfl
  | [], t :: s, _, _, h => by simp [z7] at h
  | t :: r, [], _, _, h => by simp [z7] at h
  | t :: r, u :: s, h1, h2, h => by
    have a := h1 t List.mem_cons_self
    have b := h2 u List.mem_cons_self
    simp only [z7] at h
    have e : t = u := by omega
    have e2 : z7 r = z7 s := by omega
    rw [e, z7_inj (fun x hx => h1 x (List.mem_cons_of_mem _ hx)) (fun x hx => h2 x (List.mem_cons_of_mem _ hx)) e2]
theorem z8_lt : ∀ r : List Nat, (∀ t ∈ r, t < 6) → z8 r < 8 ^ r.length
  | [], _ => by simp [z8]
  | t :: r, h => by
    have ih := z8_lt r (fun x hx => h x (List.mem_cons_of_mem _ hx))
    have ht := h t List.mem_cons_self
    simp only [z8, List.length_cons, Nat.pow_succ]
    have : t * 8 ^ r.length ≤ 5 * 8 ^ r.length := Nat.mul_le_mul_right _ (by omega)
    omega
theorem z8_big {r : List Nat} (h : ∀ t ∈ r, t < 6) (hl : r.length ≤ 9) : z8 r < 134217728 := by
  have h1 := z8_lt r h
  have h2 : 8 ^ r.length ≤ 8 ^ 9 := Nat.pow_le_pow_right (by decide) hl
  have h3 : (8 : Nat) ^ 9 = 134217728 := by decide
  omega
/-- the uppermost -/
theorem z8_top {t : Nat} {r : List Nat} (h : ∀ x ∈ t :: r, x < 6) : z8 (t :: r) / 8 ^ r.length % 8 = t := by
  have h1 := z8_lt r (fun x hx => h x (List.mem_cons_of_mem _ hx))
  have ht := h t List.mem_cons_self
  simp only [z8]
  rw [Nat.add_mul_div_right _ _ (Nat.pow_pos (by decide)), Nat.div_eq_of_lt h1, Nat.zero_add, Nat.mod_eq_of_lt (by omega)]
/-- one below it -/
theorem z8_low {t i : Nat} {r : List Nat} (hi : i < r.length) : z8 (t :: r) / 8 ^ i % 8 = z8 r / 8 ^ i % 8 := by
  simp only [z8]
  have e : t * 8 ^ r.length = (t * 8 ^ (r.length - i - 1)) * 8 * 8 ^ i := by
    rw [Nat.mul_assoc, Nat.mul_assoc]
    congr 1
    rw [← Nat.pow_succ', ← Nat.pow_add]
    congr 1
    omega
  rw [e, Nat.add_mul_div_right _ _ (Nat.pow_pos (by decide)), Nat.add_mul_mod_self_right]
theorem z8_p (i : Nat) : (8 : Nat) ^ i = 2 ^ (3 * i) := by rw [Nat.pow_mul]
/-- the i-th from below -/
theorem z8_at : ∀ {r : List Nat} {i : Nat}, (∀ x ∈ r, x < 6) → (hi : i < r.length) → z8 r / 8 ^ i % 8 = r[r.length - 1 - i]'(by omega)
  | [], i, _, hi => by cases hi
  | t :: r, i, h, hi => by
    by_cases e : i = r.length
    · subst e
      rw [z8_top h]
      simp
    · have hi' : i < r.length := by simp only [List.length_cons] at hi; omega
      rw [z8_low hi', z8_at (fun x hx => h x (List.mem_cons_of_mem _ hx)) hi']
      have e2 : (t :: r).length - 1 - i = (r.length - 1 - i) + 1 := by simp only [List.length_cons]; omega
      simp only [e2, List.getElem_cons_succ]
/-- one is written onto it -/
theorem z8_cons {t : Nat} {r : List Nat} (h : ∀ x ∈ r, x < 6) : z8 r ||| t * 2 ^ (3 * r.length) = z8 (t :: r) := by
  have h1 := z8_lt r h
  simp only [z8]
  rw [← z8_p, Nat.add_comm, Nat.or_comm, z8_p, Nat.mul_comm]
  rw [z8_p] at h1
  rw [← Nat.two_pow_add_eq_or_of_lt h1]
theorem z8_inj : ∀ {r s : List Nat}, (∀ t ∈ r, t < 6) → (∀ t ∈ s, t < 6) → r.length = s.length → z8 r = z8 s → r = s
  | [], [], _, _, _, _ => rfl
  | [], t :: s, _, _, h, _ => by simp at h
  | t :: r, [], _, _, h, _ => by simp at h
  | t :: r, u :: s, h1, h2, hl, h => by
    have hl' : r.length = s.length := by simpa using hl
    have a := z8_top h1
    have b := z8_top h2
    rw [h, hl'] at a
    have e : t = u := a.symm.trans b
    simp only [z8, e, hl'] at h
    rw [e, z8_inj (fun x hx => h1 x (List.mem_cons_of_mem _ hx)) (fun x hx => h2 x (List.mem_cons_of_mem _ hx)) hl' (by omega)]
/-! what shows, what is read -/
def zShow (B : zLB) (t : Nat) (deep damp thin : Int32) : Bool := match zEv B with
  | none => decide ((if zKi B t = 2 then deep - 1 else deep) * 2 - nI (zGa B t) < if zKi B t = 1 then damp + 1 else damp)
  | some v => decide (¬ v (if zKi B t = 1 then damp + 1 else damp) (if zKi B t = 2 then deep - 1 else deep) (nI (zGa B t)) thin = 0)
def zRdL (B : zLB) (damp thin : Int32) : Nat → List Nat → Option Nat
  | _, [] => none
  | d, t :: r => if zShow B t (nI d) damp thin = true then some t else zRdL B damp thin (d + 1) r
def zRd (B : zLB) (S : zMS) (k l : Nat) (damp : Int32) : Option Nat := if (zOp S k).testBit l = true then (zPl S (6 * k + l)).head? else zRdL B damp (nI (zTh S k)) 1 (zPl S (6 * k + l))
def zDp (B : zLB) (w : Nat) : Nat := if zD B = 0 then 0 else zDa B (w % zD B)
def zAny (p : Nat → Bool) : Nat → Bool
  | 0 => false
  | n + 1 => zAny p n || p n
theorem zAny_t {p : Nat → Bool} : ∀ {n : Nat}, zAny p n = true ↔ ∃ i, i < n ∧ p i = true
  | 0 => ⟨fun h => (by cases h), fun ⟨i, h, _⟩ => (by cases h)⟩
  | n + 1 => by
    rw [zAny, Bool.or_eq_true, zAny_t]
    constructor
    · rintro (⟨i, h1, h2⟩ | h)
      · exact ⟨i, by omega, h2⟩
      · exact ⟨n, by omega, h⟩
    · rintro ⟨i, h1, h2⟩
      by_cases e : i = n
      · subst e; exact Or.inr h2
      · exact Or.inl ⟨i, by omega, h2⟩
theorem zAny_f {p : Nat → Bool} {n : Nat} : zAny p n = false ↔ ∀ i, i < n → p i = false := by
  rw [Bool.eq_false_iff, Ne, zAny_t]
  constructor
  · intro h i hi
    rw [Bool.eq_false_iff]
    exact fun hp => h ⟨i, hi, hp⟩
  · rintro h ⟨i, hi, hp⟩
    rw [h i hi] at hp
    cases hp
def zAl (p : Nat → Bool) : Nat → Nat → Bool
  | 0, _ => true
  | j + 1, i => p i && zAl p j (i + 1)
theorem zAl_t {p : Nat → Bool} : ∀ {j i : Nat}, zAl p j i = true ↔ ∀ q, i ≤ q → q < i + j → p q = true
  | 0, i => ⟨fun _ q h1 h2 => by omega, fun _ => rfl⟩
  | j + 1, i => by
    rw [zAl, Bool.and_eq_true, zAl_t]
    constructor
    · rintro ⟨h1, h2⟩ q hq1 hq2
      by_cases e : q = i
      · subst e; exact h1
      · exact h2 q (by omega) (by omega)
    · intro h
      exact ⟨h i (by omega) (by omega), fun q h1 h2 => h q (by omega) (by omega)⟩
/-- how many lines up to one (it is left out) read a text -/
def zRun (r : Nat → Option Nat) (t : Nat) : Nat → Nat
  | 0 => 0
  | l + 1 => if r l = some t then zRun r t l + 1 else 0
theorem zRun_le (r : Nat → Option Nat) (t : Nat) : ∀ l, zRun r t l ≤ l
  | 0 => Nat.le_refl _
  | l + 1 => by
    have := zRun_le r t l
    unfold zRun
    split <;> omega
def zWh (B : zLB) (S : zMS) (t : Nat) (d : Int32) : Bool := zAny (fun k => zAny (fun l => decide (zLo B t ≤ zRun (fun l => zRd B S k l d) t (l + 1))) 6) (zS B)
def zWl (B : zLB) (S : zMS) (d : Int32) : Nat := zMk (fun t => zWh B S t d) (zT B)
/-! what can be written, what is then -/
def zFr (B : zLB) (S : zMS) (k i : Nat) : Bool := decide (i < zLi B k) && (!(zHo B k).testBit i && (!(zOp S k).testBit i && decide ((zPl S (6 * k + i)).length < 9)))
def zCw (B : zLB) (S : zMS) (t k l : Nat) : Bool := !decide (zTh S k = 0) && zAl (zFr B S k) (zLo B t) l
def zW1 (S : zMS) (t k i : Nat) : zMS := (S.1, S.2.1, fun j => if j = k then zOp S k ||| 2 ^ i else zOp S j, fun q => if q = 6 * k + i then t :: zPl S (6 * k + i) else zPl S q)
def zWi (t k : Nat) : Nat → Nat → zMS → zMS
  | 0, _, S => S
  | j + 1, i, S => zWi t k j (i + 1) (zW1 S t k i)
def zWr (B : zLB) (S : zMS) (t k l : Nat) : zMS := zWi t k (zLo B t) l S
def zPc (B : zLB) (S : zMS) (t k : Nat) : Option Nat := zFs (fun l => zCw B S t k l) 6 0
/-! what is scraped -/
def zHd (S : zMS) (q : Nat) : Nat := (zPl S q).headD 0
def zSg (B : zLB) (S : zMS) (k m : Nat) : Bool := zAny (fun l => m.testBit l && decide (zGa B (zHd S (6 * k + l)) = 1)) 6
def zSo (B : zLB) (S : zMS) (k m : Nat) : Bool := zAny (fun l => m.testBit l && decide (zKi B (zHd S (6 * k + l)) = 3)) 6
def zSb (B : zLB) (S : zMS) (k w : Nat) : Nat := if zOp S k &&& w = 0 then 0 else 1 + (if zSg B S k (zOp S k &&& w) = true then 1 else 0) + (if zSo B S k (zOp S k &&& w) = true then 1 else 0)
def zSc (B : zLB) (S : zMS) (k w : Nat) : zMS := if zTh S k - zSb B S k w = 0
  then (S.1, fun j => if j = k then 0 else zTh S j, fun j => if j = k then 0 else zOp S j, fun q => if 6 * k ≤ q ∧ q < 6 * k + 6 then [] else zPl S q)
  else (S.1, fun j => if j = k then zTh S k - zSb B S k w else zTh S j, fun j => if j = k then zan (zOp S k) w else zOp S j, S.2.2.2)
def zGo (B : zLB) (S : zMS) : Nat := zMk (fun k => decide (zTh S k = 0)) (zS B)
def zTs (S : zMS) : Nat → Nat
  | 0 => 0
  | n + 1 => zTs S n + zTh S n
def zNx (S : zMS) : zMS := (S.1 + 1, S.2)
def z00 (B : zLB) : zMS := (0, fun k => if k < zS B then zTh0 B k else 0, fun _ => 0, fun _ => [])
