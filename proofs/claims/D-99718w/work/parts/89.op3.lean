/-! PURE 16: calls that only look: deepest, bare, same, over, chance, sums -/
set_option maxRecDepth 100000
def zBest (len : Nat → Nat) : Nat → Nat → Nat → Nat
  | 0, _, b => b
  | j + 1, l, b => zBest len j (l + 1) (if len b < len l then l else b)
def zS1 (e : Nat → Nat → Bool) : Nat → Nat
  | 0 => 0
  | k + 1 => zS1 e k + zCt (fun o => e k o) k
def zCr (p : Nat → Bool) : Nat → Nat → Nat
  | 0, _ => 0
  | j + 1, i => (if p i = true then 1 else 0) + zCr p j (i + 1)
def zS2 (e : Nat → Nat → Bool) (n : Nat) : Nat → Nat
  | 0 => 0
  | k + 1 => zS2 e n k + zCr (e k) (n - (k + 1)) (k + 1)
theorem zCr_end (p : Nat → Bool) : ∀ j i, zCr p (j + 1) i = zCr p j i + (if p (i + j) = true then 1 else 0)
  | 0, i => by simp [zCr]
  | j + 1, i => by
    rw [zCr, zCr_end p j (i + 1), zCr, show i + 1 + j = i + (j + 1) by omega]
    omega
theorem zS2_s (e : Nat → Nat → Bool) (n : Nat) : ∀ k, k ≤ n → zS2 e (n + 1) k = zS2 e n k + zCt (fun o => e o n) k
  | 0, _ => rfl
  | k + 1, hk => by
    rw [zS2, zS2, zS2_s e n k (by omega), zCt, show n + 1 - (k + 1) = n - (k + 1) + 1 by omega, zCr_end, show k + 1 + (n - (k + 1)) = n by omega]
    omega
theorem zS2_S1 (e : Nat → Nat → Bool) (hs : ∀ a b, e a b = e b a) : ∀ n, zS2 e n n = zS1 e n
  | 0 => rfl
  | n + 1 => by
    rw [zS2, zS2_s e n n (Nat.le_refl _), zS2_S1 e hs n, zS1, Nat.sub_self, zCr]
    have : zCt (fun o => e o n) n = zCt (fun o => e n o) n := zCt_eq (fun i _ => hs i n)
    omega
theorem zS1_le (e : Nat → Nat → Bool) : ∀ n, n ≤ 18 → zS1 e n ≤ 18 * n
  | 0, _ => by simp [zS1]
  | n + 1, h => by
    have h1 := zS1_le e n (by omega)
    have h2 := zCt_le (fun o => e n o) n
    rw [zS1]
    omega
def zEq (S : zMS) (k l : Nat) : Bool := !(zPl S k).isEmpty && decide (zPl S k = zPl S l)
theorem zEq_s (S : zMS) (k l : Nat) : zEq S k l = zEq S l k := by
  unfold zEq
  by_cases h : zPl S k = zPl S l
  · rw [h]
  · rw [decide_eq_false h, decide_eq_false (fun q => h q.symm)]; simp
/-- what lies over a text: from above -/
def zOvL (t : Nat) : List Nat → Nat → Nat → Nat
  | [], _, st => st
  | u :: r, ab, st => zOvL t r (ab ||| 2 ^ u) (if u = t then st ||| ab else st)
/-- from below -/
def zOu (t : Nat) : List Nat → Bool → Nat → Nat
  | [], _, st => st
  | u :: r, fl, st => zOu t r (fl || decide (u = t)) (if fl = true then st ||| 2 ^ u else st)
theorem zOvL_tb (t x : Nat) : ∀ (r : List Nat) (ab st : Nat), (zOvL t r ab st).testBit x = true ↔ st.testBit x = true ∨ ∃ p s, r = p ++ t :: s ∧ (ab.testBit x = true ∨ x ∈ p)
  | [], ab, st => by
    constructor
    · exact Or.inl
    · rintro (h | ⟨p, s, h, _⟩)
      · exact h
      · simp at h
  | u :: r, ab, st => by
    rw [zOvL, zOvL_tb t x r]
    constructor
    · rintro (h | ⟨p, s, h1, h2⟩)
      · by_cases e : u = t
        · rw [if_pos e, Nat.testBit_or, Bool.or_eq_true] at h
          rcases h with h | h
          · exact Or.inl h
          · exact Or.inr ⟨[], r, by rw [e]; rfl, Or.inl h⟩
        · rw [if_neg e] at h; exact Or.inl h
      · refine Or.inr ⟨u :: p, s, by rw [h1]; rfl, ?_⟩
        rcases h2 with h2 | h2
        · rw [Nat.testBit_or, Bool.or_eq_true, Nat.testBit_two_pow, decide_eq_true_eq] at h2
          rcases h2 with h2 | h2
          · exact Or.inl h2
          · exact Or.inr (by rw [h2]; exact List.mem_cons_self)
        · exact Or.inr (List.mem_cons_of_mem _ h2)
    · rintro (h | ⟨p, s, h1, h2⟩)
      · left
        split
        · rw [Nat.testBit_or, h]; rfl
        · exact h
      · cases p with
        | nil =>
          have e : u = t := by injection h1
          rcases h2 with h2 | h2
          · left
            rw [if_pos e, Nat.testBit_or, h2]; simp
          · cases h2
        | cons v p =>
          have e1 : u = v := by injection h1
          have e2 : r = p ++ t :: s := by injection h1
          refine Or.inr ⟨p, s, e2, ?_⟩
          rcases h2 with h2 | h2
          · left; rw [Nat.testBit_or, h2]; rfl
          · rcases List.mem_cons.mp h2 with h3 | h3
            · left; rw [Nat.testBit_or, Nat.testBit_two_pow, e1, h3]; simp
            · exact Or.inr h3
theorem zOu_tb (t x : Nat) : ∀ (r : List Nat) (fl : Bool) (st : Nat), (zOu t r fl st).testBit x = true ↔ st.testBit x = true ∨ (fl = true ∧ x ∈ r) ∨ ∃ p s, r = p ++ t :: s ∧ x ∈ s
  | [], fl, st => by
    constructor
    · exact Or.inl
    · rintro (h | ⟨_, h⟩ | ⟨p, s, h, _⟩)
      · exact h
      · cases h
      · simp at h
  | u :: r, fl, st => by
    rw [zOu, zOu_tb t x r]
    constructor
    · rintro (h | ⟨h1, h2⟩ | ⟨p, s, h1, h2⟩)
      · cases fl with
        | true =>
          rw [if_pos rfl, Nat.testBit_or, Bool.or_eq_true, Nat.testBit_two_pow, decide_eq_true_eq] at h
          rcases h with h | h
          · exact Or.inl h
          · exact Or.inr (Or.inl ⟨rfl, by rw [h]; exact List.mem_cons_self⟩)
        | false => rw [if_neg (by decide)] at h; exact Or.inl h
      · rw [Bool.or_eq_true, decide_eq_true_eq] at h1
        rcases h1 with h1 | h1
        · exact Or.inr (Or.inl ⟨h1, List.mem_cons_of_mem _ h2⟩)
        · exact Or.inr (Or.inr ⟨[], r, by rw [h1]; rfl, h2⟩)
      · exact Or.inr (Or.inr ⟨u :: p, s, by rw [h1]; rfl, h2⟩)
    · rintro (h | ⟨h1, h2⟩ | ⟨p, s, h1, h2⟩)
      · left
        split
        · rw [Nat.testBit_or, h]; rfl
        · exact h
      · rcases List.mem_cons.mp h2 with h3 | h3
        · left; rw [if_pos h1, Nat.testBit_or, Nat.testBit_two_pow, h3]; simp
        · exact Or.inr (Or.inl ⟨by rw [h1]; rfl, h3⟩)
      · cases p with
        | nil =>
          have e1 : u = t := by injection h1
          have e2 : r = s := by injection h1
          exact Or.inr (Or.inl ⟨by rw [decide_eq_true e1]; simp, by rw [e2]; exact h2⟩)
        | cons v p =>
          have e2 : r = p ++ t :: s := by injection h1
          exact Or.inr (Or.inr ⟨p, s, e2, h2⟩)
theorem zOu_OvL (t : Nat) (r : List Nat) (st : Nat) : zOvL t r 0 st = st ||| zOu t r.reverse false 0 := by
  apply Nat.eq_of_testBit_eq
  intro x
  rw [Bool.eq_iff_iff, zOvL_tb, Nat.testBit_or, Bool.or_eq_true, zOu_tb]
  constructor
  · rintro (h | ⟨p, s, h1, h2 | h2⟩)
    · exact Or.inl h
    · simp at h2
    · exact Or.inr (Or.inr (Or.inr ⟨s.reverse, p.reverse, by rw [h1]; simp, by simpa using h2⟩))
  · rintro (h | h | ⟨h, _⟩ | ⟨p, s, h1, h2⟩)
    · exact Or.inl h
    · simp at h
    · cases h
    · refine Or.inr ⟨s.reverse, p.reverse, ?_, Or.inr (by simpa using h2)⟩
      have := congrArg List.reverse h1
      simpa using this
theorem zOvL_lt (t : Nat) : ∀ (r : List Nat) (ab st : Nat), (∀ u ∈ r, u < 6) → ab < 64 → st < 64 → zOvL t r ab st < 64
  | [], _, _, _, _, h => h
  | u :: r, ab, st, hr, h1, h2 => by
    rw [zOvL]
    refine zOvL_lt t r _ _ (fun x hx => hr x (List.mem_cons_of_mem _ hx)) (Nat.or_lt_two_pow (n := 6) h1 (Nat.pow_lt_pow_right (a := 2) (by decide) (hr u List.mem_cons_self))) ?_
    split
    · exact Nat.or_lt_two_pow (n := 6) h2 h1
    · exact h2
theorem zOu_lt (t : Nat) : ∀ (r : List Nat) (fl : Bool) (st : Nat), (∀ u ∈ r, u < 6) → st < 64 → zOu t r fl st < 64
  | [], _, _, _, h => h
  | u :: r, fl, st, hr, h2 => by
    rw [zOu]
    refine zOu_lt t r _ _ (fun x hx => hr x (List.mem_cons_of_mem _ hx)) ?_
    split
    · exact Nat.or_lt_two_pow (n := 6) h2 (Nat.pow_lt_pow_right (a := 2) (by decide) (hr u List.mem_cons_self))
    · exact h2
def zOvs (S : zMS) (t : Nat) : Nat → Nat
  | 0 => 0
  | q + 1 => zOvs S t q ||| zOu t (zPl S q).reverse false 0
section
variable {N a : Nat} {B : zLB} {S : zMS} {k : zKA}
/-! deepest -/
def zO_deepest (B : zLB) (S : zMS) (x : Int32) : Int32 := match zix x (zS B) with
  | none => -1
  | some s => nI (zBest (fun l => (zPl S (6 * s + l)).length) (zLi B s - 1) 1 0)
theorem zR_deepest19 (hB : zLok B) (hS : zSok B S) (hN : 3000 ≤ N) {s : Nat} (hs : s < zS B) : ∀ (j n l b : Nat), l + j = zLi B s → b < zLi B s → j < n → zRO N a B S (fX7_deepest_19 N a n (nI s) (nI b) (nI l)) (nI (zBest (fun l => (zPl S (6 * s + l)).length) j l b))
  | 0, n + 1, l, b, hl, hb, hn => by
    have h6 := (hB.2.2.2.1 s hs).1.2
    rw [fX7_deepest_19]
    exact zRO.bind zR_o13 (zRO.bind (zR_Li hs) (zRO.ifp (nI_le (by omega) (by omega)) (zRO.ret _)))
  | j + 1, n + 1, l, b, hl, hb, hn => by
    have h6 := (hB.2.2.2.1 s hs).1.2
    have hs3 := hB.1
    have p1 := (zPl_ok hB hS (q := 6 * s + l) (by omega)).1
    have p2 := (zPl_ok hB hS (q := 6 * s + b) (by omega)).1
    rw [fX7_deepest_19, zBest]
    refine zRO.bind zR_o13 (zRO.bind (zR_Li hs) (zRO.ifn (nI_ge (by omega) (by omega)) (zRO.bind zR_o48 (zRO.bind (zR_pl (by omega) (by omega)) (zRO.bind (zR_deep hB hS hN (by omega)) (zRO.bind zR_o48 (zRO.bind (zR_pl (by omega) (by omega)) (zRO.bind (zR_deep hB hS hN (by omega)) ?_))))))))
    unfold fX7_deepest_68
    rw [zc1_da]
    by_cases hc : (zPl S (6 * s + b)).length < (zPl S (6 * s + l)).length
    · rw [if_pos hc]
      exact zRO.ifn (nI_ge hc (by omega)) (zR_deepest19 hB hS hN hs j n (l + 1) l (by omega) (by omega) (by omega))
    · rw [if_neg hc]
      exact zRO.ifp (nI_le (by omega) (by omega)) (zR_deepest19 hB hS hN hs j n (l + 1) b (by omega) hb (by omega))
theorem zR_op_deepest (x : Int32) : zRW N a B S (fX7_deepest N a x) (zO_deepest B S x) := by
  refine zRW.have_ fun hN hB hS => ?_
  have hs3 := hB.1
  unfold zO_deepest
  refine zRW.thr (zRO.bind (zR_isSkin x) ?_)
  rcases zix_cases x (n := zS B) (by omega) with ⟨h3, -⟩ | ⟨s, h3, h4, rfl⟩
  · rw [h3]; exact zRO.ifp rfl (zRO.ret _)
  · have h6 := (hB.2.2.2.1 s h3).1
    rw [h4]; exact zRO.ifn zb1n (zR_deepest19 hB hS hN h3 (zLi B s - 1) N 1 0 (by omega) (by omega) (by omega))
theorem zC_deepest14 (hB : zLok B) (hS : zSok B S) {s : Nat} (hs : s < zS B) : ∀ (j n l b : Nat), l + j = zLi B s → b < zLi B s → j < n → zCO N k B S (fX1_deepest_14 N (k.1 0) n (nI s) (nI b) (nI l)) (nI (zBest (fun l => (zPl S (6 * s + l)).length) j l b))
  | 0, n + 1, l, b, hl, hb, hn => by
    have h6 := (hB.2.2.2.1 s hs).1.2
    rw [fX1_deepest_14]
    exact zCO.bind zC_w1 (zCO.bind (zC_r2 true) (zCO.bind (zC_skin hs) (zCO.bind (zC_g12_0 hs) (zCO.ifp (nI_le (by omega) (by omega)) (zCO.ret _)))))
  | j + 1, n + 1, l, b, hl, hb, hn => by
    have h6 := (hB.2.2.2.1 s hs).1.2
    have hs3 := hB.1
    have p1 := (zPl_ok hB hS (q := 6 * s + l) (by omega)).1
    have p2 := (zPl_ok hB hS (q := 6 * s + b) (by omega)).1
    rw [fX1_deepest_14, zBest]
    refine zCO.bind zC_w1 (zCO.bind (zC_r2 true) (zCO.bind (zC_skin hs) (zCO.bind (zC_g12_0 hs) (zCO.ifn (nI_ge (by omega) (by omega)) (zCO.bind (zC_layersq hs (by omega)) (zCO.bind (zC_layersq hs hb) ?_))))))
    unfold fX1_deepest_46
    rw [zc1_da]
    by_cases hc : (zPl S (6 * s + b)).length < (zPl S (6 * s + l)).length
    · rw [if_pos hc]
      exact zCO.ifn (nI_ge hc (by omega)) (zC_deepest14 hB hS hs j n (l + 1) l (by omega) (by omega) (by omega))
    · rw [if_neg hc]
      exact zCO.ifp (nI_le (by omega) (by omega)) (zC_deepest14 hB hS hs j n (l + 1) b (by omega) hb (by omega))
theorem zC_op_deepest (x : Int32) : zCO N k B S (fX1_deepest N (k.1 0) x) (zO_deepest B S x) := by
  refine zCO.have_ fun hN hB hS => ?_
  have hs3 := hB.1
  unfold zO_deepest
  refine zCO.bind (zC_isSkin x) ?_
  rcases zix_cases x (n := zS B) (by omega) with ⟨h3, -⟩ | ⟨s, h3, h4, rfl⟩
  · rw [h3]; exact zCO.ifp rfl (zCO.ret _)
  · have h6 := (hB.2.2.2.1 s h3).1
    rw [h4]; exact zCO.ifn zb1n (zC_deepest14 hB hS h3 (zLi B s - 1) N 1 0 (by omega) (by omega) (by omega))
/-! bare -/
def zO_bare (B : zLB) (S : zMS) (x : Int32) : Int32 := match zix x (zS B) with
  | none => -1
  | some s => nI (zMk (fun l => (zPl S (6 * s + l)).isEmpty && !(zHo B s).testBit l) (zLi B s))
theorem zR_bare19 (hB : zLok B) (hS : zSok B S) {s : Nat} (hs : s < zS B) : ∀ (j n l : Nat), l + j = zLi B s → j < n → zRO N a B S (fX7_bare_19 N a n (nI s) (nI (zMk (fun l => (zPl S (6 * s + l)).isEmpty) l)) (nI l)) (nI (zMk (fun l => (zPl S (6 * s + l)).isEmpty && !(zHo B s).testBit l) (zLi B s)))
  | 0, n + 1, l, hl, hn => by
    have h6 := (hB.2.2.2.1 s hs).1.2
    rw [fX7_bare_19]
    refine zRO.bind zR_o13 (zRO.bind (zR_Li hs) (zRO.ifp (nI_le (by omega) (by omega)) (zRO.bind zR_o15 (zRO.bind (zR_Ho hs) ?_))))
    rw [zandn]
    have e : zan (zMk (fun l => (zPl S (6 * s + l)).isEmpty) l) (zHo B s) = zMk (fun l => (zPl S (6 * s + l)).isEmpty && !(zHo B s).testBit l) (zLi B s) := by
      apply Nat.eq_of_testBit_eq
      intro i
      rw [zan_tb, zMk_tb, zMk_tb, show l = zLi B s by omega, Bool.and_assoc]
    rw [e]
    exact zRO.ret _
  | j + 1, n + 1, l, hl, hn => by
    have h6 := (hB.2.2.2.1 s hs).1.2
    have hs3 := hB.1
    have p1 := (zPl_ok hB hS (q := 6 * s + l) (by omega)).2.2.2.1
    have ih := zR_bare19 hB hS hs j n (l + 1) (by omega) (by omega)
    rw [fX7_bare_19]
    refine zRO.bind zR_o13 (zRO.bind (zR_Li hs) (zRO.ifn (nI_ge (by omega) (by omega)) (zRO.bind zR_o48 (zRO.bind (zR_pl (by omega) (by omega)) ?_))))
    unfold fX7_bare_54
    rw [zshl (by omega), zor, zc1_da, show (0 : Int32) = nI 0 from rfl, zor, Nat.or_zero]
    rw [zMk_s] at ih
    cases hp : zPl S (6 * s + l) with
    | nil =>
      rw [hp, if_pos (show ([] : List Nat).isEmpty = true from rfl)] at ih
      exact zRO.ifp (by decide) ih
    | cons t r =>
      rw [hp, if_neg (by simp)] at ih
      rw [hp] at p1
      exact zRO.ifn (nI_ne0 (by simp [z7]) (by omega)) ih
theorem zR_op_bare (x : Int32) : zRW N a B S (fX7_bare N a x) (zO_bare B S x) := by
  refine zRW.have_ fun hN hB hS => ?_
  have hs3 := hB.1
  unfold zO_bare
  refine zRW.thr (zRO.bind (zR_isSkin x) ?_)
  rcases zix_cases x (n := zS B) (by omega) with ⟨h3, -⟩ | ⟨s, h3, h4, rfl⟩
  · rw [h3]; exact zRO.ifp rfl (zRO.ret _)
  · have h6 := (hB.2.2.2.1 s h3).1
    rw [h4]; exact zRO.ifn zb1n (zR_bare19 hB hS h3 (zLi B s) N 0 (by omega) (by omega))
theorem zC_bare14 (hB : zLok B) (hS : zSok B S) {s : Nat} (hs : s < zS B) : ∀ (j n l : Nat), l + j = zLi B s → j < n → zCO N k B S (fX1_bare_14 N (k.1 0) n (nI s) (nI (zMk (fun l => (zPl S (6 * s + l)).isEmpty && !(zHo B s).testBit l) l)) (nI l)) (nI (zMk (fun l => (zPl S (6 * s + l)).isEmpty && !(zHo B s).testBit l) (zLi B s)))
  | 0, n + 1, l, hl, hn => by
    have h6 := (hB.2.2.2.1 s hs).1.2
    rw [fX1_bare_14, show l = zLi B s by omega]
    exact zCO.bind zC_w1 (zCO.bind (zC_r2 true) (zCO.bind (zC_skin hs) (zCO.bind (zC_g12_0 hs) (zCO.ifp (nI_le (by omega) (by omega)) (zCO.ret _)))))
  | j + 1, n + 1, l, hl, hn => by
    have h6 := (hB.2.2.2.1 s hs).1.2
    have hho := (hB.2.2.2.1 s hs).2.2
    have hs3 := hB.1
    have p1 := (zPl_ok hB hS (q := 6 * s + l) (by omega)).1
    have ih := zC_bare14 hB hS hs j n (l + 1) (by omega) (by omega)
    rw [fX1_bare_14]
    refine zCO.bind zC_w1 (zCO.bind (zC_r2 true) (zCO.bind (zC_skin hs) (zCO.bind (zC_g12_0 hs) (zCO.ifn (nI_ge (by omega) (by omega)) (zCO.bind (zC_layersq hs (by omega)) ?_)))))
    unfold fX1_bare_62
    rw [zshl (by omega), zor, zc1_da]
    rw [zMk_s] at ih
    cases hp : zPl S (6 * s + l) with
    | nil =>
      rw [hp] at ih
      refine zCO.ifp (by decide) (zCO.bind zC_w1 (zCO.bind (zC_r2 true) (zCO.bind (zC_skin hs) (zCO.bind (zC_g12_2 hs) (zCO.bind (zC_has (by omega) (by omega)) ?_)))))
      cases hh : (zHo B s).testBit l with
      | true =>
        rw [hh, if_neg (by decide)] at ih
        exact zCO.ifn zb1n ih
      | false =>
        rw [hh, if_pos (by decide)] at ih
        exact zCO.ifp rfl ih
    | cons t r =>
      rw [hp, if_neg (by simp)] at ih
      rw [hp] at p1
      exact zCO.ifn (nI_ne0 (by simp) (by omega)) ih
theorem zC_op_bare (x : Int32) : zCO N k B S (fX1_bare N (k.1 0) x) (zO_bare B S x) := by
  refine zCO.have_ fun hN hB hS => ?_
  have hs3 := hB.1
  unfold zO_bare
  refine zCO.bind (zC_isSkin x) ?_
  rcases zix_cases x (n := zS B) (by omega) with ⟨h3, -⟩ | ⟨s, h3, h4, rfl⟩
  · rw [h3]; exact zCO.ifp rfl (zCO.ret _)
  · have h6 := (hB.2.2.2.1 s h3).1
    rw [h4]; exact zCO.ifn zb1n (zC_bare14 hB hS h3 (zLi B s) N 0 (by omega) (by omega))
/-! same -/
theorem zR_same17 (hB : zLok B) (hS : zSok B S) {q : Nat} (hq : q < 18) (k9 : Int32 → Int32 → jM Int32) (v : Int32) (c0 : Nat) (hk : zRO N a B S (k9 (nI (c0 + zCt (fun o => zEq S q o) q)) (nI (q + 1))) v) : ∀ (j n o : Nat), o + j = q → j < n → zRO N a B S (fX7_same_17 N k9 a n (nI (c0 + zCt (fun o => zEq S q o) o)) (nI q) (nI o)) v
  | 0, n + 1, o, ho, hn => by
    rw [fX7_same_17, show o = q by omega]
    unfold fX7_same_69
    rw [zc1_da]
    exact zRO.ifp (nI_le (by omega) (by omega)) hk
  | j + 1, n + 1, o, ho, hn => by
    have p1 := zPl_ok hB hS hq
    have p2 := zPl_ok hB hS (q := o) (by omega)
    have ih := zR_same17 hB hS hq k9 v c0 hk j n (o + 1) (by omega) (by omega)
    rw [zCt, ← Nat.add_assoc] at ih
    rw [fX7_same_17]
    unfold fX7_same_60 fX7_same_61
    rw [zc1_da, show (0 : Int32) = nI 0 from rfl, nI_add, show (1 : Int32) = nI 1 from rfl, nI_add]
    refine zRO.ifn (nI_ge (by omega) (by omega)) (zRO.bind zR_o48 (zRO.bind (zR_plk hq) ?_))
    cases hp : zPl S q with
    | nil =>
      have hE : zEq S q o = false := by simp [zEq, hp]
      rw [hE, if_neg (by decide)] at ih
      exact zRO.ifp (by decide) ih
    | cons t r =>
      rw [← hp]
      have hz : ¬ nI (z7 (zPl S q)) ≤ nI 0 := by
        rw [hp] at p1 ⊢
        exact z7_p (Nat.lt_trans p1.2.2.2.1 (by decide))
      refine zRO.ifn hz (zRO.bind zR_o48 (zRO.bind (zR_plk hq) (zRO.bind zR_o48 (zRO.bind (zR_plk (by omega)) ?_))))
      by_cases he : zPl S q = zPl S o
      · have hE : zEq S q o = true := by unfold zEq; rw [decide_eq_true he, hp]; rfl
        rw [hE, if_pos rfl] at ih
        exact zRO.ifp (by rw [he]) ih
      · have hE : zEq S q o = false := by unfold zEq; rw [decide_eq_false he]; simp
        rw [hE, if_neg (by decide)] at ih
        refine zRO.ifn (fun qq => he ?_) ih
        exact z7_inj p1.2.2.1 p2.2.2.1 ((nI_eq (Nat.lt_trans p1.2.2.2.1 (by decide)) (Nat.lt_trans p2.2.2.2.1 (by decide))).mp qq)
theorem zR_same9 (hB : zLok B) (hS : zSok B S) (hN : 3000 ≤ N) : ∀ (j n q : Nat), q + j = 18 → j < n → zRO N a B S (fX7_same_9 N a n (nI (zS1 (zEq S) q)) (nI q)) (nI (zS1 (zEq S) 18))
  | 0, n + 1, q, hq, hn => by
    rw [fX7_same_9, show q = 18 by omega]
    exact zRO.ifp (by decide) (zRO.ret _)
  | j + 1, n + 1, q, hq, hn => by
    rw [fX7_same_9]
    refine zRO.ifn (fun qq => by have := (zc18_le (by omega)).mp qq; omega) ?_
    exact zR_same17 hB hS (show q < 18 by omega) _ _ (zS1 (zEq S) q) (zR_same9 hB hS hN j n (q + 1) (by omega) (by omega)) q N 0 (by omega) (by omega)
theorem zR_op_same : zRW N a B S (fX7_same N a) (nI (zS1 (zEq S) 18)) := by
  refine zRW.have_ fun hN hB hS => ?_
  exact zRW.thr (zR_same9 hB hS hN 18 N 0 rfl (by omega))
theorem zC_areLike (hB : zLok B) (hS : zSok B S) {p q : Nat} (hp : p < 18) (hq : q < 18) : zCO N k B S (fX3_areLike (zka k true) (nI p) (nI q)) (zb (zEq S p q)) := by
  have p1 := zPl_ok hB hS hp
  have p2 := zPl_ok hB hS hq
  refine zCO.bind (zC_s5 true) (zCO.bind (zC_many hp) ?_)
  unfold zEq
  cases hpl : zPl S p with
  | nil => exact zCO.ifp (by decide) zCO.rn0
  | cons t r =>
    rw [← hpl]
    have hne : (zPl S p).isEmpty = false := by rw [hpl]; rfl
    rw [hne]
    refine zCO.ifn (nI_nle (by rw [hpl]; simp) (by omega)) (zCO.bind (zC_s5 true) (zCO.bind (zC_many hp) (zCO.bind (zC_s5 true) (zCO.bind (zC_many hq) ?_))))
    by_cases hl : (zPl S p).length = (zPl S q).length
    · refine zCO.ifp (by rw [hl]) (zCO.bind (zC_s4 true) (zCO.bind (zC_of hp) (zCO.bind (zC_s4 true) (zCO.bind (zC_of hq) ?_))))
      by_cases he : zPl S p = zPl S q
      · rw [decide_eq_true he]
        exact zCO.ifp (by rw [he]) zCO.rn1
      · rw [decide_eq_false he]
        refine zCO.ifn (fun qq => he ?_) zCO.rn0
        exact z8_inj p1.2.2.1 p2.2.2.1 hl ((nI_eq (Nat.lt_trans p1.2.2.2.2 (by decide)) (Nat.lt_trans p2.2.2.2.2 (by decide))).mp qq)
    · have he : ¬ zPl S p = zPl S q := fun e => hl (by rw [e])
      rw [decide_eq_false he]
      exact zCO.ifn (fun qq => hl ((nI_eq (by omega) (by omega)).mp qq)) zCO.rn0
theorem zC_same14 (hB : zLok B) (hS : zSok B S) {q : Nat} (hq : q < 18) (k4 : Int32 → Int32 → jM Int32) (v : Int32) : ∀ (j n l c : Nat), l + j = 18 → j < n → zCO N k B S (k4 (nI (c + zCr (zEq S q) j l)) (nI (q + 1))) v → zCO N k B S (fX1_same_14 N k4 (k.1 0) n (nI c) (nI q) (nI l)) v
  | 0, n + 1, l, c, hl, hn, hk => by
    rw [fX1_same_14]
    unfold fX1_same_41
    rw [zc1_da]
    exact zCO.ifp ((zc18_le (by omega)).mpr (by omega)) hk
  | j + 1, n + 1, l, c, hl, hn, hk => by
    rw [fX1_same_14]
    refine zCO.ifn (fun qq => by have := (zc18_le (by omega)).mp qq; omega) (zCO.bind zC_w1 (zCO.bind (zC_r2 true) (zCO.bind (zC_areLike hB hS hq (by omega)) ?_)))
    unfold fX1_same_35
    rw [zc1_da, zc1_da]
    rw [zCr, ← Nat.add_assoc] at hk
    cases he : zEq S q l with
    | true =>
      rw [he, if_pos rfl] at hk
      exact zCO.ifn zb1n (zC_same14 hB hS hq k4 v j n (l + 1) (c + 1) (by omega) (by omega) hk)
    | false =>
      rw [he, if_neg (by decide)] at hk
      exact zCO.ifp rfl (zC_same14 hB hS hq k4 v j n (l + 1) c (by omega) (by omega) hk)
theorem zC_same4 (hB : zLok B) (hS : zSok B S) (hN : 3000 ≤ N) : ∀ (j n q : Nat), q + j = 18 → j < n → zCO N k B S (fX1_same_4 N (k.1 0) n (nI (zS2 (zEq S) 18 q)) (nI q)) (nI (zS2 (zEq S) 18 18))
  | 0, n + 1, q, hq, hn => by
    rw [fX1_same_4, show q = 18 by omega]
    exact zCO.ifp (by decide) (zCO.ret _)
  | j + 1, n + 1, q, hq, hn => by
    rw [fX1_same_4, zc1_da]
    refine zCO.ifn (fun qq => by have := (zc18_le (by omega)).mp qq; omega) ?_
    refine zC_same14 hB hS (show q < 18 by omega) _ _ (18 - (q + 1)) N (q + 1) (zS2 (zEq S) 18 q) (by omega) (by omega) ?_
    exact zC_same4 hB hS hN j n (q + 1) (by omega) (by omega)
theorem zC_op_same : zCO N k B S (fX1_same N (k.1 0)) (nI (zS1 (zEq S) 18)) := by
  refine zCO.have_ fun hN hB hS => ?_
  rw [← zS2_S1 (zEq S) (zEq_s S) 18]
  exact zC_same4 hB hS hN 18 N 0 rfl (by omega)
/-! over -/
def zO_over (B : zLB) (S : zMS) (x : Int32) : Int32 := match zix x (zT B) with
  | none => -1
  | some t => nI (zOvs S t 18)
theorem zOvs_lt (hB : zLok B) (hS : zSok B S) (t : Nat) : ∀ q, q ≤ 18 → zOvs S t q < 64
  | 0, _ => by simp [zOvs]
  | q + 1, h => Nat.or_lt_two_pow (n := 6) (zOvs_lt hB hS t q (by omega)) (zOu_lt t _ _ _ (fun u hu => (zPl_ok hB hS (q := q) (by omega)).2.2.1 u (by simpa using hu)) (by decide))
theorem zR_over39 {t q : Nat} (ht : t < 6) (k19 : Int32 → Int32 → Int32 → jM Int32) (v : Int32) : ∀ (r : List Nat) (n ab st : Nat), (∀ u ∈ r, u < 6) → r.length ≤ 9 → r.length < n → zRO N a B S (k19 (nI t) (nI (zOvL t r ab st)) (nI (q + 1))) v → zRO N a B S (fX7_over_39 N k19 a n (nI t) (nI st) (nI q) (nI ab) (nI (z7 r))) v
  | [], n + 1, ab, st, h6, hl, hn, hk => by
    rw [fX7_over_39]
    unfold fX7_over_84
    rw [zc1_da]
    exact zRO.ifp (by decide) hk
  | u :: r, n + 1, ab, st, h6, hl, hn, hk => by
    have hu := h6 u List.mem_cons_self
    have hp : z7 (u :: r) < 2 ^ 31 := Nat.lt_trans (z7_big h6 hl) (by decide)
    rw [fX7_over_39, z7_m hu hp]
    unfold fX7_over_60
    rw [z7_m hu hp, z7_d hu hp, zshl (by omega), zor, zor]
    rw [zOvL] at hk
    simp only [List.length_cons] at hl hn
    refine zRO.ifn (z7_p hp) (zRO.bind (zRO.nz (by decide)) ?_)
    by_cases e : u = t
    · rw [if_pos e] at hk
      exact zRO.ifp (congrArg nI e) (zRO.bind (zRO.nz (by decide)) (zRO.bind (zRO.nz (by decide)) (zR_over39 ht k19 v r n _ _ (fun x hx => h6 x (List.mem_cons_of_mem _ hx)) (by omega) (by omega) hk)))
    · rw [if_neg e] at hk
      exact zRO.ifn (fun qq => e ((nI_eq (by omega) (by omega)).mp qq)) (zRO.bind (zRO.nz (by decide)) (zRO.bind (zRO.nz (by decide)) (zR_over39 ht k19 v r n _ _ (fun x hx => h6 x (List.mem_cons_of_mem _ hx)) (by omega) (by omega) hk)))
theorem zR_over19 (hB : zLok B) (hS : zSok B S) (hN : 3000 ≤ N) {t : Nat} (ht : t < 6) : ∀ (j n q : Nat), q + j = 18 → j < n → zRO N a B S (fX7_over_19 N a n (nI t) (nI (zOvs S t q)) (nI q)) (nI (zOvs S t 18))
  | 0, n + 1, q, hq, hn => by
    rw [fX7_over_19, show q = 18 by omega]
    exact zRO.ifp (by decide) (zRO.ret _)
  | j + 1, n + 1, q, hq, hn => by
    have p1 := zPl_ok hB hS (q := q) (by omega)
    rw [fX7_over_19]
    refine zRO.ifn (fun qq => by have := (zc18_le (by omega)).mp qq; omega) (zRO.bind zR_o48 (zRO.bind (zR_plk (by omega)) ?_))
    refine zR_over39 ht _ _ (zPl S q) N 0 (zOvs S t q) p1.2.2.1 p1.1 (by omega) ?_
    rw [zOu_OvL]
    exact zR_over19 hB hS hN ht j n (q + 1) (by omega) (by omega)
theorem zR_op_over (x : Int32) : zRW N a B S (fX7_over N a x) (zO_over B S x) := by
  refine zRW.have_ fun hN hB hS => ?_
  have hT := hB.2.1
  unfold zO_over
  refine zRW.thr (zRO.bind (zR_isText x) ?_)
  rcases zix_cases x (n := zT B) (by omega) with ⟨h3, -⟩ | ⟨t, h3, h4, rfl⟩
  · rw [h3]; exact zRO.ifp rfl (zRO.ret _)
  · rw [h4]; exact zRO.ifn zb1n (zR_over19 hB hS hN (by omega) 18 N 0 rfl (by omega))
theorem zC_layerq {q u : Nat} {p s : List Nat} (hq : q < 18) (hr : zPl S q = p ++ u :: s) : zCO N k B S (fX3_layer (zka k true) (nI q) (nI s.length)) (nI u) := zCO.of fun h X f R hX => zs_layer hX hq hr
theorem zC_over8 (hB : zLok B) (hS : zSok B S) {t q : Nat} (ht : t < 6) (hq : q < 18) : ∀ (l s : List Nat) (n st : Nat) (fl : Bool), zPl S q = l.reverse ++ s → l.length < n → zCO N k B S (fX3_over_8 N (zka k true) n (nI q) (nI t) (nI st) (zb fl) (nI s.length)) (nI (zOu t l fl st))
  | [], s, n + 1, st, fl, hp, hn => by
    have p1 := zPl_ok hB hS hq
    have hlen : (zPl S q).length = s.length := by rw [hp]; simp
    rw [fX3_over_8]
    exact zCO.bind (zC_s5 true) (zCO.bind (zC_many hq) (zCO.ifp (nI_le (by omega) (by omega)) (zCO.ret _)))
  | u :: l, s, n + 1, st, fl, hp, hn => by
    have p1 := zPl_ok hB hS hq
    have hp' : zPl S q = l.reverse ++ u :: s := by rw [hp]; simp
    have hlen : (zPl S q).length = l.length + (s.length + 1) := by rw [hp']; simp
    have hu := p1.2.2.1 u (by rw [hp']; simp)
    have ih := fun st fl => zC_over8 hB hS ht hq l (u :: s) n st fl hp' (by simp only [List.length_cons] at hn; omega)
    simp only [List.length_cons] at ih
    rw [fX3_over_8]
    refine zCO.bind (zC_s5 true) (zCO.bind (zC_many hq) (zCO.ifn (nI_ge (by omega) (by omega)) ?_))
    have key : ∀ st', zCO N k B S (fX3_over_36 N (fX3_over_8 N (zka k true) n) (zka k true) (nI q) (nI t) (nI st') (zb fl) (nI s.length)) (nI (zOu t l (fl || decide (u = t)) st')) := by
      intro st'
      unfold fX3_over_36
      cases fl with
      | true =>
        refine zCO.ifn zb1n ?_
        unfold fX3_over_52 fX3_over_57
        rw [zc1_da]
        exact ih st' true
      | false =>
        refine zCO.ifp rfl (zCO.bind (zC_layerq hq hp') ?_)
        unfold fX3_over_52 fX3_over_57
        rw [zc1_da]
        by_cases e : u = t
        · rw [decide_eq_true e]
          exact zCO.ifp (congrArg nI e) (ih st' true)
        · rw [decide_eq_false e]
          exact zCO.ifn (fun qq => e ((nI_eq (by omega) (by omega)).mp qq)) (ih st' false)
    rw [zOu]
    cases fl with
    | true =>
      refine zCO.ifn zb1n (zCO.bind (zC_layerq hq hp') ?_)
      rw [zshl (by omega), zor]
      exact key _
    | false => exact zCO.ifp rfl (key _)
theorem zC_over14 (hB : zLok B) (hS : zSok B S) (hN : 3000 ≤ N) {t : Nat} (ht : t < 6) : ∀ (j n q : Nat), q + j = 18 → j < n → zCO N k B S (fX1_over_14 N (k.1 0) n (nI t) (nI (zOvs S t q)) (nI q)) (nI (zOvs S t 18))
  | 0, n + 1, q, hq, hn => by
    rw [fX1_over_14, show q = 18 by omega]
    exact zCO.ifp (by decide) (zCO.ret _)
  | j + 1, n + 1, q, hq, hn => by
    have p1 := zPl_ok hB hS (q := q) (by omega)
    rw [fX1_over_14, zc1_da]
    refine zCO.ifn (fun qq => by have := (zc18_le (by omega)).mp qq; omega) (zCO.bind zC_w1 (zCO.bind (zC_r2 true) (zCO.bind (zC_over8 hB hS ht (show q < 18 by omega) (zPl S q).reverse [] N 0 false (by simp) (by simp; omega)) ?_)))
    rw [zor]
    exact zC_over14 hB hS hN ht j n (q + 1) (by omega) (by omega)
theorem zC_op_over (x : Int32) : zCO N k B S (fX1_over N (k.1 0) x) (zO_over B S x) := by
  refine zCO.have_ fun hN hB hS => ?_
  have hT := hB.2.1
  unfold zO_over
  refine zCO.bind (zC_isText x) ?_
  rcases zix_cases x (n := zT B) (by omega) with ⟨h3, -⟩ | ⟨t, h3, h4, rfl⟩
  · rw [h3]; exact zCO.ifp rfl (zCO.ret _)
  · rw [h4]; exact zCO.ifn zb1n (zC_over14 hB hS hN (by omega) 18 N 0 rfl (by omega))
end
