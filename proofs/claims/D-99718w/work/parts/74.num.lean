/-! PURE 1: numbers, masks, runs -/
set_option maxRecDepth 100000
/-! ints by small numbers -/
theorem zl0 : (0 : Int32) = nI 0 := rfl
theorem zl1 : (1 : Int32) = nI 1 := rfl
theorem zl2 : (2 : Int32) = nI 2 := rfl
theorem zl3 : (3 : Int32) = nI 3 := rfl
theorem zl4 : (4 : Int32) = nI 4 := rfl
theorem zl5 : (5 : Int32) = nI 5 := rfl
theorem zl6 : (6 : Int32) = nI 6 := rfl
theorem zl7 : (7 : Int32) = nI 7 := rfl
theorem zl8 : (8 : Int32) = nI 8 := rfl
theorem zl9 : (9 : Int32) = nI 9 := rfl
theorem zl10 : (10 : Int32) = nI 10 := rfl
theorem zl12 : (12 : Int32) = nI 12 := rfl
theorem zl16 : (16 : Int32) = nI 16 := rfl
theorem zl18 : (18 : Int32) = nI 18 := rfl
theorem zl20 : (20 : Int32) = nI 20 := rfl
theorem zl25 : (25 : Int32) = nI 25 := rfl
theorem zl40 : (40 : Int32) = nI 40 := rfl
theorem zl63 : (63 : Int32) = nI 63 := rfl
theorem zl99 : (99 : Int32) = nI 99 := rfl
theorem zl100 : (100 : Int32) = nI 100 := rfl
theorem zl200 : (200 : Int32) = nI 200 := rfl
theorem zl375 : (375 : Int32) = nI 375 := rfl
theorem zl1000 : (1000 : Int32) = nI 1000 := rfl
theorem zlF : (5764801 : Int32) = nI 5764801 := rfl
/-- none, or a number -/
def zo (o : Option Nat) : Int32 := match o with
  | none => -1
  | some t => nI t
def zb (b : Bool) : Int32 := if b = true then 1 else 0
theorem zb_t : zb true = 1 := rfl
theorem zb_f : zb false = 0 := rfl
theorem zb_0 (b : Bool) : zb b = 0 ↔ b = false := by cases b <;> decide
theorem zb_1 (b : Bool) : zb b = 1 ↔ b = true := by cases b <;> decide
theorem zb_inj {a b : Bool} : zb a = zb b ↔ a = b := by cases a <;> cases b <;> decide
theorem zb_nI (b : Bool) : zb b = nI (if b = true then 1 else 0) := by cases b <;> rfl
theorem zb_dec {p : Prop} (d : Decidable p) : zb (@decide p d) = @ite _ p d (1 : Int32) 0 := by
  by_cases h : p
  · rw [if_pos h, decide_eq_true h]; rfl
  · rw [if_neg h, decide_eq_false h]; rfl
theorem zneg1 {n : Nat} (h : n < 2 ^ 31) : ¬ nI n = -1 := by
  intro e
  have e2 := congrArg Int32.toInt e
  rw [nI_toInt h] at e2
  have : (-1 : Int32).toInt = -1 := by decide
  omega
theorem zneg1' {n : Nat} (h : n < 2 ^ 31) : ¬ (-1 : Int32) = nI n := fun e => zneg1 h e.symm
theorem zo_m1 {o : Option Nat} (h : ∀ t, o = some t → t < 2 ^ 31) : zo o = -1 ↔ o = none := by
  cases o with
  | none => exact ⟨fun _ => rfl, fun _ => rfl⟩
  | some t => exact ⟨fun e => absurd e (zneg1 (h t rfl)), fun e => by cases e⟩
theorem zo_nI {o : Option Nat} (h : ∀ t, o = some t → t < 2 ^ 31) {n : Nat} (hn : n < 2 ^ 31) : zo o = nI n ↔ o = some n := by
  cases o with
  | none => exact ⟨fun e => absurd e.symm (zneg1 hn), fun e => by cases e⟩
  | some t => exact ⟨fun e => congrArg some ((nI_eq (h t rfl) hn).mp e), fun e => by cases e; rfl⟩
/-! runs -/
theorem zI {α : Type} (c : Prop) (d : Decidable c) (A B : jM α) (h : jH) : (@ite _ c d A B).1 h = @ite _ c d (A.1 h) (B.1 h) := by
  by_cases hc : c
  · rw [if_pos hc, if_pos hc]
  · rw [if_neg hc, if_neg hc]
theorem zR {α β : Type} (x : α) (k : α → jM β) (h : jH) : (jB (jR x) k).1 h = (k x).1 h := rfl
theorem zA {α β γ : Type} (m : jM α) (k : α → jM β) (n : β → jM γ) (h : jH) : (jB (jB m k) n).1 h = (jB m (fun x => jB (k x) n)).1 h := jB_assoc m k n h
theorem zIB {α β : Type} (c : Prop) (d : Decidable c) (A B : jM α) (k : α → jM β) (h : jH) : (jB (@ite _ c d A B) k).1 h = @ite _ c d ((jB A k).1 h) ((jB B k).1 h) := by
  by_cases hc : c
  · rw [if_pos hc, if_pos hc]
  · rw [if_neg hc, if_neg hc]
theorem zRn0 (h : jH) : (jRn .boolean 0).1 h = some (0, h) := rfl
theorem zRn1 (h : jH) : (jRn .boolean 1).1 h = some (1, h) := rfl
theorem zRnb (b : Bool) (h : jH) : (jRn .boolean (zb b)).1 h = some (zb b, h) := by cases b <;> rfl
theorem zRn0B {α : Type} (k : Int32 → jM α) (h : jH) : (jB (jRn .boolean 0) k).1 h = (k 0).1 h := rfl
theorem zRn1B {α : Type} (k : Int32 → jM α) (h : jH) : (jB (jRn .boolean 1) k).1 h = (k 1).1 h := rfl
theorem zRnbB {α : Type} (b : Bool) (k : Int32 → jM α) (h : jH) : (jB (jRn .boolean (zb b)) k).1 h = (k (zb b)).1 h := by cases b <;> rfl
theorem znn {α : Type} (b : Nat) (k : Nat → jM α) (h : jH) : (jB (jnn0 (some b)) k).1 h = (k b).1 h := rfl
theorem znz {α : Type} {y : Int32} (hy : ¬ y = 0) (k : Unit → jM α) (h : jH) : (jB (jnz y) k).1 h = (k ()).1 h := by
  unfold jnz
  rw [if_neg hy]
  rfl
theorem znzL {α : Type} {y : Int64} (hy : ¬ y = 0) (k : Unit → jM α) (h : jH) : (jB (jnzL y) k).1 h = (k ()).1 h := by
  unfold jnzL
  rw [if_neg hy]
  rfl
theorem zK {α : Type} (n : Nat) (k : Option Nat → jM α) (h : jH) : (jB (jK n) k).1 h = (k (some (h.2.2.2.2 n))).1 h := rfl
theorem zrc {α : Type} {c b : Nat} {h : jH} (hc : jcd h b = some c) (k : Nat → jM α) : (jB (jrc c (some b)) k).1 h = (k b).1 h := by
  rw [jB_run]
  unfold jrc
  rw [jO_run]
  simp only [hc, if_true]
theorem zcl {α : Type} {c b : Nat} {h : jH} (hc : jcd h b = some c) (k : Nat → jM α) : (jB (jcls (some b)) k).1 h = (k c).1 h := by
  rw [jB_run]
  unfold jcls
  rw [jO_run]
  simp only [hc]
theorem zck {α : Type} {ok : List Nat} {c b : Nat} {h : jH} (hc : jcd h b = some c) (hk : c ∈ ok) (k : Unit → jM α) : (jB (jck ok (some b)) k).1 h = (k ()).1 h := by
  rw [jB_run]
  unfold jck jokR
  rw [jO_run]
  simp only [hc, hk, decide_true, if_true]
theorem zckN {α : Type} {ok : List Nat} {h : jH} (k : Unit → jM α) : (jB (jck ok none) k).1 h = (k ()).1 h := rfl
/-! an object's fields, an array's cells -/
theorem zgI {α : Type} {cs : List Nat} {k a c : Nat} {fs : List Value} {x : Int32} {h : jH} (e : h.1 a = some (.inl (c, fs))) (hc : c ∈ cs) (hx : fs[k]? = some (.int x)) (K : Int32 → jM α) : (jB (jgI cs k (some a)) K).1 h = (K x).1 h := by
  rw [jB_run]
  unfold jgI jfV
  rw [jO_run]
  simp only [e, hc, if_true, hx, jvI]
theorem zgL {α : Type} {cs : List Nat} {k a c : Nat} {fs : List Value} {x : Int64} {h : jH} (e : h.1 a = some (.inl (c, fs))) (hc : c ∈ cs) (hx : fs[k]? = some (.long x)) (K : Int64 → jM α) : (jB (jgL cs k (some a)) K).1 h = (K x).1 h := by
  rw [jB_run]
  unfold jgL jfV
  rw [jO_run]
  simp only [e, hc, if_true, hx, jvL]
theorem zgR {α : Type} {cs : List Nat} {k a c : Nat} {fs : List Value} {x : Option Nat} {h : jH} (e : h.1 a = some (.inl (c, fs))) (hc : c ∈ cs) (hx : fs[k]? = some (va_rf x)) (K : Option Nat → jM α) : (jB (jgR cs k (some a)) K).1 h = (K x).1 h := by
  rw [jB_run]
  unfold jgR jfV
  rw [jO_run]
  cases x <;> simp only [e, hc, if_true, hx, va_rf, jvR]
theorem zgRs {α : Type} {cs : List Nat} {k a c : Nat} {fs : List Value} {x : Nat} {h : jH} (e : h.1 a = some (.inl (c, fs))) (hc : c ∈ cs) (hx : fs[k]? = some (.ref x)) (K : Option Nat → jM α) : (jB (jgR cs k (some a)) K).1 h = (K (some x)).1 h := zgR (x := some x) e hc hx K
theorem zpG {cs : List Nat} {k a c : Nat} {fs : List Value} {v : Value} {h : jH} (e : h.1 a = some (.inl (c, fs))) (hc : c ∈ cs) (hb : h.2.2.2.2 0 ≤ a) (hk : k < fs.length) : jpG cs k (some a) v h = some (jset h a (.inl (c, fs.set k v))) := by
  unfold jpG
  simp only [e, hc, hb, hk, and_self, if_true]
theorem zBW {α : Type} {g : jH → Option jH} {p : ∀ h h', g h = some h' → jLe h h'} {h h1 : jH} (e : g h = some h1) (K : Unit → jM α) : (jB (jW g p) K).1 h = (K ()).1 h1 := by
  rw [jB_run, jW_run, e]
theorem zBO {α β : Type} {g : jH → Option β} {h : jH} {x : β} (e : g h = some x) (K : β → jM α) : (jB (jO g) K).1 h = (K x).1 h := by
  rw [jB_run, jO_run, e]
theorem zpV {α : Type} {cs : List Nat} {k a c : Nat} {fs : List Value} {v : Value} {h : jH} (e : h.1 a = some (.inl (c, fs))) (hc : c ∈ cs) (hb : h.2.2.2.2 0 ≤ a) (hk : k < fs.length) (K : Unit → jM α) : (jB (jpV cs k (some a) v) K).1 h = (K ()).1 (jset h a (.inl (c, fs.set k v))) := zBW (zpG e hc hb hk) K
theorem zvin {i n : Nat} (hi : i < n) (hn : n < 2 ^ 31) : ¬ (nI i < 0 ∨ n ≤ (nI i).toNatClampNeg) := nI_in hi hn
theorem zaE {kd a n i : Nat} {x : jX} {h : jH} (e : h.1 a = some (.inr (kd, n, x))) (hi : i < n) (hn : n < 2 ^ 31) : jaE (some a) (nI i) h = some (a, kd, n, x) := by
  unfold jaE
  simp only [e]
  rw [if_pos (zvin hi hn)]
theorem zaI {α : Type} {kd a n i : Nat} {f : Nat → Int32} {h : jH} (e : h.1 a = some (.inr (kd, n, .inl f))) (hi : i < n) (hn : n < 2 ^ 31) (K : Int32 → jM α) : (jB (jaI kd (some a) (nI i)) K).1 h = (K (f i)).1 h := by
  have h1 : (nI i).toNatClampNeg = i := nI_clamp (by omega)
  exact zBO (by simp only [zaE e hi hn, h1, if_true]) K
theorem zaL {α : Type} {kd a n i : Nat} {f : Nat → Int64} {h : jH} (e : h.1 a = some (.inr (kd, n, .inr (.inl f)))) (hi : i < n) (hn : n < 2 ^ 31) (K : Int64 → jM α) : (jB (jaL kd (some a) (nI i)) K).1 h = (K (f i)).1 h := by
  have h1 : (nI i).toNatClampNeg = i := nI_clamp (by omega)
  exact zBO (by simp only [zaE e hi hn, h1, if_true]) K
theorem zaR {α : Type} {kd a n i : Nat} {f : Nat → Option Nat} {h : jH} (e : h.1 a = some (.inr (kd, n, .inr (.inr (.inr (.inr f)))))) (hi : i < n) (hn : n < 2 ^ 31) (K : Option Nat → jM α) : (jB (jaR kd (some a) (nI i)) K).1 h = (K (f i)).1 h := by
  have h1 : (nI i).toNatClampNeg = i := nI_clamp (by omega)
  exact zBO (by simp only [zaE e hi hn, h1, if_true]) K
theorem zsI {α : Type} {kd a n i : Nat} {f : Nat → Int32} {x : Int32} {h : jH} (e : h.1 a = some (.inr (kd, n, .inl f))) (hb : h.2.2.2.2 0 ≤ a) (hi : i < n) (hn : n < 2 ^ 31) (K : Unit → jM α) : (jB (jsI kd (some a) (nI i) x) K).1 h = (K ()).1 (jset h a (.inr (kd, n, .inl (upd f i x)))) := by
  have h1 : (nI i).toNatClampNeg = i := nI_clamp (by omega)
  exact zBW (by unfold jsIg; simp only [zaE e hi hn, h1, hb, and_self, if_true]) K
theorem zsL {α : Type} {kd a n i : Nat} {f : Nat → Int64} {x : Int64} {h : jH} (e : h.1 a = some (.inr (kd, n, .inr (.inl f)))) (hb : h.2.2.2.2 0 ≤ a) (hi : i < n) (hn : n < 2 ^ 31) (K : Unit → jM α) : (jB (jsL kd (some a) (nI i) x) K).1 h = (K ()).1 (jset h a (.inr (kd, n, .inr (.inl (vp_updL f i x))))) := by
  have h1 : (nI i).toNatClampNeg = i := nI_clamp (by omega)
  exact zBW (by unfold jsLg; simp only [zaE e hi hn, h1, hb, and_self, if_true]) K
theorem zsR {α : Type} {kd a n i : Nat} {ok : List Nat} {f : Nat → Option Nat} {x : Option Nat} {h : jH} (e : h.1 a = some (.inr (kd, n, .inr (.inr (.inr (.inr f)))))) (hb : h.2.2.2.2 0 ≤ a) (hi : i < n) (hn : n < 2 ^ 31) (hx : jokR h ok x = true) (K : Unit → jM α) : (jB (jsR kd ok (some a) (nI i) x) K).1 h = (K ()).1 (jset h a (.inr (kd, n, .inr (.inr (.inr (.inr (va_up f i x))))))) := by
  have h1 : (nI i).toNatClampNeg = i := nI_clamp (by omega)
  exact zBW (by unfold jsRg; simp only [zaE e hi hn, h1, hb, hx, and_self, if_true]) K
theorem zln {α : Type} {kd a n : Nat} {x : jX} {h : jH} (e : h.1 a = some (.inr (kd, n, x))) (K : Int32 → jM α) : (jB (jln (some a)) K).1 h = (K (nI n)).1 h := by
  rw [jB_run]
  unfold jln
  rw [jO_run]
  simp only [e]
theorem znwB {α : Type} (c n : Nat) (fs : List Value) (K : Nat → jM α) (h : jH) : (jB (jnw c n fs) K).1 h = (K h.2.1).1 (jnew h (.inl (c, fs)) n) := rfl
theorem znaIB {α : Type} {kd n : Nat} (hn : n ≤ 1000000) (K : Nat → jM α) (h : jH) : (jB (jnaI kd (nI n)) K).1 h = (K h.2.1).1 (jnew h (.inr (kd, n, .inl fun _ => 0)) n) := by
  have h0 : ¬ nI n < 0 := nI_pos (by omega)
  have h1 : (nI n).toNatClampNeg = n := nI_clamp (by omega)
  rw [jB_run]
  unfold jnaI jnaG
  simp only [h0, h1, hn, not_false_iff, and_self, if_true]
theorem znaLB {α : Type} {kd n : Nat} (hn : n ≤ 1000000) (K : Nat → jM α) (h : jH) : (jB (jnaL kd (nI n)) K).1 h = (K h.2.1).1 (jnew h (.inr (kd, n, .inr (.inl fun _ => 0))) n) := by
  have h0 : ¬ nI n < 0 := nI_pos (by omega)
  have h1 : (nI n).toNatClampNeg = n := nI_clamp (by omega)
  rw [jB_run]
  unfold jnaL jnaG
  simp only [h0, h1, hn, not_false_iff, and_self, if_true]
theorem znaRB {α : Type} {kd n : Nat} (hn : n ≤ 1000000) (K : Nat → jM α) (h : jH) : (jB (jnaR kd (nI n)) K).1 h = (K h.2.1).1 (jnew h (.inr (kd, n, .inr (.inr (.inr (.inr fun _ => none))))) n) := by
  have h0 : ¬ nI n < 0 := nI_pos (by omega)
  have h1 : (nI n).toNatClampNeg = n := nI_clamp (by omega)
  rw [jB_run]
  unfold jnaR jnaG
  simp only [h0, h1, hn, not_false_iff, and_self, if_true]
/-! bits -/
theorem zsl : ∀ n, n < 32 → ((nI n &&& 31).toBitVec.smod 32).toNat = n := by decide +kernel
theorem zshr {a l : Nat} (ha : a < 2 ^ 31) (hl : l < 32) : nI a >>> (nI l &&& 31) = nI (a / 2 ^ l) := pk_shrN ha _ l (zsl l hl)
theorem zshl {l : Nat} (hl : l < 31) : (1 : Int32) <<< (nI l &&& 31) = nI (2 ^ l) := by
  have h := pk_shlN (n := 1) (nI l &&& 31) l (zsl l (by omega)) (by
    rw [Nat.one_mul]
    exact Nat.pow_lt_pow_right (by decide) (by omega))
  rw [Nat.one_mul] at h
  exact h
theorem zshlN {a l : Nat} (hl : l < 32) (h : a * 2 ^ l < 2 ^ 32) : nI a <<< (nI l &&& 31) = nI (a * 2 ^ l) := pk_shlN _ l (zsl l hl) h
theorem zand (a b : Nat) : nI a &&& nI b = nI (a &&& b) := by
  apply Int32.toBitVec_inj.1
  show BitVec.ofNat 32 a &&& BitVec.ofNat 32 b = BitVec.ofNat 32 (a &&& b)
  apply BitVec.eq_of_getLsbD_eq
  intro i hi
  simp [hi]
theorem zor (a b : Nat) : nI a ||| nI b = nI (a ||| b) := by
  apply Int32.toBitVec_inj.1
  show BitVec.ofNat 32 a ||| BitVec.ofNat 32 b = BitVec.ofNat 32 (a ||| b)
  apply BitVec.eq_of_getLsbD_eq
  intro i hi
  simp [hi]
/-- what is in one, not in the other -/
def zan (a b : Nat) : Nat := Nat.bitwise (fun x y => x && !y) a b
theorem zan_tb (a b i : Nat) : (zan a b).testBit i = (a.testBit i && !b.testBit i) := Nat.testBit_bitwise rfl a b i
theorem zandn (a b : Nat) : nI a &&& (nI b ^^^ (-1)) = nI (zan a b) := by
  apply Int32.toBitVec_inj.1
  show BitVec.ofNat 32 a &&& (BitVec.ofNat 32 b ^^^ (-1 : Int32).toBitVec) = BitVec.ofNat 32 (zan a b)
  have hm : (-1 : Int32).toBitVec = BitVec.allOnes 32 := by decide
  rw [hm]
  apply BitVec.eq_of_getLsbD_eq
  intro i hi
  rw [BitVec.getLsbD_and, BitVec.getLsbD_xor, BitVec.getLsbD_allOnes, BitVec.getLsbD_ofNat, BitVec.getLsbD_ofNat, BitVec.getLsbD_ofNat, zan_tb]
  simp [hi]
theorem zbit {a l : Nat} (ha : a < 2 ^ 31) (hl : l < 32) : (nI a >>> (nI l &&& 31)) &&& 1 = nI (if a.testBit l = true then 1 else 0) := by
  rw [zshr ha hl, pk_andN (m := 1) (k := 1) (Nat.lt_of_le_of_lt (Nat.div_le_self _ _) (by omega)) (by decide)]
  congr 1
  rw [Nat.testBit_eq_decide_div_mod_eq]
  rcases Nat.mod_two_eq_zero_or_one (a / 2 ^ l) with h | h
  · simp [h]
  · simp [h]
theorem zbit1 {a l : Nat} (ha : a < 2 ^ 31) (hl : l < 32) : ((nI a >>> (nI l &&& 31)) &&& 1 = 1) ↔ a.testBit l = true := by
  rw [zbit ha hl]
  cases a.testBit l <;> decide
theorem zbit0 {a l : Nat} (ha : a < 2 ^ 31) (hl : l < 32) : ((nI a >>> (nI l &&& 31)) &&& 1 = 0) ↔ a.testBit l = false := by
  rw [zbit ha hl]
  cases a.testBit l <;> decide
/-- the set of those below n of which p holds -/
def zMk (p : Nat → Bool) : Nat → Nat
  | 0 => 0
  | n + 1 => zMk p n ||| (if p n = true then 2 ^ n else 0)
theorem zMk_tb (p : Nat → Bool) : ∀ n i, (zMk p n).testBit i = (decide (i < n) && p i)
  | 0, i => by simp [zMk]
  | n + 1, i => by
    have ih := zMk_tb p n i
    simp only [zMk, Nat.testBit_or, ih]
    by_cases hp : p n = true
    · rw [if_pos hp]
      rw [Nat.testBit_two_pow]
      by_cases hi : n = i
      · subst hi; simp [hp]
      · have : decide (i < n + 1) = decide (i < n) := by
          apply decide_eq_decide.mpr; omega
        rw [this]; simp [hi]
    · rw [if_neg hp]
      by_cases hi : n = i
      · subst hi; simp [hp]
      · have : decide (i < n + 1) = decide (i < n) := by
          apply decide_eq_decide.mpr; omega
        rw [this]; simp
theorem zMk_lt (p : Nat → Bool) : ∀ n, zMk p n < 2 ^ n
  | 0 => by simp [zMk]
  | n + 1 => by
    have ih := zMk_lt p n
    unfold zMk
    apply Nat.or_lt_two_pow
    · exact Nat.lt_of_lt_of_le ih (Nat.pow_le_pow_right (by decide) (by omega))
    · split
      · exact Nat.pow_lt_pow_right (by decide) (by omega)
      · exact Nat.two_pow_pos _
theorem zMk_eq {p q : Nat → Bool} {n : Nat} (h : ∀ i, i < n → p i = q i) : zMk p n = zMk q n := by
  apply Nat.eq_of_testBit_eq
  intro i
  rw [zMk_tb, zMk_tb]
  by_cases hi : i < n
  · simp [hi, h i hi]
  · simp [hi]
theorem zMk_of {p : Nat → Bool} {n x : Nat} (hx : x < 2 ^ n) (h : ∀ i, i < n → x.testBit i = p i) : x = zMk p n := by
  apply Nat.eq_of_testBit_eq
  intro i
  rw [zMk_tb]
  by_cases hi : i < n
  · simp [hi, h i hi]
  · simp only [hi, decide_false, Bool.false_and]
    exact Nat.testBit_lt_two_pow (Nat.lt_of_lt_of_le hx (Nat.pow_le_pow_right (by decide) (by omega)))
theorem zMk_s (p : Nat → Bool) (n : Nat) : zMk p (n + 1) = if p n = true then zMk p n ||| 2 ^ n else zMk p n := by
  rw [zMk]
  split
  · rfl
  · simp
/-- how many of those below n -/
def zCt (p : Nat → Bool) : Nat → Nat
  | 0 => 0
  | n + 1 => zCt p n + (if p n = true then 1 else 0)
theorem zCt_le (p : Nat → Bool) : ∀ n, zCt p n ≤ n
  | 0 => Nat.le_refl _
  | n + 1 => by
    have := zCt_le p n
    unfold zCt
    split <;> omega
theorem zCt_eq {p q : Nat → Bool} : ∀ {n : Nat}, (∀ i, i < n → p i = q i) → zCt p n = zCt q n
  | 0, _ => rfl
  | n + 1, h => by
    unfold zCt
    rw [zCt_eq (fun i hi => h i (by omega)), h n (by omega)]
/-- the first below n, from i on -/
def zFs (p : Nat → Bool) : Nat → Nat → Option Nat
  | 0, _ => none
  | j + 1, i => if p i = true then some i else zFs p j (i + 1)
theorem zFs_eq {p q : Nat → Bool} : ∀ {j i : Nat}, (∀ k, i ≤ k → k < i + j → p k = q k) → zFs p j i = zFs q j i
  | 0, _, _ => rfl
  | j + 1, i, h => by
    unfold zFs
    rw [h i (by omega) (by omega), zFs_eq (fun k h1 h2 => h k (by omega) (by omega))]
theorem zFs_lt {p : Nat → Bool} : ∀ {j i t : Nat}, zFs p j i = some t → i ≤ t ∧ t < i + j ∧ p t = true
  | 0, _, _, h => by cases h
  | j + 1, i, t, h => by
    unfold zFs at h
    split at h
    · rename_i hp
      cases h
      exact ⟨Nat.le_refl _, by omega, hp⟩
    · have := zFs_lt h
      exact ⟨by omega, by omega, this.2.2⟩
theorem zFs_no {p : Nat → Bool} : ∀ {j i : Nat}, zFs p j i = none ↔ ∀ t, i ≤ t → t < i + j → p t = false
  | 0, i => ⟨fun _ t h1 h2 => by omega, fun _ => rfl⟩
  | j + 1, i => by
    unfold zFs
    by_cases hp : p i = true
    · rw [if_pos hp]
      refine ⟨fun h => (by cases h), fun h => ?_⟩
      rw [h i (by omega) (by omega)] at hp
      cases hp
    · rw [if_neg hp, zFs_no]
      refine ⟨fun h t h1 h2 => ?_, fun h t h1 h2 => h t (by omega) (by omega)⟩
      by_cases ht : t = i
      · subst ht
        exact Bool.eq_false_iff.mpr hp
      · exact h t (by omega) (by omega)
