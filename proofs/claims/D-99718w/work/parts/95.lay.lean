/-! PURE 22: lay -/
set_option maxRecDepth 100000
/-- row, best, most -/
abbrev zRr3 : Type := (Nat → Int32) × (Nat → Int32) × Option Nat
def zLl (B : zLB) (rec : zMS → Nat → Nat → zRr3 → zRr3) (S : zMS) (t sum : Nat) : Nat → Nat → zRr3 → zRr3
  | 0, _, p => p
  | j + 1, i, p => zLl B rec S t sum j (i + 1) (if zCw B S t (i / 6) (i % 6) = true then rec (zWr B S t (i / 6) (i % 6)) (t + 1) (sum + 1) (upd p.1 t (nI i), p.2) else p)
def zFin (B : zLB) (t sum : Nat) (mo : Option Nat) : Bool := match mo with
  | none => false
  | some m => decide (sum + zT B - t ≤ m)
def zLy (B : zLB) : Nat → zMS → Nat → Nat → zRr3 → zRr3
  | 0, _, _, _, p => p
  | f + 1, S, t, sum, p => if zFin B t sum p.2.2 = true then p else if t = zT B then (p.1, p.1, some sum)
    else zLy B f S (t + 1) sum (upd (zLl B (zLy B f) S t sum (6 * zS B) 0 p).1 t (-1), (zLl B (zLy B f) S t sum (6 * zS B) 0 p).2)
/-- how what is there stands to it -/
def zRl (B : zLB) (t : Nat) (ro be : Nat → Int32) (mo : Int32) (p : zRr3) : Prop := (∀ q, q < t → ro q = p.1 q) ∧ mo = zo p.2.2 ∧ (∀ m, p.2.2 = some m → m ≤ 12) ∧ (∀ m, p.2.2 = some m → ∀ q, q < zT B → be q = p.2.1 q)
theorem zRl.up {B : zLB} {t : Nat} {ro be : Nat → Int32} {mo : Int32} {p : zRr3} (h : zRl B t ro be mo p) (x : Int32) : zRl B (t + 1) (upd ro t x) be mo (upd p.1 t x, p.2) := by
  refine ⟨fun q hq => ?_, h.2⟩
  by_cases e : q = t
  · subst e
    show upd _ _ _ _ = upd _ _ _ _
    rw [zu_eq, zu_eq]
  · show upd _ _ _ _ = upd _ _ _ _
    rw [zu_ne _ _ e, zu_ne _ _ e]
    exact h.1 q (by omega)
theorem zRl.dn {B : zLB} {t : Nat} {ro be : Nat → Int32} {mo : Int32} {p : zRr3} (h : zRl B (t + 1) ro be mo p) : zRl B t ro be mo p := ⟨fun q hq => h.1 q (by omega), h.2⟩
theorem zRl_fin {B : zLB} {t sum : Nat} {ro be : Nat → Int32} {mo : Int32} {p : zRr3} (h : zRl B t ro be mo p) (hb : sum + zT B - t < 1000) : (mo < nI (sum + zT B - t)) ↔ zFin B t sum p.2.2 = false := by
  obtain ⟨-, h2, h3, -⟩ := h
  rw [h2]
  cases hp : p.2.2 with
  | none =>
    refine ⟨fun _ => rfl, fun _ => ?_⟩
    show (-1 : Int32) < _
    rw [fa_lt_, nI_toInt (by omega)]
    have : (-1 : Int32).toInt = -1 := by decide
    omega
  | some m =>
    have := h3 m hp
    show nI m < _ ↔ decide _ = false
    rw [nI_ltI (by omega) (by omega), decide_eq_false_iff_not]
    omega
/-- the rows that a shelf is -/
theorem zRow_ext {S S' : zMS} {f : Nat → Int32} (h : zRow S f) (h1 : zWk S' = zWk S) (h2 : ∀ k, k < 3 → zTh S' k = zTh S k ∧ zOp S' k = zOp S k) (h3 : ∀ q, q < 18 → zPl S' q = zPl S q) : zRow S' f := ⟨by rw [h1]; exact h.1, fun k hk => ⟨by rw [(h2 k hk).1]; exact (h.2.1 k hk).1, by rw [(h2 k hk).2]; exact (h.2.1 k hk).2⟩, fun q hq => by rw [h3 q hq]; exact h.2.2 q hq⟩
def zU1 (S : zMS) (k i : Nat) : zMS := (S.1, S.2.1, fun j => if j = k then zan (zOp S k) (2 ^ i) else zOp S j, fun q => if q = 6 * k + i then (zPl S q).tail else zPl S q)
def zUi (k : Nat) : Nat → Nat → zMS → zMS
  | 0, _, S => S
  | j + 1, i, S => zUi k j (i + 1) (zU1 S k i)
theorem zUi_wt (k : Nat) : ∀ j i S, zWk (zUi k j i S) = zWk S ∧ zTh (zUi k j i S) = zTh S
  | 0, _, _ => ⟨rfl, rfl⟩
  | j + 1, i, S => by rw [zUi, (zUi_wt k j (i + 1) _).1, (zUi_wt k j (i + 1) _).2]; exact ⟨rfl, rfl⟩
theorem zUi_opo (k : Nat) {k' : Nat} (hk : k' ≠ k) : ∀ j i S, zOp (zUi k j i S) k' = zOp S k'
  | 0, _, _ => rfl
  | j + 1, i, S => by
    rw [zUi, zUi_opo k hk j]
    show (if k' = k then zan (zOp S k) (2 ^ i) else zOp S k') = _
    rw [if_neg hk]
theorem zUi_op (k b : Nat) : ∀ j i S, (zOp (zUi k j i S) k).testBit b = ((zOp S k).testBit b && !decide (i ≤ b ∧ b < i + j))
  | 0, i, S => by
    have : decide (i ≤ b ∧ b < i + 0) = false := decide_eq_false (by omega)
    rw [this]; simp [zUi]
  | j + 1, i, S => by
    rw [zUi, zUi_op k b j]
    show ((if k = k then zan (zOp S k) (2 ^ i) else zOp S k).testBit b && _) = _
    rw [if_pos rfl, zan_tb, Nat.testBit_two_pow, Bool.and_assoc]
    congr 1
    by_cases e : i = b
    · subst e
      rw [decide_eq_true rfl, decide_eq_true (show i ≤ i ∧ i < i + (j + 1) by omega)]; rfl
    · rw [decide_eq_false e, Bool.not_false, Bool.true_and]
      congr 1
      apply decide_eq_decide.mpr
      omega
theorem zUi_pl (k q : Nat) : ∀ j i S, zPl (zUi k j i S) q = if 6 * k + i ≤ q ∧ q < 6 * k + i + j then (zPl S q).tail else zPl S q
  | 0, i, S => by rw [if_neg (by omega)]; rfl
  | j + 1, i, S => by
    rw [zUi, zUi_pl k q j]
    rw [show zPl (zU1 S k i) q = if q = 6 * k + i then (zPl S q).tail else zPl S q from rfl]
    by_cases h : q = 6 * k + i
    · rw [if_neg (by omega), if_pos h, if_pos (by omega)]
    · rw [if_neg h]
      by_cases h2 : 6 * k + (i + 1) ≤ q ∧ q < 6 * k + (i + 1) + j
      · rw [if_pos h2, if_pos (by omega)]
      · rw [if_neg h2, if_neg (by omega)]
theorem zUW {B : zLB} {S : zMS} (hB : zLok B) {t k l : Nat} (ht : t < zT B) (hw : zCw B S t k l = true) : zWk S = zWk (zUi k (zLo B t) l (zWr B S t k l)) ∧ (∀ j, zTh S j = zTh (zUi k (zLo B t) l (zWr B S t k l)) j ∧ zOp S j = zOp (zUi k (zLo B t) l (zWr B S t k l)) j) ∧ ∀ q, zPl S q = zPl (zUi k (zLo B t) l (zWr B S t k l)) q := by
  obtain ⟨w1, w2, w3⟩ := (zCw_spec hB ht).mp hw
  unfold zWr
  refine ⟨by rw [(zUi_wt k _ _ _).1, zWi_wk], fun j => ⟨by rw [(zUi_wt k _ _ _).2, zWi_th], ?_⟩, fun q => ?_⟩
  · by_cases e : j = k
    · subst e
      apply Nat.eq_of_testBit_eq
      intro b
      rw [zUi_op, zWi_op]
      by_cases h : l ≤ b ∧ b < l + zLo B t
      · rw [decide_eq_true h, (w3 b h.1 h.2).2.1]; rfl
      · rw [decide_eq_false h]; simp
    · rw [zUi_opo k e, zWi_opo t k e]
  · rw [zUi_pl, zWi_pl]
    by_cases h : 6 * k + l ≤ q ∧ q < 6 * k + l + zLo B t
    · rw [if_pos h, if_pos h]; rfl
    · rw [if_neg h, if_neg h]
section
variable {N : Nat} {h : jH} {a : Nat} {L : Nat → Int64} {M : Nat → Nat → Int64} {B : zLB}
theorem zRow_u1 {S : zMS} {f : Nat → Int32} (hr : zRow S f) {k i u : Nat} {r : List Nat} (hk : k < 3) (hi : i < 6) (hp : zPl S (6 * k + i) = u :: r) (hu : u < 6) (h31 : z7 (u :: r) < 2 ^ 31) : zRow (zU1 S k i) (upd (upd f (7 + 6 * k + i) (nI (z7 (zPl S (6 * k + i))) / 7)) (4 + k) (nI (zan (zOp S k) (2 ^ i)))) := by
  refine ⟨?_, fun k' h' => ⟨?_, ?_⟩, fun q hq => ?_⟩
  · simp (disch := omega) only [zu_ne]
    exact hr.1
  · simp (disch := omega) only [zu_ne]
    exact (hr.2.1 k' h').1
  · show _ = nI (if k' = k then zan (zOp S k) (2 ^ i) else zOp S k')
    by_cases e : k' = k
    · subst e
      rw [zu_eq, if_pos rfl]
    · rw [if_neg e]
      simp (disch := omega) only [zu_ne]
      exact (hr.2.1 k' h').2
  · show _ = nI (z7 (if q = 6 * k + i then (zPl S q).tail else zPl S q))
    by_cases e : q = 6 * k + i
    · rw [if_pos e, e, ← Nat.add_assoc, zu_ne _ _ (by omega), zu_eq, hp, z7_d hu h31]
      rfl
    · rw [if_neg e]
      simp (disch := omega) only [zu_ne]
      exact hr.2.2 q hq
theorem zr_unwrites3 (hb : h.2.2.2.2 0 ≤ a) {F : Nat → Int32} {t k l lo : Nat} (ht : t < 12) (hk : k < 3) (hl : l + lo ≤ 6) : ∀ (j n i : Nat) (S : zMS) (A : Nat → Nat → Int32), zRs S A → (∀ q, i ≤ q → q < i + j → ∃ u r, zPl S (6 * k + q) = u :: r ∧ u < 6 ∧ z7 (u :: r) < 2 ^ 31) → A 18 t = nI lo → i + j = l + lo → j < n →
    ∃ A', zRs (zUi k j i S) A' ∧ (∀ q, q ≠ 48 → A' q = A q) ∧ (fX7_unwrites_3 N a n (nI t) (nI k) (nI l) (nI i)).1 (rH h a (F, L, A, M)) = some ((), rH h a (F, L, A', M))
  | 0, n + 1, i, S, A, hr, hw, e18, hi, hn => by
    have e : l + lo ≤ i := by omega
    refine ⟨A, hr, fun _ _ => rfl, ?_⟩
    simp (disch := omega) only [fX7_unwrites_3, fX7_unwrites_59, zr_g18, zr_a18, zr_s18 hb, zr_g48, zr_a48, zr_s48 hb, zr_a48_0, zr_a48_1, zr_a48_2, zr_a48_3, zr_s48_0 hb, zc0_le, zc0_ge, zc0_lt, zc0_gt, zc0_eq, zc1_le, zc1_ge, zc1_lt, zc1_gt, zc1_eq, zc1_ad, zc1_da, zc1_mu, zc1_um, zc1_sb, zc4_le, zc4_ge, zc4_lt, zc4_gt, zc4_eq, zc4_ad, zc4_da, zc4_mu, zc4_um, zc4_sb, zc6_le, zc6_ge, zc6_lt, zc6_gt, zc6_eq, zc6_ad, zc6_da, zc6_mu, zc6_um, zc6_sb, zc7_le, zc7_ge, zc7_lt, zc7_gt, zc7_eq, zc7_ad, zc7_da, zc7_mu, zc7_um, zc7_sb, zI, zR, zRn0, zRn1, zRnb, jR_run, zRn0B, zRn1B, zRnbB, znn, nI_add, pk_mul, nI_leI, nI_ltI, nI_eq, if_true, if_false, ite_true, ite_false, znz7, znz6, e18, e]
  | j + 1, n + 1, i, S, A, hr, hw, e18, hi, hn => by
    have e : ¬ l + lo ≤ i := by omega
    have e7 : A 48 (7 + 6 * k + i) = nI (z7 (zPl S (6 * k + i))) := by
      rw [Nat.add_assoc]
      exact hr.2.2 (6 * k + i) (by omega)
    have e4 := (hr.2.1 k hk).2
    obtain ⟨u, r, p1, p2, p3⟩ := hw i (by omega) (by omega)
    have hr' : zRs (zU1 S k i) (zuA (zuA A 48 (upd (A 48) (7 + 6 * k + i) (nI (z7 (zPl S (6 * k + i))) / 7))) 48 (upd (upd (A 48) (7 + 6 * k + i) (nI (z7 (zPl S (6 * k + i))) / 7)) (4 + k) (nI (zan (zOp S k) (2 ^ i))))) := by
      show zRow _ _
      rw [zuA_eq]
      exact zRow_u1 hr hk (by omega) p1 p2 p3
    obtain ⟨A', h1, h2, h3⟩ := zr_unwrites3 hb (F := F) ht hk hl j n (i + 1) _ _ hr' (fun q a1 a2 => by
      rw [show zPl (zU1 S k i) (6 * k + q) = if 6 * k + q = 6 * k + i then (zPl S (6 * k + q)).tail else zPl S (6 * k + q) from rfl, if_neg (by omega)]
      exact hw q (by omega) (by omega)) (by simp (disch := omega) only [zuA_ne]; exact e18) (by omega) (by omega)
    refine ⟨A', h1, fun q hq => (h2 q hq).trans (by simp (disch := omega) only [zuA_ne]), ?_⟩
    simp (disch := omega) only [fX7_unwrites_3, fX7_unwrites_59, zr_g18, zr_a18, zr_s18 hb, zr_g48, zr_a48, zr_s48 hb, zr_a48_0, zr_a48_1, zr_a48_2, zr_a48_3, zr_s48_0 hb, zc0_le, zc0_ge, zc0_lt, zc0_gt, zc0_eq, zc1_le, zc1_ge, zc1_lt, zc1_gt, zc1_eq, zc1_ad, zc1_da, zc1_mu, zc1_um, zc1_sb, zc4_le, zc4_ge, zc4_lt, zc4_gt, zc4_eq, zc4_ad, zc4_da, zc4_mu, zc4_um, zc4_sb, zc6_le, zc6_ge, zc6_lt, zc6_gt, zc6_eq, zc6_ad, zc6_da, zc6_mu, zc6_um, zc6_sb, zc7_le, zc7_ge, zc7_lt, zc7_gt, zc7_eq, zc7_ad, zc7_da, zc7_mu, zc7_um, zc7_sb, zI, zR, zRn0, zRn1, zRnb, jR_run, zRn0B, zRn1B, zRnbB, znn, nI_add, pk_mul, nI_leI, nI_ltI, nI_eq, if_true, if_false, ite_true, ite_false, znz7, znz6, e18, e, e7, zuA_eq, zu_ne, e4, zshl, zandn]
    exact h3
theorem zr_unwrites {S : zMS} {A : Nat → Nat → Int32} {F : Nat → Int32} (hb : h.2.2.2.2 0 ≤ a) (hS : zSok B S) {t k l : Nat} (ht : t < zT B) (hk : k < zS B) (hw : zCw B S t k l = true) (hX : zRX N a B (zWr B S t k l) A) :
    ∃ A', zRX N a B S A' ∧ (∀ q, q ≠ 48 → A' q = A q) ∧ (fX7_unwrites N a (nI t) (nI k) (nI l)).1 (rH h a (F, L, A, M)) = some ((), rH h a (F, L, A', M)) := by
  have hN := hX.1
  have hB := hX.2.1
  have hs3 := hB.1
  have hT := hB.2.1
  have h6 := (hB.2.2.2.1 k hk).1.2
  have hlo := (hB.2.2.2.2.1 t ht).2.2
  have hc := ((zCw_spec hB ht).mp hw).2.1
  obtain ⟨A', h1, h2, h3⟩ := zr_unwrites3 (N := N) (F := F) (L := L) (M := M) hb (show t < 12 by omega) (show k < 3 by omega) (show l + zLo B t ≤ 6 by omega) (zLo B t) N l (zWr B S t k l) A hX.2.2.2.2.1 (fun q a1 a2 => by
    have e : zPl (zWr B S t k l) (6 * k + q) = t :: zPl S (6 * k + q) := by
      unfold zWr
      rw [zWi_pl, if_pos (by omega)]
    have p := zPl_ok hB hX.2.2.1 (q := 6 * k + q) (by omega)
    rw [e] at p
    exact ⟨t, _, e, by omega, Nat.lt_trans p.2.2.2.1 (by decide)⟩) (hX.2.2.2.1.2.2.2.2.1 t ht).2.2 rfl (by omega)
  obtain ⟨u1, u2, u3⟩ := zUW hB ht hw
  exact ⟨A', hX.to (fun q _ hq => h2 q (by omega)) hS (zRow_ext h1 u1 (fun k _ => u2 k) (fun q _ => u3 q)), h2, h3⟩
theorem zr_best35 (hb : h.2.2.2.2 0 ≤ a) {F : Nat → Int32} {rec : Int32 → Int32 → jM Unit} : ∀ (j n i : Nat) (A : Nat → Nat → Int32), i + j = 6 → j < n →
    ∃ g, (∀ q, i ≤ q → q < 6 → g q = A 55 q) ∧ (∀ q, q < i → g q = A 56 q) ∧ (fX7_writesAll_35 N rec a n (nI i)).1 (rH h a (F, L, A, M)) = some ((), rH h a (F, L, zuA A 56 g, M))
  | 0, n + 1, i, A, hi, hn => by
    refine ⟨A 56, fun q a1 a2 => by omega, fun _ _ => rfl, ?_⟩
    have e : zuA A 56 (A 56) = A := by
      funext j
      unfold zuA
      split
      · rename_i h; rw [h]
      · rfl
    rw [fX7_writesAll_35, if_pos ((zc6_le (by omega)).mpr (by omega)), e]
    rfl
  | j + 1, n + 1, i, A, hi, hn => by
    obtain ⟨g, g1, g2, g3⟩ := zr_best35 hb (F := F) (rec := rec) j n (i + 1) (zuA A 56 (upd (A 56) i (A 55 i))) (by omega) (by omega)
    rw [zuA_ne _ _ (by decide)] at g1
    rw [zuA_eq] at g2
    refine ⟨g, fun q a1 a2 => ?_, fun q a1 => ?_, ?_⟩
    · by_cases e : q = i
      · subst e
        rw [g2 q (by omega), zu_eq]
      · exact g1 q (by omega) a2
    · rw [g2 q (by omega), zu_ne _ _ (by omega)]
    · rw [fX7_writesAll_35, if_neg (fun qq => by have := (zc6_le (by omega)).mp qq; omega), zr_g56, zr_g55, zr_a55 (by omega), zr_s56 hb (by omega), zc1_da, g3, zuA_zuA]
/-- what laying may change -/
def zFr4 (A A' : Nat → Nat → Int32) : Prop := ∀ q, q ≠ 48 → q ≠ 55 → q ≠ 56 → A' q = A q
theorem zFr4.tr {A A' A'' : Nat → Nat → Int32} (h1 : zFr4 A A') (h2 : zFr4 A' A'') : zFr4 A A'' := fun k a b c => (h2 k a b c).trans (h1 k a b c)
def zWaP (N a : Nat) (B : zLB) (m : jM Unit) (S : zMS) (t : Nat) (p p' : zRr3) : Prop := ∀ (h : jH) (F : Nat → Int32) (L : Nat → Int64) (A : Nat → Nat → Int32) (M : Nat → Nat → Int64), h.2.2.2.2 0 ≤ a → zRX N a B S A → zRl B t (A 55) (A 56) (F 57) p →
  ∃ F' A', (∀ q, q ≠ 57 → F' q = F q) ∧ zFr4 A A' ∧ zRX N a B S A' ∧ zRl B t (A' 55) (A' 56) (F' 57) p' ∧ m.1 (rH h a (F, L, A, M)) = some ((), rH h a (F', L, A', M))
theorem zR_wa62 {rec : Int32 → Int32 → jM Unit} {mrec : zMS → Nat → Nat → zRr3 → zRr3} (hN : 3000 ≤ N) (hB : zLok B) {S : zMS} (hS : zSok B S) {t sum : Nat} (ht : t < zT B) (hrec : ∀ (S' : zMS) (s' : Nat) (p : zRr3), zSok B S' → s' ≤ sum + 1 → zWaP N a B (rec (nI (t + 1)) (nI s')) S' (t + 1) p (mrec S' (t + 1) s' p)) : ∀ (j n i : Nat) (p : zRr3), i + j = 6 * zS B → j < n →
    zWaP N a B (fX7_writesAll_62 N rec a n (nI t) (nI sum) (nI i)) S t p (mrec S (t + 1) sum (upd (zLl B mrec S t sum j i p).1 t (-1), (zLl B mrec S t sum j i p).2))
  | 0, n + 1, i, p, hi, hn => by
    intro h F L A M hb hX hR
    have hs3 := hB.1
    have hT := hB.2.1
    have hX' : zRX N a B S (zuA A 55 (upd (A 55) t (-1))) := hX.to (fun q _ b => zuA_ne _ _ (by omega)) hS (by
      show zRow _ _
      rw [zuA_ne _ _ (by decide)]
      exact hX.2.2.2.2.1)
    obtain ⟨F', A', f1, f2, x1, r1, e1⟩ := hrec S sum (upd p.1 t (-1), p.2) hS (by omega) h F L (zuA A 55 (upd (A 55) t (-1))) M hb hX' (by
      rw [zuA_eq, zuA_ne _ _ (by decide)]
      exact hR.up (-1))
    refine ⟨F', A', f1, fun q a1 a2 a3 => (f2 q a1 a2 a3).trans (zuA_ne _ _ a2), x1, r1.dn, ?_⟩
    rw [fX7_writesAll_62, zr_g10, zr_a10_0, hX.2.2.2.1.1, zc6_mu, if_pos (nI_le (by omega) (by omega))]
    unfold fX7_writesAll_157
    rw [zr_g55, zr_s55 hb (by omega), zc1_da, jB_eq e1]
    rfl
  | j + 1, n + 1, i, p, hi, hn => by
    intro h F L A M hb hX hR
    have hs3 := hB.1
    have hT := hB.2.1
    have hk : i / 6 < zS B := by omega
    have hl : i % 6 < 6 := Nat.mod_lt _ (by decide)
    have h6 := (hB.2.2.2.1 (i / 6) hk).1.2
    have e13 := (hX.2.2.2.1.2.2.2.1 (i / 6) hk).1
    have ed : nI i / 6 = nI (i / 6) := zc6_dv (by omega)
    have em : nI i - nI i / 6 * 6 = nI (i % 6) := zc6_rm (by omega)
    have em' : nI i - nI (i / 6) * 6 = nI (i % 6) := by rw [← ed]; exact em
    have ih := zR_wa62 hN hB hS ht hrec j n (i + 1)
    rw [show zLl B mrec S t sum (j + 1) i p = zLl B mrec S t sum j (i + 1) (if zCw B S t (i / 6) (i % 6) = true then mrec (zWr B S t (i / 6) (i % 6)) (t + 1) (sum + 1) (upd p.1 t (nI i), p.2) else p) from rfl]
    have skip : zCw B S t (i / 6) (i % 6) = false → (fX7_writesAll_62 N rec a (n + 1) (nI t) (nI sum) (nI i)).1 (rH h a (F, L, A, M)) = (fX7_writesAll_62 N rec a n (nI t) (nI sum) (nI (i + 1))).1 (rH h a (F, L, A, M)) := by
      intro hc
      rw [fX7_writesAll_62, zr_g10, zr_a10_0, hX.2.2.2.1.1, zc6_mu, if_neg (nI_ge (by omega) (by omega)), znz6, znz6, zr_g13, ed, em', zr_a13 (by omega), e13, zI]
      by_cases hli : zLi B (i / 6) ≤ i % 6
      · rw [if_pos (nI_le hli (by omega))]
        unfold fX7_writesAll_151
        rw [zc1_da]
      · rw [if_neg (nI_ge (by omega) (by omega)), znz6, jB_eq (zr_can hX ht hk hl), zI, hc, if_pos zb_f]
        unfold fX7_writesAll_151
        rw [zc1_da]
    cases hc : zCw B S t (i / 6) (i % 6) with
    | false =>
      rw [if_neg zff, skip hc]
      exact ih p (by omega) (by omega) h F L A M hb hX hR
    | true =>
      rw [if_pos rfl]
      have hli := ((zCw_spec hB ht).mp hc).2.1
      have hlo := (hB.2.2.2.2.1 t ht).2.2.1
      have hXr : zRX N a B S (zuA A 55 (upd (A 55) t (nI i))) := hX.to (fun q _ b => zuA_ne _ _ (by omega)) hS (by
        show zRow _ _
        rw [zuA_ne _ _ (by decide)]
        exact hX.2.2.2.2.1)
      obtain ⟨A1, x1, n1, e1⟩ := zr_writes (F := F) (L := L) (M := M) hXr hb ht hk hc
      obtain ⟨F2, A2, f2, g2, x2, r2, e2⟩ := hrec (zWr B S t (i / 6) (i % 6)) (sum + 1) (upd p.1 t (nI i), p.2) (zSok_wr hB hS ht hk hc) (by omega) h F L A1 M hb x1 (by
        rw [n1 55 (by decide), n1 56 (by decide), zuA_eq, zuA_ne _ _ (by decide)]
        exact hR.up (nI i))
      obtain ⟨A3, x3, n3, e3⟩ := zr_unwrites (F := F2) (L := L) (M := M) hb hS ht hk hc x2
      obtain ⟨F4, A4, f4, g4, x4, r4, e4⟩ := ih _ (by omega) (by omega) h F2 L A3 M hb x3 (by
        rw [n3 55 (by decide), n3 56 (by decide)]
        exact r2.dn)
      refine ⟨F4, A4, fun q hq => (f4 q hq).trans (f2 q hq), fun q a1 a2 a3 => (g4 q a1 a2 a3).trans ((n3 q a1).trans ((g2 q a1 a2 a3).trans ((n1 q a1).trans (zuA_ne _ _ a2)))), x4, r4, ?_⟩
      rw [fX7_writesAll_62, zr_g10, zr_a10_0, hX.2.2.2.1.1, zc6_mu, if_neg (nI_ge (by omega) (by omega)), znz6, znz6, zr_g13, ed, em', zr_a13 (by omega), e13, zI, if_neg (nI_ge (by omega) (by omega)), znz6, jB_eq (zr_can hX ht hk hl), zI, hc, if_neg zb1n, zr_g55, zr_s55 hb (by omega), znz6, jB_eq e1, zc1_da, zc1_da, jB_eq e2, znz6, jB_eq e3]
      unfold fX7_writesAll_151
      rw [zc1_da]
      exact e4
theorem zR_wa (hN : 3000 ≤ N) (hB : zLok B) : ∀ (d : Nat) (S : zMS) (t sum : Nat) (p : zRr3), zSok B S → t ≤ zT B → zT B < t + d → sum ≤ t → zWaP N a B (rX7_writesAll N a d (nI t) (nI sum)) S t p (zLy B d S t sum p)
  | 0, S, t, sum, p, hS, h1, h2, h3 => by omega
  | d + 1, S, t, sum, p, hS, h1, h2, h3 => by
    intro h F L A M hb hX hR
    have hs3 := hB.1
    have hT := hB.2.1
    have hf := zRl_fin (sum := sum) hR (by omega)
    have ey : (nI sum + nI (zT B)) - nI t = nI (sum + zT B - t) := by rw [nI_add, pk_sub (by omega)]
    rw [zLy]
    show ∃ F' A', _ ∧ _ ∧ _ ∧ _ ∧ (gX7_writesAll N (rX7_writesAll N a d) a (nI t) (nI sum)).1 (rH h a (F, L, A, M)) = _
    unfold gX7_writesAll
    rw [zr_g10, zr_a10_1, hX.2.2.2.1.2.1, zr_g57, ey]
    cases hz : zFin B t sum p.2.2 with
    | true =>
      rw [if_pos rfl]
      refine ⟨F, A, fun _ _ => rfl, fun _ _ _ _ => rfl, hX, hR, ?_⟩
      rw [if_neg (fun qq => by have := hf.mp qq; rw [hz] at this; cases this)]
      rfl
    | false =>
      rw [if_neg zff, if_pos (hf.mpr hz), zr_g10, zr_a10_1, hX.2.2.2.1.2.1, zI]
      by_cases e : t = zT B
      · rw [if_pos e, if_pos (congrArg nI e), zr_p57 hb]
        obtain ⟨g, g1, g2, g3⟩ := zr_best35 (N := N) (F := upd F 57 (nI sum)) (L := L) (M := M) (h := h) (a := a) (rec := rX7_writesAll N a d) hb 6 N 0 A rfl (by omega)
        refine ⟨upd F 57 (nI sum), zuA A 56 g, fun q hq => zu_ne _ _ hq, fun q _ _ hq => zuA_ne _ _ hq, hX.to (fun q _ b => zuA_ne _ _ (by omega)) hS (by
          show zRow _ _
          rw [zuA_ne _ _ (by decide)]
          exact hX.2.2.2.2.1), ?_, g3⟩
        rw [zuA_ne _ _ (by decide), zuA_eq, zu_eq]
        refine ⟨hR.1, rfl, fun m hm => by cases hm; omega, fun m _ q hq => ?_⟩
        rw [g1 q (by omega) (by omega)]
        exact hR.1 q (by omega)
      · rw [if_neg e, if_neg (fun qq => e ((nI_eq (by omega) (by omega)).mp qq))]
        exact zR_wa62 hN hB hS (show t < zT B by omega) (fun S' s' p' hS' hs' => zR_wa hN hB d S' (t + 1) s' p' hS' (by omega) (by omega) (by omega)) (6 * zS B) N 0 p (by omega) (by omega) h F L A M hb hX hR
end
/-! the call -/
def zLay (B : zLB) (S : zMS) : zRr3 := zLy B 8 S 0 0 (fun _ => 0, fun _ => 0, none)
def zO_lay (B : zLB) (S : zMS) (x : Int32) : Int32 := if x = -1 then zo (zLay B S).2.2 else match zix x (zT B) with
  | none => -2
  | some t => (zLay B S).2.1 t
theorem zFin_no (B : zLB) (t sum : Nat) : zFin B t sum none = false := rfl
/-- something is laid in the end -/
theorem zLy_some {B : zLB} : ∀ (d : Nat) (S : zMS) (t sum : Nat) (p : zRr3), t ≤ zT B → zT B < t + d → ∃ m, (zLy B d S t sum p).2.2 = some m
  | 0, _, t, _, _, h1, h2 => by omega
  | d + 1, S, t, sum, p, h1, h2 => by
    rw [zLy]
    split
    · rename_i hz
      cases hp : p.2.2 with
      | none => rw [hp] at hz; cases hz
      | some m => exact ⟨m, rfl⟩
    · split
      · exact ⟨sum, rfl⟩
      · exact zLy_some d S (t + 1) sum _ (by omega) (by omega)
section
variable {N a : Nat} {B : zLB} {S : zMS}
theorem zR_op_lay (x : Int32) : zRW N a B S (fX7_lay N a x) (zO_lay B S x) := by
  refine zRW.have_ fun hN hB hS => ?_
  have hT := hB.2.1
  obtain ⟨m, hm⟩ := zLy_some (B := B) 8 S 0 0 (fun _ => 0, fun _ => 0, none) (Nat.zero_le _) (by omega)
  have key : ∀ v : Int32, (x = -1 → v = zo (zLay B S).2.2) → (¬ x = -1 → ∃ t, t < zT B ∧ x = nI t ∧ v = (zLay B S).2.1 t) → zRW N a B S (fX7_lay_21 N a x) v := by
    intro v h1 h2 h F L A M hb hX
    obtain ⟨F', A', f1, g1, x1, r1, e1⟩ := zR_wa hN hB 8 S 0 0 (fun _ => 0, fun _ => 0, none) hS (Nat.zero_le _) (by omega) (Nat.le_refl _) h (upd F 57 (-1)) L A M hb hX ⟨fun q hq => (by omega), zu_eq _ _ _, fun m hm => (by cases hm), fun m hm => (by cases hm)⟩
    refine ⟨F', L, A', ⟨(f1 1 (by decide)).trans (zu_ne _ _ (by decide)), (f1 54 (by decide)).trans (zu_ne _ _ (by decide))⟩, fun q hq => g1 q (by omega) (by omega) (by omega), x1, ?_⟩
    unfold fX7_lay_21 fX7_writesAll
    rw [zr_p57 hb, jB_eq (show (rX7_writesAll N a 8 0 0).1 _ = _ from e1), zI]
    by_cases hx : x = -1
    · rw [if_pos hx, zr_g57, r1.2.1, h1 hx]
      rfl
    · obtain ⟨t, ht, rfl, hv⟩ := h2 hx
      rw [if_neg hx, zr_g56, zr_a56 (by omega), r1.2.2.2 m hm t ht, hv]
      rfl
  refine zRW.thw ?_
  unfold zO_lay
  by_cases hx : x = -1
  · rw [if_pos hx, if_pos hx]
    exact key _ (fun _ => rfl) (fun q => absurd hx q)
  · rw [if_neg hx, if_neg hx]
    refine zRW.bo (zR_isText x) ?_
    rcases zix_cases x (n := zT B) (by omega) with ⟨h3, -⟩ | ⟨t, h3, h4, rfl⟩
    · rw [h3]; exact zRW.ifp rfl (zRW.ret _)
    · rw [h4]
      exact zRW.ifn zb1n (key _ (fun q => absurd q hx) (fun _ => ⟨t, h3, rfl, rfl⟩))
end
