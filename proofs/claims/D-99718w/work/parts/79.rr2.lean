/-! PURE 6: the reference's reading of lines and texts -/
set_option maxRecDepth 100000
theorem z7_m {t : Nat} {r : List Nat} (ht : t < 6) (hp : z7 (t :: r) < 2 ^ 31) : (nI (z7 (t :: r)) - nI (z7 (t :: r)) / 7 * 7) - 1 = nI t := by
  rw [zc7_rm hp, z7_mod ht]
  exact nI_pred t
theorem z7_m' {t : Nat} (r : List Nat) : nI (z7 (t :: r)) - nI (z7 r * 7) - 1 = nI t := by
  rw [pk_sub (by simp only [z7]; omega)]
  have e : z7 (t :: r) - z7 r * 7 = t + 1 := by simp only [z7]; omega
  rw [e]
  exact nI_pred t
theorem z7_d {t : Nat} {r : List Nat} (ht : t < 6) (hp : z7 (t :: r) < 2 ^ 31) : nI (z7 (t :: r)) / 7 = nI (z7 r) := by
  rw [zc7_dv hp, z7_div ht]
theorem z7_p {t : Nat} {r : List Nat} (hp : z7 (t :: r) < 2 ^ 31) : ¬ nI (z7 (t :: r)) ≤ 0 := by
  rw [zc0_ge hp]
  simp [z7]
theorem zPl_ok {B : zLB} {S : zMS} (hB : zLok B) (hS : zSok B S) {q : Nat} (hq : q < 18) : (zPl S q).length ≤ 9 ∧ (∀ t ∈ zPl S q, t < zT B) ∧ (∀ t ∈ zPl S q, t < 6) ∧ z7 (zPl S q) < 40353607 ∧ z8 (zPl S q) < 134217728 := by
  have h := hS.2.2.1 (q / 6) (q % 6) (by omega) (by omega)
  have e : 6 * (q / 6) + q % 6 = q := by omega
  rw [e] at h
  have h6 : ∀ t ∈ zPl S q, t < 6 := fun t ht => by
    have := h.2 t ht
    have := hB.2.1
    omega
  exact ⟨h.1, h.2, h6, z7_big h6 h.1, z8_big h6 h.1⟩
section
variable {N : Nat} {h : jH} {a : Nat} {F : Nat → Int32} {L : Nat → Int64} {A : Nat → Nat → Int32} {M : Nat → Nat → Int64} {B : zLB} {S : zMS}
theorem zr_read47 (hb : h.2.2.2.2 0 ≤ a) {k : Nat} (hk : k < 3) (wet : Int32) : ∀ (r : List Nat) (n d : Nat) (A : Nat → Nat → Int32), zRX N a B S A → (∀ t ∈ r, t < zT B) → r.length ≤ 9 → r.length < n →
    ∃ A', zScr A A' ∧ (fX7_readBy_47 N a n (nI k) wet (nI d) (nI (z7 r))).1 (rH h a (F, L, A, M)) = some (zo (zRdL B wet (nI (zTh S k)) d r), rH h a (F, L, A', M))
  | [], n + 1, d, A, hX, hr, hl, hn => by
    refine ⟨A, zScr.rf A, ?_⟩
    have e0 : nI (z7 []) ≤ 0 := by decide
    simp only [fX7_readBy_47, fX7_readBy_98, zr_g48, zr_a48, zr_a48_0, zr_a48_1, zr_a48_2, zr_a48_3, zr_s48_0 hb, zc0_le, zc0_ge, zc0_lt, zc0_gt, zc0_eq, zc1_le, zc1_ge, zc1_lt, zc1_gt, zc1_eq, zc1_ad, zc1_da, zc1_mu, zc1_um, zc1_sb, zc7_le, zc7_ge, zc7_lt, zc7_gt, zc7_eq, zc7_ad, zc7_da, zc7_mu, zc7_um, zc7_sb, zI, zR, zRn0, zRn1, zRnb, jR_run, zRn0B, zRn1B, zRnbB, znn, nI_add, pk_mul, nI_leI, nI_ltI, nI_eq, if_true, if_false, ite_true, ite_false, znz7, znz6, e0]
    rfl
  | t :: r, n + 1, d, A, hX, hr, hl, hn => by
    have ht := hr t List.mem_cons_self
    have hT := hX.2.1.2.1
    have hp : z7 (t :: r) < 2 ^ 31 := Nat.lt_trans (z7_big (fun x hx => by have := hr x hx; omega) hl) (by decide)
    have e0 := z7_p hp
    have e1 := z7_m (r := r) (show t < 6 by omega) hp
    have e2 := z7_d (r := r) (show t < 6 by omega) hp
    have e1' := z7_m' (t := t) r
    have e3 := (hX.2.2.2.2.1.2.1 k hk).1
    obtain ⟨A1, s1, e4⟩ := zr_shows (F := F) (L := L) (M := M) hX hb ht (nI d) (nI (zTh S k)) wet
    have e5 : (fX7_readBy_47 N a (n + 1) (nI k) wet (nI d) (nI (z7 (t :: r)))).1 (rH h a (F, L, A, M)) = (if zb (zShow B t (nI d) wet (nI (zTh S k))) = 0 then (fX7_readBy_47 N a n (nI k) wet (nI (d + 1)) (nI (z7 r))).1 (rH h a (F, L, A1, M)) else some (nI t, rH h a (F, L, A1, M))) := by
      simp (disch := omega) only [fX7_readBy_47, fX7_readBy_98, fX7_readBy_77, zr_g48, zr_a48, zr_a48_0, zr_a48_1, zr_a48_2, zr_a48_3, zr_s48_0 hb, zc0_le, zc0_lt, zc0_gt, zc0_eq, zc1_le, zc1_ge, zc1_lt, zc1_gt, zc1_eq, zc1_ad, zc1_da, zc1_mu, zc1_um, zc1_sb, zc7_le, zc7_ge, zc7_lt, zc7_gt, zc7_eq, zc7_ad, zc7_da, zc7_mu, zc7_um, zc7_sb, zI, zR, zRn0, zRn1, zRnb, jR_run, zRn0B, zRn1B, zRnbB, znn, nI_add, pk_mul, nI_leI, nI_ltI, nI_eq, if_true, if_false, ite_true, ite_false, znz7, znz6, e0, e1, e1', e2, e3]
      rw [jB_eq e4]
      simp (disch := omega) only [fX7_readBy_47, fX7_readBy_98, fX7_readBy_77, zr_g48, zr_a48, zr_a48_0, zr_a48_1, zr_a48_2, zr_a48_3, zr_s48_0 hb, zc0_le, zc0_ge, zc0_lt, zc0_gt, zc0_eq, zc1_le, zc1_ge, zc1_lt, zc1_gt, zc1_eq, zc1_ad, zc1_da, zc1_mu, zc1_um, zc1_sb, zc7_le, zc7_ge, zc7_lt, zc7_gt, zc7_eq, zc7_ad, zc7_da, zc7_mu, zc7_um, zc7_sb, zI, zR, zRn0, zRn1, zRnb, jR_run, zRn0B, zRn1B, zRnbB, znn, nI_add, pk_mul, nI_leI, nI_ltI, nI_eq, if_true, if_false, ite_true, ite_false, znz7, znz6, e1, e1', e2]
    rw [e5]
    cases hs : zShow B t (nI d) wet (nI (zTh S k)) with
    | true =>
      refine ⟨A1, s1, ?_⟩
      unfold zRdL
      rw [hs]
      rfl
    | false =>
      obtain ⟨A2, s2, e6⟩ := zr_read47 hb hk wet r n (d + 1) A1 (hX.scr s1) (fun x hx => hr x (List.mem_cons_of_mem _ hx)) (by simp only [List.length_cons] at hl; omega) (by simp only [List.length_cons] at hn; omega)
      refine ⟨A2, s1.tr s2, ?_⟩
      rw [if_pos zb_f, e6, zRdL, hs]
      rfl
theorem zr_read (hX : zRX N a B S A) (hb : h.2.2.2.2 0 ≤ a) {k l : Nat} (hk : k < 3) (hl : l < 6) (wet : Int32) : ∃ A', zScr A A' ∧ (fX7_readBy N a (nI k) (nI l) wet).1 (rH h a (F, L, A, M)) = some (zo (zRd B S k l wet), rH h a (F, L, A', M)) := by
  have hN := hX.1
  have hp := zPl_ok hX.2.1 hX.2.2.1 (q := 6 * k + l) (by omega)
  have hop := (hX.2.2.1.2.1 k hk).2
  have e1 : A 48 (7 + 6 * k + l) = nI (z7 (zPl S (6 * k + l))) := by
    rw [Nat.add_assoc]
    exact hX.2.2.2.2.1.2.2 (6 * k + l) (by omega)
  have e2 := (hX.2.2.2.2.1.2.1 k hk).2
  unfold zRd
  by_cases ho : (zOp S k).testBit l = true
  · refine ⟨A, zScr.rf A, ?_⟩
    simp (disch := omega) only [fX7_readBy, zr_g48, zr_a48, zr_a48_0, zr_a48_1, zr_a48_2, zr_a48_3, zr_s48_0 hb, zc1_le, zc1_ge, zc1_lt, zc1_gt, zc1_eq, zc1_ad, zc1_da, zc1_mu, zc1_um, zc1_sb, zc4_le, zc4_ge, zc4_lt, zc4_gt, zc4_eq, zc4_ad, zc4_da, zc4_mu, zc4_um, zc4_sb, zc6_le, zc6_ge, zc6_lt, zc6_gt, zc6_eq, zc6_ad, zc6_da, zc6_mu, zc6_um, zc6_sb, zc7_le, zc7_ge, zc7_lt, zc7_gt, zc7_eq, zc7_ad, zc7_da, zc7_mu, zc7_um, zc7_sb, zI, zR, zRn0, zRn1, zRnb, jR_run, zRn0B, zRn1B, zRnbB, znn, nI_add, pk_mul, nI_leI, nI_ltI, nI_eq, if_true, if_false, ite_true, ite_false, znz7, znz6, e1, e2, zbit1, ho]
    have hne := hX.2.2.1.2.2.2.1 k l hk hl ho
    cases hpl : zPl S (6 * k + l) with
    | nil => exact absurd hpl hne
    | cons t r =>
      rw [hpl] at hp
      rw [z7_m (hp.2.2.1 t List.mem_cons_self) (Nat.lt_trans hp.2.2.2.1 (by decide))]
      rfl
  · obtain ⟨A', s1, e3⟩ := zr_read47 (N := N) (F := F) (L := L) (M := M) hb hk wet (zPl S (6 * k + l)) N 1 A hX hp.2.1 hp.1 (by omega)
    refine ⟨A', s1, ?_⟩
    simp (disch := omega) only [fX7_readBy, zr_g48, zr_a48, zr_a48_0, zr_a48_1, zr_a48_2, zr_a48_3, zr_s48_0 hb, zc1_le, zc1_ge, zc1_lt, zc1_gt, zc1_eq, zc1_ad, zc1_da, zc1_mu, zc1_um, zc1_sb, zc4_le, zc4_ge, zc4_lt, zc4_gt, zc4_eq, zc4_ad, zc4_da, zc4_mu, zc4_um, zc4_sb, zc6_le, zc6_ge, zc6_lt, zc6_gt, zc6_eq, zc6_ad, zc6_da, zc6_mu, zc6_um, zc6_sb, zc7_le, zc7_ge, zc7_lt, zc7_gt, zc7_eq, zc7_ad, zc7_da, zc7_mu, zc7_um, zc7_sb, zI, zR, zRn0, zRn1, zRnb, jR_run, zRn0B, zRn1B, zRnbB, znn, nI_add, pk_mul, nI_leI, nI_ltI, nI_eq, if_true, if_false, ite_true, ite_false, znz7, znz6, e1, e2, zbit1, ho]
    exact e3
end
/-! whole texts -/
def zPv (r : Nat → Option Nat) : Nat → Option Nat
  | 0 => none
  | l + 1 => r l
def zRr (r : Nat → Option Nat) : Nat → Nat
  | 0 => 0
  | l + 1 => if r l = zPv r l then zRr r l + 1 else 1
theorem zRr_run (r : Nat → Option Nat) {t : Nat} : ∀ l, r l = some t → zRun r t (l + 1) = zRr r (l + 1)
  | 0, h => by
    rw [zRun, if_pos h, zRr]
    split <;> rfl
  | l + 1, h => by
    have ih := zRr_run r (t := t) l
    rw [zRun, if_pos h, zRr]
    by_cases e : r (l + 1) = zPv r (l + 1)
    · rw [if_pos e, ih (e.symm.trans h)]
    · rw [if_neg e, zRun, if_neg]
      intro h2
      exact e (h.trans h2.symm)
theorem zRr_le (r : Nat → Option Nat) : ∀ l, zRr r l ≤ l
  | 0 => Nat.le_refl _
  | l + 1 => by
    have := zRr_le r l
    unfold zRr
    split <;> omega
def zIn (r : Nat → Option Nat) (lo : Nat → Nat) : Nat → Nat → Nat → Nat
  | 0, _, m => m
  | j + 1, l, m => zIn r lo j (l + 1) (match r l with
    | none => m
    | some t => if lo t ≤ zRr r (l + 1) then m ||| 2 ^ t else m)
theorem zIn_tb (r : Nat → Option Nat) (lo : Nat → Nat) (t : Nat) : ∀ j l m, (zIn r lo j l m).testBit t = true ↔ m.testBit t = true ∨ ∃ q, l ≤ q ∧ q < l + j ∧ r q = some t ∧ lo t ≤ zRr r (q + 1)
  | 0, l, m => by
    constructor
    · exact Or.inl
    · rintro (h | ⟨q, h1, h2, _⟩)
      · exact h
      · omega
  | j + 1, l, m => by
    rw [zIn, zIn_tb r lo t j (l + 1)]
    have key : (match r l with
      | none => m
      | some t => if lo t ≤ zRr r (l + 1) then m ||| 2 ^ t else m).testBit t = true ↔ m.testBit t = true ∨ (r l = some t ∧ lo t ≤ zRr r (l + 1)) := by
      cases hr : r l with
      | none => simp
      | some u =>
        by_cases hc : lo u ≤ zRr r (l + 1)
        · simp only [if_pos hc, Nat.testBit_or, Nat.testBit_two_pow, Bool.or_eq_true, decide_eq_true_eq, Option.some.injEq]
          constructor
          · rintro (h | h)
            · exact Or.inl h
            · subst h; exact Or.inr ⟨rfl, hc⟩
          · rintro (h | ⟨h, _⟩)
            · exact Or.inl h
            · exact Or.inr h
        · simp only [if_neg hc, Option.some.injEq]
          constructor
          · exact Or.inl
          · rintro (h | ⟨h, h2⟩)
            · exact h
            · subst h; exact absurd h2 hc
    rw [key]
    constructor
    · rintro ((h | h) | ⟨q, h1, h2, h3⟩)
      · exact Or.inl h
      · exact Or.inr ⟨l, by omega, by omega, h⟩
      · exact Or.inr ⟨q, by omega, by omega, h3⟩
    · rintro (h | ⟨q, h1, h2, h3⟩)
      · exact Or.inl (Or.inl h)
      · by_cases e : q = l
        · subst e; exact Or.inl (Or.inr h3)
        · exact Or.inr ⟨q, by omega, by omega, h3⟩
theorem zIn_lt {r : Nat → Option Nat} {lo : Nat → Nat} : ∀ j l m, m < 64 → (∀ q t, l ≤ q → q < l + j → r q = some t → t < 6) → zIn r lo j l m < 64
  | 0, _, _, h, _ => h
  | j + 1, l, m, h, hr => by
    rw [zIn]
    refine zIn_lt j (l + 1) _ ?_ (fun q t h1 h2 h3 => hr q t (by omega) (by omega) h3)
    cases hq : r l with
    | none => exact h
    | some t =>
      have := hr l t (by omega) (by omega) hq
      show (if lo t ≤ zRr r (l + 1) then m ||| 2 ^ t else m) < 64
      split
      · exact Nat.or_lt_two_pow (n := 6) h (Nat.pow_lt_pow_right (a := 2) (by decide) this)
      · exact h
theorem zo_inj {a b : Option Nat} (ha : ∀ t, a = some t → t < 2 ^ 31) (hb : ∀ t, b = some t → t < 2 ^ 31) : zo a = zo b ↔ a = b := by
  cases b with
  | none => exact zo_m1 ha
  | some t => exact zo_nI ha (hb t rfl)
theorem zo_neg {a : Option Nat} (ha : ∀ t, a = some t → t < 2 ^ 31) : zo a < 0 ↔ a = none := by
  cases a with
  | none => exact ⟨fun _ => rfl, fun _ => by decide⟩
  | some t => exact ⟨fun h => absurd h (nI_pos (ha t rfl)), fun h => by cases h⟩
section
variable {N : Nat} {h : jH} {a : Nat} {F : Nat → Int32} {L : Nat → Int64} {A : Nat → Nat → Int32} {M : Nat → Nat → Int64} {B : zLB} {S : zMS}
theorem zr_whole23 (hb : h.2.2.2.2 0 ≤ a) {k : Nat} (hk : k < zS B) (wet : Int32) (k4 : Int32 → Int32 → Int32 → jM Int32) : ∀ (j n l m : Nat) (A : Nat → Nat → Int32), zRX N a B S A → l + j = zLi B k → j < n → m < 64 →
    ∃ A', zScr A A' ∧ (fX7_wholeBy_23 N k4 a n wet (nI m) (nI k) (zo (zPv (fun l => zRd B S k l wet) l)) (nI (zRr (fun l => zRd B S k l wet) l)) (nI l)).1 (rH h a (F, L, A, M)) = (k4 wet (nI (zIn (fun l => zRd B S k l wet) (zLo B) j l m)) (nI (k + 1))).1 (rH h a (F, L, A', M))
  | 0, n + 1, l, m, A, hX, hj, hn, hm => by
    have e13 := (hX.2.2.2.1.2.2.2.1 k hk).1
    have hs3 := hX.2.1.1
    have hl6 := (hX.2.1.2.2.2.1 k hk).1.2
    refine ⟨A, zScr.rf A, ?_⟩
    have e : zLi B k ≤ l := by omega
    simp (disch := omega) only [fX7_wholeBy_23, fX7_wholeBy_95, zr_g13, zr_a13, zr_g18, zr_a18, zc0_le, zc0_ge, zc0_lt, zc0_gt, zc0_eq, zc1_le, zc1_ge, zc1_lt, zc1_gt, zc1_eq, zc1_ad, zc1_da, zc1_mu, zc1_um, zc1_sb, zI, zR, zRn0, zRn1, zRnb, jR_run, zRn0B, zRn1B, zRnbB, znn, nI_add, pk_mul, nI_leI, nI_ltI, nI_eq, if_true, if_false, ite_true, ite_false, e13, e]
    rfl
  | j + 1, n + 1, l, m, A, hX, hj, hn, hm => by
    have e13 := (hX.2.2.2.1.2.2.2.1 k hk).1
    have hs3 := hX.2.1.1
    have hT := hX.2.1.2.1
    have hl6 := (hX.2.1.2.2.2.1 k hk).1.2
    have e : ¬ zLi B k ≤ l := by omega
    have hrl : ∀ q t, q < 6 → zRd B S k q wet = some t → t < zT B := fun q t hq => zRd_lt hX.2.2.1 (by omega) hq
    have hr31 : ∀ q, q < 6 → ∀ t, zRd B S k q wet = some t → t < 2 ^ 31 := fun q hq t ht => by have := hrl q t hq ht; omega
    obtain ⟨A1, s1, e1⟩ := zr_read (F := F) (L := L) (M := M) hX hb (show k < 3 by omega) (show l < 6 by omega) wet
    have hpv : ∀ t, zPv (fun l => zRd B S k l wet) l = some t → t < 2 ^ 31 := by
      cases l with
      | zero => intro t ht; cases ht
      | succ l => exact hr31 l (by omega)
    have hX1 := hX.scr s1
    have hlo := fun t ht => (hX1.2.2.2.1.2.2.2.2.1 t ht).2.2
    have hlo6 := fun t ht => (hX.2.1.2.2.2.2.1 t ht).2.2.2
    have hrr := zRr_le (fun l => zRd B S k l wet) l
    have e5 : (fX7_wholeBy_23 N k4 a (n + 1) wet (nI m) (nI k) (zo (zPv (fun l => zRd B S k l wet) l)) (nI (zRr (fun l => zRd B S k l wet) l)) (nI l)).1 (rH h a (F, L, A, M)) = (fX7_wholeBy_59 N (fX7_wholeBy_23 N k4 a n) a wet (nI m) (nI k) (nI l) (zo (zRd B S k l wet)) (nI (zRr (fun l => zRd B S k l wet) (l + 1)))).1 (rH h a (F, L, A1, M)) := by
      simp (disch := omega) only [fX7_wholeBy_23, fX7_wholeBy_95, zr_g13, zr_a13, zr_g18, zr_a18, zc0_le, zc0_ge, zc0_lt, zc0_gt, zc0_eq, zc1_le, zc1_ge, zc1_lt, zc1_gt, zc1_eq, zc1_ad, zc1_da, zc1_mu, zc1_um, zc1_sb, zI, zR, zRn0, zRn1, zRnb, jR_run, zRn0B, zRn1B, zRnbB, znn, nI_add, pk_mul, nI_leI, nI_ltI, nI_eq, if_true, if_false, ite_true, ite_false, e13, e]
      rw [jB_eq e1, zI]
      rw [zRr]
      by_cases hc : zRd B S k l wet = zPv (fun l => zRd B S k l wet) l
      · rw [if_pos ((zo_inj (hr31 l (by omega)) hpv).mpr hc), if_pos hc]
      · rw [if_neg (fun q => hc ((zo_inj (hr31 l (by omega)) hpv).mp q)), if_neg hc]
        rfl
    rw [e5]
    have fin : ∀ m', m' < 64 → zIn (fun l => zRd B S k l wet) (zLo B) (j + 1) l m = zIn (fun l => zRd B S k l wet) (zLo B) j (l + 1) m' → ∃ A', zScr A A' ∧ (fX7_wholeBy_23 N k4 a n wet (nI m') (nI k) (zo (zRd B S k l wet)) (nI (zRr (fun l => zRd B S k l wet) (l + 1))) (nI (l + 1))).1 (rH h a (F, L, A1, M)) = (k4 wet (nI (zIn (fun l => zRd B S k l wet) (zLo B) (j + 1) l m)) (nI (k + 1))).1 (rH h a (F, L, A', M)) := by
      intro m' hm' hz
      obtain ⟨A2, s2, e2⟩ := zr_whole23 hb hk wet k4 j n (l + 1) m' A1 hX1 (by omega) (by omega) hm'
      refine ⟨A2, s1.tr s2, ?_⟩
      rw [hz, ← e2]
      rfl
    cases hr : zRd B S k l wet with
    | none =>
      have e6 : zo none < 0 := by decide
      rw [hr] at fin
      simp (disch := omega) only [fX7_wholeBy_59, fX7_wholeBy_89, zr_g18, zr_a18, zc0_le, zc0_ge, zc0_gt, zc0_eq, zc1_le, zc1_ge, zc1_lt, zc1_gt, zc1_eq, zc1_ad, zc1_da, zc1_mu, zc1_um, zc1_sb, zI, zR, zRn0, zRn1, zRnb, jR_run, zRn0B, zRn1B, zRnbB, znn, nI_add, pk_mul, nI_leI, nI_ltI, nI_eq, if_true, if_false, ite_true, ite_false, e6]
      exact fin m hm (by rw [zIn]; simp only [hr])
    | some t =>
      have ht := hrl l t (by omega) hr
      have e6 : ¬ nI t < 0 := nI_pos (by omega)
      have e7 := hlo t ht
      have e8 := hlo6 t ht
      have hrr2 := zRr_le (fun l => zRd B S k l wet) (l + 1)
      rw [hr] at fin
      by_cases hc : zLo B t ≤ zRr (fun l => zRd B S k l wet) (l + 1)
      · have hc' : ¬ zRr (fun l => zRd B S k l wet) (l + 1) < zLo B t := by omega
        have e9 : zo (some t) = nI t := rfl
        simp (disch := omega) only [fX7_wholeBy_59, fX7_wholeBy_89, zr_g18, zr_a18, zc0_le, zc0_ge, zc0_gt, zc0_eq, zc1_le, zc1_ge, zc1_lt, zc1_gt, zc1_eq, zc1_ad, zc1_da, zc1_mu, zc1_um, zc1_sb, zI, zR, zRn0, zRn1, zRnb, jR_run, zRn0B, zRn1B, zRnbB, znn, nI_add, pk_mul, nI_leI, nI_ltI, nI_eq, if_true, if_false, ite_true, ite_false, e6, e7, e9, hc', zshl, zor]
        exact fin (m ||| 2 ^ t) (Nat.or_lt_two_pow (n := 6) hm (Nat.pow_lt_pow_right (a := 2) (by decide) (show t < 6 by omega))) (by rw [zIn]; simp only [hr, if_pos hc])
      · have hc' : zRr (fun l => zRd B S k l wet) (l + 1) < zLo B t := by omega
        have e9 : zo (some t) = nI t := rfl
        simp (disch := omega) only [fX7_wholeBy_59, fX7_wholeBy_89, zr_g18, zr_a18, zc0_le, zc0_ge, zc0_gt, zc0_eq, zc1_le, zc1_ge, zc1_lt, zc1_gt, zc1_eq, zc1_ad, zc1_da, zc1_mu, zc1_um, zc1_sb, zI, zR, zRn0, zRn1, zRnb, jR_run, zRn0B, zRn1B, zRnbB, znn, nI_add, pk_mul, nI_leI, nI_ltI, nI_eq, if_true, if_false, ite_true, ite_false, e6, e7, e9, hc']
        exact fin m hm (by rw [zIn]; simp only [hr, if_neg hc])
def zWo (B : zLB) (S : zMS) (wet : Int32) : Nat → Nat → Nat → Nat
  | 0, _, m => m
  | j + 1, k, m => zWo B S wet j (k + 1) (zIn (fun l => zRd B S k l wet) (zLo B) (zLi B k) 0 m)
theorem zr_whole4 (hb : h.2.2.2.2 0 ≤ a) (wet : Int32) : ∀ (j n k m : Nat) (A : Nat → Nat → Int32), zRX N a B S A → k + j = zS B → j < n → m < 64 →
    ∃ A', zScr A A' ∧ (fX7_wholeBy_4 N a n wet (nI m) (nI k)).1 (rH h a (F, L, A, M)) = some (nI (zWo B S wet j k m), rH h a (F, L, A', M))
  | 0, n + 1, k, m, A, hX, hj, hn, hm => by
    have e0 := hX.2.2.2.1.1
    have hs3 := hX.2.1.1
    have e : zS B ≤ k := by omega
    refine ⟨A, zScr.rf A, ?_⟩
    simp (disch := omega) only [fX7_wholeBy_4, fX7_wholeBy_101, zr_g10, zr_a10, zr_a10_0, zr_a10_1, zr_a10_2, zr_a10_3, zr_a10_4, zr_a10_5, zc0_le, zc0_ge, zc0_lt, zc0_gt, zc0_eq, zc1_le, zc1_ge, zc1_lt, zc1_gt, zc1_eq, zc1_ad, zc1_da, zc1_mu, zc1_um, zc1_sb, zI, zR, zRn0, zRn1, zRnb, jR_run, zRn0B, zRn1B, zRnbB, znn, nI_add, pk_mul, nI_leI, nI_ltI, nI_eq, if_true, if_false, ite_true, ite_false, e0, e]
    rfl
  | j + 1, n + 1, k, m, A, hX, hj, hn, hm => by
    have e0 := hX.2.2.2.1.1
    have hs3 := hX.2.1.1
    have hT := hX.2.1.2.1
    have hN := hX.1
    have e : ¬ zS B ≤ k := by omega
    have hl6 := (hX.2.1.2.2.2.1 k (by omega)).1.2
    obtain ⟨A1, s1, e1⟩ := zr_whole23 (N := N) (F := F) (L := L) (M := M) hb (show k < zS B by omega) wet (fX7_wholeBy_4 N a n) (zLi B k) N 0 m A hX (by omega) (by omega) hm
    have hm' : zIn (fun l => zRd B S k l wet) (zLo B) (zLi B k) 0 m < 64 := zIn_lt _ _ _ hm (fun q t h1 h2 h3 => by
      have := zRd_lt hX.2.2.1 (show k < 3 by omega) (show q < 6 by omega) h3
      omega)
    obtain ⟨A2, s2, e2⟩ := zr_whole4 hb wet j n (k + 1) _ A1 (hX.scr s1) (by omega) (by omega) hm'
    refine ⟨A2, s1.tr s2, ?_⟩
    simp (disch := omega) only [fX7_wholeBy_4, fX7_wholeBy_101, zr_g10, zr_a10, zr_a10_0, zr_a10_1, zr_a10_2, zr_a10_3, zr_a10_4, zr_a10_5, zc0_le, zc0_ge, zc0_lt, zc0_gt, zc0_eq, zc1_le, zc1_ge, zc1_lt, zc1_gt, zc1_eq, zc1_ad, zc1_da, zc1_mu, zc1_um, zc1_sb, zI, zR, zRn0, zRn1, zRnb, jR_run, zRn0B, zRn1B, zRnbB, znn, nI_add, pk_mul, nI_leI, nI_ltI, nI_eq, if_true, if_false, ite_true, ite_false, e0, e]
    exact e1.trans e2
theorem zWo_tb (B : zLB) (S : zMS) (wet : Int32) (t : Nat) : ∀ j k m, (zWo B S wet j k m).testBit t = true ↔ m.testBit t = true ∨ ∃ s, k ≤ s ∧ s < k + j ∧ ∃ q, q < zLi B s ∧ zRd B S s q wet = some t ∧ zLo B t ≤ zRr (fun l => zRd B S s l wet) (q + 1)
  | 0, k, m => by
    constructor
    · exact Or.inl
    · rintro (h | ⟨q, h1, h2, _⟩)
      · exact h
      · omega
  | j + 1, k, m => by
    rw [zWo, zWo_tb B S wet t j (k + 1), zIn_tb]
    constructor
    · rintro ((h | ⟨q, h1, h2, h3⟩) | ⟨s, h1, h2, h3⟩)
      · exact Or.inl h
      · exact Or.inr ⟨k, by omega, by omega, q, by omega, h3⟩
      · exact Or.inr ⟨s, by omega, by omega, h3⟩
    · rintro (h | ⟨s, h1, h2, q, h3, h4⟩)
      · exact Or.inl (Or.inl h)
      · by_cases e : s = k
        · subst e; exact Or.inl (Or.inr ⟨q, by omega, by omega, h4⟩)
        · exact Or.inr ⟨s, by omega, by omega, q, h3, h4⟩
theorem zWh_t {B : zLB} {S : zMS} (hB : zLok B) (hS : zSok B S) {t : Nat} (ht : t < zT B) (wet : Int32) : zWh B S t wet = true ↔ ∃ s, s < zS B ∧ ∃ q, q < zLi B s ∧ zRd B S s q wet = some t ∧ zLo B t ≤ zRr (fun l => zRd B S s l wet) (q + 1) := by
  have hlo := (hB.2.2.2.2.1 t ht).2.2.1
  unfold zWh
  rw [zAny_t]
  constructor
  · rintro ⟨s, h1, h2⟩
    obtain ⟨q, h3, h4⟩ := zAny_t.mp h2
    rw [decide_eq_true_eq] at h4
    have hr : zRd B S s q wet = some t := by
      rw [zRun] at h4
      split at h4
      · assumption
      · omega
    have hs := hB.1
    refine ⟨s, h1, q, ?_, hr, ?_⟩
    · rcases Nat.lt_or_ge q (zLi B s) with h | h
      · exact h
      · rw [zRd_out hS (by omega) h3 (Or.inr h)] at hr; cases hr
    · rw [← zRr_run (fun l => zRd B S s l wet) q hr]; exact h4
  · rintro ⟨s, h1, q, h2, h3, h4⟩
    have hl := (hB.2.2.2.1 s h1).1.2
    refine ⟨s, h1, zAny_t.mpr ⟨q, by omega, ?_⟩⟩
    rw [decide_eq_true_eq, zRr_run (fun l => zRd B S s l wet) q h3]
    exact h4
theorem zr_whole (hX : zRX N a B S A) (hb : h.2.2.2.2 0 ≤ a) (wet : Int32) : ∃ A', zScr A A' ∧ (fX7_wholeBy N a wet).1 (rH h a (F, L, A, M)) = some (nI (zWl B S wet), rH h a (F, L, A', M)) := by
  have hN := hX.1
  have hs3 := hX.2.1.1
  have hT := hX.2.1.2.1
  obtain ⟨A', s1, e⟩ := zr_whole4 (N := N) (F := F) (L := L) (M := M) hb wet (zS B) N 0 0 A hX (by omega) (by omega) (by omega)
  refine ⟨A', s1, ?_⟩
  have e2 : zWo B S wet (zS B) 0 0 = zWl B S wet := by
    apply Nat.eq_of_testBit_eq
    intro t
    unfold zWl
    rw [zMk_tb, Bool.eq_iff_iff, zWo_tb, Bool.and_eq_true, decide_eq_true_eq]
    constructor
    · rintro (h0 | ⟨s, h1, h2, q, h3, h4, h5⟩)
      · simp at h0
      · have hl := (hX.2.1.2.2.2.1 s (by omega)).1.2
        have ht := zRd_lt hX.2.2.1 (show s < 3 by omega) (show q < 6 by omega) h4
        exact ⟨ht, (zWh_t hX.2.1 hX.2.2.1 ht wet).mpr ⟨s, by omega, q, h3, h4, h5⟩⟩
    · rintro ⟨ht, hw⟩
      obtain ⟨s, h1, q, h3, h4⟩ := (zWh_t hX.2.1 hX.2.2.1 ht wet).mp hw
      exact Or.inr ⟨s, by omega, by omega, q, h3, h4⟩
  rw [← e2]
  exact e
end
