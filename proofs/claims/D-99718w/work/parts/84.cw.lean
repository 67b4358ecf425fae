/-! PURE 11: the component's shelf: writing, scraping, copying -/
set_option maxRecDepth 100000
theorem zOf_w1 (S : zMS) (t : Nat) {s i : Nat} (hs : s < 3) (hi : i < 6) : zOf (zW1 S t s i) = zOf S ||| 2 ^ (6 * s + i) := by
  apply Nat.eq_of_testBit_eq
  intro q
  rw [Nat.testBit_or, Nat.testBit_two_pow]
  unfold zOf
  rw [zMk_tb, zMk_tb]
  by_cases hq : q < 18
  · simp only [hq, decide_true, Bool.true_and]
    show (if q / 6 = s then zOp S s ||| 2 ^ i else zOp S (q / 6)).testBit (q % 6) = _
    by_cases e : q / 6 = s
    · rw [if_pos e, e, Nat.testBit_or, Nat.testBit_two_pow]
      congr 1
      apply decide_eq_decide.mpr
      omega
    · rw [if_neg e]
      have : decide (6 * s + i = q) = false := decide_eq_false (by omega)
      rw [this, Bool.or_false]
  · have : decide (6 * s + i = q) = false := decide_eq_false (by omega)
    simp [hq, this]
theorem zOf_of {S : zMS} {x : Nat} (hx : x < 262144) (h : ∀ q, q < 18 → x.testBit q = (zOp S (q / 6)).testBit (q % 6)) : x = zOf S := zMk_of (n := 18) hx h
def zw (b : Bool) : Nat := if b = true then 9 else 63
theorem zmax_sc : ∀ (th : Nat), th ≤ 30 → ∀ g o : Bool, jmax 0 (((nI th - 1) - zb g) - zb o) = nI (th - (1 + (if g = true then 1 else 0) + (if o = true then 1 else 0))) := by decide +kernel
section
variable {α : Type} {N : Nat} {h : jH} {k : zKA} {c : zCS} {B : zLB} {S : zMS} {X : Bool → zSS} {f : Nat → Int32} {R : zCR} {b : Bool}
theorem zs_isGone (hX : zCX N h k b B S X) {s : Nat} (hs : s < zS B) : (fX3_isGone (zka k b) (nI s)).1 (cH h k (X, f, R)) = some (zb (decide (zTh S s = 0)), cH h k (X, f, R)) := by
  have hk := hX.2.1
  have hs3 := hX.2.2.1.1
  have e3 := hX.2.2.2.2.2.2.1.2.2.2.1 s hs
  have ht := (hX.2.2.2.1.2.1 s (by omega)).1
  unfold fX3_isGone
  rw [zc_g2_3 hk, zc_a1 hk (show s < 3 by omega), e3, zI]
  by_cases hz : zTh S s = 0
  · rw [if_pos (by rw [hz]; rfl), decide_eq_true hz]; rfl
  · rw [if_neg (nI_ne0 (by omega) (by omega)), decide_eq_false hz]; rfl
theorem zs_isFree (hX : zCX N h k b B S X) {s l : Nat} (hs : s < zS B) (hl : l < 12) : (fX3_isFree (zka k b) (nI s) (nI l)).1 (cH h k (X, f, R)) = some (zb (zFr B S s l), cH h k (X, f, R)) := by
  have hk := hX.2.1
  have hC := hX.2.2.2.2.1
  have hlib := hX.2.2.2.2.2.2.1.1
  have hs3 := hX.2.2.1.1
  have hli := (hX.2.2.1.2.2.2.1 s hs).1.2
  have hho := (hX.2.2.1.2.2.2.1 s hs).2.2
  unfold fX3_isFree
  rw [zs_skin hk hC hlib hs, zl_g12_0 hC hs, zI]
  by_cases h1 : zLi B s ≤ l
  · have hf : zFr B S s l = false := by simp [zFr]; intro h2; omega
    rw [if_pos (nI_le h1 (by omega)), hf]
    rfl
  · have hq : 6 * s + l < 18 := by omega
    have e4 := (hX.2.2.2.2.2.2.1.2.2.2.2 _ hq).2
    have hpl := (zPl_ok hX.2.2.1 hX.2.2.2.1 hq).1
    rw [if_neg (nI_ge (by omega) (by omega)), zs_skin hk hC hlib hs, zl_g12_2 hC hs, jB_eq (zh_has (by omega) (by omega) _), zI]
    have eo := zs_isOpen (f := f) (R := R) hX hq
    rw [zOf_tb S (by omega) (by omega)] at eo
    cases b1 : (zHo B s).testBit l with
    | true =>
      have hf : zFr B S s l = false := by simp [zFr, b1]
      rw [if_neg (by decide), hf]
      rfl
    | false =>
      rw [if_pos zb_f, zc6_mu, nI_add, jB_eq eo, zI]
      cases b2 : (zOp S s).testBit l with
      | true =>
        have hf : zFr B S s l = false := by simp [zFr, b2]
        rw [if_neg (by decide), hf]
        rfl
      | false =>
        rw [if_pos zb_f, zc_g2_5 hk, zc_a3 hk hq, e4, zI]
        by_cases b3 : 9 ≤ (zPl S (6 * s + l)).length
        · have hf : zFr B S s l = false := by simp [zFr]; intros; omega
          rw [if_pos ((zc9_le (by omega)).mpr b3), hf]
          rfl
        · have hf : zFr B S s l = true := by simp [zFr, b1, b2]; omega
          rw [if_neg (fun q => b3 ((zc9_le (by omega)).mp q)), hf]
          rfl
theorem zs_may13 (hX : zCX N h k b B S X) {t s l : Nat} (ht : t < zT B) (hs : s < zS B) (hl : l < 6) : ∀ (j n i : Nat), i + j = l + zLo B t → j < n →
    (fX3_mayWrite_13 N (zka k b) n (nI t) (nI s) (nI l) (nI i)).1 (cH h k (X, f, R)) = some (zb (zAl (zFr B S s) j i), cH h k (X, f, R))
  | 0, n + 1, i, hi, hn => by
    have hk := hX.2.1
    have hC := hX.2.2.2.2.1
    have hlib := hX.2.2.2.2.2.2.1.1
    have hlo := (hX.2.2.1.2.2.2.2.1 t ht).2.2
    rw [fX3_mayWrite_13, zs_text hk hC hlib ht, zl_g13_1 hC ht, nI_add, if_pos (nI_le (by omega) (by omega))]
    rfl
  | j + 1, n + 1, i, hi, hn => by
    have hk := hX.2.1
    have hC := hX.2.2.2.2.1
    have hlib := hX.2.2.2.2.2.2.1.1
    have hlo := (hX.2.2.1.2.2.2.2.1 t ht).2.2
    rw [fX3_mayWrite_13, zs_text hk hC hlib ht, zl_g13_1 hC ht, nI_add, if_neg (nI_ge (by omega) (by omega)), jB_eq (zs_isFree hX hs (by omega)), zI]
    rw [show zAl (zFr B S s) (j + 1) i = (zFr B S s i && zAl (zFr B S s) j (i + 1)) from rfl]
    cases hf : zFr B S s i with
    | false =>
      rw [if_pos zb_f]
      rfl
    | true =>
      rw [if_neg (by decide), zc1_da, zs_may13 hX ht hs hl j n (i + 1) (by omega) (by omega)]
      rfl
theorem zs_mayWrite (hX : zCX N h k b B S X) {t s l : Nat} (ht : t < zT B) (hs : s < zS B) (hl : l < 6) : (fX3_mayWrite N (zka k b) (nI t) (nI s) (nI l)).1 (cH h k (X, f, R)) = some (zb (zCw B S t s l), cH h k (X, f, R)) := by
  have hN := hX.1
  have hlo := (hX.2.2.1.2.2.2.2.1 t ht).2.2
  unfold fX3_mayWrite zCw
  rw [jB_eq (zs_isGone hX hs), zI]
  by_cases hz : zTh S s = 0
  · rw [decide_eq_true hz, if_neg (by decide)]
    rfl
  · rw [decide_eq_false hz, if_pos zb_f, zs_may13 hX ht hs hl (zLo B t) N l rfl (by omega)]
    rfl
theorem zs_place2 (hX : zCX N h k b B S X) {t s : Nat} (ht : t < zT B) (hs : s < zS B) : ∀ (j n l : Nat), l + j = 6 → j < n →
    (fX3_place_2 N (zka k b) n (nI t) (nI s) (nI l)).1 (cH h k (X, f, R)) = some (zo (zFs (fun l => zCw B S t s l) j l), cH h k (X, f, R))
  | 0, n + 1, l, hl, hn => by
    have e : l = 6 := by omega
    subst e
    rw [fX3_place_2, if_pos (by decide)]
    rfl
  | j + 1, n + 1, l, hl, hn => by
    have e : ¬ (6 : Int32) ≤ nI l := by rw [zc6_le (by omega)]; omega
    rw [fX3_place_2, if_neg e, jB_eq (zs_mayWrite hX ht hs (by omega)), zI, zFs]
    cases hc : zCw B S t s l with
    | false =>
      rw [if_pos zb_f, zc1_da, zs_place2 hX ht hs j n (l + 1) (by omega) (by omega)]
      rfl
    | true => rfl
theorem zs_place (hX : zCX N h k b B S X) {t s : Nat} (ht : t < zT B) (hs : s < zS B) : (fX3_place N (zka k b) (nI t) (nI s)).1 (cH h k (X, f, R)) = some (zo (zPc B S t s), cH h k (X, f, R)) := by
  have hN := hX.1
  exact zs_place2 hX ht hs 6 N 0 rfl (by omega)
theorem zSm_w1 {x : zSS} (hx : zSm k B S x) {t s i : Nat} (hs : s < 3) (hi : i < 6) (h6 : ∀ u ∈ zPl S (6 * s + i), u < 6) : zSm k B (zW1 S t s i) ((x.1.1, x.1.2.1, nI (zOf S ||| 2 ^ (6 * s + i))), x.2.1, upd x.2.2.1 (6 * s + i) (nI (z8 (zPl S (6 * s + i)) ||| t * 2 ^ (3 * (zPl S (6 * s + i)).length))), upd x.2.2.2 (6 * s + i) (nI ((zPl S (6 * s + i)).length + 1))) := by
  refine ⟨hx.1, hx.2.1, ?_, hx.2.2.2.1, fun q hq => ?_⟩
  · show nI _ = nI (zOf (zW1 S t s i))
    rw [zOf_w1 S t hs hi]
  · rw [zW1_pl]
    by_cases e : q = 6 * s + i
    · rw [if_pos e, e]
      show upd _ _ _ _ = _ ∧ upd _ _ _ _ = _
      rw [zu_eq, zu_eq, z8_cons h6]
      exact ⟨rfl, rfl⟩
    · rw [if_neg e]
      show upd _ _ _ _ = _ ∧ upd _ _ _ _ = _
      rw [zu_ne _ _ e, zu_ne _ _ e]
      exact hx.2.2.2.2 q hq
theorem zs_writes8 (hk : zKok k) (hC : zCb k B h) (hb : h.2.2.2.2 0 ≤ k.1 0) {t s l : Nat} (ht : t < zT B) (hs : s < 3) (hl : l + zLo B t ≤ 6) : ∀ (j n i : Nat) (S : zMS) (X : Bool → zSS), zSm k B S (X b) → (∀ q, i ≤ q → q < i + j → (zPl S (6 * s + q)).length < 9 ∧ ∀ u ∈ zPl S (6 * s + q), u < 6) → i + j = l + zLo B t → j < n →
    ∃ X', zSm k B (zWi t s j i S) (X' b) ∧ (∀ b', b' ≠ b → X' b' = X b') ∧ (fX3_writes_8 N (zka k b) n (nI t) (nI s) (nI l) (nI (6 * s + i))).1 (cH h k (X, f, R)) = some ((), cH h k (X', f, R))
  | 0, n + 1, i, S, X, hx, hw, hi, hn => by
    refine ⟨X, hx, fun _ _ => rfl, ?_⟩
    rw [fX3_writes_8, zs_text hk hC hx.1 ht, zl_g13_1 hC ht, zc6_mu, nI_add, nI_add, if_pos (nI_le (by omega) (by omega))]
    rfl
  | j + 1, n + 1, i, S, X, hx, hw, hi, hn => by
    have hT := hC.2.2.2.2.2.2.2.2.1
    have hq : 6 * s + i < 18 := by omega
    obtain ⟨hw9, hw6⟩ := hw i (by omega) (by omega)
    have hz8 := z8_big hw6 (by omega)
    obtain ⟨e5, e6⟩ := hx.2.2.2.2 _ hq
    have hx' := zSm_w1 (t := t) hx hs (show i < 6 by omega) hw6
    obtain ⟨X', h1, h2, h3⟩ := zs_writes8 hk hC hb ht hs hl j n (i + 1) (zW1 S t s i) (zX X b (((X b).1.1, (X b).1.2.1, nI (zOf S ||| 2 ^ (6 * s + i))), (X b).2.1, upd (X b).2.2.1 (6 * s + i) (nI (z8 (zPl S (6 * s + i)) ||| t * 2 ^ (3 * (zPl S (6 * s + i)).length))), upd (X b).2.2.2 (6 * s + i) (nI ((zPl S (6 * s + i)).length + 1)))) (by rw [zX_eq]; exact hx') (fun q h1 h2 => by
      rw [zW1_pl, if_neg (by omega)]
      exact hw q (by omega) (by omega)) (by omega) (by omega)
    refine ⟨X', h1, fun b' hb' => (h2 b' hb').trans (zX_ne _ _ hb'), ?_⟩
    have hsh : t * 2 ^ (3 * (zPl S (6 * s + i)).length) < 2 ^ 32 := by
      have a1 : 2 ^ (3 * (zPl S (6 * s + i)).length) ≤ 2 ^ 24 := Nat.pow_le_pow_right (by decide) (by omega)
      have a2 : t * 2 ^ (3 * (zPl S (6 * s + i)).length) ≤ 5 * 2 ^ 24 := Nat.mul_le_mul (by omega) a1
      have a3 : 5 * 2 ^ 24 < 2 ^ 32 := by decide
      omega
    rw [fX3_writes_8, zs_text hk hC hx.1 ht, zl_g13_1 hC ht, zc6_mu, nI_add, nI_add, if_neg (nI_ge (by omega) (by omega)), zc_g2_4 hk, zc_a2 hk hq, zc_g2_5 hk, zc_a3 hk hq, e5, e6, zc3_mu, zshlN (by omega) hsh, zor]
    rw [zc_u2 hk hb hq, zc_g2_5 hk, zc_a3 hk hq]
    simp only [zX_eq, e6, zc1_da]
    rw [zc_u3 hk hb hq, zc_g2_2 hk]
    simp only [zX_eq, hx.2.2.1, zX_X, zshl (show 6 * s + i < 31 by omega), zor]
    rw [zc_p2_2 hk hb]
    simp only [zX_eq, zX_X]
    rw [Nat.add_assoc]
    exact h3
theorem zs_writes (hX : zCX N h k b B S X) {t s l : Nat} (ht : t < zT B) (hs : s < zS B) (hw : zCw B S t s l = true) :
    ∃ X', zCX N h k b B (zWr B S t s l) X' ∧ (∀ b', b' ≠ b → X' b' = X b') ∧ (fX3_writes N (zka k b) (nI t) (nI s) (nI l)).1 (cH h k (X, f, R)) = some ((), cH h k (X', f, R)) := by
  have hN := hX.1
  have hs3 := hX.2.2.1.1
  have hli := (hX.2.2.1.2.2.2.1 s hs).1.2
  have hlo := (hX.2.2.1.2.2.2.2.1 t ht).2.2
  obtain ⟨w1, w2, w3⟩ := (zCw_spec hX.2.2.1 ht).mp hw
  obtain ⟨X', h1, h2, h3⟩ := zs_writes8 (N := N) (f := f) (R := R) hX.2.1 hX.2.2.2.2.1 hX.2.2.2.2.2.2.2 ht (show s < 3 by omega) (show l + zLo B t ≤ 6 by omega) (zLo B t) N l S X hX.2.2.2.2.2.2.1 (fun q a1 a2 => ⟨(w3 q a1 a2).2.2, (zPl_ok hX.2.2.1 hX.2.2.2.1 (show 6 * s + q < 18 by omega)).2.2.1⟩) rfl (by omega)
  refine ⟨X', ⟨hN, hX.2.1, hX.2.2.1, zSok_wr hX.2.2.1 hX.2.2.2.1 ht hs hw, hX.2.2.2.2.1, hX.2.2.2.2.2.1, h1, hX.2.2.2.2.2.2.2⟩, h2, ?_⟩
  unfold fX3_writes
  rw [zc6_mu, nI_add]
  exact h3
theorem zOf_div (S : zMS) {s : Nat} (hs : s < 3) (ho : zOp S s < 64) : zOf S / 2 ^ (6 * s) % 64 = zOp S s := by
  apply Nat.eq_of_testBit_eq
  intro l
  rw [show (64 : Nat) = 2 ^ 6 from rfl, Nat.testBit_mod_two_pow, Nat.testBit_div_two_pow]
  by_cases hl : l < 6
  · rw [decide_eq_true hl, Bool.true_and, Nat.add_comm, zOf_tb S hs hl]
  · rw [decide_eq_false hl, Bool.false_and]
    exact (Nat.testBit_lt_two_pow (Nat.lt_of_lt_of_le ho (show 2 ^ 6 ≤ 2 ^ l from Nat.pow_le_pow_right (by decide) (by omega)))).symm
theorem zs_open (hX : zCX N h k b B S X) {s : Nat} (hs : s < 3) : (fX3_open (zka k b) (nI s)).1 (cH h k (X, f, R)) = some (nI (zOp S s), cH h k (X, f, R)) := by
  have hk := hX.2.1
  have ho := zOf_lt S
  have e2 := hX.2.2.2.2.2.2.1.2.2.1
  unfold fX3_open
  rw [zc_g2_2 hk, e2, zc6_mu, zshr (by omega) (by omega), zand63 (Nat.lt_of_le_of_lt (Nat.div_le_self _ _) (by omega)), zOf_div S hs (hX.2.2.2.1.2.1 s hs).2]
  rfl
theorem zand_63 {m : Nat} (h : m < 64) : m &&& 63 = m := by
  rw [show (63 : Nat) = 2 ^ 6 - 1 from rfl, Nat.and_two_pow_sub_one_eq_mod]
  exact Nat.mod_eq_of_lt h
theorem zs_about (hX : zCX N h k b B S X) {s : Nat} (hs : s < 3) (d : Bool) : (fX3_about (zka k b) (nI s) (zb d)).1 (cH h k (X, f, R)) = some (nI (zOp S s &&& zw d), cH h k (X, f, R)) := by
  have ho := (hX.2.2.2.1.2.1 s hs).2
  unfold fX3_about
  rw [zI]
  cases d with
  | true =>
    rw [if_neg (by decide), jB_eq (zs_open hX hs)]
    show some (nI (zOp S s) &&& nI 9, _) = _
    rw [zand]
    rfl
  | false =>
    rw [if_pos zb_f, jB_eq (zs_open hX hs)]
    show some (nI (zOp S s), _) = some (nI (zOp S s &&& 63), _)
    rw [zand_63 ho]
theorem zs_mayScrape (hX : zCX N h k b B S X) {s : Nat} (hs : s < 3) (d : Bool) : (fX3_mayScrape (zka k b) (nI s) (zb d)).1 (cH h k (X, f, R)) = some (zb (!decide (zOp S s &&& zw d = 0)), cH h k (X, f, R)) := by
  have ho := (hX.2.2.2.1.2.1 s hs).2
  have hm : zOp S s &&& zw d < 64 := Nat.lt_of_le_of_lt Nat.and_le_left ho
  unfold fX3_mayScrape
  rw [jB_eq (zs_about hX hs d), zI]
  by_cases hz : zOp S s &&& zw d = 0
  · rw [if_pos (by rw [hz]; rfl), decide_eq_true hz]; rfl
  · rw [if_neg (nI_ne0 (by omega) (by omega)), decide_eq_false hz]; rfl
theorem zs_sc16 (hX : zCX N h k b B S X) {s m : Nat} (hs : s < 3) (hm : m < 64) (hmo : ∀ l, m.testBit l = true → (zOp S s).testBit l = true) : ∀ (j n i : Nat), i + j = 6 → j < n →
    (fX3_scrapes_16 N (zka k b) n (nI s) (nI m) (zb (zAny (fun l => m.testBit l && decide (zGa B (zHd S (6 * s + l)) = 1)) i)) (zb (zAny (fun l => m.testBit l && decide (zKi B (zHd S (6 * s + l)) = 3)) i)) (nI i)).1 (cH h k (X, f, R)) = (fX3_scrapes_98 N (zka k b) (nI s) (nI m) (zb (zSg B S s m)) (zb (zSo B S s m))).1 (cH h k (X, f, R))
  | 0, n + 1, i, hi, hn => by
    have e : i = 6 := by omega
    subst e
    rw [fX3_scrapes_16, if_pos (by decide)]
    rfl
  | j + 1, n + 1, i, hi, hn => by
    have hk := hX.2.1
    have hC := hX.2.2.2.2.1
    have hlib := hX.2.2.2.2.2.2.1.1
    have hT := hX.2.2.1.2.1
    have e : ¬ (6 : Int32) ≤ nI i := by rw [zc6_le (by omega)]; omega
    have hq : 6 * s + i < 18 := by omega
    have ih := zs_sc16 hX hs hm hmo j n (i + 1) (by omega) (by omega)
    rw [fX3_scrapes_16, if_neg e, jB_eq (zh_has (by omega) (by omega) _), zI]
    cases hbt : m.testBit i with
    | false =>
      simp only [zAny, hbt, Bool.false_and, Bool.or_false] at ih
      rw [if_pos zb_f, ← ih]
      unfold fX3_scrapes_92
      rw [zc1_da]
    | true =>
      have hne := hX.2.2.2.1.2.2.2.1 s i hs (by omega) (hmo i hbt)
      cases hpl : zPl S (6 * s + i) with
      | nil => exact absurd hpl hne
      | cons t r =>
        have ht : t < zT B := (zPl_ok hX.2.2.1 hX.2.2.2.1 hq).2.1 t (by rw [hpl]; exact List.mem_cons_self)
        have hga := (hX.2.2.1.2.2.2.2.1 t ht).2.1
        have hhd : zHd S (6 * s + i) = t := by unfold zHd; rw [hpl]; rfl
        simp only [zAny, hbt, hhd, Bool.true_and] at ih
        rw [if_neg (by decide), zc6_mu, nI_add, jB_eq (zs_top hX hq hpl), zs_text hk hC hlib ht]
        have key : ∀ g' : Bool, g' = (zAny (fun l => m.testBit l && decide (zGa B (zHd S (6 * s + l)) = 1)) i || decide (zGa B t = 1)) → (fX3_scrapes_70 N (fX3_scrapes_16 N (zka k b) n) (zka k b) (nI s) (nI m) (zb (zAny (fun l => m.testBit l && decide (zKi B (zHd S (6 * s + l)) = 3)) i)) (nI i) (some (k.2.2.1 t)) (zb g')).1 (cH h k (X, f, R)) = (fX3_scrapes_98 N (zka k b) (nI s) (nI m) (zb (zSg B S s m)) (zb (zSo B S s m))).1 (cH h k (X, f, R)) := by
          intro g' hg'
          rw [← hg'] at ih
          unfold fX3_scrapes_70
          rw [zI]
          cases ho : zAny (fun l => m.testBit l && decide (zKi B (zHd S (6 * s + l)) = 3)) i with
          | true =>
            rw [if_neg (by decide), ← ih, ho]
            unfold fX3_scrapes_85 fX3_scrapes_90 fX3_scrapes_92
            rw [zc1_da]
            rfl
          | false =>
            rw [if_pos zb_f, znn, jB_eq (zl_oath hC ht), zI]
            rw [ho, Bool.false_or] at ih
            rw [← ih]
            unfold fX3_scrapes_85 fX3_scrapes_90 fX3_scrapes_92
            by_cases h3 : zKi B t = 3
            · rw [decide_eq_true h3, if_neg (by decide), zc1_da]
              rfl
            · rw [decide_eq_false h3, if_pos zb_f, zc1_da]
              rfl
        cases hgg : zAny (fun l => m.testBit l && decide (zGa B (zHd S (6 * s + l)) = 1)) i with
        | true =>
          rw [hgg] at key
          rw [if_neg (by decide)]
          exact key true rfl
        | false =>
          rw [hgg] at key
          rw [if_pos zb_f, zl_g13_0 hC ht, zI]
          have : zGa B t = 0 ∨ zGa B t = 1 := by omega
          rcases this with e0 | e0
          · rw [if_pos (by rw [e0]; rfl)]
            exact key false (by rw [e0]; rfl)
          · rw [if_neg (by rw [e0]; decide)]
            exact key true (by rw [e0]; rfl)
theorem zs_clears (hk : zKok k) (hb : h.2.2.2.2 0 ≤ k.1 0) {q : Nat} (hq : q < 18) (X : Bool → zSS) {O : Nat} (hO : (X b).1.2.2 = nI O) : (fX3_clears (zka k b) (nI q)).1 (cH h k (X, f, R)) = some ((), cH h k (zX X b (((X b).1.1, (X b).1.2.1, nI (zan O (2 ^ q))), (X b).2.1, upd (X b).2.2.1 q 0, upd (X b).2.2.2 q 0), f, R)) := by
  unfold fX3_clears
  rw [zc_g2_4 hk, zc_u2 hk hb hq, zc_g2_5 hk, zc_u3 hk hb hq, zc_g2_2 hk]
  simp only [zX_eq, zX_X, hO, zshl (show q < 31 by omega), zandn]
  rw [zc_p2_2 hk hb]
  simp only [zX_eq, zX_X]
  rfl
end
