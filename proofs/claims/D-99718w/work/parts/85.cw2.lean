/-! PURE 12: the component's shelf: scraping, copying, beginning -/
set_option maxRecDepth 100000
theorem zcpI {α : Type} {p q n1 n2 n : Nat} {f g : Nat → Int32} {H : jH} (h1 : H.1 p = some (.inr (0, n1, .inl f))) (h2 : H.1 q = some (.inr (0, n2, .inl g))) (hb : H.2.2.2.2 0 ≤ q) (a1 : n ≤ n1) (a2 : n ≤ n2) (hn : n < 2 ^ 31) (K : Unit → jM α) : (jB (jcpI 0 (some p) 0 (some q) 0 (nI n)) K).1 H = (K ()).1 (jset H q (.inr (0, n2, .inl (va_cpy f g 0 0 n)))) := by
  have e0 : (0 : Int32).toNatClampNeg = 0 := by decide
  have e1 : (nI n).toNatClampNeg = n := nI_clamp hn
  have e2 : ¬ nI n < 0 := nI_pos hn
  have e3 : ¬ (0 : Int32) < 0 := by decide
  refine zBW ?_ K
  unfold jcpIg
  simp only [h1, h2]
  rw [if_pos, e0, e1]
  rw [e0, e1]
  exact ⟨⟨trivial, trivial, hb⟩, ⟨e3, e3, e2⟩, by omega, by omega⟩
def zClr (x x' : zSS) (O O' a b : Nat) : Prop := x'.1.1 = x.1.1 ∧ x'.1.2.1 = x.1.2.1 ∧ x'.2.1 = x.2.1 ∧ (∀ q, q < 18 → x'.2.2.1 q = (if a ≤ q ∧ q < b then 0 else x.2.2.1 q) ∧ x'.2.2.2 q = (if a ≤ q ∧ q < b then 0 else x.2.2.2 q)) ∧ x'.1.2.2 = nI O' ∧ ∀ q, O'.testBit q = (O.testBit q && !decide (a ≤ q ∧ q < b))
theorem zClr.rf (x : zSS) {O : Nat} (h : x.1.2.2 = nI O) (a : Nat) : zClr x x O O a a := by
  refine ⟨rfl, rfl, rfl, fun q _ => ?_, h, fun q => ?_⟩
  · rw [if_neg (by omega), if_neg (by omega)]; exact ⟨rfl, rfl⟩
  · rw [decide_eq_false (by omega)]; simp
theorem zClr.step {x x' : zSS} {O O' a b : Nat} (hab : a < b) (h : zClr ((x.1.1, x.1.2.1, nI (zan O (2 ^ a))), x.2.1, upd x.2.2.1 a 0, upd x.2.2.2 a 0) x' (zan O (2 ^ a)) O' (a + 1) b) : zClr x x' O O' a b := by
  obtain ⟨h1, h2, h3, h4, h5, h6⟩ := h
  refine ⟨h1, h2, h3, fun q hq => ?_, h5, fun q => ?_⟩
  · obtain ⟨c1, c2⟩ := h4 q hq
    by_cases e : q = a
    · subst e
      constructor
      · rw [c1, if_neg (by omega), if_pos (by omega)]; exact zu_eq _ _ _
      · rw [c2, if_neg (by omega), if_pos (by omega)]; exact zu_eq _ _ _
    · by_cases e2 : a + 1 ≤ q ∧ q < b
      · constructor
        · rw [c1, if_pos e2, if_pos (by omega)]
        · rw [c2, if_pos e2, if_pos (by omega)]
      · constructor
        · rw [c1, if_neg e2, if_neg (by omega)]; exact zu_ne _ _ e
        · rw [c2, if_neg e2, if_neg (by omega)]; exact zu_ne _ _ e
  · rw [h6 q, zan_tb, Nat.testBit_two_pow, Bool.and_assoc]
    congr 1
    by_cases e : a = q
    · subst e
      rw [decide_eq_true (show a ≤ a ∧ a < b by omega), decide_eq_true rfl]; rfl
    · rw [decide_eq_false e, Bool.not_false, Bool.true_and]
      congr 1
      apply decide_eq_decide.mpr
      omega
section
variable {α : Type} {N : Nat} {h : jH} {k : zKA} {c : zCS} {B : zLB} {S : zMS} {X : Bool → zSS} {f : Nat → Int32} {R : zCR} {b : Bool}
theorem zs_sc167 (hk : zKok k) (hb : h.2.2.2.2 0 ≤ k.1 0) {s : Nat} (hs : s < 3) : ∀ (j n l : Nat) (X : Bool → zSS) (O : Nat), (X b).1.2.2 = nI O → l + j = 6 → j < n →
    ∃ X' O', zClr (X b) (X' b) O O' (6 * s + l) (6 * s + 6) ∧ (∀ b', b' ≠ b → X' b' = X b') ∧ (fX3_scrapes_167 N (zka k b) n (nI s) (nI l)).1 (cH h k (X, f, R)) = some ((), cH h k (X', f, R))
  | 0, n + 1, l, X, O, hO, hl, hn => by
    have e : l = 6 := by omega
    subst e
    refine ⟨X, O, zClr.rf _ hO _, fun _ _ => rfl, ?_⟩
    rw [fX3_scrapes_167, if_pos (by decide)]
    rfl
  | j + 1, n + 1, l, X, O, hO, hl, hn => by
    have e : ¬ (6 : Int32) ≤ nI l := by rw [zc6_le (by omega)]; omega
    obtain ⟨X', O', h1, h2, h3⟩ := zs_sc167 hk hb hs j n (l + 1) (zX X b (((X b).1.1, (X b).1.2.1, nI (zan O (2 ^ (6 * s + l)))), (X b).2.1, upd (X b).2.2.1 (6 * s + l) 0, upd (X b).2.2.2 (6 * s + l) 0)) (zan O (2 ^ (6 * s + l))) (by rw [zX_eq]) (by omega) (by omega)
    rw [zX_eq] at h1
    refine ⟨X', O', zClr.step (by omega) h1, fun b' hb' => (h2 b' hb').trans (zX_ne _ _ hb'), ?_⟩
    rw [fX3_scrapes_167, if_neg e, zc6_mu, nI_add, jB_eq (zs_clears hk hb (show 6 * s + l < 18 by omega) X hO), zc1_da]
    exact h3
theorem zOf_sc (S : zMS) {s w : Nat} (hs : s < 3) (ho : zOp S s < 64) (T : Nat → Nat) : zan (zOf S) ((zOp S s &&& w) * 2 ^ (6 * s)) = zOf (S.1, T, (fun j => if j = s then zan (zOp S s) w else zOp S j), S.2.2.2) := by
  refine zOf_of (Nat.lt_of_lt_of_le (zan_lt (n := 18) (zOf_lt S)) (by decide)) (fun q hq => ?_)
  rw [zan_tb, Nat.testBit_mul_two_pow]
  show _ = (if q / 6 = s then zan (zOp S s) w else zOp S (q / 6)).testBit (q % 6)
  have e1 : (zOf S).testBit q = (zOp S (q / 6)).testBit (q % 6) := by
    have := zOf_tb S (s := q / 6) (l := q % 6) (by omega) (by omega)
    rw [show 6 * (q / 6) + q % 6 = q by omega] at this
    exact this
  rw [e1]
  by_cases e : q / 6 = s
  · rw [if_pos e, zan_tb, e, decide_eq_true (by omega), Bool.true_and, Nat.testBit_and]
    have : q - 6 * s = q % 6 := by omega
    rw [this]
    cases (zOp S s).testBit (q % 6) <;> simp
  · rw [if_neg e]
    by_cases e2 : 6 * s ≤ q
    · have e3 : (zOp S s &&& w).testBit (q - 6 * s) = false := Nat.testBit_lt_two_pow (Nat.lt_of_le_of_lt Nat.and_le_left (Nat.lt_of_lt_of_le ho (show 2 ^ 6 ≤ 2 ^ (q - 6 * s) from Nat.pow_le_pow_right (by decide) (by omega))))
      rw [e3]; simp
    · rw [decide_eq_false e2]; simp
theorem zs_scrapes (hX : zCX N h k b B S X) {s : Nat} (hs : s < zS B) (d : Bool) (hm : ¬ zOp S s &&& zw d = 0) :
    ∃ X', zCX N h k b B (zSc B S s (zw d)) X' ∧ (∀ b', b' ≠ b → X' b' = X b') ∧ (fX3_scrapes N (zka k b) (nI s) (zb d)).1 (cH h k (X, f, R)) = some ((), cH h k (X', f, R)) := by
  have hN := hX.1
  have hk := hX.2.1
  have hb := hX.2.2.2.2.2.2.2
  have hs3 := hX.2.2.1.1
  have hS := hX.2.2.2.1
  have hx := hX.2.2.2.2.2.2.1
  have hs' : s < 3 := by omega
  have hth := (hS.2.1 s hs').1
  have hop := (hS.2.1 s hs').2
  have hmb : zOp S s &&& zw d < 64 := Nat.lt_of_le_of_lt Nat.and_le_left hop
  have e16 := zs_sc16 (f := f) (R := R) hX hs' hmb (fun l hl => by rw [Nat.testBit_and, Bool.and_eq_true] at hl; exact hl.1) 6 N 0 rfl (by omega)
  have hsc := zSok_sc hS (w := zw d) hs'
  have hO := zOf_lt S
  have hsh : (zOp S s &&& zw d) * 2 ^ (6 * s) < 2 ^ 32 := by
    have a1 : 2 ^ (6 * s) ≤ 2 ^ 12 := Nat.pow_le_pow_right (by decide) (by omega)
    have a2 : (zOp S s &&& zw d) * 2 ^ (6 * s) ≤ 63 * 2 ^ 12 := Nat.mul_le_mul (by omega) a1
    have a3 : 63 * 2 ^ 12 < 2 ^ 32 := by decide
    omega
  have esb : zTh S s - (1 + (if zSg B S s (zOp S s &&& zw d) = true then 1 else 0) + (if zSo B S s (zOp S s &&& zw d) = true then 1 else 0)) = zTh S s - zSb B S s (zw d) := by
    unfold zSb
    rw [if_neg hm]
  have emx := zmax_sc (zTh S s) hth (zSg B S s (zOp S s &&& zw d)) (zSo B S s (zOp S s &&& zw d))
  rw [esb] at emx
  have e98 : (fX3_scrapes_98 N (zka k b) (nI s) (nI (zOp S s &&& zw d)) (zb (zSg B S s (zOp S s &&& zw d))) (zb (zSo B S s (zOp S s &&& zw d)))).1 (cH h k (X, f, R)) = if nI (zTh S s - zSb B S s (zw d)) = 0 then (fX3_scrapes_167 N (zka k b) N (nI s) 0).1 (cH h k (zX X b (((X b).1.1, (X b).1.2.1, nI (zan (zOf S) ((zOp S s &&& zw d) * 2 ^ (6 * s)))), upd (X b).2.1 s (nI (zTh S s - zSb B S s (zw d))), (X b).2.2), f, R)) else some ((), cH h k (zX X b (((X b).1.1, (X b).1.2.1, nI (zan (zOf S) ((zOp S s &&& zw d) * 2 ^ (6 * s)))), upd (X b).2.1 s (nI (zTh S s - zSb B S s (zw d))), (X b).2.2), f, R)) := by
    have key : ∀ v4 v3 : Int32, jmax 0 (v3 - v4) = nI (zTh S s - zSb B S s (zw d)) → ∀ X1 : Bool → zSS, (fX3_scrapes_150 N (zka k b) (nI s) (some (zka k b + 1)) (nI s) 0 v3 v4).1 (cH h k (X1, f, R)) = if nI (zTh S s - zSb B S s (zw d)) = 0 then (fX3_scrapes_167 N (zka k b) N (nI s) 0).1 (cH h k (zX X1 b ((X1 b).1, upd (X1 b).2.1 s (nI (zTh S s - zSb B S s (zw d))), (X1 b).2.2), f, R)) else some ((), cH h k (zX X1 b ((X1 b).1, upd (X1 b).2.1 s (nI (zTh S s - zSb B S s (zw d))), (X1 b).2.2), f, R)) := by
      intro v4 v3 hv X1
      unfold fX3_scrapes_150 fX3_isGone
      rw [hv, zc_u1 hk hb hs', zA, zc_g2_3 hk, zA, zc_a1 hk hs']
      simp only [zX_eq, zu_eq]
      rw [zIB]
      by_cases hz : nI (zTh S s - zSb B S s (zw d)) = 0
      · rw [if_pos hz, if_pos hz]
        rfl
      · rw [if_neg hz, if_neg hz]
        rfl
    unfold fX3_scrapes_98
    rw [zc_g2_2 hk, hx.2.2.1, zc6_mu, zshlN (by omega) hsh, zandn, zc_p2_2 hk hb, zc_g2_3 hk, zc_g2_3 hk, zc_a1 hk hs', zX_eq, hx.2.2.2.1 s hs, zI]
    unfold fX3_scrapes_139
    have fin := fun v4 v3 hv => key v4 v3 hv (zX X b (((X b).1.1, (X b).1.2.1, nI (zan (zOf S) ((zOp S s &&& zw d) * 2 ^ (6 * s)))), (X b).2))
    simp only [zX_eq, zX_X] at fin
    cases hg : zSg B S s (zOp S s &&& zw d) with
    | true =>
      rw [if_neg (by decide), zI]
      cases ho : zSo B S s (zOp S s &&& zw d) with
      | true =>
        rw [if_neg (by decide)]
        rw [hg, ho] at emx
        exact fin _ _ emx
      | false =>
        rw [if_pos zb_f]
        rw [hg, ho] at emx
        exact fin _ _ emx
    | false =>
      rw [if_pos zb_f, zI]
      cases ho : zSo B S s (zOp S s &&& zw d) with
      | true =>
        rw [if_neg (by decide)]
        rw [hg, ho] at emx
        exact fin _ _ emx
      | false =>
        rw [if_pos zb_f]
        rw [hg, ho] at emx
        exact fin _ _ emx
  have e0 : (fX3_scrapes N (zka k b) (nI s) (zb d)).1 (cH h k (X, f, R)) = (fX3_scrapes_98 N (zka k b) (nI s) (nI (zOp S s &&& zw d)) (zb (zSg B S s (zOp S s &&& zw d))) (zb (zSo B S s (zOp S s &&& zw d)))).1 (cH h k (X, f, R)) := by
    unfold fX3_scrapes
    rw [jB_eq (zs_about hX hs' d)]
    exact e16
  rw [e0, e98]
  unfold zSc at hsc ⊢
  by_cases hz : zTh S s - zSb B S s (zw d) = 0
  · have hz0 : nI (zTh S s - zSb B S s (zw d)) = 0 := by rw [hz]; rfl
    rw [if_pos hz0, if_pos hz]
    rw [if_pos hz] at hsc
    obtain ⟨X', O', h1, h2, h3⟩ := zs_sc167 (N := N) (f := f) (R := R) (h := h) (b := b) hk hb hs' 6 N 0 (zX X b (((X b).1.1, (X b).1.2.1, nI (zan (zOf S) ((zOp S s &&& zw d) * 2 ^ (6 * s)))), upd (X b).2.1 s (nI (zTh S s - zSb B S s (zw d))), (X b).2.2)) (zan (zOf S) ((zOp S s &&& zw d) * 2 ^ (6 * s))) (by rw [zX_eq]) rfl (by omega)
    rw [zX_eq] at h1
    refine ⟨X', ⟨hN, hk, hX.2.2.1, hsc, hX.2.2.2.2.1, hX.2.2.2.2.2.1, ?_, hb⟩, fun b' hb' => (h2 b' hb').trans (zX_ne _ _ hb'), h3⟩
    obtain ⟨c1, c2, c3, c4, c5, c6⟩ := h1
    refine ⟨c1.trans hx.1, c2.trans hx.2.1, ?_, fun s' h' => ?_, fun q hq => ?_⟩
    · rw [c5]
      congr 1
      refine zOf_of ?_ (fun q hq => ?_)
      · apply Nat.lt_pow_two_of_testBit (n := 18)
        intro i hi
        rw [c6, Nat.testBit_lt_two_pow (Nat.lt_of_lt_of_le (zan_lt (n := 18) hO) (Nat.pow_le_pow_right (by decide) hi))]
        rfl
      · rw [c6, zOf_sc S hs' hop (zTh S)]
        show _ = (if q / 6 = s then 0 else zOp S (q / 6)).testBit (q % 6)
        have e1 := zOf_tb (S.1, zTh S, (fun j => if j = s then zan (zOp S s) (zw d) else zOp S j), S.2.2.2) (s := q / 6) (l := q % 6) (by omega) (by omega)
        rw [show 6 * (q / 6) + q % 6 = q by omega] at e1
        rw [e1]
        show ((if q / 6 = s then zan (zOp S s) (zw d) else zOp S (q / 6)).testBit (q % 6) && _) = _
        by_cases e : q / 6 = s
        · rw [if_pos e, if_pos e, decide_eq_true (by omega)]; simp
        · rw [if_neg e, if_neg e, decide_eq_false (by omega)]; simp
    · rw [c3]
      show upd _ _ _ _ = nI (if s' = s then 0 else zTh S s')
      by_cases e : s' = s
      · subst e
        rw [zu_eq, if_pos rfl, hz]
      · rw [zu_ne _ _ e, if_neg e]
        exact hx.2.2.2.1 s' h'
    · obtain ⟨d1, d2⟩ := c4 q hq
      rw [d1, d2]
      show _ = nI (z8 (if 6 * s ≤ q ∧ q < 6 * s + 6 then [] else zPl S q)) ∧ _ = nI (if 6 * s ≤ q ∧ q < 6 * s + 6 then [] else zPl S q).length
      by_cases e : 6 * s ≤ q ∧ q < 6 * s + 6
      · rw [if_pos e, if_pos (show 6 * s + 0 ≤ q ∧ q < 6 * s + 6 by omega), if_pos (show 6 * s + 0 ≤ q ∧ q < 6 * s + 6 by omega)]
        exact ⟨rfl, rfl⟩
      · rw [if_neg e, if_neg (show ¬ (6 * s + 0 ≤ q ∧ q < 6 * s + 6) by omega), if_neg (show ¬ (6 * s + 0 ≤ q ∧ q < 6 * s + 6) by omega)]
        exact hx.2.2.2.2 q hq
  · rw [if_neg (nI_ne0 (by omega) (by omega)), if_neg hz]
    rw [if_neg hz] at hsc
    refine ⟨_, ⟨hN, hk, hX.2.2.1, hsc, hX.2.2.2.2.1, hX.2.2.2.2.2.1, ?_, hb⟩, fun b' hb' => zX_ne _ _ hb', rfl⟩
    rw [zX_eq]
    refine ⟨hx.1, hx.2.1, ?_, fun s' h' => ?_, fun q hq => hx.2.2.2.2 q hq⟩
    · show nI _ = nI _
      rw [zOf_sc S hs' hop]
    · show upd _ _ _ _ = nI (if s' = s then zTh S s - zSb B S s (zw d) else zTh S s')
      by_cases e : s' = s
      · subst e
        rw [zu_eq, if_pos rfl]
      · rw [zu_ne _ _ e, if_neg e]
        exact hx.2.2.2.1 s' h'
theorem zs_copies {b2 : Bool} (hX : zCX N h k b2 B S X) (hne : b2 ≠ b) : ∃ X', zCX N h k b B S X' ∧ (∀ b', b' ≠ b → X' b' = X b') ∧ (fX3_copies (zka k b) (some (zka k b2))).1 (cH h k (X, f, R)) = some (some (zka k b), cH h k (X', f, R)) := by
  have hk := hX.2.1
  have hb := hX.2.2.2.2.2.2.2
  have hx := hX.2.2.2.2.2.2.1
  have hs3 := hX.2.2.1.1
  have e3 : (3 : Int32) = nI 3 := rfl
  have e18 : (18 : Int32) = nI 18 := rfl
  refine ⟨zX X b ((X b2).1, va_cpy (X b2).2.1 (X b).2.1 0 0 3, va_cpy (X b2).2.2.1 (X b).2.2.1 0 0 18, va_cpy (X b2).2.2.2 (X b).2.2.2 0 0 18), ⟨hX.1, hk, hX.2.2.1, hX.2.2.2.1, hX.2.2.2.2.1, hX.2.2.2.2.2.1, ?_, hb⟩, fun b' hb' => zX_ne _ _ hb', ?_⟩
  · rw [zX_eq]
    have cp : ∀ (u v : Nat → Int32) (n q : Nat), q < n → va_cpy u v 0 0 n q = u q := by
      intro u v n q hq
      unfold va_cpy
      rw [if_pos ⟨Nat.zero_le _, by omega⟩]
      congr 1
      omega
    refine ⟨hx.1, hx.2.1, hx.2.2.1, fun s hs => ?_, fun q hq => ?_⟩
    · show va_cpy _ _ _ _ _ _ = _
      rw [cp _ _ _ _ (by omega)]
      exact hx.2.2.2.1 s hs
    · show va_cpy _ _ _ _ _ _ = _ ∧ va_cpy _ _ _ _ _ _ = _
      rw [cp _ _ _ _ hq, cp _ _ _ _ hq]
      exact hx.2.2.2.2 q hq
  · unfold fX3_copies
    rw [zc_g2_0 hk, zc_p2_0 hk hb, zc_g2_1 hk, zX_ne _ _ hne, zc_p2_1 hk hb, zc_g2_2 hk, zX_X, zX_ne _ _ hne, zX_eq, zc_p2_2 hk hb, zX_X, zX_eq, zc_g2_3 hk, zc_g2_3 hk, e3, e18]
    rw [zcpI (zc_s1 hk) (zc_s1 hk) (zkb hk hb 1) (by decide) (by decide) (by decide), zc_t1 hk, zX_X, zX_eq, zX_ne _ _ hne, zc_g2_4 hk, zc_g2_4 hk]
    rw [zcpI (zc_s2 hk) (zc_s2 hk) (zkb hk hb 2) (by decide) (by decide) (by decide), zc_t2 hk, zX_X, zX_eq, zX_ne _ _ hne, zc_g2_5 hk, zc_g2_5 hk]
    rw [zcpI (zc_s3 hk) (zc_s3 hk) (zkb hk hb 3) (by decide) (by decide) (by decide), zc_t3 hk, zX_X, zX_eq, zX_ne _ _ hne]
    rfl
theorem zs_be36 (hk : zKok k) (hC : zCb k B h) (hb : h.2.2.2.2 0 ≤ k.1 0) : ∀ (j n s : Nat) (X : Bool → zSS), (X b).1.1 = some (k.1 3) → s + j = zS B → j < n →
    ∃ T, (∀ q, s ≤ q → q < zS B → T q = nI (zTh0 B q)) ∧ (∀ q, q < s → T q = (X b).2.1 q) ∧ (fX3_begins_36 N (zka k b) n (nI s)).1 (cH h k (X, f, R)) = some (some (zka k b), cH h k (zX X b ((X b).1, T, (X b).2.2), f, R))
  | 0, n + 1, s, X, hlib, hs, hn => by
    have hs3 := hC.2.2.2.2.2.2.2.1
    refine ⟨(X b).2.1, fun q h1 h2 => by omega, fun _ _ => rfl, ?_⟩
    rw [fX3_begins_36, zs_skins hk hC hlib, if_pos (nI_le (by omega) (by omega))]
    have e : zX X b ((X b).1, (X b).2.1, (X b).2.2) = X := by
      funext b'
      unfold zX
      split
      · rename_i h; rw [h]
      · rfl
    rw [e]
    rfl
  | j + 1, n + 1, s, X, hlib, hs, hn => by
    have hs3 := hC.2.2.2.2.2.2.2.1
    obtain ⟨T, h1, h2, h3⟩ := zs_be36 hk hC hb j n (s + 1) (zX X b ((X b).1, upd (X b).2.1 s (nI (zTh0 B s)), (X b).2.2)) (by rw [zX_eq]; exact hlib) (by omega) (by omega)
    rw [zX_eq] at h2
    refine ⟨T, fun q a1 a2 => ?_, fun q a1 => ?_, ?_⟩
    · by_cases e : q = s
      · subst e
        rw [h2 q (by omega)]
        exact zu_eq _ _ _
      · exact h1 q (by omega) a2
    · rw [h2 q (by omega)]
      exact zu_ne _ _ (by omega)
    · rw [fX3_begins_36, zs_skins hk hC hlib, if_neg (nI_ge (by omega) (by omega)), zc_g2_3 hk, zs_skin hk hC hlib (by omega), zl_g12_1 hC (by omega), zc_u1 hk hb (by omega), zc1_da, h3, zX_X, zX_eq]
theorem zs_be17 (hk : zKok k) (hb : h.2.2.2.2 0 ≤ k.1 0) : ∀ (j n l : Nat) (X : Bool → zSS) (O : Nat), (X b).1.2.2 = nI O → l + j = 18 → j < n →
    ∃ X' O', zClr (X b) (X' b) O O' l 18 ∧ (∀ b', b' ≠ b → X' b' = X b') ∧ (fX3_begins_17 N (zka k b) n (nI l)).1 (cH h k (X, f, R)) = (fX3_begins_36 N (zka k b) N 0).1 (cH h k (X', f, R))
  | 0, n + 1, l, X, O, hO, hl, hn => by
    have e : l = 18 := by omega
    subst e
    refine ⟨X, O, zClr.rf _ hO _, fun _ _ => rfl, ?_⟩
    rw [fX3_begins_17, if_pos (by decide)]
    rfl
  | j + 1, n + 1, l, X, O, hO, hl, hn => by
    have e : ¬ (18 : Int32) ≤ nI l := by rw [zc18_le (by omega)]; omega
    obtain ⟨X', O', h1, h2, h3⟩ := zs_be17 hk hb j n (l + 1) (zX X b (((X b).1.1, (X b).1.2.1, nI (zan O (2 ^ l))), (X b).2.1, upd (X b).2.2.1 l 0, upd (X b).2.2.2 l 0)) (zan O (2 ^ l)) (by rw [zX_eq]) (by omega) (by omega)
    rw [zX_eq] at h1
    refine ⟨X', O', zClr.step (by omega) h1, fun b' hb' => (h2 b' hb').trans (zX_ne _ _ hb'), ?_⟩
    rw [fX3_begins_17, if_neg e, jB_eq (zs_clears hk hb (show l < 18 by omega) X hO), zc1_da]
    exact h3
theorem zs_begins (hN : 3000 ≤ N) (hk : zKok k) (hC : zCb k B h) (hE : zCe N k B h) (hb : h.2.2.2.2 0 ≤ k.1 0) (X : Bool → zSS) : ∃ X', zCX N h k b B (z00 B) X' ∧ (∀ b', b' ≠ b → X' b' = X b') ∧ (fX3_begins N (zka k b) (some (k.1 3))).1 (cH h k (X, f, R)) = some (some (zka k b), cH h k (X', f, R)) := by
  have hB := hC.2.2.2.2.2.2.2
  have hs3 := hB.1
  obtain ⟨X1, O1, h1, h2, h3⟩ := zs_be17 (N := N) (f := f) (R := R) (h := h) (b := b) hk hb 18 N 0 (zX X b ((some (k.1 3), 0, 0), (X b).2)) 0 (by rw [zX_eq]; rfl) rfl (by omega)
  rw [zX_eq] at h1
  obtain ⟨c1, c2, c3, c4, c5, c6⟩ := h1
  obtain ⟨T, t1, t2, t3⟩ := zs_be36 (N := N) (f := f) (R := R) (b := b) hk hC hb (zS B) N 0 X1 c1 (by omega) (by omega)
  refine ⟨zX X1 b ((X1 b).1, T, (X1 b).2.2), ⟨hN, hk, hB, zSok_00 hB, hC, hE, ?_, hb⟩, fun b' hb' => (zX_ne _ _ hb').trans ((h2 b' hb').trans (zX_ne _ _ hb')), ?_⟩
  · rw [zX_eq]
    refine ⟨c1, c2, ?_, fun s hs => ?_, fun q hq => ?_⟩
    · show (X1 b).1.2.2 = _
      rw [c5]
      congr 1
      refine zOf_of ?_ (fun q hq => ?_)
      · apply Nat.lt_pow_two_of_testBit (n := 18)
        intro i hi
        rw [c6]; simp
      · rw [c6]
        show _ = (0 : Nat).testBit _
        simp
    · show T s = nI (if s < zS B then zTh0 B s else 0)
      rw [if_pos hs, t1 s (by omega) hs]
    · obtain ⟨d1, d2⟩ := c4 q hq
      show (X1 b).2.2.1 q = _ ∧ (X1 b).2.2.2 q = _
      rw [d1, d2, if_pos (by omega), if_pos (by omega)]
      exact ⟨rfl, rfl⟩
  · unfold fX3_begins
    rw [zc_p2_0 hk hb, zc_p2_1 hk hb, zX_X, zX_eq, zc_p2_2 hk hb, zX_X, zX_eq]
    exact h3.trans t3
end
