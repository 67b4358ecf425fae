/-! PURE 23: lay, the component's -/
set_option maxRecDepth 100000
def zIv (S St : zMS) : Prop := ∀ q, q < 18 → (zOp St (q / 6)).testBit (q % 6) = false → zPl St q = zPl S q
theorem zOf_u1 (S : zMS) {s i : Nat} (hs : s < 3) (hi : i < 6) : zOf (zU1 S s i) = zan (zOf S) (2 ^ (6 * s + i)) := by
  apply Nat.eq_of_testBit_eq
  intro q
  rw [zan_tb, Nat.testBit_two_pow]
  unfold zOf
  rw [zMk_tb, zMk_tb]
  by_cases hq : q < 18
  · simp only [hq, decide_true, Bool.true_and]
    show (if q / 6 = s then zan (zOp S s) (2 ^ i) else zOp S (q / 6)).testBit (q % 6) = _
    by_cases e : q / 6 = s
    · rw [if_pos e, e, zan_tb, Nat.testBit_two_pow]
      congr 2
      apply decide_eq_decide.mpr
      omega
    · rw [if_neg e]
      have : decide (6 * s + i = q) = false := decide_eq_false (by omega)
      rw [this]; simp
  · simp [hq]
theorem zSm_ext {k : zKA} {B : zLB} {S S' : zMS} {x : zSS} (h : zSm k B S x) (hB : zLok B) (h1 : zWk S' = zWk S) (h2 : ∀ k, k < 3 → zTh S' k = zTh S k ∧ zOp S' k = zOp S k) (h3 : ∀ q, q < 18 → zPl S' q = zPl S q) : zSm k B S' x := by
  have hs3 := hB.1
  refine ⟨h.1, by rw [h1]; exact h.2.1, ?_, fun s hs => by rw [(h2 s (by omega)).1]; exact h.2.2.2.1 s hs, fun q hq => by rw [h3 q hq]; exact h.2.2.2.2 q hq⟩
  have e : zOf S' = zOf S := zMk_eq (fun q hq => by rw [(h2 (q / 6) (by omega)).2])
  rw [e]
  exact h.2.2.1
section
variable {α : Type} {N : Nat} {h : jH} {k : zKA} {B : zLB} {S St : zMS} {X : Bool → zSS} {f : Nat → Int32} {R : zCR} {g : Int64} {mo : Int32} {ro be : Nat → Int32} {ls : Nat × Nat}
theorem zc_tbe (hk : zKok k) (y : Nat → Int32) : jset (cH h k (X, f, g, mo, ro, be, ls)) (k.1 0 + 38) (.inr (0, 6, .inl y)) = cH h k (X, f, g, mo, ro, y, ls) := by
  refine cH_setM (by obtain ⟨h1, h2, h3⟩ := hk; omega) (by omega) ?_ (fun q hq => ?_)
  · unfold zMi
    rw [if_neg (by omega), if_neg (by omega), if_neg (by omega), if_pos rfl]
  · unfold zMi
    rw [if_neg hq, if_neg hq]
theorem zs_takes2 (hk : zKok k) (hC : zCb k B h) (hb : h.2.2.2.2 0 ≤ k.1 0) {t s l : Nat} (ht : t < zT B) (hs : s < 3) (hl : l + zLo B t ≤ 6) (hxS : zSm k B S (X true)) : ∀ (j n i : Nat) (St : zMS) (X' : Bool → zSS), X' true = X true → zSm k B St (X' false) → (∀ q, i ≤ q → q < i + j → zPl S (6 * s + q) = (zPl St (6 * s + q)).tail) → i + j = l + zLo B t → j < n →
    ∃ X'', zSm k B (zUi s j i St) (X'' false) ∧ X'' true = X true ∧ (fX6_takes_2 N (k.1 0 + 36) n (nI t) (nI (6 * s + l)) (nI (6 * s + i))).1 (cH h k (X', f, R)) = some ((), cH h k (X'', f, R))
  | 0, n + 1, i, St, X', ht', hx, hw, hi, hn => by
    refine ⟨X', hx, ht', ?_⟩
    rw [fX6_takes_2, zc_g6_3 hk, zc_g0_2 hk, zc_r2 hk, zs_text hk hC hx.1 ht, zl_g13_1 hC ht, nI_add, if_pos (nI_le (by omega) (by omega))]
    rfl
  | j + 1, n + 1, i, St, X', ht', hx, hw, hi, hn => by
    have hq : 6 * s + i < 18 := by omega
    have hpl := hw i (by omega) (by omega)
    obtain ⟨a1, a2⟩ := hxS.2.2.2.2 _ hq
    have hx' : zSm k B (zU1 St s i) (((X' false).1.1, (X' false).1.2.1, nI (zan (zOf St) (2 ^ (6 * s + i)))), (X' false).2.1, upd (X' false).2.2.1 (6 * s + i) (nI (z8 (zPl S (6 * s + i)))), upd (X' false).2.2.2 (6 * s + i) (nI (zPl S (6 * s + i)).length)) := by
      refine ⟨hx.1, hx.2.1, ?_, hx.2.2.2.1, fun q hq' => ?_⟩
      · show nI _ = nI (zOf (zU1 St s i))
        rw [zOf_u1 St hs (by omega)]
      · rw [show zPl (zU1 St s i) q = if q = 6 * s + i then (zPl St q).tail else zPl St q from rfl]
        by_cases e : q = 6 * s + i
        · rw [if_pos e, e, ← hpl]
          exact ⟨zu_eq _ _ _, zu_eq _ _ _⟩
        · rw [if_neg e]
          exact ⟨(zu_ne _ _ e).trans (hx.2.2.2.2 q hq').1, (zu_ne _ _ e).trans (hx.2.2.2.2 q hq').2⟩
    obtain ⟨X'', b1, b2, b3⟩ := zs_takes2 hk hC hb ht hs hl hxS j n (i + 1) (zU1 St s i) (zX X' false (((X' false).1.1, (X' false).1.2.1, nI (zan (zOf St) (2 ^ (6 * s + i)))), (X' false).2.1, upd (X' false).2.2.1 (6 * s + i) (nI (z8 (zPl S (6 * s + i)))), upd (X' false).2.2.2 (6 * s + i) (nI (zPl S (6 * s + i)).length))) ((zX_ne _ _ (by decide)).trans ht') (by rw [zX_eq]; exact hx') (fun q c1 c2 => by
      rw [show zPl (zU1 St s i) (6 * s + q) = if 6 * s + q = 6 * s + i then (zPl St (6 * s + q)).tail else zPl St (6 * s + q) from rfl, if_neg (by omega)]
      exact hw q (by omega) (by omega)) (by omega) (by omega)
    refine ⟨X'', b1, b2, ?_⟩
    have nt : (true : Bool) ≠ false := by decide
    rw [fX6_takes_2, zc_g6_3 hk, zc_g0_2 hk, zc_r2 hk, zs_text hk hC hx.1 ht, zl_g13_1 hC ht, nI_add, if_neg (nI_ge (by omega) (by omega)), zc_g6_3 hk, zc_g0_2 hk, zc_g2_5 hk, zc_g6_3 hk, zc_g0_1 hk, zc_g2_5 hk, zc_a3 hk hq, ht', a2]
    rw [zc_u3 hk hb hq, zc_g6_3 hk, zc_g0_2 hk, zc_g2_4 hk, zc_g6_3 hk, zc_g0_1 hk, zc_g2_4 hk, zc_a2 hk hq, zX_ne _ _ nt, ht', a1]
    rw [zc_u2 hk hb hq, zc_g6_3 hk, zc_g0_2 hk, zc_g2_2 hk]
    simp only [zX_eq, zX_X, hx.2.2.1, zshl (show 6 * s + i < 31 by omega), zandn]
    rw [zc_p2_2 hk hb]
    simp only [zX_eq, zX_X, zc1_da]
    exact b3
def zGoP (N : Nat) (k : zKA) (B : zLB) (m : jM Unit) (S St : zMS) (t : Nat) (p p' : zRr3) : Prop := ∀ (h : jH) (X : Bool → zSS) (f : Nat → Int32) (R : zCR), zCX N h k true B S X → zCX N h k false B St X → zIv S St → zRl B t R.2.2.1 R.2.2.2.1 R.2.1 p →
  ∃ X' R', X' true = X true ∧ zCX N h k false B St X' ∧ R'.2.2.2.2 = R.2.2.2.2 ∧ zRl B t R'.2.2.1 R'.2.2.2.1 R'.2.1 p' ∧ m.1 (cH h k (X, f, R)) = some ((), cH h k (X', f, R'))
theorem zIv_wr {t s l : Nat} (hB : zLok B) (ht : t < zT B) (hs : s < zS B) (hw : zCw B St t s l = true) (h : zIv S St) : zIv S (zWr B St t s l) := by
  have hs3 := hB.1
  have hli := (hB.2.2.2.1 s hs).1.2
  obtain ⟨w1, w2, w3⟩ := (zCw_spec hB ht).mp hw
  intro q hq ho
  unfold zWr at ho ⊢
  have hno : ¬ (6 * s + l ≤ q ∧ q < 6 * s + l + zLo B t) := by
    intro hr
    have e : q / 6 = s := by omega
    rw [e, zWi_op, decide_eq_true (show l ≤ q % 6 ∧ q % 6 < l + zLo B t by omega)] at ho
    simp at ho
  rw [zWi_pl, if_neg hno]
  refine h q hq ?_
  by_cases e : q / 6 = s
  · rw [e] at ho ⊢
    rw [zWi_op, Bool.or_eq_false_iff] at ho
    exact ho.1
  · rw [zWi_opo t s e] at ho
    exact ho
theorem zC_mrow (hX : zCX N h k true B S X) (K : Int32 → jM α) (x : Int32) : (jB (fX1_texts (k.1 0)) K).1 (cH h k (X, f, R)) = (K (nI (zT B))).1 (cH h k (X, f, R)) := by
  have hk := hX.2.1
  have hC := hX.2.2.2.2.1
  unfold fX1_texts fX1_now
  simp only [zA, zc_g0_1 hk, zc_g2_0 hk, hX.2.2.2.2.2.2.1.1, zR, zl_g3_3 hC, zl_r7 hC, zl_size7 hC]
theorem zC_mskins (hX : zCX N h k true B S X) (K : Int32 → jM α) : (jB (fX1_skins (k.1 0)) K).1 (cH h k (X, f, R)) = (K (nI (zS B))).1 (cH h k (X, f, R)) := by
  have hk := hX.2.1
  have hC := hX.2.2.2.2.1
  unfold fX1_skins fX1_now
  simp only [zA, zc_g0_1 hk, zc_g2_0 hk, hX.2.2.2.2.2.2.1.1, zR, zl_g3_2 hC, zl_r4 hC, zl_size4 hC]
theorem zC_go53 {rec : Int32 → Int32 → jM Unit} {mrec : zMS → Nat → Nat → zRr3 → zRr3} (hN : 3000 ≤ N) (hB : zLok B) (hS : zSok B St) {t sum : Nat} (ht : t < zT B) (hrec : ∀ (S' : zMS) (s' : Nat) (p : zRr3), zSok B S' → s' ≤ sum + 1 → zGoP N k B (rec (nI (t + 1)) (nI s')) S S' (t + 1) p (mrec S' (t + 1) s' p)) : ∀ (j n i : Nat) (p : zRr3), i + j = 6 * zS B → j < n →
    zGoP N k B (fX6_goes_53 N rec (k.1 0 + 36) n (nI t) (nI sum) (nI i)) S St t p (mrec St (t + 1) sum (upd (zLl B mrec St t sum j i p).1 t (-1), (zLl B mrec St t sum j i p).2))
  | 0, n + 1, i, p, hi, hn => by
    intro h X f R hX hY hI hR
    have hk := hX.2.1
    have hb := hX.2.2.2.2.2.2.2
    have hs3 := hB.1
    have hT := hB.2.1
    obtain ⟨X', R', a1, a2, a3, a4, e1⟩ := hrec St sum (upd p.1 t (-1), p.2) hS (by omega) h X f (R.1, R.2.1, upd R.2.2.1 t (-1), R.2.2.2) hX hY hI (hR.up (-1))
    refine ⟨X', R', a1, a2, a3, a4.dn, ?_⟩
    rw [fX6_goes_53, zc_g6_3 hk, zc_r0 hk, zC_mskins hX, zc6_um, if_pos (nI_le (by omega) (by omega))]
    unfold fX6_goes_140
    rw [zc_g6_0 hk]
    rw [show cH h k (X, f, R) = cH h k (X, f, R.1, R.2.1, R.2.2.1, R.2.2.2) from rfl, zc_sro (R := R) hk hb (by omega), zc1_da, jB_eq e1]
    rfl
  | j + 1, n + 1, i, p, hi, hn => by
    intro h X f R hX hY hI hR
    have hk := hX.2.1
    have hb := hX.2.2.2.2.2.2.2
    have hC := hX.2.2.2.2.1
    have hs3 := hB.1
    have hT := hB.2.1
    have hks : i / 6 < zS B := by omega
    have hl : i % 6 < 6 := Nat.mod_lt _ (by decide)
    have ed : nI i / 6 = nI (i / 6) := zc6_dv (by omega)
    have em : nI i - nI i / 6 * 6 = nI (i % 6) := zc6_rm (by omega)
    have em' : nI i - nI (i / 6) * 6 = nI (i % 6) := by rw [← ed]; exact em
    have ih := zC_go53 hN hB hS ht hrec j n (i + 1)
    rw [show zLl B mrec St t sum (j + 1) i p = zLl B mrec St t sum j (i + 1) (if zCw B St t (i / 6) (i % 6) = true then mrec (zWr B St t (i / 6) (i % 6)) (t + 1) (sum + 1) (upd p.1 t (nI i), p.2) else p) from rfl]
    cases hc : zCw B St t (i / 6) (i % 6) with
    | false =>
      rw [if_neg zff]
      obtain ⟨X', R', a1, a2, a3, a4, e1⟩ := ih p (by omega) (by omega) h X f R hX hY hI hR
      refine ⟨X', R', a1, a2, a3, a4, ?_⟩
      rw [fX6_goes_53, zc_g6_3 hk, zc_r0 hk, zC_mskins hX, zc6_um, if_neg (nI_ge (by omega) (by omega)), zc_g6_3 hk, zc_g0_2 hk, znz6, znz6, zc_r2 hk, ed, em', jB_eq (zs_mayWrite hY ht hks hl), hc, zI, if_pos zb_f]
      unfold fX6_goes_134
      rw [zc1_da]
      exact e1
    | true =>
      rw [if_pos rfl]
      have hli6 := (hB.2.2.2.1 (i / 6) hks).1.2
      have hcs := (zCw_spec hB ht).mp hc
      obtain ⟨X1, x1, n1, e1⟩ := zs_writes (f := f) (R := (R.1, R.2.1, upd R.2.2.1 t (nI i), R.2.2.2)) hY ht hks hc
      obtain ⟨X2, R2, a2, b2, c2, r2, e2⟩ := hrec (zWr B St t (i / 6) (i % 6)) (sum + 1) (upd p.1 t (nI i), p.2) (zSok_wr hB hS ht hks hc) (by omega) h X1 f (R.1, R.2.1, upd R.2.2.1 t (nI i), R.2.2.2) (hX.sh (n1 true (by decide))) x1 (zIv_wr hB ht hks hc hI) (hR.up (nI i))
      have at2 : X2 true = X true := a2.trans (n1 true (by decide))
      obtain ⟨X3, b3, at3, e3⟩ := zs_takes2 (N := N) (f := f) (R := R2) (S := S) (X := X) hk hC hb ht (show i / 6 < 3 by omega) (show i % 6 + zLo B t ≤ 6 by omega) hX.2.2.2.2.2.2.1 (zLo B t) N (i % 6) (zWr B St t (i / 6) (i % 6)) X2 at2 b2.2.2.2.2.2.2.1 (fun q c1 c2 => by
        have e : zPl (zWr B St t (i / 6) (i % 6)) (6 * (i / 6) + q) = t :: zPl St (6 * (i / 6) + q) := by
          unfold zWr
          rw [zWi_pl, if_pos (by omega)]
        rw [e]
        refine (hI (6 * (i / 6) + q) (by omega) ?_).symm
        rw [show (6 * (i / 6) + q) / 6 = i / 6 by omega, show (6 * (i / 6) + q) % 6 = q by omega]
        exact (hcs.2.2 q c1 c2).2.1) rfl (by omega)
      obtain ⟨u1, u2, u3⟩ := zUW hB ht hc
      have x3 : zCX N h k false B St X3 := ⟨hN, hk, hB, hS, hC, hX.2.2.2.2.2.1, zSm_ext b3 hB u1 (fun j _ => u2 j) (fun q _ => u3 q), hb⟩
      obtain ⟨X4, R4, a4, b4, c4, r4, e4⟩ := ih _ (by omega) (by omega) h X3 f R2 (hX.sh at3) x3 hI r2.dn
      refine ⟨X4, R4, a4.trans at3, b4, c4.trans c2, r4, ?_⟩
      have ei : 6 * (i / 6) + i % 6 = i := by omega
      rw [ei] at e3
      rw [fX6_goes_53, zc_g6_3 hk, zc_r0 hk, zC_mskins hX, zc6_um, if_neg (nI_ge (by omega) (by omega)), zc_g6_3 hk, zc_g0_2 hk, znz6, znz6, zc_r2 hk, ed, em', jB_eq (zs_mayWrite hY ht hks hl), hc, zI, if_neg zb1n, zc_g6_0 hk]
      rw [show cH h k (X, f, R) = cH h k (X, f, R.1, R.2.1, R.2.2.1, R.2.2.2) from rfl, zc_sro (R := R) hk hb (by omega), zc_g6_3 hk, zc_g0_2 hk, znz6, znz6, zc_r2 hk, jB_eq e1, zc1_da, zc1_da, jB_eq e2]
      unfold fX6_takes
      rw [jB_eq e3]
      unfold fX6_goes_134
      rw [zc1_da]
      exact e4
theorem zC_go (hN : 3000 ≤ N) (hB : zLok B) : ∀ (d : Nat) (St : zMS) (t sum : Nat) (p : zRr3), zSok B St → t ≤ zT B → zT B < t + d → sum ≤ t → zGoP N k B (rX6_goes N (k.1 0 + 36) d (nI t) (nI sum)) S St t p (zLy B d St t sum p)
  | 0, St, t, sum, p, hS, h1, h2, h3 => by omega
  | d + 1, St, t, sum, p, hS, h1, h2, h3 => by
    intro h X f R hX hY hI hR
    have hk := hX.2.1
    have hb := hX.2.2.2.2.2.2.2
    have hs3 := hB.1
    have hT := hB.2.1
    have hf := zRl_fin (sum := sum) hR (by omega)
    have ey : (nI sum + nI (zT B)) - nI t = nI (sum + zT B - t) := by rw [nI_add, pk_sub (by omega)]
    rw [zLy]
    show ∃ X' R', _ ∧ _ ∧ _ ∧ _ ∧ (gX6_goes N (rX6_goes N (k.1 0 + 36) d) (k.1 0 + 36) (nI t) (nI sum)).1 (cH h k (X, f, R)) = _
    unfold gX6_goes
    rw [zc_g6_3 hk, zc_r0 hk, zC_mrow hX _ 0, zc_g6_2 hk, ey]
    cases hz : zFin B t sum p.2.2 with
    | true =>
      rw [if_pos rfl]
      refine ⟨X, R, rfl, hY, rfl, hR, ?_⟩
      rw [if_neg (fun qq => by have := hf.mp qq; rw [hz] at this; cases this)]
      rfl
    | false =>
      rw [if_neg zff, if_pos (hf.mpr hz), zc_g6_3 hk, zc_r0 hk, zC_mrow hX _ 0, zI]
      by_cases e : t = zT B
      · rw [if_pos e, if_pos (congrArg nI e)]
        refine ⟨X, (R.1, nI sum, R.2.2.1, va_cpy R.2.2.1 R.2.2.2.1 0 0 6, R.2.2.2.2), rfl, hY, rfl, ⟨hR.1, rfl, fun m hm => by cases hm; omega, fun m _ q hq => ?_⟩, ?_⟩
        · show va_cpy _ _ _ _ _ _ = _
          rw [pk_cpy_in (by omega) (by omega)]
          have : 0 + (q - 0) = q := by omega
          rw [this]
          exact hR.1 q (by omega)
        · rw [show cH h k (X, f, R) = cH h k (X, f, R.1, R.2.1, R.2.2) from rfl, zc_p6_2 (R := R) hk hb, zc_g6_0 hk, zc_g6_1 hk, show (6 : Int32) = nI 6 from rfl, zcpI (zc_ro hk) (zc_be hk) (Nat.le_trans hb (Nat.le_add_right _ _)) (by decide) (by decide) (by decide)]
          rw [show cH h k (X, f, R.1, nI sum, R.2.2) = cH h k (X, f, R.1, nI sum, R.2.2.1, R.2.2.2.1, R.2.2.2.2) from rfl, zc_tbe hk]
          rfl
      · rw [if_neg e, if_neg (fun qq => e ((nI_eq (by omega) (by omega)).mp qq))]
        exact zC_go53 hN hB hS (show t < zT B by omega) (fun S' s' p' hS' hs' => zC_go hN hB d S' (t + 1) s' p' hS' (by omega) (by omega) (by omega)) (6 * zS B) N 0 p (by omega) (by omega) h X f R hX hY hI hR
theorem zC_op_lay (x : Int32) : zCW N k B S (fX1_lay N (k.1 0) x) (zO_lay B S x) := by
  refine zCW.have_ fun hN hB hS => ?_
  have hT := hB.2.1
  obtain ⟨m, hm⟩ := zLy_some (B := B) 8 S 0 0 (fun _ => 0, fun _ => 0, none) (Nat.zero_le _) (by omega)
  have key : ∀ v : Int32, (x = -1 → v = zo (zLay B S).2.2) → (¬ x = -1 → ∃ t, t < zT B ∧ x = nI t ∧ v = (zLay B S).2.1 t) → zCW N k B S (fX1_lay_16 N (k.1 0) x) v := by
    intro v h1 h2 h X f R hX
    have hk := hX.2.1
    have hb := hX.2.2.2.2.2.2.2
    obtain ⟨X1, x1, n1, e1⟩ := zs_copies (b := false) (f := f) (R := (R.1, -1, R.2.2)) hX (by decide)
    have at1 := n1 true (by decide)
    obtain ⟨X', R', a1, a2, a3, r1, e2⟩ := zC_go (k := k) (S := S) hN hB 8 S 0 0 (fun _ => 0, fun _ => 0, none) hS (Nat.zero_le _) (by omega) (Nat.le_refl _) h X1 f (R.1, -1, R.2.2) (hX.sh at1) x1 (fun _ _ _ => rfl) ⟨fun q hq => (by omega), rfl, fun m hm => (by cases hm), fun m hm => (by cases hm)⟩
    refine ⟨X', f, R', a1.trans at1, a3, ?_⟩
    have e3 : (fX6_finds N (k.1 0 + 36)).1 (cH h k (X, f, R)) = some (some (k.1 0 + 36), cH h k (X', f, R')) := by
      unfold fX6_finds fX6_goes
      rw [show cH h k (X, f, R) = cH h k (X, f, R.1, R.2.1, R.2.2) from rfl, zc_p6_2 (R := R) hk hb, zc_g6_3 hk, zc_g0_2 hk, zc_g6_3 hk, zc_g0_1 hk, zc_r2 hk, jB_eq e1, jB_eq (show (rX6_goes N (k.1 0 + 36) 8 0 0).1 _ = _ from e2)]
      rfl
    unfold fX1_lay_16
    rw [zc_g0_6 hk, zc_r6 hk, jB_eq e3, zI]
    by_cases hx : x = -1
    · rw [if_pos hx, zc_g0_6 hk, zc_g6_2 hk, r1.2.1, h1 hx]
      rfl
    · obtain ⟨t, ht, rfl, hv⟩ := h2 hx
      rw [if_neg hx, zc_g0_6 hk, zc_g6_1 hk, zc_abe hk (by omega), r1.2.2.2 m hm t ht, hv]
      rfl
  unfold fX1_lay zO_lay
  by_cases hx : x = -1
  · rw [if_pos hx, if_pos hx]
    exact key _ (fun _ => rfl) (fun q => absurd hx q)
  · rw [if_neg hx, if_neg hx]
    refine zCW.bo (zC_isText x) ?_
    rcases zix_cases x (n := zT B) (by omega) with ⟨h3, -⟩ | ⟨t, h3, h4, rfl⟩
    · rw [h3]; exact zCW.ifp rfl (zCW.ret _)
    · rw [h4]
      exact zCW.ifn zb1n (key _ (fun q => absurd q hx) (fun _ => ⟨t, h3, rfl, rfl⟩))
end
