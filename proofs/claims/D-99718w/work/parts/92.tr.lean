/-! PURE 19: shelves that change for a while: the reference's triples; cost, bears, giveup -/
set_option maxRecDepth 100000
theorem zlT {n : Nat} (h : n < 2 ^ 63) : (lN n).toInt = (n : Int) := lg_ofNat_toInt h
theorem zldiv {a d : Nat} (ha : a < 2 ^ 63) (h0 : 0 < d) (hd : d < 2 ^ 63) : lN a / lN d = lN (a / d) := by
  apply Int64.toInt_inj.mp
  rw [Int64.toInt_div_of_ne_right _ _ (by
    intro e
    have := congrArg Int64.toInt e
    rw [zlT hd] at this
    have h1 : (-1 : Int64).toInt = -1 := by decide
    omega), zlT ha, zlT hd, zlT (Nat.lt_of_le_of_lt (Nat.div_le_self a d) ha)]
  first | rfl | exact (Int.natCast_ediv _ _).symm | exact Int.tdiv_eq_ediv_of_nonneg (by omega)
theorem zlrem {a d : Nat} (ha : a < 2 ^ 63) (h0 : 0 < d) (hd : d < 2 ^ 63) : lN a - lN a / lN d * lN d = lN (a % d) := by
  rw [zldiv ha h0 hd, lN_mul, lN_sub (Nat.div_mul_le_self a d)]
  exact congrArg lN (by have := Nat.div_add_mod' a d; omega)
/-- the next number drawn -/
def zG (g : Nat) : Nat := (g * 1103515245 + 12345) % 2147483648
theorem zG_lt (g : Nat) : zG g < 2147483648 := Nat.mod_lt _ (by decide)
theorem zdrawL {g : Nat} (hg : g < 2147483648) : ((lN g * 1103515245) + 12345) - ((lN g * 1103515245) + 12345) / 2147483648 * 2147483648 = lN (zG g) := by
  have e1 : lN g * 1103515245 + 12345 = lN (g * 1103515245 + 12345) := by
    rw [show (1103515245 : Int64) = lN 1103515245 from rfl, show (12345 : Int64) = lN 12345 from rfl, lN_mul, lN_add]
  rw [e1]
  exact zlrem (d := 2147483648) (by omega) (by decide) (by decide)
theorem zdrawV {g m : Nat} (hg : g < 2147483648) (hm : 0 < m) (hm2 : m < 2 ^ 31) : ((lN g / 65536) - (lN g / 65536) / ((nI m).toInt64) * ((nI m).toInt64)).toInt32 = nI (g / 65536 % m) := by
  rw [nI_l hm2, show (65536 : Int64) = lN 65536 from rfl, zldiv (by omega) (by decide) (by decide), zlrem (Nat.lt_of_le_of_lt (Nat.div_le_self _ _) (by omega)) hm (by omega), lN_i]
theorem zw_cp {N : Nat} {H : jH} {p q n1 n2 i j : Nat} {f : Nat → Int32} (hpq : p ≠ q) (a1 : i + 25 ≤ n1) (a2 : j + 25 ≤ n2) (hn1 : n1 < 2 ^ 30) (hn2 : n2 < 2 ^ 30) : ∀ (r n c : Nat) (g : Nat → Int32) (H : jH), H.1 p = some (.inr (0, n1, .inl f)) → H.1 q = some (.inr (0, n2, .inl g)) → H.2.2.2.2 0 ≤ q → c + r = 25 → r < n →
    (fX7_copies_3 N n (some p) (nI i) (some q) (nI j) (nI c)).1 H = some ((), jset H q (.inr (0, n2, .inl (va_cpy f g (i + c) (j + c) r))))
  | 0, n + 1, c, g, H, h1, h2, hb, hc, hn => by
    rw [fX7_copies_3, if_pos ((zc25_le (by omega)).mpr (by omega))]
    have e : va_cpy f g (i + c) (j + c) 0 = g := by
      funext x
      exact pk_cpy_out (by omega)
    rw [e]
    have e2 : jset H q (.inr (0, n2, .inl g)) = H := by
      refine Prod.ext (funext fun x => ?_) rfl
      show (if x = q then _ else _) = _
      by_cases hx : x = q
      · rw [if_pos hx, hx, h2]
      · rw [if_neg hx]
    rw [e2]
    rfl
  | r + 1, n + 1, c, g, H, h1, h2, hb, hc, hn => by
    rw [fX7_copies_3, if_neg (fun qq => by have := (zc25_le (by omega)).mp qq; omega), nI_add, nI_add, zc1_da, zaI h1 (by omega) (by omega), zsI h2 hb (by omega) (by omega)]
    have h1' : (jset H q (.inr (0, n2, .inl (upd g (j + c) (f (i + c)))))).1 p = some (.inr (0, n1, .inl f)) := by
      show (if p = q then _ else H.1 p) = _
      rw [if_neg hpq, h1]
    have h2' : (jset H q (.inr (0, n2, .inl (upd g (j + c) (f (i + c)))))).1 q = some (.inr (0, n2, .inl (upd g (j + c) (f (i + c))))) := if_pos rfl
    rw [zw_cp (H := H) hpq a1 a2 hn1 hn2 r n (c + 1) _ _ h1' h2' hb (by omega) (by omega)]
    have e : va_cpy f (upd g (j + c) (f (i + c))) (i + (c + 1)) (j + (c + 1)) r = va_cpy f g (i + c) (j + c) (r + 1) := by
      funext x
      unfold va_cpy
      by_cases hx : x = j + c
      · rw [if_neg (by omega), if_pos (by omega), hx, zu_eq]
        congr 1
        omega
      · by_cases hy : j + (c + 1) ≤ x ∧ x < j + (c + 1) + r
        · rw [if_pos hy, if_pos (by omega)]
          congr 1
          omega
        · rw [if_neg hy, if_neg (by omega), zu_ne _ _ hx]
    rw [e]
    congr 2
    refine Prod.ext (funext fun x => ?_) rfl
    show (if x = q then _ else (if x = q then _ else H.1 x)) = if x = q then _ else H.1 x
    by_cases hx : x = q
    · rw [if_pos hx, if_pos hx]
    · rw [if_neg hx, if_neg hx, if_neg hx]
section
variable {h : jH} {a : Nat} {F : Nat → Int32} {L : Nat → Int64} {A : Nat → Nat → Int32} {M : Nat → Nat → Int64} {N : Nat}
theorem zr_t48 (f : Nat → Int32) : jset (rH h a (F, L, A, M)) (a + 37) (.inr (0, 25, .inl f)) = rH h a (F, L, zuA A 48 f, M) := rH_set (j := 37) (by decide) rfl (zr_oA 37 (by decide) (by decide +kernel))
theorem zr_t49 (f : Nat → Int32) : jset (rH h a (F, L, A, M)) (a + 38) (.inr (0, 25, .inl f)) = rH h a (F, L, zuA A 49 f, M) := rH_set (j := 38) (by decide) rfl (zr_oA 38 (by decide) (by decide +kernel))
theorem zr_t50 (f : Nat → Int32) : jset (rH h a (F, L, A, M)) (a + 39) (.inr (0, 25, .inl f)) = rH h a (F, L, zuA A 50 f, M) := rH_set (j := 39) (by decide) rfl (zr_oA 39 (by decide) (by decide +kernel))
theorem zr_t51 (f : Nat → Int32) : jset (rH h a (F, L, A, M)) (a + 40) (.inr (0, 100, .inl f)) = rH h a (F, L, zuA A 51 f, M) := rH_set (j := 40) (by decide) rfl (zr_oA 40 (by decide) (by decide +kernel))
theorem zr_t52 (f : Nat → Int32) : jset (rH h a (F, L, A, M)) (a + 41) (.inr (0, 400, .inl f)) = rH h a (F, L, zuA A 52 f, M) := rH_set (j := 41) (by decide) rfl (zr_oA 41 (by decide) (by decide +kernel))
theorem zr_cp48_50 (hb : h.2.2.2.2 0 ≤ a) (hN : 3000 ≤ N) : (fX7_copies N (some (a + 37)) 0 (some (a + 39)) 0).1 (rH h a (F, L, A, M)) = some ((), rH h a (F, L, zuA A 50 (va_cpy (A 48) (A 50) 0 0 25), M)) := by
  have := zw_cp (N := N) (H := h) (p := a + 37) (q := a + 39) (n1 := 25) (n2 := 25) (i := 0) (j := 0) (by omega) (by decide) (by decide) (by decide) (by decide) 25 N 0 _ (rH h a (F, L, A, M)) zr_c48 zr_c50 (Nat.le_trans hb (Nat.le_add_right _ _)) rfl (by omega)
  rw [zr_t50] at this
  exact this
theorem zr_cp50_48 (hb : h.2.2.2.2 0 ≤ a) (hN : 3000 ≤ N) : (fX7_copies N (some (a + 39)) 0 (some (a + 37)) 0).1 (rH h a (F, L, A, M)) = some ((), rH h a (F, L, zuA A 48 (va_cpy (A 50) (A 48) 0 0 25), M)) := by
  have := zw_cp (N := N) (H := h) (p := a + 39) (q := a + 37) (n1 := 25) (n2 := 25) (i := 0) (j := 0) (by omega) (by decide) (by decide) (by decide) (by decide) 25 N 0 _ (rH h a (F, L, A, M)) zr_c50 zr_c48 (Nat.le_trans hb (Nat.le_add_right _ _)) rfl (by omega)
  rw [zr_t48] at this
  exact this
theorem zr_cp48_49 (hb : h.2.2.2.2 0 ≤ a) (hN : 3000 ≤ N) : (fX7_copies N (some (a + 37)) 0 (some (a + 38)) 0).1 (rH h a (F, L, A, M)) = some ((), rH h a (F, L, zuA A 49 (va_cpy (A 48) (A 49) 0 0 25), M)) := by
  have := zw_cp (N := N) (H := h) (p := a + 37) (q := a + 38) (n1 := 25) (n2 := 25) (i := 0) (j := 0) (by omega) (by decide) (by decide) (by decide) (by decide) 25 N 0 _ (rH h a (F, L, A, M)) zr_c48 zr_c49 (Nat.le_trans hb (Nat.le_add_right _ _)) rfl (by omega)
  rw [zr_t49] at this
  exact this
theorem zr_cp49_48 (hb : h.2.2.2.2 0 ≤ a) (hN : 3000 ≤ N) : (fX7_copies N (some (a + 38)) 0 (some (a + 37)) 0).1 (rH h a (F, L, A, M)) = some ((), rH h a (F, L, zuA A 48 (va_cpy (A 49) (A 48) 0 0 25), M)) := by
  have := zw_cp (N := N) (H := h) (p := a + 38) (q := a + 37) (n1 := 25) (n2 := 25) (i := 0) (j := 0) (by omega) (by decide) (by decide) (by decide) (by decide) 25 N 0 _ (rH h a (F, L, A, M)) zr_c49 zr_c48 (Nat.le_trans hb (Nat.le_add_right _ _)) rfl (by omega)
  rw [zr_t48] at this
  exact this
theorem zr_cp48_52 (hb : h.2.2.2.2 0 ≤ a) (hN : 3000 ≤ N) {d : Nat} (hd : 25 * d + 25 ≤ 400) : (fX7_copies N (some (a + 37)) 0 (some (a + 41)) (nI (25 * d))).1 (rH h a (F, L, A, M)) = some ((), rH h a (F, L, zuA A 52 (va_cpy (A 48) (A 52) 0 (25 * d) 25), M)) := by
  have := zw_cp (N := N) (H := h) (p := a + 37) (q := a + 41) (n1 := 25) (n2 := 400) (i := 0) (j := 25 * d) (by omega) (by decide) hd (by decide) (by decide) 25 N 0 _ (rH h a (F, L, A, M)) zr_c48 zr_c52 (Nat.le_trans hb (Nat.le_add_right _ _)) rfl (by omega)
  rw [zr_t52] at this
  exact this
theorem zr_cp48_51 (hb : h.2.2.2.2 0 ≤ a) (hN : 3000 ≤ N) {d : Nat} (hd : 25 * d + 25 ≤ 100) : (fX7_copies N (some (a + 37)) 0 (some (a + 40)) (nI (25 * d))).1 (rH h a (F, L, A, M)) = some ((), rH h a (F, L, zuA A 51 (va_cpy (A 48) (A 51) 0 (25 * d) 25), M)) := by
  have := zw_cp (N := N) (H := h) (p := a + 37) (q := a + 40) (n1 := 25) (n2 := 100) (i := 0) (j := 25 * d) (by omega) (by decide) hd (by decide) (by decide) 25 N 0 _ (rH h a (F, L, A, M)) zr_c48 zr_c51 (Nat.le_trans hb (Nat.le_add_right _ _)) rfl (by omega)
  rw [zr_t51] at this
  exact this
theorem zr_cp52_48 (hb : h.2.2.2.2 0 ≤ a) (hN : 3000 ≤ N) {d : Nat} (hd : 25 * d + 25 ≤ 400) : (fX7_copies N (some (a + 41)) (nI (25 * d)) (some (a + 37)) 0).1 (rH h a (F, L, A, M)) = some ((), rH h a (F, L, zuA A 48 (va_cpy (A 52) (A 48) (25 * d) 0 25), M)) := by
  have := zw_cp (N := N) (H := h) (p := a + 41) (q := a + 37) (n1 := 400) (n2 := 25) (i := 25 * d) (j := 0) (by omega) hd (by decide) (by decide) (by decide) 25 N 0 _ (rH h a (F, L, A, M)) zr_c52 zr_c48 (Nat.le_trans hb (Nat.le_add_right _ _)) rfl (by omega)
  rw [zr_t48] at this
  exact this
theorem zr_cp51_48 (hb : h.2.2.2.2 0 ≤ a) (hN : 3000 ≤ N) {d : Nat} (hd : 25 * d + 25 ≤ 100) : (fX7_copies N (some (a + 40)) (nI (25 * d)) (some (a + 37)) 0).1 (rH h a (F, L, A, M)) = some ((), rH h a (F, L, zuA A 48 (va_cpy (A 51) (A 48) (25 * d) 0 25), M)) := by
  have := zw_cp (N := N) (H := h) (p := a + 40) (q := a + 37) (n1 := 100) (n2 := 25) (i := 25 * d) (j := 0) (by omega) hd (by decide) (by decide) (by decide) 25 N 0 _ (rH h a (F, L, A, M)) zr_c51 zr_c48 (Nat.le_trans hb (Nat.le_add_right _ _)) rfl (by omega)
  rw [zr_t48] at this
  exact this
end
theorem zRow_cp0 {S : zMS} {f g : Nat → Int32} (h : zRow S f) : zRow S (va_cpy f g 0 0 25) := by
  have e : ∀ q, q < 25 → va_cpy f g 0 0 25 q = f q := fun q hq => by
    rw [pk_cpy_in (by omega) (by omega)]
    congr 1
    omega
  exact ⟨by rw [e 0 (by omega)]; exact h.1, fun k hk => ⟨by rw [e _ (by omega)]; exact (h.2.1 k hk).1, by rw [e _ (by omega)]; exact (h.2.1 k hk).2⟩, fun q hq => by rw [e _ (by omega)]; exact h.2.2 q hq⟩
/-! triples -/
def zFr3 (A A' : Nat → Nat → Int32) : Prop := ∀ q, (q < 26 ∨ 35 < q) → q ≠ 48 → A' q = A q
theorem zFr3.rf (A : Nat → Nat → Int32) : zFr3 A A := fun _ _ _ => rfl
theorem zFr3.tr {A A' A'' : Nat → Nat → Int32} (h1 : zFr3 A A') (h2 : zFr3 A' A'') : zFr3 A A'' := fun k a b => (h2 k a b).trans (h1 k a b)
def zRT {α : Type} (N a : Nat) (B : zLB) (S : zMS) (g : Int64) (m : jM α) (v : α) (S' : zMS) (g' : Int64) : Prop := ∀ (h : jH) (F : Nat → Int32) (L : Nat → Int64) (A : Nat → Nat → Int32) (M : Nat → Nat → Int64), h.2.2.2.2 0 ≤ a → zRX N a B S A → L 58 = g →
  ∃ L' A', L' 58 = g' ∧ zFr3 A A' ∧ zRX N a B S' A' ∧ m.1 (rH h a (F, L, A, M)) = some (v, rH h a (F, L', A', M))
section
variable {α β : Type} {N a : Nat} {B : zLB} {S S1 S2 : zMS} {g g1 g2 : Int64}
theorem zRT.ret (v : α) : zRT N a B S g (jR v) v S g := fun h F L A M _ hX hg => ⟨L, A, hg, zFr3.rf A, hX, rfl⟩
theorem zRT.bind {m : jM α} {K : α → jM β} {v : α} {w : β} (h1 : zRT N a B S g m v S1 g1) (h2 : zRT N a B S1 g1 (K v) w S2 g2) : zRT N a B S g (jB m K) w S2 g2 := by
  intro h F L A M hb hX hg
  obtain ⟨L1, A1, g1, f1, x1, e1⟩ := h1 h F L A M hb hX hg
  obtain ⟨L2, A2, g2, f2, x2, e2⟩ := h2 h F L1 A1 M hb x1 g1
  exact ⟨L2, A2, g2, f1.tr f2, x2, by rw [jB_eq e1, e2]⟩
theorem zRO.t {m : jM α} {v : α} (h1 : zRO N a B S m v) : zRT N a B S g m v S g := fun h F L A M hb hX hg => by
  obtain ⟨A', s, e⟩ := h1 h F L A M hb hX
  exact ⟨L, A', hg, fun q a _ => s q a, hX.scr s, e⟩
theorem zRT.bo {m : jM α} {K : α → jM β} {v : α} {w : β} (h1 : zRO N a B S m v) (h2 : zRT N a B S g (K v) w S2 g2) : zRT N a B S g (jB m K) w S2 g2 := zRT.bind h1.t h2
theorem zRT.ifp {c : Prop} {d : Decidable c} {A1 A2 : jM α} {v : α} (hc : c) (h1 : zRT N a B S g A1 v S2 g2) : zRT N a B S g (@ite _ c d A1 A2) v S2 g2 := by rw [if_pos hc]; exact h1
theorem zRT.ifn {c : Prop} {d : Decidable c} {A1 A2 : jM α} {v : α} (hc : ¬ c) (h1 : zRT N a B S g A2 v S2 g2) : zRT N a B S g (@ite _ c d A1 A2) v S2 g2 := by rw [if_neg hc]; exact h1
theorem zRT.have_ {m : jM α} {v : α} (h1 : 3000 ≤ N → zLok B → zSok B S → zRT N a B S g m v S2 g2) : zRT N a B S g m v S2 g2 := fun h F L A M hb hX => h1 hX.1 hX.2.1 hX.2.2.1 h F L A M hb hX
theorem zT_writes {t s l : Nat} (ht : t < zT B) (hs : s < zS B) (hw : zCw B S t s l = true) : zRT N a B S g (fX7_writes N a (nI t) (nI s) (nI l)) () (zWr B S t s l) g := fun h F L A M hb hX hg => by
  obtain ⟨A', h1, h2, h3⟩ := zr_writes (F := F) (L := L) (M := M) hX hb ht hs hw
  exact ⟨L, A', hg, fun q _ b => h2 q b, h1, h3⟩
theorem zT_scrapes {s w : Nat} (hs : s < 3) : zRT N a B S g (fX7_scrapes N a (nI s) (nI w)) () (zSc B S s w) g := fun h F L A M hb hX hg => by
  obtain ⟨A', h1, h2, h3⟩ := zr_scrapes (F := F) (L := L) (M := M) (w := w) hX hb hs
  exact ⟨L, A', hg, fun q _ b => h2 q b, h1, h3⟩
theorem zT_week (hw : zWk S + 1 < 1000000) : zRT N a B S g (jsI 0 (some (a + 37)) 0 (nI (zWk S) + 1)) () (zNx S) g := fun h F L A M hb hX hg => by
  refine ⟨L, zuA A 48 (upd (A 48) 0 (nI (zWk S + 1))), hg, fun q _ b => zuA_ne _ _ b, hX.to (fun q _ b => zuA_ne _ _ (by omega)) (zSok_nx hX.2.2.1 hw) ?_, ?_⟩
  · show zRow _ _
    rw [zuA_eq]
    have hr := hX.2.2.2.2.1
    refine ⟨zu_eq _ _ _, fun k hk => ⟨?_, ?_⟩, fun q hq => ?_⟩
    · rw [zu_ne _ _ (by omega)]; exact (hr.2.1 k hk).1
    · rw [zu_ne _ _ (by omega)]; exact (hr.2.1 k hk).2
    · rw [zu_ne _ _ (by omega)]; exact hr.2.2 q hq
  · have := zr_s48_0 (F := F) (L := L) (A := A) (B := M) hb (nI (zWk S) + 1) (fun _ => jR ())
    rw [jB_run] at this
    rw [zc1_da] at this ⊢
    cases hx : (jsI 0 (some (a + 37)) 0 (nI (zWk S + 1))).1 (rH h a (F, L, A, M)) with
    | none => rw [hx] at this; cases this
    | some z => rw [hx] at this; exact this
theorem zT_draw {x m : Nat} (hx : x < 2147483648) (hm : 0 < m) (hm2 : m < 2 ^ 31) : zRT N a B S (lN x) (fX7_draws a (nI m)) (nI (zG x / 65536 % m)) S (lN (zG x)) := fun h F L A M hb hX hg => by
  have hnz : ¬ (nI m).toInt64 = 0 := by
    rw [nI_l hm2, show (0 : Int64) = lN 0 from rfl, lN_eq hm2 (by decide)]
    omega
  refine ⟨vp_updL L 58 (lN (zG x)), A, pk_uLs, zFr3.rf A, hX, ?_⟩
  unfold fX7_draws
  rw [zr_g58, hg, znzL (by decide), zdrawL hx, zr_p58 hb, zr_g58, pk_uLs, znzL (by decide), znzL hnz, zdrawV (zG_lt x) hm hm2]
  rfl
end
