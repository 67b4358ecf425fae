/-! PURE 28: the reference reads an expression -/
set_option maxRecDepth 100000
def zPopN (o : Nat → Int32) : Nat → Nat
  | 0 => 0
  | d + 1 => if o (d + 1) = 1 then zPopN o d else d + 1
theorem zPopN_le (o : Nat → Int32) : ∀ d, zPopN o d ≤ d
  | 0 => Nat.le_refl _
  | d + 1 => by
    have := zPopN_le o d
    unfold zPopN
    split <;> omega
theorem zPopN_eq {o o' : Nat → Int32} : ∀ {d : Nat}, (∀ q, q ≤ d → o' q = o q) → zPopN o' d = zPopN o d
  | 0, _ => rfl
  | d + 1, h => by
    unfold zPopN
    rw [h (d + 1) (Nat.le_refl _), zPopN_eq (d := d) (fun q hq => h q (by omega))]
def zcd (f : Nat → Int32) : Nat → List Nat → Nat → Int32
  | _, [] => f
  | c, x :: r => zcd (upd f c (nI x)) (c + 1) r
theorem zcd_app (f : Nat → Int32) : ∀ (c : Nat) (cs ds : List Nat), zcd f c (cs ++ ds) = zcd (zcd f c cs) (c + cs.length) ds := by
  intro c cs
  induction cs generalizing f c with
  | nil => intro ds; rfl
  | cons x r ih =>
    intro ds
    rw [List.cons_append, zcd, zcd, ih, List.length_cons]
    congr 1
    omega
theorem zcd_lo : ∀ (cs : List Nat) (f : Nat → Int32) (c q : Nat), q < c → zcd f c cs q = f q
  | [], _, _, _, _ => rfl
  | x :: r, f, c, q, h => by
    rw [zcd, zcd_lo r _ _ _ (by omega)]
    exact if_neg (by omega)
theorem zcd_at : ∀ (cs : List Nat) (f : Nat → Int32) (c q : Nat) (hq : q < cs.length), zcd f c cs (c + q) = nI cs[q]
  | [], _, _, _, h => by cases h
  | x :: r, f, c, 0, h => by
    rw [zcd, zcd_lo r _ _ _ (by omega)]
    exact if_pos rfl
  | x :: r, f, c, q + 1, h => by
    rw [zcd, show c + (q + 1) = c + 1 + q by omega, zcd_at r _ _ q (by simpa using h)]
    rfl
theorem zuu (f : Nat → Int32) (k : Nat) (x y : Int32) : upd (upd f k x) k y = upd f k y := by
  funext j
  by_cases h : j = k
  · rw [h, zu_eq, zu_eq]
  · rw [zu_ne _ _ h, zu_ne _ _ h, zu_ne _ _ h]
/-- codes put behind c; what lies at depths below is as it was -/
def zAr (d : Nat) (A A' : Nat → Nat → Int32) (c : Nat) (cs : List Nat) : Prop := A' 22 = zcd (A 22) c cs ∧ (∀ k, k ≠ 22 → k ≠ 24 → k ≠ 25 → A' k = A k) ∧ (∀ q, q ≤ d → A' 24 q = A 24 q) ∧ ∀ q, q < d → A' 25 q = A 25 q
theorem zAr.rf (d : Nat) (A : Nat → Nat → Int32) (c : Nat) : zAr d A A c [] := ⟨rfl, fun _ _ _ _ => rfl, fun _ _ => rfl, fun _ _ => rfl⟩
theorem zAr.tr {d : Nat} {A A' A'' : Nat → Nat → Int32} {c : Nat} {cs ds : List Nat} (h1 : zAr d A A' c cs) (h2 : zAr d A' A'' (c + cs.length) ds) : zAr d A A'' c (cs ++ ds) :=
  ⟨by rw [zcd_app, ← h1.1]; exact h2.1, fun k a b e => (h2.2.1 k a b e).trans (h1.2.1 k a b e), fun q hq => (h2.2.2.1 q hq).trans (h1.2.2.1 q hq), fun q hq => (h2.2.2.2 q hq).trans (h1.2.2.2 q hq)⟩
theorem zAr.up {d : Nat} {A A' : Nat → Nat → Int32} {c : Nat} {cs : List Nat} (h1 : zAr (d + 1) A A' c cs) : zAr d A A' c cs := ⟨h1.1, h1.2.1, fun q hq => h1.2.2.1 q (by omega), fun q hq => h1.2.2.2 q (by omega)⟩
theorem zAr.put (d : Nat) (A : Nat → Nat → Int32) (c x : Nat) : zAr d A (zuA A 22 (upd (A 22) c (nI x))) c [x] := ⟨zuA_eq _ _ _, fun k a _ _ => zuA_ne _ _ a, fun q _ => by rw [zuA_ne _ _ (by decide)], fun q _ => by rw [zuA_ne _ _ (by decide)]⟩
theorem zAr.set {d : Nat} {A A' : Nat → Nat → Int32} {c : Nat} {cs : List Nat} (h1 : zAr d A A' c cs) {f : Nat → Int32} (hf : ∀ q, q < d → f q = A' 25 q) : zAr d A (zuA A' 25 f) c cs :=
  ⟨by rw [zuA_ne _ _ (by decide)]; exact h1.1, fun k a b e => by rw [zuA_ne _ _ e]; exact h1.2.1 k a b e, fun q hq => by rw [zuA_ne _ _ (by decide)]; exact h1.2.2.1 q hq, fun q hq => by rw [zuA_eq, hf q hq]; exact h1.2.2.2 q hq⟩
theorem zAr.tp {d : Nat} {A A' : Nat → Nat → Int32} {c : Nat} {cs : List Nat} {F : Nat → Int32} {t : Nat → Nat} {n : Nat} (h1 : zAr d A A' c cs) (hT : zTp F A t n) (x : Int32) : zTp (upd F 23 x) A' t n := zTp_A (zTp_u hT (by decide)) (h1.2.1 2 (by decide) (by decide) (by decide))
section
variable {N : Nat} {h : jH} {a : Nat} {L : Nat → Int64} {M : Nat → Nat → Int64} {t : Nat → Nat} {n : Nat}
/-- the reading goes on -/
abbrev zRR (N : Nat) (h : jH) (a : Nat) (L : Nat → Int64) (M : Nat → Nat → Int64) (t : Nat → Nat) (n : Nat) (m d : Nat) (w : Int32) (F : Nat → Int32) (A : Nat → Nat → Int32) (i : Nat) : Option (Int32 × jH) := (fX7_reads_11 N a m (nI d) w).1 (zQ h a t n F L A M i)
variable {F : Nat → Int32} {A : Nat → Nat → Int32}
theorem zRd_172 (hb : h.2.2.2.2 0 ≤ a) (hN : 3000 ≤ N) (hT : zTp F A t n) (m d i : Nat) (w : Int32) : (fX7_reads_172 N (fX7_reads_11 N a m) a (nI d) w).1 (zQ h a t n F L A M i) = zRR N h a L M t n m d w F A (i + 1) := zQ_next hb hN hT _
theorem zRd_424 (hb : h.2.2.2.2 0 ≤ a) (hN : 3000 ≤ N) (hT : zTp F A t n) (m d i : Nat) (w : Int32) : (fX7_reads_424 N (fX7_reads_11 N a m) a (nI d) w).1 (zQ h a t n F L A M i) = zRR N h a L M t n m d w F A (i + 1) := zQ_next hb hN hT _
theorem zm1 {d : Nat} (h : 0 < d) : nI d + (-1) = nI (d - 1) := by
  rw [← Int32.sub_eq_add_neg, zc1_sb h]
theorem zRd_152 (hb : h.2.2.2.2 0 ≤ a) (hN : 3000 ≤ N) (hT : zTp F A t n) (m i : Nat) (w : Int32) : ∀ d j, d < j → d < 7 → (fX7_reads_152 N (fX7_reads_11 N a m) a j (nI d) w).1 (zQ h a t n F L A M i) = zRR N h a L M t n m (zPopN (A 24) d) w F A (i + 1)
  | 0, j + 1, hj, hd => by
    rw [fX7_reads_152, zI, if_pos (by decide), zRd_172 hb hN hT]
    rfl
  | d + 1, j + 1, hj, hd => by
    have ih := zRd_152 hb hN hT m i w d j (by omega) (by omega)
    rw [fX7_reads_152, zPopN]
    simp (disch := omega) only [zI, zc0_ge, if_neg (show ¬ d + 1 ≤ 0 by omega), zr_g24, zr_a24, zm1]
    by_cases c : A 24 (d + 1) = 1
    · rw [if_pos c, if_pos c]; exact ih
    · rw [if_neg c, if_neg c]; exact zRd_172 hb hN hT m (d + 1) i w
theorem zRd_379 (hb : h.2.2.2.2 0 ≤ a) (hN : 3000 ≤ N) (hT : zTp F A t n) (m i : Nat) (w : Int32) : ∀ d j, d < j → d < 7 → (fX7_reads_379 N (fX7_reads_11 N a m) a j (nI d) w).1 (zQ h a t n F L A M i) = zRR N h a L M t n m (zPopN (A 24) d) w F A (i + 1)
  | 0, j + 1, hj, hd => by
    rw [fX7_reads_379, zI, if_pos (by decide), zRd_424 hb hN hT]
    rfl
  | d + 1, j + 1, hj, hd => by
    have ih := zRd_379 hb hN hT m i w d j (by omega) (by omega)
    rw [fX7_reads_379, zPopN]
    simp (disch := omega) only [zI, zc0_ge, if_neg (show ¬ d + 1 ≤ 0 by omega), zr_g24, zr_a24, zm1]
    by_cases c : A 24 (d + 1) = 1
    · rw [if_pos c, if_pos c]; exact ih
    · rw [if_neg c, if_neg c]; exact zRd_424 hb hN hT m (d + 1) i w
/-! one step -/
theorem zfa_lt {u : zTau} {i f : Nat} (h : zfa u i = some f) : f < 4 ∧ u.1 i = 1 := by
  unfold zfa zisw at h
  simp only [Bool.and_eq_true, decide_eq_true_eq] at h
  by_cases h1 : u.1 i = 1 ∧ u.2.1 i = 16922
  · rw [if_pos h1] at h; cases h; exact ⟨by decide, h1.1⟩
  · rw [if_neg h1] at h
    by_cases h2 : u.1 i = 1 ∧ u.2.1 i = 82528
    · rw [if_pos h2] at h; cases h; exact ⟨by decide, h2.1⟩
    · rw [if_neg h2] at h
      by_cases h3 : u.1 i = 1 ∧ u.2.1 i = 46472
      · rw [if_pos h3] at h; cases h; exact ⟨by decide, h3.1⟩
      · rw [if_neg h3] at h
        by_cases h4 : u.1 i = 1 ∧ u.2.1 i = 399749
        · rw [if_pos h4] at h; cases h; exact ⟨by decide, h4.1⟩
        · rw [if_neg h4] at h; cases h
theorem zfa_not {u : zTau} {i f : Nat} (h : zfa u i = some f) : zisw u i 10631 = false := by
  unfold zfa zisw at h
  simp only [Bool.and_eq_true, decide_eq_true_eq] at h
  unfold zisw
  by_cases h0 : u.1 i = 1 ∧ u.2.1 i = 10631
  · rw [if_neg (by omega), if_neg (by omega), if_neg (by omega), if_neg (by omega)] at h
    cases h
  · simpa using h0
theorem zk_not {u : zTau} {i w : Nat} (h : u.1 i ≠ 1) : zisw u i w = false := by
  unfold zisw
  rw [decide_eq_false h]; rfl
theorem zk_sgn {u : zTau} {i w : Nat} (h : u.1 i ≠ 3) : ziss u i w = false := by
  unfold ziss
  rw [decide_eq_false h]; rfl
theorem zk_w {u : zTau} {i w : Nat} (h : zisw u i w = true) : u.1 i = 1 ∧ u.2.1 i = w := by
  unfold zisw at h
  simpa using h
theorem zk_s {u : zTau} {i w : Nat} (h : ziss u i w = true) : u.1 i = 3 ∧ u.2.2.2.1 i = w := by
  unfold ziss at h
  simpa using h
theorem zRs_hd (hT : zTp F A t n) {m d i : Nat} : zRR N h a L M t n (m + 1) d 1 F A i = (if zfo (zOfT t n) i = 0 then (if zb (zisw (zOfT t n) i 10631) = 0 then (if zb (ziss (zOfT t n) i 40) = 0 then (if nI ((zOfT t n).1 i) = 2 then (fX7_reads_65 N (fX7_reads_11 N a m) a (nI d) 1 (zfo (zOfT t n) i) (zb (zisw (zOfT t n) i 10631)) (zb (ziss (zOfT t n) i 40))).1 (zQ h a t n F L A M i) else (fX7_reads_59 N a).1 (zQ h a t n F L A M i)) else (fX7_reads_65 N (fX7_reads_11 N a m) a (nI d) 1 (zfo (zOfT t n) i) (zb (zisw (zOfT t n) i 10631)) (zb (ziss (zOfT t n) i 40))).1 (zQ h a t n F L A M i)) else (fX7_reads_65 N (fX7_reads_11 N a m) a (nI d) 1 (zfo (zOfT t n) i) (zb (zisw (zOfT t n) i 10631)) (zb (ziss (zOfT t n) i 40))).1 (zQ h a t n F L A M i)) else (fX7_reads_65 N (fX7_reads_11 N a m) a (nI d) 1 (zfo (zOfT t n) i) (zb (zisw (zOfT t n) i 10631)) (zb (ziss (zOfT t n) i 40))).1 (zQ h a t n F L A M i)) := by
  show (fX7_reads_11 N a (m + 1) (nI d) 1).1 (zQ h a t n F L A M i) = _
  rw [fX7_reads_11, zI, if_neg (by decide), zQ_fact, zQ_isW (x := 10631) (w := 10631) rfl (by decide), zQ_isS hT (x := 40) (w := 40) rfl (by decide)]
  rw [zI]
  by_cases c1 : zfo (zOfT t n) i = 0
  · rw [if_pos c1, if_pos c1, zI]
    by_cases c2 : zb (zisw (zOfT t n) i 10631) = 0
    · rw [if_pos c2, if_pos c2, zI]
      by_cases c3 : zb (ziss (zOfT t n) i 40) = 0
      · rw [if_pos c3, if_pos c3, zr_g6, zQ_6, zI]
      · rw [if_neg c3, if_neg c3]
    · rw [if_neg c2, if_neg c2]
  · rw [if_neg c1, if_neg c1]
theorem zRs_fact (hb : h.2.2.2.2 0 ≤ a) (hN : 3000 ≤ N) (hT : zTp F A t n) {c m d i f : Nat} (hF : F 23 = nI c) (hc : c < 2000) (hd : d < 5) (hf : zfa (zOfT t n) i = some f) : zRR N h a L M t n (m + 1) d 1 F A i = zRR N h a L M t n m (zPopN (A 24) d) 0 (upd F 23 (nI (c + 1))) (zuA A 22 (upd (A 22) c (nI (f + 1)))) (i + 1) := by
  obtain ⟨hf4, hk1⟩ := zfa_lt hf
  have e : zfo (zOfT t n) i = nI (f + 1) := by unfold zfo; rw [hf]
  rw [zRs_hd hT, if_neg (by rw [e, zc0_eq (by omega)]; omega), e, zfa_not hf, zk_sgn (by omega)]
  unfold fX7_reads_65 fX7_reads_147
  simp (disch := omega) only [zI, zc5_eq, if_neg (show ¬ d = 5 by omega), zb_f, if_true, zc0_ge, if_neg (show ¬ f + 1 ≤ 0 by omega), zQ_puts hb hF hc]
  rw [zRd_152 hb hN (zTp_A (zTp_u hT (by decide)) (zuA_ne _ _ (by decide))) m i 0 d N (by omega) (by omega), zuA_ne _ _ (show 24 ≠ 22 by decide)]
theorem zRs_num (hb : h.2.2.2.2 0 ≤ a) (hN : 3000 ≤ N) (hT : zTp F A t n) {c m d i : Nat} (hF : F 23 = nI c) (hc : c < 2000) (hd : d < 5) (hk : (zOfT t n).1 i = 2) : zRR N h a L M t n (m + 1) d 1 F A i = zRR N h a L M t n m (zPopN (A 24) d) 0 (upd F 23 (nI (c + 1))) (zuA A 22 (upd (A 22) c (nI (100 + (zOfT t n).2.2.1 i)))) (i + 1) := by
  have e : zfo (zOfT t n) i = 0 := by
    unfold zfo
    cases hf : zfa (zOfT t n) i with
    | none => rfl
    | some f => have := (zfa_lt hf).2; omega
  rw [zRs_hd hT, if_pos e, e, zk_not (by omega), zk_sgn (by omega), if_pos zb_f, if_pos zb_f, if_pos (by rw [hk]; rfl)]
  unfold fX7_reads_65 fX7_reads_147
  simp (disch := omega) only [zI, zc5_eq, if_neg (show ¬ d = 5 by omega), zb_f, if_true, if_pos (show (0 : Int32) ≤ 0 by decide), zr_g8, zQ_8, show (100 : Int32) = nI 100 from rfl, nI_add, zQ_puts hb hF hc]
  rw [zRd_152 hb hN (zTp_A (zTp_u hT (by decide)) (zuA_ne _ _ (by decide))) m i 0 d N (by omega) (by omega), zuA_ne _ _ (show 24 ≠ 22 by decide)]
theorem zsZ {α : Type} {kd : Nat} {r : Option Nat} {i x : Int32} (hx : x = 0 ∨ x = 1) (K : Unit → jM α) : jB (jsZ kd r i x) K = jB (jsI kd r i x) K := by
  unfold jsZ
  rw [if_pos hx]
theorem zRs_opn (hb : h.2.2.2.2 0 ≤ a) (hN : 3000 ≤ N) (hT : zTp F A t n) {c m d i : Nat} (hF : F 23 = nI c) (hc : c < 2000) (hd : d < 5) (b : Bool) (h0 : zfa (zOfT t n) i = none) (h1 : zisw (zOfT t n) i 10631 = b) (h2 : b = false → ziss (zOfT t n) i 40 = true) : zRR N h a L M t n (m + 1) d 1 F A i = zRR N h a L M t n m (d + 1) 1 (upd F 23 (nI (c + 1))) (zuA (zuA (zuA A 22 (upd (A 22) c (nI (if b = true then 30 else 28)))) 24 (upd (A 24) (d + 1) (if b = true then 1 else 2))) 25 (upd (A 25) (d + 1) 0)) (i + 1) := by
  have e : zfo (zOfT t n) i = 0 := by unfold zfo; rw [h0]
  have hs : (fX7_reads_65 N (fX7_reads_11 N a m) a (nI d) 1 0 (zb b) (zb (ziss (zOfT t n) i 40))).1 (zQ h a t n F L A M i) = zRR N h a L M t n m (d + 1) 1 (upd F 23 (nI (c + 1))) (zuA (zuA (zuA A 22 (upd (A 22) c (nI (if b = true then 30 else 28)))) 24 (upd (A 24) (d + 1) (if b = true then 1 else 2))) 25 (upd (A 25) (d + 1) 0)) (i + 1) := by
    have hT' : zTp (upd F 23 (nI (c + 1))) (zuA (zuA (zuA A 22 (upd (A 22) c (nI (if b = true then 30 else 28)))) 24 (upd (A 24) (d + 1) (if b = true then 1 else 2))) 25 (upd (A 25) (d + 1) 0)) t n := zTp_A (zTp_u hT (by decide)) (by rw [zuA_ne _ _ (by decide), zuA_ne _ _ (by decide), zuA_ne _ _ (by decide)])
    rw [← zRd_172 hb hN hT' m (d + 1) i 1]
    cases b with
    | true =>
      unfold fX7_reads_65 fX7_reads_86 fX7_reads_99 fX7_reads_120
      simp (disch := omega) only [zI, zc5_eq, if_neg (show ¬ d = 5 by omega), if_neg zb1n, show (30 : Int32) = nI 30 from rfl, zQ_puts hb hF hc, zr_g24, zr_g25, zc1_da, zr_s24 hb, zsZ (Or.inl rfl), zr_s25 hb]
      rfl
    | false =>
      rw [h2 rfl]
      unfold fX7_reads_65 fX7_reads_86 fX7_reads_99 fX7_reads_120
      simp (disch := omega) only [zI, zc5_eq, if_neg (show ¬ d = 5 by omega), if_neg zb1n, zb_f, if_true, show (28 : Int32) = nI 28 from rfl, zQ_puts hb hF hc, zr_g24, zr_g25, zc1_da, zr_s24 hb, zsZ (Or.inl rfl), zr_s25 hb]
      rfl
  rw [zRs_hd hT, if_pos e, e, h1, ← hs]
  cases b with
  | true => rw [if_neg zb1n]
  | false => rw [if_pos zb_f, h2 rfl, if_neg zb1n]
end
