/-! PURE 29: the reference reads an expression, by levels -/
set_option maxRecDepth 100000
theorem ziss_ne {u : zTau} {i x y : Nat} (h : ziss u i x = true) (hxy : x ≠ y) : ziss u i y = false := by
  have := zk_s h
  unfold ziss
  rw [decide_eq_true this.1, decide_eq_false (by omega)]; rfl
theorem ziss_w {u : zTau} {i x y : Nat} (h : ziss u i x = true) : zisw u i y = false := by
  have := zk_s h
  exact zk_not (by omega)
theorem zisw_s {u : zTau} {i x y : Nat} (h : zisw u i x = true) : ziss u i y = false := by
  have := zk_w h
  exact zk_sgn (by omega)
theorem zisw_ne {u : zTau} {i x y : Nat} (h : zisw u i x = true) (hxy : x ≠ y) : zisw u i y = false := by
  have := zk_w h
  unfold zisw
  rw [decide_eq_true this.1, decide_eq_false (by omega)]; rfl
section
variable {N : Nat} {h : jH} {a : Nat} {L : Nat → Int64} {M : Nat → Nat → Int64} {t : Nat → Nat} {n : Nat} {F : Nat → Int32} {A : Nat → Nat → Int32}
/-- a token where none is wanted -/
theorem zRw_hd (hT : zTp F A t n) {m d i : Nat} : zRR N h a L M t n (m + 1) d 0 F A i = (if ziss (zOfT t n) i 43 = false then (if ziss (zOfT t n) i 45 = false then (if ziss (zOfT t n) i 42 = false then (if ziss (zOfT t n) i 60 = false then (if ziss (zOfT t n) i 61 = false then (fX7_reads_304 N (fX7_reads_11 N a m) a (nI d) 0).1 (zQ h a t n F L A M i) else (fX7_reads_263 N (fX7_reads_11 N a m) a (nI d) 0).1 (zQ h a t n F L A M i)) else (fX7_reads_263 N (fX7_reads_11 N a m) a (nI d) 0).1 (zQ h a t n F L A M i)) else (fX7_reads_206 N (fX7_reads_11 N a m) a (nI d)).1 (zQ h a t n F L A M i)) else (fX7_reads_206 N (fX7_reads_11 N a m) a (nI d)).1 (zQ h a t n F L A M i)) else (fX7_reads_206 N (fX7_reads_11 N a m) a (nI d)).1 (zQ h a t n F L A M i)) := by
  show (fX7_reads_11 N a (m + 1) (nI d) 0).1 (zQ h a t n F L A M i) = _
  rw [fX7_reads_11, zI, if_pos rfl, zQ_isS hT (x := 43) (w := 43) rfl (by decide), zI]
  simp only [zb_0]
  by_cases c1 : ziss (zOfT t n) i 43 = false
  · rw [if_pos c1, if_pos c1, zQ_isS hT (x := 45) (w := 45) rfl (by decide), zI]
    simp only [zb_0]
    by_cases c2 : ziss (zOfT t n) i 45 = false
    · rw [if_pos c2, if_pos c2, zQ_isS hT (x := 42) (w := 42) rfl (by decide), zI]
      simp only [zb_0]
      by_cases c3 : ziss (zOfT t n) i 42 = false
      · rw [if_pos c3, if_pos c3, zQ_isS hT (x := 60) (w := 60) rfl (by decide), zI]
        simp only [zb_0]
        by_cases c4 : ziss (zOfT t n) i 60 = false
        · rw [if_pos c4, if_pos c4, zQ_isS hT (x := 61) (w := 61) rfl (by decide), zI]
          simp only [zb_0]
        · rw [if_neg c4, if_neg c4]
      · rw [if_neg c3, if_neg c3]
    · rw [if_neg c2, if_neg c2]
  · rw [if_neg c1, if_neg c1]
theorem zRw_206 (hb : h.2.2.2.2 0 ≤ a) (hN : 3000 ≤ N) (hT : zTp F A t n) {c m d i x : Nat} (hF : F 23 = nI c) (hc : c < 2000) (hx : x = if ziss (zOfT t n) i 43 = true then 20 else if ziss (zOfT t n) i 45 = true then 21 else 22) : (fX7_reads_206 N (fX7_reads_11 N a m) a (nI d)).1 (zQ h a t n F L A M i) = zRR N h a L M t n m d 1 (upd F 23 (nI (c + 1))) (zuA A 22 (upd (A 22) c (nI x))) (i + 1) := by
  have e : ∀ y : Nat, (fX7_reads_237 N (fX7_reads_11 N a m) a (nI d) (nI y)).1 (zQ h a t n F L A M i) = zRR N h a L M t n m d 1 (upd F 23 (nI (c + 1))) (zuA A 22 (upd (A 22) c (nI y))) (i + 1) := by
    intro y
    unfold fX7_reads_237
    rw [zQ_puts hb hF hc]
    exact zRd_424 hb hN (zTp_A (zTp_u hT (by decide)) (zuA_ne _ _ (by decide))) m d i 1
  unfold fX7_reads_206
  rw [zQ_isS hT (x := 43) (w := 43) rfl (by decide), zI, hx]
  simp only [zb_0]
  cases h1 : ziss (zOfT t n) i 43 with
  | true => rw [if_neg (by decide), if_pos rfl]; exact e 20
  | false =>
    rw [if_pos rfl, if_neg zff, zQ_isS hT (x := 45) (w := 45) rfl (by decide), zI]
    simp only [zb_0]
    cases h2 : ziss (zOfT t n) i 45 with
    | true => rw [if_neg (by decide), if_pos rfl]; exact e 21
    | false => rw [if_pos rfl, if_neg zff]; exact e 22
theorem ztf : ¬ (true = false) := by decide
theorem zRw_T (hb : h.2.2.2.2 0 ≤ a) (hN : 3000 ≤ N) (hT : zTp F A t n) {c m d i : Nat} {g : zOp2} (hF : F 23 = nI c) (hc : c < 2000) (hg : zoT (zOfT t n) i = some g) : zRR N h a L M t n (m + 1) d 0 F A i = zRR N h a L M t n m d 1 (upd F 23 (nI (c + 1))) (zuA A 22 (upd (A 22) c (nI g.1))) (i + 1) := by
  unfold zoT at hg
  by_cases h1 : ziss (zOfT t n) i 42 = true
  · rw [if_pos h1] at hg
    cases hg
    rw [zRw_hd hT, ziss_ne h1 (show 42 ≠ 43 by decide), ziss_ne h1 (show 42 ≠ 45 by decide), h1, if_pos rfl, if_pos rfl, if_neg ztf]
    exact zRw_206 hb hN hT hF hc (by rw [ziss_ne h1 (show 42 ≠ 43 by decide), ziss_ne h1 (show 42 ≠ 45 by decide), if_neg zff, if_neg zff])
  · rw [if_neg h1] at hg; cases hg
theorem zRw_S (hb : h.2.2.2.2 0 ≤ a) (hN : 3000 ≤ N) (hT : zTp F A t n) {c m d i : Nat} {g : zOp2} (hF : F 23 = nI c) (hc : c < 2000) (hg : zoS (zOfT t n) i = some g) : zRR N h a L M t n (m + 1) d 0 F A i = zRR N h a L M t n m d 1 (upd F 23 (nI (c + 1))) (zuA A 22 (upd (A 22) c (nI g.1))) (i + 1) := by
  unfold zoS at hg
  by_cases h1 : ziss (zOfT t n) i 43 = true
  · rw [if_pos h1] at hg
    cases hg
    rw [zRw_hd hT, h1, if_neg ztf]
    exact zRw_206 hb hN hT hF hc (by rw [h1, if_pos rfl])
  · rw [if_neg h1] at hg
    have h1 : ziss (zOfT t n) i 43 = false := by simpa using h1
    by_cases h2 : ziss (zOfT t n) i 45 = true
    · rw [if_pos h2] at hg
      cases hg
      rw [zRw_hd hT, h1, h2, if_pos rfl, if_neg ztf]
      exact zRw_206 hb hN hT hF hc (by rw [h1, h2, if_neg zff, if_pos rfl])
    · rw [if_neg h2] at hg; cases hg
theorem zRw_C (hb : h.2.2.2.2 0 ≤ a) (hN : 3000 ≤ N) (hT : zTp F A t n) {c m d i : Nat} {g : zOp2} (hF : F 23 = nI c) (hc : c < 2000) (hd : d < 7) (h0 : A 25 d = 0) (hg : zoC (zOfT t n) i = some g) : zRR N h a L M t n (m + 1) d 0 F A i = zRR N h a L M t n m d 1 (upd F 23 (nI (c + 1))) (zuA (zuA A 22 (upd (A 22) c (nI g.1))) 25 (upd (A 25) d 1)) (i + 1) := by
  have e : ∀ y : Nat, (fX7_reads_289 N (fX7_reads_11 N a m) a (nI d) (nI y)).1 (zQ h a t n F L A M i) = zRR N h a L M t n m d 1 (upd F 23 (nI (c + 1))) (zuA (zuA A 22 (upd (A 22) c (nI y))) 25 (upd (A 25) d 1)) (i + 1) := by
    intro y
    unfold fX7_reads_289
    rw [zQ_puts hb hF hc, zr_g25, zsZ (Or.inr rfl), zr_s25 hb hd, zuA_ne _ _ (show 25 ≠ 22 by decide)]
    exact zRd_424 hb hN (zTp_A (zTp_u hT (by decide)) (by rw [zuA_ne _ _ (by decide), zuA_ne _ _ (by decide)])) m d i 1
  have e2 : (fX7_reads_263 N (fX7_reads_11 N a m) a (nI d) 0).1 (zQ h a t n F L A M i) = zRR N h a L M t n m d 1 (upd F 23 (nI (c + 1))) (zuA (zuA A 22 (upd (A 22) c (nI (if ziss (zOfT t n) i 60 = true then 24 else 25)))) 25 (upd (A 25) d 1)) (i + 1) := by
    unfold fX7_reads_263
    rw [zr_g25, zr_a25 hd, zI, if_pos h0, zQ_isS hT (x := 60) (w := 60) rfl (by decide), zI]
    simp only [zb_0]
    cases h1 : ziss (zOfT t n) i 60 with
    | true => rw [if_neg (by decide), if_pos rfl]; exact e 24
    | false => rw [if_pos rfl, if_neg zff]; exact e 25
  unfold zoC at hg
  by_cases h1 : ziss (zOfT t n) i 60 = true
  · rw [if_pos h1] at hg
    cases hg
    rw [h1, if_pos rfl] at e2
    rw [zRw_hd hT, ziss_ne h1 (show 60 ≠ 43 by decide), ziss_ne h1 (show 60 ≠ 45 by decide), ziss_ne h1 (show 60 ≠ 42 by decide), h1, if_pos rfl, if_pos rfl, if_pos rfl, if_neg ztf, e2]
  · rw [if_neg h1] at hg
    have h1 : ziss (zOfT t n) i 60 = false := by simpa using h1
    by_cases h2 : ziss (zOfT t n) i 61 = true
    · rw [if_pos h2] at hg
      cases hg
      rw [h1, if_neg zff] at e2
      rw [zRw_hd hT, ziss_ne h2 (show 61 ≠ 43 by decide), ziss_ne h2 (show 61 ≠ 45 by decide), ziss_ne h2 (show 61 ≠ 42 by decide), h1, h2, if_pos rfl, if_pos rfl, if_pos rfl, if_pos rfl, if_neg ztf, e2]
    · rw [if_neg h2] at hg; cases hg
theorem zRw_A (hb : h.2.2.2.2 0 ≤ a) (hN : 3000 ≤ N) (hT : zTp F A t n) {c m d i : Nat} {g : zOp2} (hF : F 23 = nI c) (hc : c < 2000) (hd : d < 7) (hg : zoA (zOfT t n) i = some g) : zRR N h a L M t n (m + 1) d 0 F A i = zRR N h a L M t n m d 1 (upd F 23 (nI (c + 1))) (zuA (zuA A 22 (upd (A 22) c (nI g.1))) 25 (upd (A 25) d 0)) (i + 1) := by
  have e : ∀ y : Nat, (fX7_reads_342 N (fX7_reads_11 N a m) a (nI d) (nI y)).1 (zQ h a t n F L A M i) = zRR N h a L M t n m d 1 (upd F 23 (nI (c + 1))) (zuA (zuA A 22 (upd (A 22) c (nI y))) 25 (upd (A 25) d 0)) (i + 1) := by
    intro y
    unfold fX7_reads_342
    rw [zQ_puts hb hF hc, zr_g25, zsZ (Or.inl rfl), zr_s25 hb hd, zuA_ne _ _ (show 25 ≠ 22 by decide)]
    exact zRd_424 hb hN (zTp_A (zTp_u hT (by decide)) (by rw [zuA_ne _ _ (by decide), zuA_ne _ _ (by decide)])) m d i 1
  have e2 : (fX7_reads_324 N (fX7_reads_11 N a m) a (nI d)).1 (zQ h a t n F L A M i) = zRR N h a L M t n m d 1 (upd F 23 (nI (c + 1))) (zuA (zuA A 22 (upd (A 22) c (nI (if zisw (zOfT t n) i 1111 = true then 26 else 27)))) 25 (upd (A 25) d 0)) (i + 1) := by
    unfold fX7_reads_324
    rw [zQ_isW (x := 1111) (w := 1111) rfl (by decide), zI]
    simp only [zb_0]
    cases h1 : zisw (zOfT t n) i 1111 with
    | true => rw [if_neg (by decide), if_pos rfl]; exact e 26
    | false => rw [if_pos rfl, if_neg zff]; exact e 27
  have e3 : ∀ {w : Nat}, zisw (zOfT t n) i w = true → zRR N h a L M t n (m + 1) d 0 F A i = (fX7_reads_304 N (fX7_reads_11 N a m) a (nI d) 0).1 (zQ h a t n F L A M i) := by
    intro w hw
    rw [zRw_hd hT, zisw_s hw, zisw_s hw, zisw_s hw, zisw_s hw, zisw_s hw, if_pos rfl, if_pos rfl, if_pos rfl, if_pos rfl, if_pos rfl]
  unfold zoA at hg
  by_cases h1 : zisw (zOfT t n) i 1111 = true
  · rw [if_pos h1] at hg
    cases hg
    rw [h1, if_pos rfl] at e2
    rw [e3 h1]
    unfold fX7_reads_304
    rw [zQ_isW (x := 1111) (w := 1111) rfl (by decide), zI, h1, if_neg zb1n, e2]
  · rw [if_neg h1] at hg
    have h1 : zisw (zOfT t n) i 1111 = false := by simpa using h1
    by_cases h2 : zisw (zOfT t n) i 423 = true
    · rw [if_pos h2] at hg
      cases hg
      rw [h1, if_neg zff] at e2
      rw [e3 h2]
      unfold fX7_reads_304
      rw [zQ_isW (x := 1111) (w := 1111) rfl (by decide), zI, h1, if_pos zb_f, zQ_isW (x := 423) (w := 423) rfl (by decide), zI, h2, if_neg zb1n, e2]
    · rw [if_neg h2] at hg; cases hg
/-- behind an expression -/
theorem zRw_304 (hT : zTp F A t n) {m d i : Nat} (hd : d < 7) (hS : zoS (zOfT t n) i = none) (hTt : zoT (zOfT t n) i = none) (hA : zoA (zOfT t n) i = none) (hC : zoC (zOfT t n) i = none ∨ A 25 d ≠ 0) : zRR N h a L M t n (m + 1) d 0 F A i = (if ziss (zOfT t n) i 41 = false then (fX7_reads_399 N a (nI d)).1 (zQ h a t n F L A M i) else if d = 0 then (fX7_reads_399 N a (nI d)).1 (zQ h a t n F L A M i) else (jB (fX7_puts a 29) fun _ => fX7_reads_379 N (fX7_reads_11 N a m) a N (nI d + (-1)) 0).1 (zQ h a t n F L A M i)) := by
  have hS1 : ziss (zOfT t n) i 43 = false := by
    unfold zoS at hS
    by_cases c : ziss (zOfT t n) i 43 = true
    · rw [if_pos c] at hS; cases hS
    · simpa using c
  have hS2 : ziss (zOfT t n) i 45 = false := by
    unfold zoS at hS
    rw [hS1, if_neg zff] at hS
    by_cases c : ziss (zOfT t n) i 45 = true
    · rw [if_pos c] at hS; cases hS
    · simpa using c
  have hT1 : ziss (zOfT t n) i 42 = false := by
    unfold zoT at hTt
    by_cases c : ziss (zOfT t n) i 42 = true
    · rw [if_pos c] at hTt; cases hTt
    · simpa using c
  have hA1 : zisw (zOfT t n) i 1111 = false := by
    unfold zoA at hA
    by_cases c : zisw (zOfT t n) i 1111 = true
    · rw [if_pos c] at hA; cases hA
    · simpa using c
  have hA2 : zisw (zOfT t n) i 423 = false := by
    unfold zoA at hA
    rw [hA1, if_neg zff] at hA
    by_cases c : zisw (zOfT t n) i 423 = true
    · rw [if_pos c] at hA; cases hA
    · simpa using c
  have e : (fX7_reads_304 N (fX7_reads_11 N a m) a (nI d) 0).1 (zQ h a t n F L A M i) = (if ziss (zOfT t n) i 41 = false then (fX7_reads_399 N a (nI d)).1 (zQ h a t n F L A M i) else if d = 0 then (fX7_reads_399 N a (nI d)).1 (zQ h a t n F L A M i) else (jB (fX7_puts a 29) fun _ => fX7_reads_379 N (fX7_reads_11 N a m) a N (nI d + (-1)) 0).1 (zQ h a t n F L A M i)) := by
    unfold fX7_reads_304
    rw [zQ_isW (x := 1111) (w := 1111) rfl (by decide), zI, hA1, if_pos zb_f, zQ_isW (x := 423) (w := 423) rfl (by decide), zI, hA2, if_pos zb_f, zQ_isS hT (x := 41) (w := 41) rfl (by decide), zI]
    simp only [zb_0]
    by_cases c : ziss (zOfT t n) i 41 = false
    · rw [if_pos c, if_pos c]
    · rw [if_neg c, if_neg c, zI]
      by_cases c2 : d = 0
      · rw [if_pos c2, if_pos (by rw [c2]; decide)]
      · rw [if_neg c2, if_neg (by rw [zc0_ge (by omega)]; omega)]
  have e2 : A 25 d ≠ 0 → (fX7_reads_263 N (fX7_reads_11 N a m) a (nI d) 0).1 (zQ h a t n F L A M i) = (fX7_reads_304 N (fX7_reads_11 N a m) a (nI d) 0).1 (zQ h a t n F L A M i) := by
    intro h0
    unfold fX7_reads_263
    rw [zr_g25, zr_a25 hd, zI, if_neg h0]
  rw [zRw_hd hT, hS1, hS2, hT1, if_pos rfl, if_pos rfl, if_pos rfl, ← e]
  unfold zoC at hC
  cases c1 : ziss (zOfT t n) i 60 with
  | true =>
    rw [if_neg ztf]
    rcases hC with hC | hC
    · rw [if_pos c1] at hC; cases hC
    · exact e2 hC
  | false =>
    rw [if_pos rfl]
    cases c2 : ziss (zOfT t n) i 61 with
    | true =>
      rw [if_neg ztf]
      rcases hC with hC | hC
      · rw [c1, if_neg zff, if_pos c2] at hC; cases hC
      · exact e2 hC
    | false => rw [if_pos rfl]
end
