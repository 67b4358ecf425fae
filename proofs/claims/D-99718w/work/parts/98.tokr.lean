/-! PURE 25: the reference reads a token -/
set_option maxRecDepth 100000
def zF4 (F : Nat → Int32) (p b k o : Int32) : Nat → Int32 := fun j => if j = 4 then p else if j = 5 then b else if j = 6 then k else if j = 8 then o else F j
section
variable (F : Nat → Int32) (p b k o x : Int32)
theorem zF4_u4 : upd (zF4 F p b k o) 4 x = zF4 F x b k o := by
  funext j; unfold upd zF4
  by_cases h : j = 4
  · rw [if_pos h, if_pos h]
  · rw [if_neg h, if_neg h, if_neg h]
theorem zF4_u5 : upd (zF4 F p b k o) 5 x = zF4 F p x k o := by
  funext j; unfold upd zF4
  by_cases h : j = 5
  · rw [if_pos h, if_pos h, if_neg (by omega)]
  · rw [if_neg h, if_neg h, if_neg h]
theorem zF4_u6 : upd (zF4 F p b k o) 6 x = zF4 F p b x o := by
  funext j; unfold upd zF4
  by_cases h : j = 6
  · rw [if_pos h, if_pos h, if_neg (by omega), if_neg (by omega)]
  · rw [if_neg h, if_neg h, if_neg h]
theorem zF4_u8 : upd (zF4 F p b k o) 8 x = zF4 F p b k x := by
  funext j; unfold upd zF4
  by_cases h : j = 8
  · rw [if_pos h, if_pos h, if_neg (by omega), if_neg (by omega), if_neg (by omega)]
  · rw [if_neg h, if_neg h, if_neg h]
theorem zF4_uo {i : Nat} (h4 : i ≠ 4) (h5 : i ≠ 5) (h6 : i ≠ 6) (h8 : i ≠ 8) : upd (zF4 F p b k o) i x = zF4 (upd F i x) p b k o := by
  funext j; unfold upd zF4
  by_cases h : j = i
  · dsimp only
    rw [if_pos h, if_neg (by omega), if_neg (by omega), if_neg (by omega), if_neg (by omega), if_pos h]
  · dsimp only
    rw [if_neg h, if_neg h]
theorem zF4_4 : zF4 F p b k o 4 = p := rfl
theorem zF4_5 : zF4 F p b k o 5 = b := rfl
theorem zF4_6 : zF4 F p b k o 6 = k := rfl
theorem zF4_8 : zF4 F p b k o 8 = o := rfl
theorem zF4_o {i : Nat} (h4 : i ≠ 4) (h5 : i ≠ 5) (h6 : i ≠ 6) (h8 : i ≠ 8) : zF4 F p b k o i = F i := by
  unfold zF4
  rw [if_neg h4, if_neg h5, if_neg h6, if_neg h8]
theorem zF4_F : zF4 F (F 4) (F 5) (F 6) (F 8) = F := by
  funext j; unfold zF4
  by_cases h4 : j = 4
  · rw [if_pos h4, h4]
  · rw [if_neg h4]
    by_cases h5 : j = 5
    · rw [if_pos h5, h5]
    · rw [if_neg h5]
      by_cases h6 : j = 6
      · rw [if_pos h6, h6]
      · rw [if_neg h6]
        by_cases h8 : j = 8
        · rw [if_pos h8, h8]
        · rw [if_neg h8]
end
theorem zuL_L (L : Nat → Int64) (i : Nat) (x y : Int64) : vp_updL (vp_updL L i x) i y = vp_updL L i y := by
  funext j
  by_cases h : j = i
  · rw [h, pk_uLs, pk_uLs]
  · rw [pk_uLn h, pk_uLn h, pk_uLn h]
/-- the token that begins at b, at hand -/
def zKs (F : Nat → Int32) (t : Nat → Nat) (n b : Nat) : Nat → Int32 := zF4 F (nI (zTe t n b)) (nI b) (nI (zTki t n b)) (nI (zTo t n b))
def zKl (L : Nat → Int64) (t : Nat → Nat) (n b : Nat) : Nat → Int64 := vp_updL L 7 (nL (zTw t n b))
def zTp (F : Nat → Int32) (A : Nat → Nat → Int32) (t : Nat → Nat) (n : Nat) : Prop := F 3 = nI n ∧ n ≤ 1000 ∧ ∀ k, k < n → A 2 k = nI (t k) ∧ t k < 128
section
variable {N : Nat} {h : jH} {a : Nat} {F : Nat → Int32} {L : Nat → Int64} {A : Nat → Nat → Int32} {M : Nat → Nat → Int64} {t : Nat → Nat} {n : Nat}
theorem zR_signAt (hT : zTp F A t n) (p b k o : Int32) {q : Nat} (hq : q ≤ n) {α : Type} (K : Int32 → jM α) : (jB (fX7_signAt a (nI q)) K).1 (rH h a (zF4 F p b k o, L, A, M)) = (K (nI (if q < n then t q else 0))).1 (rH h a (zF4 F p b k o, L, A, M)) := by
  obtain ⟨h3, hn, ht⟩ := hT
  unfold fX7_signAt
  by_cases hc : q < n
  · rw [if_pos hc]
    simp (disch := omega) only [zA, zr_g3, zF4_o, h3, zIB, nI_leI, if_neg (show ¬ n ≤ q by omega), zr_g2, zr_a2, (ht q hc).1]
    rfl
  · rw [if_neg hc]
    simp (disch := omega) only [zA, zr_g3, zF4_o, h3, zIB, nI_leI, if_pos (show n ≤ q by omega)]
    rfl
theorem zR_nx_l (hb : h.2.2.2.2 0 ≤ a) (hT : zTp F A t n) (b k o : Int32) : ∀ (j q m : Nat), q + j = n → j < m → (fX7_nextToken_l N a m).1 (rH h a (zF4 F (nI q) b k o, L, A, M)) = (fX7_nextToken_52 N a).1 (rH h a (zF4 F (nI (zRn (fun i => zisW (t i)) j q)) b k o, L, A, M))
  | 0, q, m + 1, hq, hm => by
    obtain ⟨h3, hn, ht⟩ := hT
    rw [fX7_nextToken_l]
    simp (disch := omega) only [zr_g4, zF4_4, zr_g3, zF4_o, h3, zI, nI_leI, if_pos (show n ≤ q by omega)]
    rfl
  | j + 1, q, m + 1, hq, hm => by
    have ih := zR_nx_l hb hT b k o j (q + 1) m (by omega) (by omega)
    obtain ⟨h3, hn, ht⟩ := hT
    obtain ⟨e1, e2⟩ := ht q (by omega)
    rw [fX7_nextToken_l]
    unfold fX7_nextToken_39
    simp (disch := omega) only [zr_g4, zF4_4, zr_g3, zF4_o, h3, zI, nI_leI, if_neg (show ¬ n ≤ q by omega), zr_g2, zr_a2, e1, show (32 : Int32) = nI 32 from rfl, show (10 : Int32) = nI 10 from rfl, nI_eq]
    rw [zRn]
    unfold zisW
    by_cases c1 : t q = 32
    · rw [if_pos c1, if_pos (by simp [c1]), zr_p4 hb, zF4_u4, zc1_da]
      exact ih
    · rw [if_neg c1]
      by_cases c2 : t q = 10
      · rw [if_pos c2, if_pos (by simp [c2]), zr_p4 hb, zF4_u4, zc1_da]
        exact ih
      · rw [if_neg c2, if_neg (by simp [c1, c2])]
theorem zR_nx_w (hb : h.2.2.2.2 0 ≤ a) (hT : zTp F A t n) {b : Nat} (k o : Int32) : ∀ (j q m : Nat), q + j = n → j < m → b ≤ q → (fX7_nextToken_109 N a m).1 (rH h a (zF4 F (nI q) (nI b) k o, vp_updL L 7 (nL (zVl 27 96 t b (min 8 (q - b)))), A, M)) = (fX7_nextToken_188 N a).1 (rH h a (zF4 F (nI (zRn (fun i => zisL (t i)) j q)) (nI b) k o, vp_updL L 7 (nL (zVl 27 96 t b (min 8 (zRn (fun i => zisL (t i)) j q - b)))), A, M))
  | 0, q, m + 1, hq, hm, hbq => by
    have hn := hT.2.1
    rw [fX7_nextToken_109]
    simp (disch := omega) only [zr_g4, zF4_4, zR_signAt hT, zI, if_neg (show ¬ q < n by omega), show (97 : Int32) = nI 97 from rfl, nI_ltI, if_pos (show 0 < 97 by omega)]
    rfl
  | j + 1, q, m + 1, hq, hm, hbq => by
    have ih := zR_nx_w hb hT (b := b) k o j (q + 1) m (by omega) (by omega) (by omega)
    have hn := hT.2.1
    obtain ⟨e1, e2⟩ := hT.2.2 q (by omega)
    rw [fX7_nextToken_109]
    unfold fX7_nextToken_175
    simp (disch := omega) only [zr_g4, zr_g5, zF4_4, zF4_5, zR_signAt hT, zI, if_pos (show q < n by omega), show (97 : Int32) = nI 97 from rfl, show (122 : Int32) = nI 122 from rfl, show (8 : Int32) = nI 8 from rfl, nI_ltI, nI_leI, pk_sub]
    rw [zRn]
    by_cases c1 : t q < 97
    · rw [if_pos c1, if_neg (show ¬ zisL (t q) = true by unfold zisL; simp; omega)]
    · rw [if_neg c1]
      by_cases c2 : 122 < t q
      · rw [if_pos c2, if_neg (show ¬ zisL (t q) = true by unfold zisL; simp; omega)]
      · rw [if_neg c2, if_pos (show zisL (t q) = true by unfold zisL; simp; omega)]
        by_cases c3 : 8 ≤ q - b
        · rw [if_pos c3, zr_p4 hb, zF4_u4, zc1_da]
          rw [show min 8 (q - b) = min 8 (q + 1 - b) by omega]
          exact ih
        · rw [if_neg c3]
          simp (disch := omega) only [zr_g7, zr_g4, zF4_4, zR_signAt hT, if_pos (show q < n by omega), zr_p7 hb, zr_p4 hb, zF4_u4, zc1_da, pk_uLs, zuL_L]
          refine Eq.trans ?_ ih
          rw [show min 8 (q - b) = q - b by omega, show min 8 (q + 1 - b) = q - b + 1 by omega, zVl, nL_i2l (by omega), show (27 : Int64) = nL 27 from rfl, show (96 : Int64) = nL 96 from rfl, nL_mul, nL_add, nL_sub (by omega), show b + (q - b) = q by omega, Nat.mul_comm 27]
theorem zR_nx_d (hb : h.2.2.2.2 0 ≤ a) (hT : zTp F A t n) {b : Nat} (k : Int32) : ∀ (j q m : Nat), q + j = n → j < m → b ≤ q → (fX7_nextToken_224 N a m).1 (rH h a (zF4 F (nI q) (nI b) k (nI (zVl 10 48 t b (min 4 (q - b)))), L, A, M)) = (fX7_nextToken_299 N a).1 (rH h a (zF4 F (nI (zRn (fun i => zisD (t i)) j q)) (nI b) k (nI (zVl 10 48 t b (min 4 (zRn (fun i => zisD (t i)) j q - b)))), L, A, M))
  | 0, q, m + 1, hq, hm, hbq => by
    have hn := hT.2.1
    rw [fX7_nextToken_224]
    simp (disch := omega) only [zr_g4, zF4_4, zR_signAt hT, zI, if_neg (show ¬ q < n by omega), show (48 : Int32) = nI 48 from rfl, nI_ltI, if_pos (show 0 < 48 by omega)]
    rfl
  | j + 1, q, m + 1, hq, hm, hbq => by
    have ih := zR_nx_d hb hT (b := b) k j (q + 1) m (by omega) (by omega) (by omega)
    have hn := hT.2.1
    obtain ⟨e1, e2⟩ := hT.2.2 q (by omega)
    rw [fX7_nextToken_224]
    unfold fX7_nextToken_286
    simp (disch := omega) only [zr_g4, zr_g5, zF4_4, zF4_5, zR_signAt hT, zI, if_pos (show q < n by omega), show (48 : Int32) = nI 48 from rfl, show (57 : Int32) = nI 57 from rfl, show (4 : Int32) = nI 4 from rfl, nI_ltI, nI_leI, pk_sub]
    rw [zRn]
    by_cases c1 : t q < 48
    · rw [if_pos c1, if_neg (show ¬ zisD (t q) = true by unfold zisD; simp; omega)]
    · rw [if_neg c1]
      by_cases c2 : 57 < t q
      · rw [if_pos c2, if_neg (show ¬ zisD (t q) = true by unfold zisD; simp; omega)]
      · rw [if_neg c2, if_pos (show zisD (t q) = true by unfold zisD; simp; omega)]
        by_cases c3 : 4 ≤ q - b
        · rw [if_pos c3, zr_p4 hb, zF4_u4, zc1_da]
          rw [show min 4 (q - b) = min 4 (q + 1 - b) by omega]
          exact ih
        · rw [if_neg c3]
          simp (disch := omega) only [zr_g8, zF4_8, zr_g4, zF4_4, zR_signAt hT, if_pos (show q < n by omega), zr_p8 hb, zF4_u8, zr_p4 hb, zF4_u4, zc1_da]
          refine Eq.trans ?_ ih
          rw [show min 4 (q - b) = q - b by omega, show min 4 (q + 1 - b) = q - b + 1 by omega, zVl, show (10 : Int32) = nI 10 from rfl, pk_mul, nI_add, pk_sub (by omega), show b + (q - b) = q by omega, Nat.mul_comm 10]
theorem zR_next (hb : h.2.2.2.2 0 ≤ a) (hN : 3000 ≤ N) (hT : zTp F A t n) {p : Nat} (hp : p ≤ n) (b k o : Int32) : (fX7_nextToken N a).1 (rH h a (zF4 F (nI p) b k o, L, A, M)) = some ((), rH h a (zKs F t n (zTb t n p), zKl L t n (zTb t n p), A, M)) := by
  have hle := zTb_le (t := t) hp
  obtain ⟨h3, hn, ht⟩ := id hT
  unfold fX7_nextToken
  rw [zR_nx_l hb hT b k o (n - p) p N (by omega) (by omega)]
  show (fX7_nextToken_52 N a).1 (rH h a (zF4 F (nI (zTb t n p)) b k o, L, A, M)) = _
  generalize zTb t n p = c at hle ⊢
  unfold fX7_nextToken_52
  simp (disch := omega) only [zr_g4, zr_g3, zr_p5 hb, zr_p7 hb, zr_p8 hb, zF4_u5, zF4_u8, zF4_4, zF4_o, h3, zI, nI_eq]
  by_cases c0 : c = n
  · rw [if_pos c0, zr_p6 hb, zF4_u6]
    unfold zKs zKl zTe zTki zTo zTw
    rw [if_pos c0, if_pos c0, if_pos c0, if_pos c0, c0]
    rfl
  · rw [if_neg c0]
    obtain ⟨e1, e2⟩ := ht c (by omega)
    simp (disch := omega) only [zr_g2, zr_g4, zF4_4, zr_a2, e1, zI, show (97 : Int32) = nI 97 from rfl, show (122 : Int32) = nI 122 from rfl, nI_ltI]
    have hw : ∀ x : Nat → Int64, zVl 27 96 t c (min 8 (c - c)) = 0 := fun _ => by rw [Nat.sub_self]; rfl
    by_cases c1 : zisL (t c) = true
    · have c1' : 97 ≤ t c ∧ t c ≤ 122 := by unfold zisL at c1; simpa using c1
      rw [if_neg (by omega), if_neg (by omega)]
      have := zR_nx_w (N := N) (L := L) (M := M) hb hT (b := c) k 0 (n - c) c N (by omega) (by omega) (Nat.le_refl _)
      rw [Nat.sub_self] at this
      refine Eq.trans this ?_
      have h1 := zRn_ge (fun i => zisL (t i)) (n - c) c
      have h2 := zRn_le (fun i => zisL (t i)) (n - c) c
      unfold fX7_nextToken_188 fX7_nextToken_208
      simp (disch := omega) only [zr_g4, zr_g5, zF4_4, zF4_5, zI, show (8 : Int32) = nI 8 from rfl, nI_leI, pk_sub]
      unfold zKs zKl zTki zTo zTw
      rw [if_neg c0, if_neg c0, if_neg c0, if_pos c1, if_pos c1, if_pos c1]
      unfold zTe
      rw [if_neg c0, if_pos c1]
      by_cases c3 : zRn (fun i => zisL (t i)) (n - c) c - c ≤ 8
      · rw [if_pos c3, if_pos c3, zr_p6 hb, zF4_u6]; rfl
      · rw [if_neg c3, if_neg c3, zr_p6 hb, zF4_u6]; rfl
    · have c1' : t c < 97 ∨ 122 < t c := by unfold zisL at c1; simp at c1; omega
      have e : (fX7_nextToken_212 N a (nI (t c))).1 (rH h a (zF4 F (nI c) (nI c) k 0, vp_updL L 7 0, A, M)) = some ((), rH h a (zKs F t n c, zKl L t n c, A, M)) := by
        unfold fX7_nextToken_212
        simp (disch := omega) only [zI, show (48 : Int32) = nI 48 from rfl, show (57 : Int32) = nI 57 from rfl, nI_ltI]
        by_cases c2 : zisD (t c) = true
        · have c2' : 48 ≤ t c ∧ t c ≤ 57 := by unfold zisD at c2; simpa using c2
          rw [if_neg (by omega), if_neg (by omega)]
          have := zR_nx_d (N := N) (L := vp_updL L 7 0) (M := M) hb hT (b := c) k (n - c) c N (by omega) (by omega) (Nat.le_refl _)
          rw [Nat.sub_self] at this
          refine Eq.trans this ?_
          have h1 := zRn_ge (fun i => zisD (t i)) (n - c) c
          have h2 := zRn_le (fun i => zisD (t i)) (n - c) c
          unfold fX7_nextToken_299 fX7_nextToken_318
          simp (disch := omega) only [zr_g4, zr_g5, zF4_4, zF4_5, zI, show (4 : Int32) = nI 4 from rfl, nI_leI, pk_sub]
          unfold zKs zKl zTki zTo zTw
          rw [if_neg c0, if_neg c0, if_neg c0, if_neg c1, if_neg c1, if_neg c1, if_pos c2, if_pos c2]
          unfold zTe
          rw [if_neg c0, if_neg c1, if_pos c2]
          by_cases c3 : zRn (fun i => zisD (t i)) (n - c) c - c ≤ 4
          · rw [if_pos c3, if_pos c3, zr_p6 hb, zF4_u6]; rfl
          · rw [if_neg c3, if_neg c3, zr_p6 hb, zF4_u6]; rfl
        · have c2' : t c < 48 ∨ 57 < t c := by unfold zisD at c2; simp at c2; omega
          have e2 : (fX7_nextToken_322 N a (nI (t c))).1 (rH h a (zF4 F (nI c) (nI c) k 0, vp_updL L 7 0, A, M)) = some ((), rH h a (zKs F t n c, zKl L t n c, A, M)) := by
            unfold zKs zKl zTki zTo zTw zTe
            rw [if_neg c0, if_neg c0, if_neg c0, if_neg c0, if_neg c1, if_neg c1, if_neg c1, if_neg c1, if_neg c2, if_neg c2, if_neg c2]
            unfold fX7_nextToken_322 fX7_nextToken_345 fX7_nextToken_363 fX7_nextToken_367 fX7_nextToken_368
            simp (disch := omega) only [zr_g4, zr_p4 hb, zF4_4, zF4_u4, zc1_da, zI, show (40 : Int32) = nI 40 from rfl, show (43 : Int32) = nI 43 from rfl, show (45 : Int32) = nI 45 from rfl, show (59 : Int32) = nI 59 from rfl, show (61 : Int32) = nI 61 from rfl, nI_ltI, nI_leI, nI_eq, zr_p6 hb, zF4_u6]
            unfold zisS
            by_cases d1 : t c < 40
            · rw [if_pos d1, if_neg (show ¬ t c = 45 by omega), if_pos (show t c < 59 by omega), if_neg (by simp; omega)]; rfl
            · rw [if_neg d1]
              by_cases d2 : t c ≤ 43
              · rw [if_pos d2, if_pos (by simp; omega)]; rfl
              · rw [if_neg d2]
                by_cases d3 : t c = 45
                · rw [if_pos d3, if_pos (by simp; omega)]; rfl
                · rw [if_neg d3]
                  by_cases d4 : t c < 59
                  · rw [if_pos d4, if_neg (by simp; omega)]; rfl
                  · rw [if_neg d4]
                    by_cases d5 : 61 < t c
                    · rw [if_pos d5, if_neg (by simp; omega)]; rfl
                    · rw [if_neg d5, if_pos (by simp; omega)]; rfl
          rcases c2' with d | d
          · rw [if_pos d]; exact e2
          · by_cases d' : t c < 48
            · rw [if_pos d']; exact e2
            · rw [if_neg d', if_pos d]; exact e2
      rcases c1' with d | d
      · rw [if_pos d]; exact e
      · by_cases d' : t c < 97
        · rw [if_pos d']; exact e
        · rw [if_neg d', if_pos d]; exact e
end
