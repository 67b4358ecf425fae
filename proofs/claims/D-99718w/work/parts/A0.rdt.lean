/-! PURE 27: what the reference asks of a token -/
set_option maxRecDepth 100000
theorem zRn_all {p : Nat → Bool} : ∀ {j k q : Nat}, k ≤ q → q < zRn p j k → p q = true
  | 0, k, q, h1, h2 => by
    have : q < k := h2
    omega
  | j + 1, k, q, h1, h2 => by
    rw [zRn] at h2
    by_cases hp : p k = true
    · rw [if_pos hp] at h2
      by_cases e : q = k
      · rw [e]; exact hp
      · exact zRn_all (by omega) h2
    · rw [if_neg hp] at h2
      omega
theorem zTw_lt (t : Nat → Nat) (n b : Nat) : zTw t n b < 300000000000 := by
  unfold zTw
  split
  · omega
  · split
    · rename_i h0 h1
      have h2 : zVl 27 96 t b (min 8 (zTe t n b - b)) < 27 ^ (min 8 (zTe t n b - b)) := by
        refine zVl_b (lim := 0) (by omega) _ (fun q hq => ?_)
        have h3 : zisL (t (b + q)) = true := by
          refine zRn_all (p := fun i => zisL (t i)) (j := n - b) (k := b) (q := b + q) (by omega) ?_
          have : zTe t n b = zRn (fun q => zisL (t q)) (n - b) b := by unfold zTe; rw [if_neg h0, if_pos h1]
          rw [← this]
          omega
        unfold zisL at h3
        simp only [Bool.and_eq_true, decide_eq_true_eq] at h3
        omega
      have h4 : 27 ^ (min 8 (zTe t n b - b)) ≤ 27 ^ 8 := Nat.pow_le_pow_right (by omega) (by omega)
      have h5 : (27 : Nat) ^ 8 = 282429536481 := by decide
      omega
    · omega
theorem zTo_lt (t : Nat → Nat) (n b : Nat) : zTo t n b < 10000 := by
  unfold zTo
  split
  · omega
  · split
    · omega
    · split
      · rename_i h0 h1 h1'
        have h2 : zVl 10 48 t b (min 4 (zTe t n b - b)) < 10 ^ (min 4 (zTe t n b - b)) := by
          refine zVl_b (lim := 0) (by omega) _ (fun q hq => ?_)
          have h3 : zisD (t (b + q)) = true := by
            refine zRn_all (p := fun i => zisD (t i)) (j := n - b) (k := b) (q := b + q) (by omega) ?_
            have : zTe t n b = zRn (fun q => zisD (t q)) (n - b) b := by unfold zTe; rw [if_neg h0, if_neg h1, if_pos h1']
            rw [← this]
            omega
          unfold zisD at h3
          simp only [Bool.and_eq_true, decide_eq_true_eq] at h3
          omega
        have h4 : 10 ^ (min 4 (zTe t n b - b)) ≤ 10 ^ 4 := Nat.pow_le_pow_right (by omega) (by omega)
        have h5 : (10 : Nat) ^ 4 = 10000 := by decide
        omega
      · omega
theorem zTki_lt (t : Nat → Nat) (n b : Nat) : zTki t n b < 5 := by
  unfold zTki
  split
  · omega
  · split
    · split <;> omega
    · split
      · split <;> omega
      · split <;> omega
theorem zTki_n {t : Nat → Nat} {n b : Nat} (hb : b ≤ n) (h : zTki t n b ≠ 0) : b < n := by
  rcases Nat.lt_or_ge b n with h2 | h2
  · exact h2
  · unfold zTki at h
    rw [if_pos (by omega)] at h
    exact absurd rfl h
/-- the token i at hand -/
abbrev zQ (h : jH) (a : Nat) (t : Nat → Nat) (n : Nat) (F : Nat → Int32) (L : Nat → Int64) (A : Nat → Nat → Int32) (M : Nat → Nat → Int64) (i : Nat) : jH := rH h a (zKs F t n (zBg t n i), zKl L t n (zBg t n i), A, M)
theorem zTp_u {F : Nat → Int32} {A : Nat → Nat → Int32} {t : Nat → Nat} {n k : Nat} {x : Int32} (hT : zTp F A t n) (hk : k ≠ 3) : zTp (upd F k x) A t n := ⟨by rw [← hT.1]; exact if_neg (fun e => hk e.symm), hT.2⟩
theorem zTp_A {F : Nat → Int32} {A A' : Nat → Nat → Int32} {t : Nat → Nat} {n : Nat} (hT : zTp F A t n) (hk : A' 2 = A 2) : zTp F A' t n := ⟨hT.1, hT.2.1, fun k h => by rw [hk]; exact hT.2.2 k h⟩
section
variable {α : Type} {N : Nat} {h : jH} {a : Nat} {F : Nat → Int32} {L : Nat → Int64} {A : Nat → Nat → Int32} {M : Nat → Nat → Int64} {t : Nat → Nat} {n i : Nat}
theorem zQ_6 : zKs F t n (zBg t n i) 6 = nI ((zOfT t n).1 i) := rfl
theorem zQ_8 : zKs F t n (zBg t n i) 8 = nI ((zOfT t n).2.2.1 i) := rfl
theorem zQ_5 : zKs F t n (zBg t n i) 5 = nI (zBg t n i) := rfl
theorem zQ_7 : zKl L t n (zBg t n i) 7 = nL ((zOfT t n).2.1 i) := pk_uLs
theorem zQ_o {k : Nat} (h4 : k ≠ 4) (h5 : k ≠ 5) (h6 : k ≠ 6) (h8 : k ≠ 8) : zKs F t n (zBg t n i) k = F k := zF4_o _ _ _ _ _ h4 h5 h6 h8
theorem zQ_u {k : Nat} {x : Int32} (h4 : k ≠ 4) (h5 : k ≠ 5) (h6 : k ≠ 6) (h8 : k ≠ 8) : upd (zKs F t n (zBg t n i)) k x = zKs (upd F k x) t n (zBg t n i) := zF4_uo _ _ _ _ _ _ h4 h5 h6 h8
theorem zQ_next (hb : h.2.2.2.2 0 ≤ a) (hN : 3000 ≤ N) (hT : zTp F A t n) (K : Unit → jM α) : (jB (fX7_nextToken N a) K).1 (zQ h a t n F L A M i) = (K ()).1 (zQ h a t n F L A M (i + 1)) := by
  have := zR_next (L := zKl L t n (zBg t n i)) (M := M) hb hN hT (p := zTe t n (zBg t n i)) (zTe_le (zBg_le t n i)) (nI (zBg t n i)) (nI (zTki t n (zBg t n i))) (nI (zTo t n (zBg t n i)))
  rw [jB_eq (show (fX7_nextToken N a).1 (zQ h a t n F L A M i) = _ from this)]
  refine congrArg (K ()).1 ?_
  show rH h a (_, zKl (zKl L t n (zBg t n i)) t n (zTb t n (zTe t n (zBg t n i))), A, M) = rH h a (_, zKl L t n (zBg t n (i + 1)), A, M)
  unfold zKl
  rw [zuL_L]
  rfl
theorem zQ_isW {x : Int64} {w : Nat} (hx : x = nL w) (hw : w < 2 ^ 63) (K : Int32 → jM α) : (jB (fX7_isWord a x) K).1 (zQ h a t n F L A M i) = (K (zb (zisw (zOfT t n) i w))).1 (zQ h a t n F L A M i) := by
  have h1 : (zOfT t n).1 i < 5 := zTki_lt _ _ _
  have h2 : (zOfT t n).2.1 i < 300000000000 := zTw_lt _ _ _
  unfold fX7_isWord fX7_isWord_21 fX7_isWord_22 zisw
  simp (disch := omega) only [zA, zr_g6, zQ_6, zIB, zc1_eq, zr_g7, zQ_7, hx, nL_c0]
  by_cases c1 : (zOfT t n).1 i = 1
  · rw [if_pos c1, decide_eq_true c1]
    by_cases c2 : (zOfT t n).2.1 i = w
    · rw [if_pos c2, decide_eq_true c2]; rfl
    · rw [if_neg c2, decide_eq_false c2]; rfl
  · rw [if_neg c1, decide_eq_false c1]; rfl
theorem zQ_isS (hT : zTp F A t n) {x : Int32} {w : Nat} (hx : x = nI w) (hw : w < 2 ^ 31) (K : Int32 → jM α) : (jB (fX7_isSign a x) K).1 (zQ h a t n F L A M i) = (K (zb (ziss (zOfT t n) i w))).1 (zQ h a t n F L A M i) := by
  have h1 : (zOfT t n).1 i < 5 := zTki_lt _ _ _
  have hn := hT.2.1
  unfold fX7_isSign fX7_isSign_25 fX7_isSign_26 ziss
  simp (disch := omega) only [zA, zr_g6, zQ_6, zIB, zc3_eq, zr_g2, zr_g5, zQ_5, hx]
  by_cases c1 : (zOfT t n).1 i = 3
  · have hb := zTki_n (zBg_le t n i) (show zTki t n (zBg t n i) ≠ 0 from fun e => by
      have c1' : zTki t n (zBg t n i) = 3 := c1
      omega)
    obtain ⟨e1, e2⟩ := hT.2.2 _ hb
    have e3 : (zOfT t n).2.2.2.1 i = t (zBg t n i) := rfl
    rw [if_pos c1, decide_eq_true c1, zr_a2 (by omega), e1, zIB]
    simp only [nI_eq (show t (zBg t n i) < 2 ^ 31 by omega) hw]
    rw [e3]
    by_cases c2 : t (zBg t n i) = w
    · rw [if_pos c2, decide_eq_true c2]; rfl
    · rw [if_neg c2, decide_eq_false c2]; rfl
  · rw [if_neg c1, decide_eq_false c1]; rfl
def zfo (u : zTau) (i : Nat) : Int32 := match zfa u i with
  | none => 0
  | some f => nI (f + 1)
theorem zQ_fact (K : Int32 → jM α) : (jB (fX7_fact a) K).1 (zQ h a t n F L A M i) = (K (zfo (zOfT t n) i)).1 (zQ h a t n F L A M i) := by
  have h1 : (zOfT t n).1 i < 5 := zTki_lt _ _ _
  have h2 : (zOfT t n).2.1 i < 300000000000 := zTw_lt _ _ _
  unfold fX7_fact fX7_fact_67 zfo zfa zisw
  simp (disch := omega) only [zA, zr_g6, zQ_6, zIB, zc1_eq, zr_g7, zQ_7, show (16922 : Int64) = nL 16922 from rfl, show (82528 : Int64) = nL 82528 from rfl, show (46472 : Int64) = nL 46472 from rfl, show (399749 : Int64) = nL 399749 from rfl, nL_c0]
  by_cases c1 : (zOfT t n).1 i = 1
  · rw [if_pos c1]
    simp only [decide_eq_true c1, Bool.true_and, decide_eq_true_eq]
    by_cases c2 : (zOfT t n).2.1 i = 16922
    · rw [if_pos c2, if_pos c2]; rfl
    · rw [if_neg c2, if_neg c2]
      by_cases c3 : (zOfT t n).2.1 i = 82528
      · rw [if_pos c3, if_pos c3]; rfl
      · rw [if_neg c3, if_neg c3]
        by_cases c4 : (zOfT t n).2.1 i = 46472
        · rw [if_pos c4, if_pos c4]; rfl
        · rw [if_neg c4, if_neg c4]
          by_cases c5 : (zOfT t n).2.1 i = 399749
          · rw [if_pos c5, if_pos c5]; rfl
          · rw [if_neg c5, if_neg c5]; rfl
  · rw [if_neg c1]
    simp only [decide_eq_false c1, Bool.false_and]
    rfl
theorem zQ_puts (hb : h.2.2.2.2 0 ≤ a) {c : Nat} (hF : F 23 = nI c) (hc : c < 2000) (x : Int32) (K : Unit → jM α) : (jB (fX7_puts a x) K).1 (zQ h a t n F L A M i) = (K ()).1 (zQ h a t n (upd F 23 (nI (c + 1))) L (zuA A 22 (upd (A 22) c x)) M i) := by
  unfold fX7_puts
  simp (disch := omega) only [zA, zr_g22, zr_g23, zQ_o, hF, zr_s22 hb, zr_p23 hb, zQ_u, zc1_da, zR]
theorem zQ_fails (hb : h.2.2.2.2 0 ≤ a) {x : Int32} {w : Nat} (hx : x = nI w) (K : Int32 → jM α) : (jB (fX7_fails a x) K).1 (zQ h a t n F L A M i) = (K 0).1 (zQ h a t n (upd F 9 (nI (w + 16 * zBg t n i))) L A M i) := by
  unfold fX7_fails
  simp (disch := omega) only [zA, zr_g5, zQ_5, zr_p9 hb, zQ_u, hx, show (16 : Int32) = nI 16 from rfl, pk_mul, nI_add, zRn0B]
end
