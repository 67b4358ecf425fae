/-! PURE 37: the reference reads numbers, names -/
set_option maxRecDepth 100000
section
variable {α : Type} {N : Nat} {h : jH} {a : Nat} {F : Nat → Int32} {L : Nat → Int64} {A : Nat → Nat → Int32} {M : Nat → Nat → Int64} {t : Nat → Nat} {n i : Nat}
theorem zQ_kept (K : Int32 → jM α) : (jB (fX7_isKept a) K).1 (zQ h a t n F L A M i) = (K (zb (!zNm (zOfT t n) i))).1 (zQ h a t n F L A M i) := by
  have h1 : (zOfT t n).1 i < 5 := zTki_lt _ _ _
  have h2 : (zOfT t n).2.1 i < 300000000000 := zTw_lt _ _ _
  unfold fX7_isKept fX7_isKept_230 fX7_isKept_235
  rw [zA, zr_g6, zQ_6, zIB]
  by_cases c0 : (zOfT t n).1 i = 1
  · rw [if_pos (show nI ((zOfT t n).1 i) = 1 by rw [c0]; rfl)]
    have hp : zKp ((zOfT t n).2.1 i) = true → zb (!zNm (zOfT t n) i) = 1 := fun q => by unfold zNm; rw [q, decide_eq_true c0]; rfl
    rw [zA, zr_g7, zQ_7, zIB]
    by_cases c1 : (zOfT t n).2.1 i = 382253
    · rw [hp (by rw [c1]; decide), if_pos (show lg_cmp (nL ((zOfT t n).2.1 i)) 382253 = 0 from (nL_c0 (b := 382253) (by omega) (by decide)).mpr c1)]; rfl
    rw [if_neg (show ¬ lg_cmp (nL ((zOfT t n).2.1 i)) 382253 = 0 from fun q => c1 ((nL_c0 (b := 382253) (by omega) (by decide)).mp q))]
    rw [zA, zr_g7, zQ_7, zIB]
    by_cases c2 : (zOfT t n).2.1 i = 6564799
    · rw [hp (by rw [c2]; decide), if_pos (show lg_cmp (nL ((zOfT t n).2.1 i)) 6564799 = 0 from (nL_c0 (b := 6564799) (by omega) (by decide)).mpr c2)]; rfl
    rw [if_neg (show ¬ lg_cmp (nL ((zOfT t n).2.1 i)) 6564799 = 0 from fun q => c2 ((nL_c0 (b := 6564799) (by omega) (by decide)).mp q))]
    rw [zA, zr_g7, zQ_7, zIB]
    by_cases c3 : (zOfT t n).2.1 i = 10792937
    · rw [hp (by rw [c3]; decide), if_pos (show lg_cmp (nL ((zOfT t n).2.1 i)) 10792937 = 0 from (nL_c0 (b := 10792937) (by omega) (by decide)).mpr c3)]; rfl
    rw [if_neg (show ¬ lg_cmp (nL ((zOfT t n).2.1 i)) 10792937 = 0 from fun q => c3 ((nL_c0 (b := 10792937) (by omega) (by decide)).mp q))]
    rw [zA, zr_g7, zQ_7, zIB]
    by_cases c4 : (zOfT t n).2.1 i = 168728
    · rw [hp (by rw [c4]; decide), if_pos (show lg_cmp (nL ((zOfT t n).2.1 i)) 168728 = 0 from (nL_c0 (b := 168728) (by omega) (by decide)).mpr c4)]; rfl
    rw [if_neg (show ¬ lg_cmp (nL ((zOfT t n).2.1 i)) 168728 = 0 from fun q => c4 ((nL_c0 (b := 168728) (by omega) (by decide)).mp q))]
    rw [zA, zr_g7, zQ_7, zIB]
    by_cases c5 : (zOfT t n).2.1 i = 397973
    · rw [hp (by rw [c5]; decide), if_pos (show lg_cmp (nL ((zOfT t n).2.1 i)) 397973 = 0 from (nL_c0 (b := 397973) (by omega) (by decide)).mpr c5)]; rfl
    rw [if_neg (show ¬ lg_cmp (nL ((zOfT t n).2.1 i)) 397973 = 0 from fun q => c5 ((nL_c0 (b := 397973) (by omega) (by decide)).mp q))]
    rw [zA, zr_g7, zQ_7, zIB]
    by_cases c6 : (zOfT t n).2.1 i = 79828
    · rw [hp (by rw [c6]; decide), if_pos (show lg_cmp (nL ((zOfT t n).2.1 i)) 79828 = 0 from (nL_c0 (b := 79828) (by omega) (by decide)).mpr c6)]; rfl
    rw [if_neg (show ¬ lg_cmp (nL ((zOfT t n).2.1 i)) 79828 = 0 from fun q => c6 ((nL_c0 (b := 79828) (by omega) (by decide)).mp q))]
    rw [zA, zr_g7, zQ_7, zIB]
    by_cases c7 : (zOfT t n).2.1 i = 10266418
    · rw [hp (by rw [c7]; decide), if_pos (show lg_cmp (nL ((zOfT t n).2.1 i)) 10266418 = 0 from (nL_c0 (b := 10266418) (by omega) (by decide)).mpr c7)]; rfl
    rw [if_neg (show ¬ lg_cmp (nL ((zOfT t n).2.1 i)) 10266418 = 0 from fun q => c7 ((nL_c0 (b := 10266418) (by omega) (by decide)).mp q))]
    rw [zA, zr_g7, zQ_7, zIB]
    by_cases c8 : (zOfT t n).2.1 i = 12584543
    · rw [hp (by rw [c8]; decide), if_pos (show lg_cmp (nL ((zOfT t n).2.1 i)) 12584543 = 0 from (nL_c0 (b := 12584543) (by omega) (by decide)).mpr c8)]; rfl
    rw [if_neg (show ¬ lg_cmp (nL ((zOfT t n).2.1 i)) 12584543 = 0 from fun q => c8 ((nL_c0 (b := 12584543) (by omega) (by decide)).mp q))]
    rw [zA, zr_g7, zQ_7, zIB]
    by_cases c9 : (zOfT t n).2.1 i = 274579016
    · rw [hp (by rw [c9]; decide), if_pos (show lg_cmp (nL ((zOfT t n).2.1 i)) 274579016 = 0 from (nL_c0 (b := 274579016) (by omega) (by decide)).mpr c9)]; rfl
    rw [if_neg (show ¬ lg_cmp (nL ((zOfT t n).2.1 i)) 274579016 = 0 from fun q => c9 ((nL_c0 (b := 274579016) (by omega) (by decide)).mp q))]
    rw [zA, zr_g7, zQ_7, zIB]
    by_cases c10 : (zOfT t n).2.1 i = 10793335
    · rw [hp (by rw [c10]; decide), if_pos (show lg_cmp (nL ((zOfT t n).2.1 i)) 10793335 = 0 from (nL_c0 (b := 10793335) (by omega) (by decide)).mpr c10)]; rfl
    rw [if_neg (show ¬ lg_cmp (nL ((zOfT t n).2.1 i)) 10793335 = 0 from fun q => c10 ((nL_c0 (b := 10793335) (by omega) (by decide)).mp q))]
    rw [zA, zr_g7, zQ_7, zIB]
    by_cases c11 : (zOfT t n).2.1 i = 456500
    · rw [hp (by rw [c11]; decide), if_pos (show lg_cmp (nL ((zOfT t n).2.1 i)) 456500 = 0 from (nL_c0 (b := 456500) (by omega) (by decide)).mpr c11)]; rfl
    rw [if_neg (show ¬ lg_cmp (nL ((zOfT t n).2.1 i)) 456500 = 0 from fun q => c11 ((nL_c0 (b := 456500) (by omega) (by decide)).mp q))]
    rw [zA, zr_g7, zQ_7, zIB]
    by_cases c12 : (zOfT t n).2.1 i = 138846
    · rw [hp (by rw [c12]; decide), if_pos (show lg_cmp (nL ((zOfT t n).2.1 i)) 138846 = 0 from (nL_c0 (b := 138846) (by omega) (by decide)).mpr c12)]; rfl
    rw [if_neg (show ¬ lg_cmp (nL ((zOfT t n).2.1 i)) 138846 = 0 from fun q => c12 ((nL_c0 (b := 138846) (by omega) (by decide)).mp q))]
    rw [zA, zr_g7, zQ_7, zIB]
    by_cases c13 : (zOfT t n).2.1 i = 385337
    · rw [hp (by rw [c13]; decide), if_pos (show lg_cmp (nL ((zOfT t n).2.1 i)) 385337 = 0 from (nL_c0 (b := 385337) (by omega) (by decide)).mpr c13)]; rfl
    rw [if_neg (show ¬ lg_cmp (nL ((zOfT t n).2.1 i)) 385337 = 0 from fun q => c13 ((nL_c0 (b := 385337) (by omega) (by decide)).mp q))]
    rw [zA, zr_g7, zQ_7, zIB]
    by_cases c14 : (zOfT t n).2.1 i = 1277953191
    · rw [hp (by rw [c14]; decide), if_pos (show lg_cmp (nL ((zOfT t n).2.1 i)) 1277953191 = 0 from (nL_c0 (b := 1277953191) (by omega) (by decide)).mpr c14)]; rfl
    rw [if_neg (show ¬ lg_cmp (nL ((zOfT t n).2.1 i)) 1277953191 = 0 from fun q => c14 ((nL_c0 (b := 1277953191) (by omega) (by decide)).mp q))]
    rw [zA, zr_g7, zQ_7, zIB]
    by_cases c15 : (zOfT t n).2.1 i = 8878099
    · rw [hp (by rw [c15]; decide), if_pos (show lg_cmp (nL ((zOfT t n).2.1 i)) 8878099 = 0 from (nL_c0 (b := 8878099) (by omega) (by decide)).mpr c15)]; rfl
    rw [if_neg (show ¬ lg_cmp (nL ((zOfT t n).2.1 i)) 8878099 = 0 from fun q => c15 ((nL_c0 (b := 8878099) (by omega) (by decide)).mp q))]
    rw [zA, zr_g7, zQ_7, zIB]
    by_cases c16 : (zOfT t n).2.1 i = 261003578
    · rw [hp (by rw [c16]; decide), if_pos (show lg_cmp (nL ((zOfT t n).2.1 i)) 261003578 = 0 from (nL_c0 (b := 261003578) (by omega) (by decide)).mpr c16)]; rfl
    rw [if_neg (show ¬ lg_cmp (nL ((zOfT t n).2.1 i)) 261003578 = 0 from fun q => c16 ((nL_c0 (b := 261003578) (by omega) (by decide)).mp q))]
    rw [zA, zr_g7, zQ_7, zIB]
    by_cases c17 : (zOfT t n).2.1 i = 296522
    · rw [hp (by rw [c17]; decide), if_pos (show lg_cmp (nL ((zOfT t n).2.1 i)) 296522 = 0 from (nL_c0 (b := 296522) (by omega) (by decide)).mpr c17)]; rfl
    rw [if_neg (show ¬ lg_cmp (nL ((zOfT t n).2.1 i)) 296522 = 0 from fun q => c17 ((nL_c0 (b := 296522) (by omega) (by decide)).mp q))]
    rw [zA, zr_g7, zQ_7, zIB]
    by_cases c18 : (zOfT t n).2.1 i = 10631
    · rw [hp (by rw [c18]; decide), if_pos (show lg_cmp (nL ((zOfT t n).2.1 i)) 10631 = 0 from (nL_c0 (b := 10631) (by omega) (by decide)).mpr c18)]; rfl
    rw [if_neg (show ¬ lg_cmp (nL ((zOfT t n).2.1 i)) 10631 = 0 from fun q => c18 ((nL_c0 (b := 10631) (by omega) (by decide)).mp q))]
    rw [zA, zr_g7, zQ_7, zIB]
    by_cases c19 : (zOfT t n).2.1 i = 1111
    · rw [hp (by rw [c19]; decide), if_pos (show lg_cmp (nL ((zOfT t n).2.1 i)) 1111 = 0 from (nL_c0 (b := 1111) (by omega) (by decide)).mpr c19)]; rfl
    rw [if_neg (show ¬ lg_cmp (nL ((zOfT t n).2.1 i)) 1111 = 0 from fun q => c19 ((nL_c0 (b := 1111) (by omega) (by decide)).mp q))]
    rw [zA, zr_g7, zQ_7, zIB]
    by_cases c20 : (zOfT t n).2.1 i = 423
    · rw [hp (by rw [c20]; decide), if_pos (show lg_cmp (nL ((zOfT t n).2.1 i)) 423 = 0 from (nL_c0 (b := 423) (by omega) (by decide)).mpr c20)]; rfl
    rw [if_neg (show ¬ lg_cmp (nL ((zOfT t n).2.1 i)) 423 = 0 from fun q => c20 ((nL_c0 (b := 423) (by omega) (by decide)).mp q))]
    have hk : zKp ((zOfT t n).2.1 i) = false := by
      unfold zKp
      simp only [List.contains_cons, List.contains_nil, Bool.or_false, Bool.or_eq_false_iff, beq_eq_false_iff_ne, ne_eq]
      exact ⟨c1, c2, c3, c4, c5, c6, c7, c8, c9, c10, c11, c12, c13, c14, c15, c16, c17, c18, c19, c20⟩
    unfold zNm
    rw [hk, decide_eq_true c0]
    rfl
  · rw [if_neg (show ¬ nI ((zOfT t n).1 i) = 1 from fun q => c0 ((nI_eq (b := 1) (by omega) (by decide)).mp q))]
    unfold zNm
    rw [decide_eq_false c0]
    rfl
/-- names of skins (r = 0: as it is; 1: as it is read), of texts -/
def zNS (r : Nat) (A : Nat → Nat → Int32) (M : Nat → Nat → Int64) (nm : Nat → Nat) (c : Nat) : Prop := c ≤ 3 ∧ r ≤ 1 ∧ A 10 (3 * r) = nI c ∧ ∀ k, k < c → M 11 (3 * r + k) = nL (nm k) ∧ nm k < 300000000000
def zNT (r : Nat) (A : Nat → Nat → Int32) (M : Nat → Nat → Int64) (nm : Nat → Nat) (c : Nat) : Prop := c ≤ 6 ∧ r ≤ 1 ∧ A 10 (3 * r + 1) = nI c ∧ ∀ k, k < c → M 12 (6 * r + k) = nL (nm k) ∧ nm k < 300000000000
theorem zQ_sN4 {r c : Nat} {nm : Nat → Nat} (hS : zNS r A M nm c) : ∀ (j k m : Nat), k + j = c → j < m → (fX7_skinNamed_4 N a m (nI r) (nI (3 * r + k))).1 (zQ h a t n F L A M i) = some (zo (zFs (fun k => decide (nm k = (zOfT t n).2.1 i)) j k), zQ h a t n F L A M i)
  | 0, k, m + 1, hk, hm => by
    obtain ⟨h3, hr, e10, hM⟩ := hS
    rw [fX7_skinNamed_4, zr_g10, show (3 : Int32) * nI r + 0 = nI (3 * r) by rw [zc3_mu, Int32.add_zero], zr_a10 (by omega), e10, zI, zc3_mu, nI_add, if_pos (nI_le (by omega) (by omega))]
    rfl
  | j + 1, k, m + 1, hk, hm => by
    have ih := zQ_sN4 hS j (k + 1) m (by omega) (by omega)
    obtain ⟨h3, hr, e10, hM⟩ := hS
    have h2 : (zOfT t n).2.1 i < 300000000000 := zTw_lt _ _ _
    obtain ⟨e1, e2⟩ := hM k (by omega)
    rw [fX7_skinNamed_4, zr_g10, show (3 : Int32) * nI r + 0 = nI (3 * r) by rw [zc3_mu, Int32.add_zero], zr_a10 (by omega), e10, zI, zc3_mu, nI_add, if_neg (nI_ge (by omega) (by omega)), zr_g11, zr_a11 (by omega), e1, zr_g7, zQ_7, zI, zFs]
    by_cases c1 : nm k = (zOfT t n).2.1 i
    · rw [if_pos ((nL_c0 (by omega) (by omega)).mpr c1), decide_eq_true c1, if_pos rfl]
      unfold fX7_skinNamed_36
      rw [zc3_mu, pk_sub (by omega), Nat.add_sub_cancel_left]
      rfl
    · rw [if_neg (fun q => c1 ((nL_c0 (by omega) (by omega)).mp q)), decide_eq_false c1, if_neg zff, zc1_da]
      exact ih
theorem zQ_tN5 {r c : Nat} {nm : Nat → Nat} (hS : zNT r A M nm c) : ∀ (j k m : Nat), k + j = c → j < m → (fX7_textNamed_5 N a m (nI r) (nI (6 * r + k))).1 (zQ h a t n F L A M i) = some (zo (zFs (fun k => decide (nm k = (zOfT t n).2.1 i)) j k), zQ h a t n F L A M i)
  | 0, k, m + 1, hk, hm => by
    obtain ⟨h3, hr, e10, hM⟩ := hS
    rw [fX7_textNamed_5, zr_g10, zc3_mu, zc1_da, zr_a10 (by omega), e10, zI, zc6_mu, nI_add, if_pos (nI_le (by omega) (by omega))]
    rfl
  | j + 1, k, m + 1, hk, hm => by
    have ih := zQ_tN5 hS j (k + 1) m (by omega) (by omega)
    obtain ⟨h3, hr, e10, hM⟩ := hS
    have h2 : (zOfT t n).2.1 i < 300000000000 := zTw_lt _ _ _
    obtain ⟨e1, e2⟩ := hM k (by omega)
    rw [fX7_textNamed_5, zr_g10, zc3_mu, zc1_da, zr_a10 (by omega), e10, zI, zc6_mu, nI_add, if_neg (nI_ge (by omega) (by omega)), zr_g12, zr_a12 (by omega), e1, zr_g7, zQ_7, zI, zFs]
    by_cases c1 : nm k = (zOfT t n).2.1 i
    · rw [if_pos ((nL_c0 (by omega) (by omega)).mpr c1), decide_eq_true c1, if_pos rfl]
      unfold fX7_textNamed_38
      rw [zc6_mu, pk_sub (by omega), Nat.add_sub_cancel_left]
      rfl
    · rw [if_neg (fun q => c1 ((nL_c0 (by omega) (by omega)).mp q)), decide_eq_false c1, if_neg zff, zc1_da]
      exact ih
theorem zQ_sN {x : Int32} {r c : Nat} {nm : Nat → Nat} (hx : x = nI r) (hN : 3000 ≤ N) (hS : zNS r A M nm c) (K : Int32 → jM α) : (jB (fX7_skinNamed N a x) K).1 (zQ h a t n F L A M i) = (K (zo (zFnd nm c ((zOfT t n).2.1 i)))).1 (zQ h a t n F L A M i) := by
  have h3 := hS.1
  have := zQ_sN4 (N := N) (h := h) (a := a) (F := F) (L := L) (t := t) (n := n) (i := i) hS c 0 N (by omega) (by omega)
  refine jB_eq ?_
  unfold fX7_skinNamed
  rw [hx, zc3_mu]
  exact this
theorem zQ_tN {x : Int32} {r c : Nat} {nm : Nat → Nat} (hx : x = nI r) (hN : 3000 ≤ N) (hS : zNT r A M nm c) (K : Int32 → jM α) : (jB (fX7_textNamed N a x) K).1 (zQ h a t n F L A M i) = (K (zo (zFnd nm c ((zOfT t n).2.1 i)))).1 (zQ h a t n F L A M i) := by
  have h3 := hS.1
  have := zQ_tN5 (N := N) (h := h) (a := a) (F := F) (L := L) (t := t) (n := n) (i := i) hS c 0 N (by omega) (by omega)
  refine jB_eq ?_
  unfold fX7_textNamed
  rw [hx, zc6_mu]
  exact this
theorem zFnd_lt {nm : Nat → Nat} {c w k : Nat} (h : zFnd nm c w = some k) : k < c := by
  have := (zFs_lt h).2.1
  omega
theorem zo_ge {o : Option Nat} (h : ∀ k, o = some k → k < 2 ^ 31) : (0 ≤ zo o) ↔ o.isSome = true := by
  cases o with
  | none => exact ⟨fun q => absurd q (by decide), fun q => (by cases q)⟩
  | some k =>
    refine ⟨fun _ => rfl, fun _ => ?_⟩
    show 0 ≤ nI k
    rw [zc0_le (h k rfl)]
    omega
/-- a number -/
theorem zQ_num (hb : h.2.2.2.2 0 ≤ a) (hN : 3000 ≤ N) (hT : zTp F A t n) {x y : Int32} {lo hi : Nat} (hx : x = nI lo) (hy : y = nI hi) (hlo : lo < 2 ^ 30) (hhi : hi < 2 ^ 30) (K : Int32 → jM α) : (jB (fX7_needsNumber N a x y) K).1 (zQ h a t n F L A M i) = match zNu (zOfT t n) i lo hi with
    | .inl e => (K 0).1 (zQ h a t n (upd F 9 (nI (e + 16 * zBg t n i))) L A M i)
    | .inr l => (K 1).1 (zQ h a t n (upd F 36 (nI l)) L A M (i + 1)) := by
  have h1 : (zOfT t n).1 i < 5 := zTki_lt _ _ _
  have h2 : (zOfT t n).2.2.1 i < 10000 := zTo_lt _ _ _
  unfold fX7_needsNumber zNu
  rw [zA, zr_g6, zQ_6, zIB, hx, hy]
  by_cases c0 : (zOfT t n).1 i = 2
  · rw [if_pos (show nI ((zOfT t n).1 i) = 2 by rw [c0]; rfl), if_pos c0, zA, zr_g8, zQ_8]
    unfold fX7_within fX7_within_14 fX7_within_15
    rw [zA, zIB, zIB]
    by_cases c1 : (zOfT t n).2.2.1 i < lo
    · rw [if_pos ((nI_ltI (by omega) (by omega)).mpr c1), if_neg (by omega), zRn0B, zIB, if_pos rfl, zA, zQ_fails hb (x := 4) (w := 4) rfl]
      rfl
    · rw [if_neg (fun q => c1 ((nI_ltI (by omega) (by omega)).mp q))]
      by_cases c2 : hi < (zOfT t n).2.2.1 i
      · rw [if_pos ((nI_ltI (by omega) (by omega)).mpr c2), if_neg (by omega), zRn0B, zIB, if_pos rfl, zA, zQ_fails hb (x := 4) (w := 4) rfl]
        rfl
      · rw [if_neg (fun q => c2 ((nI_ltI (by omega) (by omega)).mp q)), if_pos (by omega), zRn1B, zIB, if_neg (by decide), zA, zr_g8, zQ_8, zA, zr_p36 hb, zQ_u (by decide) (by decide) (by decide) (by decide), zA, zQ_next hb hN (zTp_u hT (by decide))]
        rfl
  · rw [if_neg (show ¬ nI ((zOfT t n).1 i) = 2 from fun q => c0 ((nI_eq (b := 2) (by omega) (by decide)).mp q)), if_neg c0, zA, zQ_fails hb (x := 1) (w := 1) rfl]
    rfl
theorem zQ_closes (hb : h.2.2.2.2 0 ≤ a) (hN : 3000 ≤ N) (hT : zTp F A t n) (K : Int32 → jM α) : (jB (fX7_closes N a) K).1 (zQ h a t n F L A M i) = if ziss (zOfT t n) i 59 = true then (K 1).1 (zQ h a t n F L A M (i + 1)) else (K 0).1 (zQ h a t n (upd F 9 (nI (1 + 16 * zBg t n i))) L A M i) := by
  unfold fX7_closes
  rw [zA, zQ_isS hT (x := 59) (w := 59) rfl (by decide), zIB]
  cases hs : ziss (zOfT t n) i 59 with
  | true => rw [if_neg zb1n, if_pos rfl, zA, zQ_next hb hN hT]; rfl
  | false => rw [if_pos zb_f, if_neg zff, zA, zQ_fails hb (x := 1) (w := 1) rfl]; rfl
theorem zQ_both (hb : h.2.2.2.2 0 ≤ a) (hN : 3000 ≤ N) (hT : zTp F A t n) {w0 : Int64} {w : Nat} (hw : w0 = nL w) (hw2 : w < 2 ^ 63) {x y : Int32} {lo hi : Nat} (hx : x = nI lo) (hy : y = nI hi) (hlo : lo < 2 ^ 30) (hhi : hi < 2 ^ 30) (K : Int32 → jM α) : (jB (fX7_needsBoth N a w0 x y) K).1 (zQ h a t n F L A M i) = if zisw (zOfT t n) i w = true then (match zNu (zOfT t n) (i + 1) lo hi with
    | .inl e => (K 0).1 (zQ h a t n (upd F 9 (nI (e + 16 * zBg t n (i + 1)))) L A M (i + 1))
    | .inr l => (K 1).1 (zQ h a t n (upd F 36 (nI l)) L A M (i + 1 + 1))) else (K 0).1 (zQ h a t n (upd F 9 (nI (1 + 16 * zBg t n i))) L A M i) := by
  unfold fX7_needsBoth
  rw [zA, zQ_isW hw hw2, zIB]
  cases hs : zisw (zOfT t n) i w with
  | true =>
    rw [if_neg zb1n, if_pos rfl, zA, zQ_next hb hN hT, zA, zQ_num hb hN hT hx hy hlo hhi]
    cases zNu (zOfT t n) (i + 1) lo hi with
    | inl e => rfl
    | inr l => rfl
  | false => rw [if_pos zb_f, if_neg zff, zA, zQ_fails hb (x := 1) (w := 1) rfl]; rfl
/-- a new name -/
theorem zQ_new (hb : h.2.2.2.2 0 ≤ a) (hN : 3000 ≤ N) (hT : zTp F A t n) {D : zDr} (hS : zNS 1 A M D.2.1 (zS D.1)) (hTt : zNT 1 A M D.2.2.1 (zT D.1)) (K : Int32 → jM α) : (jB (fX7_needsNew N a) K).1 (zQ h a t n F L A M i) = match zNew (zOfT t n) i D with
    | some e => (K 0).1 (zQ h a t n (upd F 9 (nI (e + 16 * zBg t n i))) L A M i)
    | none => (K 1).1 (zQ h a t n F (vp_updL L 37 (nL ((zOfT t n).2.1 i))) A M (i + 1)) := by
  have hs3 := hS.1
  have ht3 := hTt.1
  have gS : (0 ≤ zo (zFnd D.2.1 (zS D.1) ((zOfT t n).2.1 i))) ↔ (zFnd D.2.1 (zS D.1) ((zOfT t n).2.1 i)).isSome = true := zo_ge (fun k hk => by have := zFnd_lt hk; omega)
  have gT : (0 ≤ zo (zFnd D.2.2.1 (zT D.1) ((zOfT t n).2.1 i))) ↔ (zFnd D.2.2.1 (zT D.1) ((zOfT t n).2.1 i)).isSome = true := zo_ge (fun k hk => by have := zFnd_lt hk; omega)
  unfold fX7_needsNew zNew fX7_needsNew_29
  rw [zA, zQ_kept, zIB]
  cases hn : zNm (zOfT t n) i with
  | false => rw [if_neg (show ¬ zb (!false) = 0 by decide), if_neg zff, zA, zQ_fails hb (x := 1) (w := 1) rfl]; rfl
  | true =>
    rw [if_pos (show zb (!true) = 0 by decide), if_pos rfl, zA, zQ_sN (x := 1) (r := 1) rfl hN hS, zIB]
    by_cases c1 : (zFnd D.2.1 (zS D.1) ((zOfT t n).2.1 i)).isSome = true
    · rw [if_pos (gS.mpr c1), if_pos (Or.inl c1), zA, zQ_fails hb (x := 3) (w := 3) rfl]; rfl
    · rw [if_neg (fun q => c1 (gS.mp q)), zA, zQ_tN (x := 1) (r := 1) rfl hN hTt, zIB]
      by_cases c2 : (zFnd D.2.2.1 (zT D.1) ((zOfT t n).2.1 i)).isSome = true
      · rw [if_neg (Int32.not_lt.mpr (gT.mpr c2)), if_pos (Or.inr c2), zA, zQ_fails hb (x := 3) (w := 3) rfl]; rfl
      · rw [if_pos (Int32.not_le.mp (fun q => c2 (gT.mp q))), if_neg (fun q => q.elim c1 c2), zA, zr_g7, zQ_7, zA, zr_p37 hb]
        have e : vp_updL (zKl L t n (zBg t n i)) 37 (nL ((zOfT t n).2.1 i)) = zKl (vp_updL L 37 (nL ((zOfT t n).2.1 i))) t n (zBg t n i) := by
          unfold zKl
          funext j
          by_cases h1 : j = 37
          · rw [h1, pk_uLs, pk_uLn (show 37 ≠ 7 by decide), pk_uLs]
          · rw [pk_uLn h1]
            by_cases h2 : j = 7
            · rw [h2, pk_uLs, pk_uLs]
            · rw [pk_uLn h2, pk_uLn h2, pk_uLn h1]
        rw [e, zA, zQ_next hb hN hT]
        rfl
/-- a skin told -/
theorem zQ_skin (hb : h.2.2.2.2 0 ≤ a) (hN : 3000 ≤ N) (hT : zTp F A t n) {x : Int32} {r c : Nat} {nm : Nat → Nat} (hx : x = nI r) (hS : zNS r A M nm c) (K : Int32 → jM α) : (jB (fX7_needsSkin N a x) K).1 (zQ h a t n F L A M i) = if zNm (zOfT t n) i = true then (match zFnd nm c ((zOfT t n).2.1 i) with
    | none => (K 0).1 (zQ h a t n (upd (upd F 36 (-1)) 9 (nI (2 + 16 * zBg t n i))) L A M i)
    | some k => (K 1).1 (zQ h a t n (upd F 36 (nI k)) L A M (i + 1))) else (K 0).1 (zQ h a t n (upd F 9 (nI (1 + 16 * zBg t n i))) L A M i) := by
  have hs3 := hS.1
  unfold fX7_needsSkin
  rw [zA, zQ_kept, zIB]
  cases hn : zNm (zOfT t n) i with
  | false => rw [if_neg (show ¬ zb (!false) = 0 by decide), if_neg zff, zA, zQ_fails hb (x := 1) (w := 1) rfl]; rfl
  | true =>
    rw [if_pos (show zb (!true) = 0 by decide), if_pos rfl, zA, zQ_sN hx hN hS, zA, zr_p36 hb, zQ_u (by decide) (by decide) (by decide) (by decide), zA, zr_g36, zQ_o (by decide) (by decide) (by decide) (by decide), zu_eq, zIB]
    cases hf : zFnd nm c ((zOfT t n).2.1 i) with
    | none => rw [if_neg (show ¬ 0 ≤ zo none by decide), zA, zQ_fails hb (x := 2) (w := 2) rfl]; rfl
    | some k =>
      have := zFnd_lt hf
      rw [show zo (some k) = nI k from rfl, if_pos (show 0 ≤ nI k by rw [zc0_le (by omega)]; omega), zA, zQ_next hb hN (zTp_u hT (by decide))]
      rfl
theorem zQ_text (hb : h.2.2.2.2 0 ≤ a) (hN : 3000 ≤ N) (hT : zTp F A t n) {c : Nat} {nm : Nat → Nat} (hS : zNT 0 A M nm c) (K : Int32 → jM α) : (jB (fX7_needsText N a) K).1 (zQ h a t n F L A M i) = if zNm (zOfT t n) i = true then (match zFnd nm c ((zOfT t n).2.1 i) with
    | none => (K 0).1 (zQ h a t n (upd (upd F 36 (-1)) 9 (nI (2 + 16 * zBg t n i))) L A M i)
    | some k => (K 1).1 (zQ h a t n (upd F 36 (nI k)) L A M (i + 1))) else (K 0).1 (zQ h a t n (upd F 9 (nI (1 + 16 * zBg t n i))) L A M i) := by
  have hs3 := hS.1
  unfold fX7_needsText
  rw [zA, zQ_kept, zIB]
  cases hn : zNm (zOfT t n) i with
  | false => rw [if_neg (show ¬ zb (!false) = 0 by decide), if_neg zff, zA, zQ_fails hb (x := 1) (w := 1) rfl]; rfl
  | true =>
    rw [if_pos (show zb (!true) = 0 by decide), if_pos rfl, zA, zQ_tN (x := 0) (r := 0) rfl hN hS, zA, zr_p36 hb, zQ_u (by decide) (by decide) (by decide) (by decide), zA, zr_g36, zQ_o (by decide) (by decide) (by decide) (by decide), zu_eq, zIB]
    cases hf : zFnd nm c ((zOfT t n).2.1 i) with
    | none => rw [if_neg (show ¬ 0 ≤ zo none by decide), zA, zQ_fails hb (x := 2) (w := 2) rfl]; rfl
    | some k =>
      have := zFnd_lt hf
      rw [show zo (some k) = nI k from rfl, if_pos (show 0 ≤ nI k by rw [zc0_le (by omega)]; omega), zA, zQ_next hb hN (zTp_u hT (by decide))]
      rfl
end
