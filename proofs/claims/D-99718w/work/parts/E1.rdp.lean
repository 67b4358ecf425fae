/-! PURE 64: constants; the component's reader: what stands at hand -/
set_option maxRecDepth 100000
section
variable {α β : Type}
theorem zBTl {m : jM (α ⊕ Nat)} {K : α → jM (β ⊕ Nat)} {h h1 : jH} {x : α} (e : m.1 h = some (.inl x, h1)) : (jBT m K).1 h = (K x).1 h1 := jB_eq e
theorem zBTr {m : jM (α ⊕ Nat)} {K : α → jM (β ⊕ Nat)} {h h1 : jH} {q : Nat} (e : m.1 h = some (.inr q, h1)) : (jBT m K).1 h = some (.inr q, h1) := jB_eq e
theorem zBHl {m : jM (α ⊕ Nat)} {g : Nat → jM β} {K : α → jM β} {h h1 : jH} {x : α} (e : m.1 h = some (.inl x, h1)) : (jBH m g K).1 h = (K x).1 h1 := jB_eq e
theorem zBHr {m : jM (α ⊕ Nat)} {g : Nat → jM β} {K : α → jM β} {h h1 : jH} {q : Nat} (e : m.1 h = some (.inr q, h1)) : (jBH m g K).1 h = (g q).1 h1 := jB_eq e
end
theorem zgetD {l : List Int32} {i : Nat} (h : i < l.length) : l.getD i 0 = l[i] := by simp [List.getD, h]
/-- a string -/
def zSt (H : jH) (a b : Nat) (cs : List Int32) : Prop := a < H.2.2.2.2 0 ∧ b < H.2.2.2.2 0 ∧ (∃ rest, H.1 a = some (.inl (33, .ref b :: .int 0 :: rest))) ∧ ∃ f, H.1 b = some (.inr (3, cs.length, .inl f)) ∧ ∀ j, j < cs.length → f j = cs.getD j 0
def zLnB : Nat → Value := fun i => .long (Int64.ofInt ((i : Int) - 128))
/-- constants of the program, none of which is changed -/
def zKc (H : jH) : Prop := (∀ i, i < 25 → zSt H (H.2.2.2.2 (1 + i)) (H.2.2.2.2 (26 + i)) (jbyt.getD i [])) ∧
  (H.2.2.2.2 52 < H.2.2.2.2 0 ∧ ∃ f, H.1 (H.2.2.2.2 52) = some (.inr (4, 0, zRf f))) ∧
  (H.2.2.2.2 53 < H.2.2.2.2 0 ∧ ∃ f, H.1 (H.2.2.2.2 53) = some (.inr (8, 256, zRf f)) ∧ ∀ i, i < 256 → f i = some (H.2.2.2.2 (312 + i)) ∧ H.2.2.2.2 (312 + i) < H.2.2.2.2 0 ∧ H.1 (H.2.2.2.2 (312 + i)) = some (.inl (10, [.long (Int64.ofInt ((i : Int) - 128))]))) ∧
  (H.2.2.2.2 54 < H.2.2.2.2 0 ∧ ∃ f, H.1 (H.2.2.2.2 54) = some (.inr (7, 256, zRf f)) ∧ ∀ i, i < 256 → f i = some (H.2.2.2.2 (56 + i)) ∧ H.2.2.2.2 (56 + i) < H.2.2.2.2 0 ∧ H.1 (H.2.2.2.2 (56 + i)) = some (.inl (11, [.int (Int32.ofInt ((i : Int) - 128))])))
theorem zSt.fr {H H' : jH} {a b : Nat} {cs : List Int32} (h : zSt H a b cs) (h1 : ∀ q, q < H.2.2.2.2 0 → H'.1 q = H.1 q) (h2 : H'.2.2.2.2 = H.2.2.2.2) : zSt H' a b cs := by
  obtain ⟨a1, a2, ⟨r, a3⟩, f, a4, a5⟩ := h
  exact ⟨by rw [h2]; exact a1, by rw [h2]; exact a2, ⟨r, (h1 _ a1).trans a3⟩, f, (h1 _ a2).trans a4, a5⟩
theorem zKc.fr {H H' : jH} (h : zKc H) (h1 : ∀ q, q < H.2.2.2.2 0 → H'.1 q = H.1 q) (h2 : H'.2.2.2.2 = H.2.2.2.2) : zKc H' := by
  obtain ⟨a1, ⟨a2, f2, b2⟩, ⟨a3, f3, b3, c3⟩, a4, f4, b4, c4⟩ := h
  unfold zKc
  rw [h2]
  refine ⟨fun i hi => (a1 i hi).fr h1 h2, ⟨a2, f2, (h1 _ a2).trans b2⟩, ⟨a3, f3, (h1 _ a3).trans b3, fun i hi => ?_⟩, a4, f4, (h1 _ a4).trans b4, fun i hi => ?_⟩
  · obtain ⟨d1, d2, d3⟩ := c3 i hi
    exact ⟨d1, d2, (h1 _ d2).trans d3⟩
  · obtain ⟨d1, d2, d3⟩ := c4 i hi
    exact ⟨d1, d2, (h1 _ d2).trans d3⟩
/-- words of the program, by their letters -/
def zWd (i : Nat) : Nat := [16922, 82528, 46472, 399749, 1277953191, 8878099, 261003578, 296522, 382253, 6564799, 10792937, 168728, 397973, 79828, 10266418, 12584543, 274579016, 10793335, 456500, 138846, 385337, 10631, 1111, 423].getD i 0
theorem zWd_lt : ∀ i, i < 24 → zWd i < 2 ^ 40 := by decide
theorem zWd_fo : ∀ i, i < 24 → (jbyt.getD i []).foldl (fun (v : Int64) (c : Int32) => 27 * v + c.toInt64 - 96) 0 = nL (zWd i) := by decide +kernel
theorem zbyt_ok : ∀ i, i < 25 → (jbyt.getD i []).length < 100 ∧ ∀ c ∈ jbyt.getD i [], (((c &&& 255).toUInt32 % 65536).toInt32) = c ∧ vp_nar .char c = c := by decide +kernel
section
variable {α : Type} {H : jH} {a b : Nat} {cs : List Int32} {N : Nat}
theorem zst_len (h : zSt H a b cs) (K : Int32 → jM α) : (jB (fJ5_length a) K).1 H = (K (nI cs.length)).1 H := by
  obtain ⟨-, -, ⟨r, a3⟩, f, a4, a5⟩ := h
  unfold fJ5_length fJ5_coder fJ5_coder_14
  rw [zA, zgRs a3 (by decide) rfl, zA, zln a4, zA, zIB, if_neg z10n, zA, zgI a3 (by decide) rfl]
  show (K (nI cs.length >>> (0 &&& 31))).1 H = _
  rw [show nI cs.length >>> ((0 : Int32) &&& 31) = nI cs.length from by
    rw [show ((0 : Int32) &&& 31) = 0 from by decide]
    exact Int32.shiftRight_zero]
theorem zst_at (h : zSt H a b cs) (hl : cs.length < 100) {i : Nat} (hi : i < cs.length) (hc : ∀ c ∈ cs, (((c &&& 255).toUInt32 % 65536).toInt32) = c ∧ vp_nar .char c = c) (K : Int32 → jM α) : (jB (fJ5_charAt a (nI i)) K).1 H = (K (cs.getD i 0)).1 H := by
  obtain ⟨-, -, ⟨r, a3⟩, f, a4, a5⟩ := h
  have hm : cs.getD i 0 ∈ cs := by
    rw [zgetD hi]
    exact List.getElem_mem hi
  obtain ⟨c1, c2⟩ := hc _ hm
  have e1 : (fJ5_isLatin1 a).1 H = some (1, H) := by
    unfold fJ5_isLatin1 fJ5_isLatin1_18
    rw [zI, if_neg z10n, zgI a3 (by decide) rfl]
    rfl
  have e2 : (fJ5_checkIndex (nI i) (nI cs.length)).1 H = some ((), H) := by
    unfold fJ5_checkIndex fJ4_checkIndex
    rw [jB_run]
    show (jB (if nI i < 0 then _ else _) _).1 H = _
    rw [zIB, if_neg (nI_pos (by omega)), zIB, if_pos (nI_lt hi (by omega))]
    rfl
  have e3 : (fJ6_charAt (some b) (nI i)).1 H = some (cs.getD i 0, H) := by
    unfold fJ6_charAt
    rw [zln a4, jB_eq e2, zaI a4 hi (by omega), a5 i hi, c1]
    unfold jRn
    rw [if_pos c2]
    rfl
  refine jB_eq ?_
  unfold fJ5_charAt
  rw [jB_eq e1, zI, if_neg z10n, zgRs a3 (by decide) rfl, jB_eq e3]
  unfold jRn
  rw [if_pos c2]
  rfl
theorem zst_rc (h : zSt H a b cs) (K : Nat → jM α) : (jB (jrc 33 (some a)) K).1 H = (K a).1 H := by
  obtain ⟨-, -, ⟨r, a3⟩, -⟩ := h
  refine zrc ?_ K
  unfold jcd
  rw [a3]
  rfl
theorem zst_w4 (h : zSt H a b cs) (hl : cs.length < 100) (hc : ∀ c ∈ cs, (((c &&& 255).toUInt32 % 65536).toInt32) = c ∧ vp_nar .char c = c) : ∀ (j n i : Nat) (v : Int64), i + j = cs.length → j < n → (fX2_word_4 N n (some a) v (nI i)).1 H = some ((cs.drop i).foldl (fun (v : Int64) (c : Int32) => 27 * v + c.toInt64 - 96) v, H)
  | 0, n + 1, i, v, hi, hn => by
    rw [fX2_word_4, zst_rc h, zst_len h, zI, if_pos (nI_le (by omega) (by omega)), List.drop_eq_nil_of_le (by omega)]
    rfl
  | j + 1, n + 1, i, v, hi, hn => by
    have ih := zst_w4 h hl hc j n (i + 1) (27 * v + (cs.getD i 0).toInt64 - 96) (by omega) (by omega)
    rw [fX2_word_4, zst_rc h, zst_len h, zI, if_neg (nI_ge (by omega) (by omega)), zst_rc h, zst_at h hl (by omega) hc, zc1_da, ih, List.drop_eq_getElem_cons (show i < cs.length by omega), List.foldl_cons, zgetD (show i < cs.length by omega)]
theorem zk_word (hK : zKc H) (hN : 3000 ≤ N) {i : Nat} (hi : i < 24) (K : Int64 → jM α) : (jB (fX2_word N (some (H.2.2.2.2 (1 + i)))) K).1 H = (K (nL (zWd i))).1 H := by
  have h := hK.1 i (by omega)
  obtain ⟨o1, o2⟩ := zbyt_ok i (by omega)
  have := zst_w4 (N := N) h o1 o2 (jbyt.getD i []).length N 0 0 (by omega) (by omega)
  rw [List.drop_zero, zWd_fo i hi] at this
  exact jB_eq this
end
/-- the reader's own cell -/
def zRc (w : Nat) (dr : Value) (n i d : Int32) : jC := .inl (1, [.ref (w + 2), .ref (w + 3), .ref (w + 4), .ref (w + 5), .ref (w + 6), dr, .ref (w + 7), .int n, .ref (w + 8), .ref (w + 9), .ref (w + 10), .int i, .int d])
/-- its lists of words -/
def zRa (w : Nat) (H : jH) : Prop := (∃ g, H.1 (w + 2) = some (.inr (5, 4, zRf g)) ∧ ∀ i, i < 4 → g i = some (H.2.2.2.2 (1 + i))) ∧ (∃ g, H.1 (w + 3) = some (.inr (5, 4, zRf g)) ∧ ∀ i, i < 4 → g i = some (H.2.2.2.2 (1 + (4 + i)))) ∧ (∃ g, H.1 (w + 4) = some (.inr (5, 16, zRf g)) ∧ ∀ i, i < 16 → g i = some (H.2.2.2.2 (1 + (8 + i)))) ∧ (∃ g, H.1 (w + 5) = some (.inr (5, 2, zRf g)) ∧ ∀ i, i < 2 → g i = some (H.2.2.2.2 (1 + (20 - i)))) ∧ ∃ g, H.1 (w + 6) = some (.inr (5, 4, zRf g)) ∧ ∀ i, i < 4 → g i = some (H.2.2.2.2 (1 + (15 + i)))
/-- tokens are good -/
def zUg (u : zTau) (c : Nat) : Prop := c ≤ 1000 ∧ (∀ j, j < c → u.1 j ≠ 0) ∧ u.1 c = 0 ∧ ∀ i, i ≤ c → u.1 i ≤ 4 ∧ u.2.1 i < 2 ^ 40 ∧ u.2.2.1 i < 10000 ∧ (u.1 i = 3 → u.2.2.2.1 i < 128) ∧ u.2.2.2.2 i ≤ 1000
/-- c tokens, as the reader keeps them -/
def zTk (w : Nat) (u : zTau) (c : Nat) (H : jH) : Prop := ∃ so va pl, H.1 (w + 8) = some (.inr (0, 1001, .inl so)) ∧ H.1 (w + 9) = some (.inr (1, 1001, .inr (.inl va))) ∧ H.1 (w + 10) = some (.inr (0, 1001, .inl pl)) ∧ ∀ i, i ≤ c → so i = nI (u.1 i) ∧ pl i = nI (u.2.2.2.2 i) ∧ (u.1 i = 1 → va i = nL (u.2.1 i)) ∧ (u.1 i = 2 → va i = nL (u.2.2.1 i)) ∧ (u.1 i = 3 → va i = nL (u.2.2.2.1 i))
/-- the reader stands at token i, d deep -/
def zRdS (w : Nat) (u : zTau) (c : Nat) (dr : Value) (n : Int32) (i d : Nat) (H : jH) : Prop := zKc H ∧ zRa w H ∧ zTk w u c H ∧ H.1 (w + 1) = some (zRc w dr n (nI i) (nI d)) ∧ i ≤ c ∧ H.2.2.2.2 0 ≤ w ∧ w + 11 ≤ H.2.1
section
variable {α : Type} {N w c i d : Nat} {u : zTau} {dr : Value} {n : Int32} {H H1 : jH}
theorem zRdS.fmW (h : zRdS w u c dr n i d H) {W : Nat → Prop} (hf : zFm W H H1) (hW : ∀ q, W q → q = w + 1 ∨ w + 11 ≤ q) {dr' : Value} {i' d' : Nat} (hc : H1.1 (w + 1) = some (zRc w dr' n (nI i') (nI d'))) (hi : i' ≤ c) : zRdS w u c dr' n i' d' H1 := by
  obtain ⟨h1, ⟨⟨g2, a2, b2⟩, ⟨g3, a3, b3⟩, ⟨g4, a4, b4⟩, ⟨g5, a5, b5⟩, g6, a6, b6⟩, ⟨so, va, pl, t1, t2, t3, t4⟩, h4, h5, h6, h7⟩ := h
  obtain ⟨f1, f2, f3, f4, f5⟩ := hf
  have at_ : ∀ q, q < w + 11 → q ≠ w + 1 → H1.1 q = H.1 q := fun q hq hn => f1 q (by omega) (fun c => by have := hW q c; omega)
  refine ⟨h1.fr (fun q hq => at_ q (by omega) (by omega)) f5, ?_, ⟨so, va, pl, (at_ _ (by omega) (by omega)).trans t1, (at_ _ (by omega) (by omega)).trans t2, (at_ _ (by omega) (by omega)).trans t3, t4⟩, hc, hi, by rw [f5]; exact h6, by omega⟩
  unfold zRa
  rw [f5]
  exact ⟨⟨g2, (at_ _ (by omega) (by omega)).trans a2, b2⟩, ⟨g3, (at_ _ (by omega) (by omega)).trans a3, b3⟩, ⟨g4, (at_ _ (by omega) (by omega)).trans a4, b4⟩, ⟨g5, (at_ _ (by omega) (by omega)).trans a5, b5⟩, g6, (at_ _ (by omega) (by omega)).trans a6, b6⟩
theorem zRdS.fm (h : zRdS w u c dr n i d H) (hf : zFm (fun q => q = w + 1) H H1) {dr' : Value} {i' d' : Nat} (hc : H1.1 (w + 1) = some (zRc w dr' n (nI i') (nI d'))) (hi : i' ≤ c) : zRdS w u c dr' n i' d' H1 := h.fmW hf (fun q hq => Or.inl hq) hc hi
/-- changes behind all that -/
theorem zRdS.hi (h : zRdS w u c dr n i d H) {lo : Nat} (hlo : w + 11 ≤ lo) (hf : zFm (fun q => lo ≤ q) H H1) : zRdS w u c dr n i d H1 := h.fmW hf (fun q hq => Or.inr (by omega)) (hf.at h.2.2.2.1 (by have := h.2.2.2.2.2.2; omega) (by omega)) h.2.2.2.2.1
theorem zRdS.same (h : zRdS w u c dr n i d H) (hf : zFm (fun _ => False) H H1) : zRdS w u c dr n i d H1 := by
  have hc : H1.1 (w + 1) = some (zRc w dr n (nI i) (nI d)) := hf.at h.2.2.2.1 (by have := h.2.2.2.2.2.2; omega) (fun q => q)
  exact h.fm (hf.mo (fun q _ hq => hq.elim)) hc h.2.2.2.2.1
/-- fields of the reader -/
theorem zrs_g (h : zRdS w u c dr n i d H) : (∀ K : Option Nat → jM α, (jB (jgR [1] 8 (some (w + 1))) K).1 H = (K (some (w + 8))).1 H) ∧ (∀ K : Option Nat → jM α, (jB (jgR [1] 9 (some (w + 1))) K).1 H = (K (some (w + 9))).1 H) ∧ (∀ K : Option Nat → jM α, (jB (jgR [1] 10 (some (w + 1))) K).1 H = (K (some (w + 10))).1 H) ∧ (∀ K : Int32 → jM α, (jB (jgI [1] 11 (some (w + 1))) K).1 H = (K (nI i)).1 H) ∧ (∀ K : Int32 → jM α, (jB (jgI [1] 12 (some (w + 1))) K).1 H = (K (nI d)).1 H) := by
  have h4 := h.2.2.2.1
  exact ⟨fun K => zgRs h4 (by decide) rfl K, fun K => zgRs h4 (by decide) rfl K, fun K => zgRs h4 (by decide) rfl K, fun K => zgI h4 (by decide) rfl K, fun K => zgI h4 (by decide) rfl K⟩
theorem zrs_8 (h : zRdS w u c dr n i d H) (K : Option Nat → jM α) : (jB (jgR [1] 8 (some (w + 1))) K).1 H = (K (some (w + 8))).1 H := (zrs_g h).1 K
theorem zrs_9 (h : zRdS w u c dr n i d H) (K : Option Nat → jM α) : (jB (jgR [1] 9 (some (w + 1))) K).1 H = (K (some (w + 9))).1 H := (zrs_g h).2.1 K
theorem zrs_10 (h : zRdS w u c dr n i d H) (K : Option Nat → jM α) : (jB (jgR [1] 10 (some (w + 1))) K).1 H = (K (some (w + 10))).1 H := (zrs_g h).2.2.1 K
theorem zrs_11 (h : zRdS w u c dr n i d H) (K : Int32 → jM α) : (jB (jgI [1] 11 (some (w + 1))) K).1 H = (K (nI i)).1 H := (zrs_g h).2.2.2.1 K
theorem zrs_12 (h : zRdS w u c dr n i d H) (K : Int32 → jM α) : (jB (jgI [1] 12 (some (w + 1))) K).1 H = (K (nI d)).1 H := (zrs_g h).2.2.2.2 K
theorem zrs_so (hu : zUg u c) (h : zRdS w u c dr n i d H) {j : Nat} (hj : j ≤ c) (K : Int32 → jM α) : (jB (jaI 0 (some (w + 8)) (nI j)) K).1 H = (K (nI (u.1 j))).1 H := by
  obtain ⟨so, va, pl, t1, t2, t3, t4⟩ := h.2.2.1
  have := hu.1
  rw [zaI t1 (by omega) (by decide), (t4 j hj).1]
theorem zrs_pl (hu : zUg u c) (h : zRdS w u c dr n i d H) {j : Nat} (hj : j ≤ c) (K : Int32 → jM α) : (jB (jaI 0 (some (w + 10)) (nI j)) K).1 H = (K (nI (u.2.2.2.2 j))).1 H := by
  obtain ⟨so, va, pl, t1, t2, t3, t4⟩ := h.2.2.1
  have := hu.1
  rw [zaI t3 (by omega) (by decide), (t4 j hj).2.1]
theorem zrs_vw (hu : zUg u c) (h : zRdS w u c dr n i d H) {j : Nat} (hj : j ≤ c) (hk : u.1 j = 1) (K : Int64 → jM α) : (jB (jaL 1 (some (w + 9)) (nI j)) K).1 H = (K (nL (u.2.1 j))).1 H := by
  obtain ⟨so, va, pl, t1, t2, t3, t4⟩ := h.2.2.1
  have := hu.1
  rw [zaL t2 (by omega) (by decide), (t4 j hj).2.2.1 hk]
theorem zrs_vn (hu : zUg u c) (h : zRdS w u c dr n i d H) {j : Nat} (hj : j ≤ c) (hk : u.1 j = 2) (K : Int64 → jM α) : (jB (jaL 1 (some (w + 9)) (nI j)) K).1 H = (K (nL (u.2.2.1 j))).1 H := by
  obtain ⟨so, va, pl, t1, t2, t3, t4⟩ := h.2.2.1
  have := hu.1
  rw [zaL t2 (by omega) (by decide), (t4 j hj).2.2.2.1 hk]
theorem zrs_vs (hu : zUg u c) (h : zRdS w u c dr n i d H) {j : Nat} (hj : j ≤ c) (hk : u.1 j = 3) (K : Int64 → jM α) : (jB (jaL 1 (some (w + 9)) (nI j)) K).1 H = (K (nL (u.2.2.2.1 j))).1 H := by
  obtain ⟨so, va, pl, t1, t2, t3, t4⟩ := h.2.2.1
  have := hu.1
  rw [zaL t2 (by omega) (by decide), (t4 j hj).2.2.2.2 hk]
theorem zrs_le (h : zRdS w u c dr n i d H) (dr' : Value) (n' i' d' : Int32) : jLe H (jset H (w + 1) (zRc w dr' n' i' d')) := jsetO_le h.2.2.2.1
/-- it goes on to a token -/
theorem zrs_to (h : zRdS w u c dr n i d H) (j : Nat) (hj : j ≤ c) : zRdS w u c dr n j d (jset H (w + 1) (zRc w dr n (nI j) (nI d))) ∧ (∀ K : Unit → jM α, (jB (jpI [1] 11 (some (w + 1)) (nI j)) K).1 H = (K ()).1 (jset H (w + 1) (zRc w dr n (nI j) (nI d)))) ∧ zFm (fun q => q = w + 1) H (jset H (w + 1) (zRc w dr n (nI j) (nI d))) := by
  have hf : zFm (fun q => q = w + 1) H (jset H (w + 1) (zRc w dr n (nI j) (nI d))) := (zFm.rf _ _).set (Or.inr rfl)
  have hb := h.2.2.2.2.2.1
  exact ⟨h.fm hf (zse_e _ _ _) hj, fun K => zpV h.2.2.2.1 (by decide) (by omega) (by show 11 < 13; decide) K, hf⟩
theorem zrs_dp (h : zRdS w u c dr n i d H) (j : Nat) : zRdS w u c dr n i j (jset H (w + 1) (zRc w dr n (nI i) (nI j))) ∧ (∀ K : Unit → jM α, (jB (jpI [1] 12 (some (w + 1)) (nI j)) K).1 H = (K ()).1 (jset H (w + 1) (zRc w dr n (nI i) (nI j)))) ∧ zFm (fun q => q = w + 1) H (jset H (w + 1) (zRc w dr n (nI i) (nI j))) := by
  have hf : zFm (fun q => q = w + 1) H (jset H (w + 1) (zRc w dr n (nI i) (nI j))) := (zFm.rf _ _).set (Or.inr rfl)
  have hb := h.2.2.2.2.2.1
  exact ⟨h.fm hf (zse_e _ _ _) h.2.2.2.2.1, fun K => zpV h.2.2.2.1 (by decide) (by omega) (by show 12 < 13; decide) K, hf⟩
theorem zrs_isW (hu : zUg u c) (hN : 3000 ≤ N) (h : zRdS w u c dr n i d H) {j : Nat} (hj : j < 24) (K : Int32 → jM α) : (jB (fX2_isWord N (w + 1) (some (H.2.2.2.2 (1 + j)))) K).1 H = (K (zb (zisw u i (zWd j)))).1 H := by
  have hi := h.2.2.2.2.1
  obtain ⟨u1, u2, u3, u4, u5⟩ := hu.2.2.2 i hi
  refine jB_eq ?_
  unfold fX2_isWord fX2_isWord_34 fX2_isWord_35
  rw [zrs_8 h, zrs_11 h, zrs_so hu h hi, zI]
  unfold zisw
  by_cases c1 : u.1 i = 1
  · rw [if_pos (show nI (u.1 i) = 1 by rw [c1]; rfl), zrs_9 h, zrs_11 h, zrs_vw hu h hi c1, zk_word h.1 hN hj, zI, decide_eq_true c1, Bool.true_and]
    have h40 := zWd_lt j hj
    by_cases c2 : u.2.1 i = zWd j
    · rw [if_pos ((nL_c0 (by omega) (by omega)).mpr c2), decide_eq_true c2]; rfl
    · rw [if_neg (fun q => c2 ((nL_c0 (by omega) (by omega)).mp q)), decide_eq_false c2]; rfl
  · rw [if_neg (show ¬ nI (u.1 i) = 1 from fun q => c1 ((nI_eq (b := 1) (by omega) (by decide)).mp q)), decide_eq_false c1, Bool.false_and]; rfl
theorem zrs_isS (hu : zUg u c) (h : zRdS w u c dr n i d H) {x : Nat} (hx : x < 128) (K : Int32 → jM α) : (jB (fX2_isSign (w + 1) (nI x)) K).1 H = (K (zb (ziss u i x))).1 H := by
  have hi := h.2.2.2.2.1
  obtain ⟨u1, u2, u3, u4, u5⟩ := hu.2.2.2 i hi
  refine jB_eq ?_
  unfold fX2_isSign fX2_isSign_32 fX2_isSign_33
  rw [zrs_8 h, zrs_11 h, zrs_so hu h hi, zI]
  unfold ziss
  by_cases c1 : u.1 i = 3
  · have u4 := u4 c1
    rw [if_pos (show nI (u.1 i) = 3 by rw [c1]; rfl), zrs_9 h, zrs_11 h, zrs_vs hu h hi c1, nL_i2l (by omega), zI, decide_eq_true c1, Bool.true_and]
    by_cases c2 : u.2.2.2.1 i = x
    · rw [if_pos ((nL_c0 (by omega) (by omega)).mpr c2), decide_eq_true c2]; rfl
    · rw [if_neg (fun q => c2 ((nL_c0 (by omega) (by omega)).mp q)), decide_eq_false c2]; rfl
  · rw [if_neg (show ¬ nI (u.1 i) = 3 from fun q => c1 ((nI_eq (b := 3) (by omega) (by decide)).mp q)), decide_eq_false c1, Bool.false_and]; rfl
end
