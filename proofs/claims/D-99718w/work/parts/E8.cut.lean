/-! PURE 72: the component cuts its tape into tokens -/
set_option maxRecDepth 100000
/-- the arrays of tokens over a heap -/
def cK (H : jH) (w : Nat) (so pl : Nat → Int32) (va : Nat → Int64) : jH := (fun q => if q = w + 8 then some (.inr (0, 1001, .inl so)) else if q = w + 9 then some (.inr (1, 1001, .inr (.inl va))) else if q = w + 10 then some (.inr (0, 1001, .inl pl)) else H.1 q, H.2)
section
variable {H : jH} {w : Nat} {so pl : Nat → Int32} {va : Nat → Int64}
theorem cK_8 : (cK H w so pl va).1 (w + 8) = some (.inr (0, 1001, .inl so)) := if_pos rfl
theorem cK_9 : (cK H w so pl va).1 (w + 9) = some (.inr (1, 1001, .inr (.inl va))) := by
  show (if w + 9 = w + 8 then _ else if w + 9 = w + 9 then _ else _) = _
  rw [if_neg (by omega), if_pos rfl]
theorem cK_10 : (cK H w so pl va).1 (w + 10) = some (.inr (0, 1001, .inl pl)) := by
  show (if w + 10 = w + 8 then _ else if w + 10 = w + 9 then _ else if w + 10 = w + 10 then _ else _) = _
  rw [if_neg (by omega), if_neg (by omega), if_pos rfl]
theorem cK_o {q : Nat} (h1 : q ≠ w + 8) (h2 : q ≠ w + 9) (h3 : q ≠ w + 10) : (cK H w so pl va).1 q = H.1 q := by
  show (if q = w + 8 then _ else if q = w + 9 then _ else if q = w + 10 then _ else H.1 q) = _
  rw [if_neg h1, if_neg h2, if_neg h3]
theorem cK_s8 (x : Nat → Int32) : jset (cK H w so pl va) (w + 8) (.inr (0, 1001, .inl x)) = cK H w x pl va := by
  refine Prod.ext (funext fun q => ?_) rfl
  show (if q = w + 8 then _ else if q = w + 8 then _ else _) = (if q = w + 8 then _ else _)
  by_cases h : q = w + 8
  · rw [if_pos h, if_pos h]
  · rw [if_neg h, if_neg h, if_neg h]
theorem cK_s9 (x : Nat → Int64) : jset (cK H w so pl va) (w + 9) (.inr (1, 1001, .inr (.inl x))) = cK H w so pl x := by
  refine Prod.ext (funext fun q => ?_) rfl
  show (if q = w + 9 then _ else if q = w + 8 then _ else if q = w + 9 then _ else _) = (if q = w + 8 then _ else if q = w + 9 then _ else _)
  by_cases h : q = w + 9
  · rw [if_pos h, if_neg (by omega), if_pos h]
  · rw [if_neg h, if_neg h, if_neg h]
theorem cK_s10 (x : Nat → Int32) : jset (cK H w so pl va) (w + 10) (.inr (0, 1001, .inl x)) = cK H w so x va := by
  refine Prod.ext (funext fun q => ?_) rfl
  show (if q = w + 10 then _ else if q = w + 8 then _ else if q = w + 9 then _ else if q = w + 10 then _ else _) = (if q = w + 8 then _ else if q = w + 9 then _ else if q = w + 10 then _ else _)
  by_cases h : q = w + 10
  · rw [if_pos h, if_neg (by omega), if_neg (by omega), if_pos h]
  · rw [if_neg h, if_neg h, if_neg h]
end
/-- the reader with its tape -/
def zRt (w : Nat) (t : Nat → Nat) (n : Nat) (dr : Value) (nn i d : Int32) (H : jH) : Prop := zKc H ∧ H.1 (w + 1) = some (zRc w dr nn i d) ∧ (∃ tp, H.1 (w + 7) = some (.inr (0, 1000, .inl tp)) ∧ ∀ k, k < n → tp k = nI (t k)) ∧ (n ≤ 1000 ∧ ∀ k, k < n → t k < 128) ∧ H.2.2.2.2 0 ≤ w ∧ w + 11 ≤ H.2.1
theorem zt8 : ∀ c, c < 128 → (nI c).toInt8.toInt32 = nI c := by decide +kernel
theorem zsgn : ∀ c, c < 128 → (zFs (fun j => decide ((jbyt.getD 24 []).getD j 0 = nI c)) 8 0).isSome = zisS c := by decide +kernel
theorem zcb24 : (jbyt.getD 24 []).length = 8 := by decide +kernel
section
variable {α : Type} {N w n : Nat} {t : Nat → Nat} {dr : Value} {nn at_ d : Int32} {H : jH} {so pl : Nat → Int32} {va : Nat → Int64}
theorem zk_ix {a b : Nat} {cs : List Int32} (h : zSt H a b cs) (hl : cs.length = 8) (hN : 3000 ≤ N) {c : Nat} (hc : c < 128) (K : Int32 → jM α) : (jB (fJ5_indexOf N a (nI c)) K).1 H = (K (zo (zFs (fun j => decide (cs.getD j 0 = nI c)) 8 0))).1 H := by
  have hlen := fun {β : Type} (K : Int32 → jM β) => zst_len (K := K) h
  obtain ⟨-, -, ⟨r, a3⟩, f, a4, a5⟩ := h
  rw [hl] at a4 a5 hlen
  have loop : ∀ (j m i : Nat), i + j = 8 → j < m → (fJ6_indexOfChar_7 N m (some b) (nI 8) (nI c) (nI i)).1 H = some (zo (zFs (fun j => decide (cs.getD j 0 = nI c)) j i), H) := by
    intro j
    induction j with
    | zero =>
      intro m i hi hm
      obtain ⟨m, rfl⟩ : ∃ m', m = m' + 1 := ⟨m - 1, by omega⟩
      rw [fJ6_indexOfChar_7, zI, if_pos (nI_le (by omega) (by omega))]
      rfl
    | succ j ih =>
      intro m i hi hm
      obtain ⟨m, rfl⟩ : ∃ m', m = m' + 1 := ⟨m - 1, by omega⟩
      rw [fJ6_indexOfChar_7, zI, if_neg (nI_ge (by omega) (by omega)), zaI a4 (by omega) (by decide), a5 i (by omega), zI, zc1_da, zFs]
      by_cases e : cs.getD i 0 = nI c
      · rw [if_pos e, if_pos (decide_eq_true e)]; rfl
      · rw [if_neg e, if_neg (fun q => e (of_decide_eq_true q))]
        exact ih m (i + 1) (by omega) (by omega)
  have e1 : (fJ5_isLatin1 a).1 H = some (1, H) := by
    unfold fJ5_isLatin1 fJ5_isLatin1_18
    rw [zI, if_neg z10n, zgI a3 (by decide) rfl]
    rfl
  have e2 : (fJ6_indexOf N (some b) (nI c) 0 (nI 8)).1 H = some (zo (zFs (fun j => decide (cs.getD j 0 = nI c)) 8 0), H) := by
    have e3 : (fJ6_canEncode (nI c)).1 H = some (1, H) := by
      unfold fJ6_canEncode fJ6_canEncode_16
      rw [zI, if_neg (nI_pos (by omega)), zI, if_neg (show ¬ 255 < nI c from nI_nlt (a := 255) (by omega) (by decide))]
      rfl
    unfold fJ6_indexOf
    rw [jB_eq e3, zI, if_neg z10n, zln a4, zI, if_pos (by decide)]
    unfold fJ6_indexOfChar
    rw [zt8 c hc, show jmin (nI 8) (nI 8) = nI 8 from by decide, show jmax 0 0 = nI 0 from by decide]
    rw [jB_eq (x := zo (zFs (fun j => decide (cs.getD j 0 = nI c)) 8 0)) (h1 := H) (loop 8 N 0 rfl (by omega))]
    rfl
  refine jB_eq ?_
  unfold fJ5_indexOf fJ5_indexOf_2 fJ5_indexOf_2_36
  rw [zA, jB_eq e1, zIB, if_neg z10n, zA, zgRs a3 (by decide) rfl, zA, hlen, zA, jB_eq e2]
  rfl
theorem zk_let {c : Nat} (hc : c < 128) (K : Int32 → jM α) : (jB (fX2_isLetter (nI c)) K).1 H = (K (zb (zisL c))).1 H := by
  refine jB_eq ?_
  unfold fX2_isLetter fX1_within fX1_within_14 fX1_within_15 zisL
  rw [zIB, show (97 : Int32) = nI 97 from rfl, show (122 : Int32) = nI 122 from rfl]
  by_cases c1 : c < 97
  · rw [if_pos ((nI_ltI (by omega) (by decide)).mpr c1), decide_eq_false (show ¬ 97 ≤ c by omega), zRn0B]; rfl
  · rw [if_neg (fun q => c1 ((nI_ltI (by omega) (by decide)).mp q)), zIB, decide_eq_true (show 97 ≤ c by omega)]
    by_cases c2 : 122 < c
    · rw [if_pos ((nI_ltI (by decide) (by omega)).mpr c2), decide_eq_false (show ¬ c ≤ 122 by omega), zRn0B]; rfl
    · rw [if_neg (fun q => c2 ((nI_ltI (by decide) (by omega)).mp q)), decide_eq_true (show c ≤ 122 by omega), zRn1B]; rfl
theorem zk_dig {c : Nat} (hc : c < 128) (K : Int32 → jM α) : (jB (fX2_isDigit (nI c)) K).1 H = (K (zb (zisD c))).1 H := by
  refine jB_eq ?_
  unfold fX2_isDigit fX1_within fX1_within_14 fX1_within_15 zisD
  rw [zIB, show (48 : Int32) = nI 48 from rfl, show (57 : Int32) = nI 57 from rfl]
  by_cases c1 : c < 48
  · rw [if_pos ((nI_ltI (by omega) (by decide)).mpr c1), decide_eq_false (show ¬ 48 ≤ c by omega), zRn0B]; rfl
  · rw [if_neg (fun q => c1 ((nI_ltI (by omega) (by decide)).mp q)), zIB, decide_eq_true (show 48 ≤ c by omega)]
    by_cases c2 : 57 < c
    · rw [if_pos ((nI_ltI (by decide) (by omega)).mpr c2), decide_eq_false (show ¬ c ≤ 57 by omega), zRn0B]; rfl
    · rw [if_neg (fun q => c2 ((nI_ltI (by decide) (by omega)).mp q)), decide_eq_true (show c ≤ 57 by omega), zRn1B]; rfl
theorem zk_r (hR : zRt w t n dr nn at_ d H) : (cK H w so pl va).1 (w + 1) = some (zRc w dr nn at_ d) := (cK_o (by omega) (by omega) (by omega)).trans hR.2.1
theorem zk_tp (hR : zRt w t n dr nn at_ d H) {q : Nat} (hq : q < n) (K : Int32 → jM α) : (jB (jgR [1] 6 (some (w + 1))) fun y => jB (jaI 0 y (nI q)) K).1 (cK H w so pl va) = (K (nI (t q))).1 (cK H w so pl va) := by
  obtain ⟨tp, e1, e2⟩ := hR.2.2.1
  have := hR.2.2.2.1.1
  rw [zgRs (zk_r hR) (by decide) rfl, zaI ((cK_o (by omega) (by omega) (by omega)).trans e1) (by omega) (by decide), e2 q hq]
theorem zk_put (hR : zRt w t n dr nn at_ d H) (k14 : Int32 → Int32 → Int32 → jM Unit) (x1 x3 kd : Int32) {i b : Nat} (hi : i < 1001) (v : Int64) : (jB (jsI 0 (some (w + 8)) (nI i) kd) fun _ => fX2_cut_246 N k14 (w + 1) x1 (nI i) x3 (nI b) v).1 (cK H w so pl va) = (k14 x1 (nI (i + 1)) x3).1 (cK H w (upd so i kd) (upd pl i (nI b)) (vp_updL va i v)) := by
  have hb := hR.2.2.2.2.1
  unfold fX2_cut_246
  rw [zsI cK_8 (by show H.2.2.2.2 0 ≤ w + 8; omega) hi (by decide), cK_s8, zgRs (zk_r hR) (by decide) rfl, zsL cK_9 (by show H.2.2.2.2 0 ≤ w + 9; omega) hi (by decide), cK_s9, zgRs (zk_r hR) (by decide) rfl, zsI cK_10 (by show H.2.2.2.2 0 ≤ w + 10; omega) hi (by decide), cK_s10, zc1_da]
theorem zk_61 (hR : zRt w t n dr nn at_ d H) (k14 : Int32 → Int32 → Int32 → jM Unit) {i b : Nat} : ∀ (j q m : Nat), q + j = n → j < m → b ≤ q → (fX2_cut_61 N k14 (w + 1) m (nI n) (nI i) (nI q) (nI b) (nL (zVl 27 96 t b (min 8 (q - b))))).1 (cK H w so pl va) = (fX2_cut_113 N k14 (w + 1) (nI n) (nI i) (nI (zRn (fun i => zisL (t i)) j q)) (nI b) (nL (zVl 27 96 t b (min 8 (zRn (fun i => zisL (t i)) j q - b))))).1 (cK H w so pl va)
  | 0, q, m + 1, hq, hm, hbq => by
    have hn := hR.2.2.2.1.1
    rw [fX2_cut_61, zI, if_pos (nI_le (by omega) (by omega))]
    rfl
  | j + 1, q, m + 1, hq, hm, hbq => by
    have ih := zk_61 hR k14 (i := i) (b := b) j (q + 1) m (by omega) (by omega) (by omega)
    obtain ⟨hn, ht⟩ := hR.2.2.2.1
    have htq := ht q (by omega)
    rw [fX2_cut_61, zI, if_neg (nI_ge (by omega) (by omega)), zk_tp hR (by omega), zk_let htq, zI, zRn]
    cases hz : zisL (t q) with
    | false => rw [if_pos zb_f, if_neg zff]
    | true =>
      have c1' : 97 ≤ t q ∧ t q ≤ 122 := by unfold zisL at hz; simpa using hz
      rw [if_neg zb1n, if_pos rfl, pk_sub hbq, zI]
      unfold fX2_cut_107
      rw [zc1_da]
      by_cases c3 : 8 ≤ q - b
      · rw [if_pos ((zc8_le (by omega)).mpr c3), show min 8 (q - b) = min 8 (q + 1 - b) by omega]
        exact ih
      · rw [if_neg (fun z => c3 ((zc8_le (by omega)).mp z)), zk_tp hR (by omega)]
        refine Eq.trans ?_ ih
        rw [show min 8 (q - b) = q - b by omega, show min 8 (q + 1 - b) = q - b + 1 by omega, zVl, nL_i2l (by omega), show (27 : Int64) = nL 27 from rfl, show (96 : Int64) = nL 96 from rfl, nL_mul, nL_add, nL_sub (by omega), show b + (q - b) = q by omega]
theorem zk_144 (hR : zRt w t n dr nn at_ d H) (k14 : Int32 → Int32 → Int32 → jM Unit) {i b : Nat} : ∀ (j q m : Nat), q + j = n → j < m → b ≤ q → (fX2_cut_144 N k14 (w + 1) m (nI n) (nI i) (nI q) (nI b) (nL (zVl 10 48 t b (min 4 (q - b))))).1 (cK H w so pl va) = (fX2_cut_195 N k14 (w + 1) (nI n) (nI i) (nI (zRn (fun i => zisD (t i)) j q)) (nI b) (nL (zVl 10 48 t b (min 4 (zRn (fun i => zisD (t i)) j q - b))))).1 (cK H w so pl va)
  | 0, q, m + 1, hq, hm, hbq => by
    have hn := hR.2.2.2.1.1
    rw [fX2_cut_144, zI, if_pos (nI_le (by omega) (by omega))]
    rfl
  | j + 1, q, m + 1, hq, hm, hbq => by
    have ih := zk_144 hR k14 (i := i) (b := b) j (q + 1) m (by omega) (by omega) (by omega)
    obtain ⟨hn, ht⟩ := hR.2.2.2.1
    have htq := ht q (by omega)
    rw [fX2_cut_144, zI, if_neg (nI_ge (by omega) (by omega)), zk_tp hR (by omega), zk_dig htq, zI, zRn]
    cases hz : zisD (t q) with
    | false => rw [if_pos zb_f, if_neg zff]
    | true =>
      have c1' : 48 ≤ t q ∧ t q ≤ 57 := by unfold zisD at hz; simpa using hz
      rw [if_neg zb1n, if_pos rfl, pk_sub hbq, zI]
      unfold fX2_cut_189
      rw [zc1_da]
      by_cases c3 : 4 ≤ q - b
      · rw [if_pos ((zc4_le (by omega)).mpr c3), show min 4 (q - b) = min 4 (q + 1 - b) by omega]
        exact ih
      · rw [if_neg (fun z => c3 ((zc4_le (by omega)).mp z)), zk_tp hR (by omega)]
        refine Eq.trans ?_ ih
        rw [show min 4 (q - b) = q - b by omega, show min 4 (q + 1 - b) = q - b + 1 by omega, zVl, nL_i2l (by omega), show (10 : Int64) = nL 10 from rfl, show (48 : Int64) = nL 48 from rfl, nL_mul, nL_add, nL_sub (by omega), show b + (q - b) = q by omega]
/-- token i is kept -/
def zTj (u : zTau) (so pl : Nat → Int32) (va : Nat → Int64) (i : Nat) : Prop := so i = nI (u.1 i) ∧ pl i = nI (u.2.2.2.2 i) ∧ (u.1 i = 1 → va i = nL (u.2.1 i)) ∧ (u.1 i = 2 → va i = nL (u.2.2.1 i)) ∧ (u.1 i = 3 → va i = nL (u.2.2.2.1 i))
theorem zTj_up {u : zTau} {i : Nat} {kd x : Int32} {v : Int64} (h : ∀ l, l < i → zTj u so pl va l) (hi : kd = nI (u.1 i) ∧ x = nI (u.2.2.2.2 i) ∧ (u.1 i = 1 → v = nL (u.2.1 i)) ∧ (u.1 i = 2 → v = nL (u.2.2.1 i)) ∧ (u.1 i = 3 → v = nL (u.2.2.2.1 i))) : ∀ l, l < i + 1 → zTj u (upd so i kd) (upd pl i x) (vp_updL va i v) l := by
  intro l hl
  unfold zTj
  by_cases e : l = i
  · rw [e, zu_eq, zu_eq, pk_uLs]; exact hi
  · rw [zu_ne _ _ e, zu_ne _ _ e, pk_uLn e]; exact h l (by omega)
theorem zk_14 (hR : zRt w t n dr nn at_ d H) (hN : 3000 ≤ N) : ∀ (f k i : Nat) (so pl : Nat → Int32) (va : Nat → Int64), k ≤ n → n < f + k → i ≤ k → zTb t n k = zBg t n i → (∀ l, l < i → zTj (zOfT t n) so pl va l ∧ (zOfT t n).1 l ≠ 0) → ∃ c so' pl' va', i ≤ c ∧ c ≤ n ∧ (fX2_cut_14 N (w + 1) f (nI n) (nI i) (nI k)).1 (cK H w so pl va) = some ((), jset (cK H w so' pl' va') (w + 1) (zRc w dr nn 0 d)) ∧ (∀ l, l ≤ c → zTj (zOfT t n) so' pl' va' l) ∧ (∀ l, l < c → (zOfT t n).1 l ≠ 0) ∧ (zOfT t n).1 c = 0
  | 0, k, i, so, pl, va, hk, hf, hi, hb, hT => by omega
  | f + 1, k, i, so, pl, va, hk, hf, hi, hb, hT => by
    have ih := zk_14 hR hN f
    obtain ⟨hn, ht⟩ := hR.2.2.2.1
    have hK0 := hR.2.2.2.2.1
    rw [fX2_cut_14, zI]
    by_cases c0 : k = n
    · have e1 : zTb t n n = n := Nat.le_antisymm (zTb_le (Nat.le_refl _)) (zTb_ge _ _ _)
      rw [c0, e1] at hb
      have u0 : (zOfT t n).1 i = 0 := by
        show zTki t n (zBg t n i) = 0
        unfold zTki
        rw [if_pos hb.symm]
      rw [if_pos (nI_le (by omega) (by omega))]
      refine ⟨i, upd so i 0, upd pl i (nI n), va, Nat.le_refl _, by omega, ?_, fun l hl => ?_, fun l hl => (hT l hl).2, u0⟩
      · unfold fX2_cut_268
        rw [zgRs (zk_r hR) (by decide) rfl, zsI cK_8 (by show H.2.2.2.2 0 ≤ w + 8; omega) (by omega) (by decide), cK_s8, zgRs (zk_r hR) (by decide) rfl, zsI cK_10 (by show H.2.2.2.2 0 ≤ w + 10; omega) (by omega) (by decide), cK_s10]
        unfold jpI
        rw [zpV (zk_r hR) (by decide) (by show H.2.2.2.2 0 ≤ w + 1; omega) (by show 11 < 13; decide)]
        rfl
      · by_cases e : l = i
        · rw [e]
          unfold zTj
          rw [zu_eq, zu_eq, u0]
          exact ⟨rfl, congrArg nI hb, fun q => (by cases q), fun q => (by cases q), fun q => (by cases q)⟩
        · have := (hT l (by omega)).1
          unfold zTj at this ⊢
          rw [zu_ne _ _ e, zu_ne _ _ e]
          exact this
    · have hkn : k < n := by omega
      have htk := ht k hkn
      rw [if_neg (nI_ge hkn (by omega)), zk_tp hR hkn, zI]
      have step : ∀ (e : Nat) (kd : Nat) (v : Int64), k < e → e ≤ n → zTb t n k = k → zTe t n k = e → nI kd = nI (zTki t n k) → (zTki t n k ≠ 0) → (zTki t n k = 1 → v = nL (zTw t n k)) → (zTki t n k = 2 → v = nL (zTo t n k)) → (zTki t n k = 3 → v = nL (t k)) → ∃ c so' pl' va', i ≤ c ∧ c ≤ n ∧ (jB (jsI 0 (some (w + 8)) (nI i) (nI kd)) fun _ => fX2_cut_246 N (fX2_cut_14 N (w + 1) f) (w + 1) (nI n) (nI i) (nI e) (nI k) v).1 (cK H w so pl va) = some ((), jset (cK H w so' pl' va') (w + 1) (zRc w dr nn 0 d)) ∧ (∀ l, l ≤ c → zTj (zOfT t n) so' pl' va' l) ∧ (∀ l, l < c → (zOfT t n).1 l ≠ 0) ∧ (zOfT t n).1 c = 0 := by
        intro e kd v h1 h2 h3 h4 h5 h6 h7 h8 h9
        have hbk : zBg t n i = k := hb.symm.trans h3
        have u1 : (zOfT t n).1 i = zTki t n k := by show zTki t n (zBg t n i) = _; rw [hbk]
        have hpo : zPo t n (i + 1) = e := by
          show zTe t n (zBg t n i) = e
          rw [hbk, h4]
        have hT' := zTj_up (u := zOfT t n) (i := i) (kd := nI kd) (x := nI k) (v := v) (fun l hl => (hT l hl).1) ⟨by rw [u1]; exact h5, by show nI k = nI (zBg t n i); rw [hbk], fun q => by rw [u1] at q; show v = nL (zTw t n (zBg t n i)); rw [hbk]; exact h7 q, fun q => by rw [u1] at q; show v = nL (zTo t n (zBg t n i)); rw [hbk]; exact h8 q, fun q => by rw [u1] at q; show v = nL (t (zBg t n i)); rw [hbk]; exact h9 q⟩
        obtain ⟨c, so', pl', va', g1, g2, g3, g4⟩ := ih e (i + 1) _ _ _ h2 (by omega) (by omega) (by show zTb t n e = zTb t n (zPo t n (i + 1)); rw [hpo]) (fun l hl => ⟨hT' l hl, by
          by_cases e' : l = i
          · rw [e', u1]; exact h6
          · exact (hT l (by omega)).2⟩)
        refine ⟨c, so', pl', va', by omega, g2, ?_, g4⟩
        rw [zk_put hR _ _ _ _ (by omega)]
        exact g3
      by_cases c10 : t k = 10
      · have hws : zTb t n (k + 1) = zTb t n k := by
          unfold zTb
          obtain ⟨j, hj⟩ : ∃ j, n - k = j + 1 := ⟨n - k - 1, by omega⟩
          rw [hj, zRn, if_pos (by rw [c10]; rfl), show n - (k + 1) = j by omega]
        rw [if_pos (show nI (t k) = 10 by rw [c10]; rfl)]
        unfold fX2_cut_41
        rw [zc1_da]
        exact ih (k + 1) i so pl va (by omega) (by omega) (by omega) (hws.trans hb) hT
      · rw [if_neg (show ¬ nI (t k) = 10 from fun q => c10 ((nI_eq (b := 10) (by omega) (by decide)).mp q)), zI]
        by_cases c32 : t k = 32
        · have hws : zTb t n (k + 1) = zTb t n k := by
            unfold zTb
            obtain ⟨j, hj⟩ : ∃ j, n - k = j + 1 := ⟨n - k - 1, by omega⟩
            rw [hj, zRn, if_pos (by rw [c32]; rfl), show n - (k + 1) = j by omega]
          rw [if_pos (show nI (t k) = 32 by rw [c32]; rfl)]
          unfold fX2_cut_41
          rw [zc1_da]
          exact ih (k + 1) i so pl va (by omega) (by omega) (by omega) (hws.trans hb) hT
        · have hwk : zTb t n k = k := by
            unfold zTb
            obtain ⟨j, hj⟩ : ∃ j, n - k = j + 1 := ⟨n - k - 1, by omega⟩
            rw [hj, zRn, if_neg (by unfold zisW; simp [c10, c32])]
          rw [if_neg (show ¬ nI (t k) = 32 from fun q => c32 ((nI_eq (b := 32) (by omega) (by decide)).mp q)), zk_let htk, zI]
          have hgt := zTe_gt (t := t) hkn
          have hle := zTe_le (t := t) hk
          cases hL : zisL (t k) with
          | true =>
            have ete : zTe t n k = zRn (fun i => zisL (t i)) (n - k) k := by unfold zTe; rw [if_neg c0, if_pos hL]
            have etw : zTw t n k = zVl 27 96 t k (min 8 (zTe t n k - k)) := by unfold zTw; rw [if_neg c0, if_pos hL]
            have eki : zTki t n k = if zTe t n k - k ≤ 8 then 1 else 4 := by unfold zTki; rw [if_neg c0, if_pos hL]
            have := zk_61 (N := N) (so := so) (pl := pl) (va := va) hR (fX2_cut_14 N (w + 1) f) (i := i) (b := k) (n - k) k N (by omega) (by omega) (Nat.le_refl _)
            rw [Nat.sub_self, ← ete, ← etw] at this
            rw [if_neg zb1n]
            rw [show (fX2_cut_61 N (fX2_cut_14 N (w + 1) f) (w + 1) N (nI n) (nI i) (nI k) (nI k) 0).1 (cK H w so pl va) = _ from this]
            unfold fX2_cut_113 fX2_cut_132
            rw [zgRs (zk_r hR) (by decide) rfl, pk_sub (by omega), zI]
            by_cases c8 : zTe t n k - k ≤ 8
            · rw [if_pos c8] at eki
              rw [if_pos ((zc8_ge (by omega)).mpr c8)]
              exact step _ 1 _ hgt hle hwk rfl (by rw [eki]) (by rw [eki]; decide) (fun _ => rfl) (fun q => absurd q (by rw [eki]; decide)) (fun q => absurd q (by rw [eki]; decide))
            · rw [if_neg c8] at eki
              rw [if_neg (fun z => c8 ((zc8_ge (by omega)).mp z))]
              exact step _ 4 _ hgt hle hwk rfl (by rw [eki]) (by rw [eki]; decide) (fun q => absurd q (by rw [eki]; decide)) (fun q => absurd q (by rw [eki]; decide)) (fun q => absurd q (by rw [eki]; decide))
          | false =>
            have nL' : ¬ zisL (t k) = true := by rw [hL]; exact zff
            rw [if_pos zb_f, zk_dig htk, zI]
            cases hD : zisD (t k) with
            | true =>
              have ete : zTe t n k = zRn (fun i => zisD (t i)) (n - k) k := by unfold zTe; rw [if_neg c0, if_neg nL', if_pos hD]
              have etw : zTo t n k = zVl 10 48 t k (min 4 (zTe t n k - k)) := by unfold zTo; rw [if_neg c0, if_neg nL', if_pos hD]
              have eki : zTki t n k = if zTe t n k - k ≤ 4 then 2 else 4 := by unfold zTki; rw [if_neg c0, if_neg nL', if_pos hD]
              have := zk_144 (N := N) (so := so) (pl := pl) (va := va) hR (fX2_cut_14 N (w + 1) f) (i := i) (b := k) (n - k) k N (by omega) (by omega) (Nat.le_refl _)
              rw [Nat.sub_self, ← ete, ← etw] at this
              rw [if_neg zb1n]
              rw [show (fX2_cut_144 N (fX2_cut_14 N (w + 1) f) (w + 1) N (nI n) (nI i) (nI k) (nI k) 0).1 (cK H w so pl va) = _ from this]
              unfold fX2_cut_195 fX2_cut_213
              rw [zgRs (zk_r hR) (by decide) rfl, pk_sub (by omega), zI]
              by_cases c8 : zTe t n k - k ≤ 4
              · rw [if_pos c8] at eki
                rw [if_pos ((zc4_ge (by omega)).mpr c8)]
                exact step _ 2 _ hgt hle hwk rfl (by rw [eki]) (by rw [eki]; decide) (fun q => absurd q (by rw [eki]; decide)) (fun _ => rfl) (fun q => absurd q (by rw [eki]; decide))
              · rw [if_neg c8] at eki
                rw [if_neg (fun z => c8 ((zc4_ge (by omega)).mp z))]
                exact step _ 4 _ hgt hle hwk rfl (by rw [eki]) (by rw [eki]; decide) (fun q => absurd q (by rw [eki]; decide)) (fun q => absurd q (by rw [eki]; decide)) (fun q => absurd q (by rw [eki]; decide))
            | false =>
              have nD' : ¬ zisD (t k) = true := by rw [hD]; exact zff
              have ete : zTe t n k = k + 1 := by unfold zTe; rw [if_neg c0, if_neg nL', if_neg nD']
              have eki : zTki t n k = if zisS (t k) = true then 3 else 4 := by unfold zTki; rw [if_neg c0, if_neg nL', if_neg nD']
              have hKc : zKc (cK H w so pl va) := hR.1.fr (fun q hq => cK_o (by omega) (by omega) (by omega)) rfl
              have hs := hKc.1 24 (by decide)
              have hsg := zsgn (t k) htk
              unfold fX2_cut_245
              rw [if_pos zb_f, zgRs (zk_r hR) (by decide) rfl, zK, zst_rc hs, zk_ix hs zcb24 hN htk, zI, zc1_da, nL_i2l (by omega)]
              cases hz : zFs (fun j => decide ((jbyt.getD 24 []).getD j 0 = nI (t k))) 8 0 with
              | none =>
                rw [hz] at hsg
                rw [← hsg, if_neg (show ¬ (none : Option Nat).isSome = true from zff)] at eki
                rw [if_pos (show zo none < 0 by decide)]
                exact step _ 4 _ (by omega) (by omega) hwk ete (by rw [eki]) (by rw [eki]; decide) (fun q => absurd q (by rw [eki]; decide)) (fun q => absurd q (by rw [eki]; decide)) (fun q => absurd q (by rw [eki]; decide))
              | some z =>
                have hz8 := (zFs_31 hz).2.1
                rw [hz] at hsg
                rw [← hsg, if_pos (show (some z : Option Nat).isSome = true from rfl)] at eki
                rw [if_neg (show ¬ zo (some z) < 0 from nI_pos (by omega))]
                exact step _ 3 _ (by omega) (by omega) hwk ete (by rw [eki]) (by rw [eki]; decide) (fun q => absurd q (by rw [eki]; decide)) (fun q => absurd q (by rw [eki]; decide)) (fun _ => rfl)
/-- the tape is cut: the reader stands at the first token -/
theorem zk_cut (hN : 3000 ≤ N) (hR : zRt w t n dr (nI n) at_ d H) (hA : zRa w H) (hS : H.1 (w + 8) = some (.inr (0, 1001, .inl so)) ∧ H.1 (w + 9) = some (.inr (1, 1001, .inr (.inl va))) ∧ H.1 (w + 10) = some (.inr (0, 1001, .inl pl))) (hd : ∃ d', d = nI d') : ∃ c d' H', (fX2_cut N (w + 1)).1 H = some ((), H') ∧ zUg (zOfT t n) c ∧ c ≤ n ∧ zRdS w (zOfT t n) c dr 0 0 d' H' ∧ zFm (fun q => q = w + 1 ∨ (w + 8 ≤ q ∧ q ≤ w + 10)) H H' ∧ H'.2 = H.2 := by
  obtain ⟨d', rfl⟩ := hd
  obtain ⟨k1, k2, ⟨tp, k3, k4⟩, ⟨k5, k6⟩, k7, k8⟩ := id hR
  obtain ⟨H1, hH1⟩ : ∃ H1, H1 = jset H (w + 1) (zRc w dr 0 at_ (nI d')) := ⟨_, rfl⟩
  have o1 : ∀ q, q ≠ w + 1 → H1.1 q = H.1 q := fun q hq => by rw [hH1]; exact zse_n _ _ hq
  have s1 : H1.2 = H.2 := by rw [hH1]; rfl
  have hR1 : zRt w t n dr 0 at_ (nI d') H1 := ⟨k1.fr (fun q hq => o1 q (by omega)) (by rw [s1]), by rw [hH1]; exact zse_e _ _ _, ⟨tp, (o1 _ (by omega)).trans k3, k4⟩, ⟨k5, k6⟩, by rw [s1]; exact k7, by rw [s1]; exact k8⟩
  have e1 : H1 = cK H1 w so pl va := by
    refine Prod.ext (funext fun q => ?_) rfl
    show H1.1 q = (if q = w + 8 then _ else if q = w + 9 then _ else if q = w + 10 then _ else H1.1 q)
    by_cases h8 : q = w + 8
    · rw [if_pos h8, h8, o1 _ (by omega)]; exact hS.1
    · rw [if_neg h8]
      by_cases h9 : q = w + 9
      · rw [if_pos h9, h9, o1 _ (by omega)]; exact hS.2.1
      · rw [if_neg h9]
        by_cases h10 : q = w + 10
        · rw [if_pos h10, h10, o1 _ (by omega)]; exact hS.2.2
        · rw [if_neg h10]
  obtain ⟨c, so', pl', va', g1, g2, g3, g4, g5, g6⟩ := zk_14 (N := N) hR1 hN N 0 0 so pl va (Nat.zero_le _) (by omega) (Nat.le_refl _) rfl (fun l hl => absurd hl (Nat.not_lt_zero l))
  rw [← e1] at g3
  have hu : zUg (zOfT t n) c := by
    refine ⟨by omega, g5, g6, fun i hi => ⟨?_, ?_, zOfT_o t n i, fun h3 => ?_, Nat.le_trans (zBg_le t n i) k5⟩⟩
    · have := zTki_lt t n (zBg t n i)
      show zTki t n (zBg t n i) ≤ 4
      omega
    · have := zTw_lt t n (zBg t n i)
      show zTw t n (zBg t n i) < 2 ^ 40
      omega
    · have : zBg t n i < n := zTki_n (zBg_le t n i) (by
        have h3 : zTki t n (zBg t n i) = 3 := h3
        rw [h3]; decide)
      exact k6 _ this
  obtain ⟨H', hH'⟩ : ∃ H', H' = jset (cK H1 w so' pl' va') (w + 1) (zRc w dr 0 0 (nI d')) := ⟨_, rfl⟩
  have o2 : ∀ q, q ≠ w + 1 → q ≠ w + 8 → q ≠ w + 9 → q ≠ w + 10 → H'.1 q = H.1 q := fun q h1 h2 h3 h4 => by
    rw [hH']
    exact (zse_n _ _ h1).trans ((cK_o h2 h3 h4).trans (o1 q h1))
  have s2 : H'.2 = H.2 := by rw [hH']; exact s1
  refine ⟨c, d', H', ?_, hu, g2, ⟨k1.fr (fun q hq => o2 q (by omega) (by omega) (by omega) (by omega)) (by rw [s2]), ?_, ?_, ?_, Nat.zero_le _, by rw [s2]; exact k7, by rw [s2]; exact k8⟩, ⟨fun q hq hw => o2 q (by omega) (by omega) (by omega) (by omega), by rw [s2]; exact Nat.le_refl _, by rw [s2], by rw [s2]; exact Nat.le_refl _, by rw [s2]⟩, s2⟩
  · unfold fX2_cut
    rw [zgI k2 (by decide) rfl]
    have g3' : (fX2_cut_14 N (w + 1) N (nI n) 0 0).1 (jset H (w + 1) (zRc w dr 0 at_ (nI d'))) = some ((), H') := by rw [← hH1, hH']; exact g3
    unfold jpI
    rw [zpV k2 (by decide) (by omega) (by show 7 < 13; decide)]
    exact g3'
  · obtain ⟨⟨g2, a2, b2⟩, ⟨g3, a3, b3⟩, ⟨g4, a4, b4⟩, ⟨g5, a5, b5⟩, g6, a6, b6⟩ := hA
    unfold zRa
    rw [s2]
    exact ⟨⟨g2, (o2 _ (by omega) (by omega) (by omega) (by omega)).trans a2, b2⟩, ⟨g3, (o2 _ (by omega) (by omega) (by omega) (by omega)).trans a3, b3⟩, ⟨g4, (o2 _ (by omega) (by omega) (by omega) (by omega)).trans a4, b4⟩, ⟨g5, (o2 _ (by omega) (by omega) (by omega) (by omega)).trans a5, b5⟩, g6, (o2 _ (by omega) (by omega) (by omega) (by omega)).trans a6, b6⟩
  · exact ⟨so', va', pl', by rw [hH']; exact (zse_n _ _ (by omega)).trans cK_8, by rw [hH']; exact (zse_n _ _ (by omega)).trans cK_9, by rw [hH']; exact (zse_n _ _ (by omega)).trans cK_10, g4⟩
  · rw [hH']; exact zse_e _ _ _
end
