/-! PURE 63: heaps that change at some places and grow; lists -/
set_option maxRecDepth 100000
theorem zse_e (H : jH) (a : Nat) (e : jC) : (jset H a e).1 a = some e := if_pos rfl
theorem zse_n (H : jH) {a q : Nat} (e : jC) (h : q ≠ a) : (jset H a e).1 q = H.1 q := if_neg h
theorem znw_e (H : jH) (e : jC) (n : Nat) : (jnew H e n).1 H.2.1 = some e := if_pos rfl
theorem znw_n (H : jH) (e : jC) (n : Nat) {q : Nat} (h : q ≠ H.2.1) : (jnew H e n).1 q = H.1 q := if_neg h
/-- what lay there is as it was but where W; it grew -/
def zFm (W : Nat → Prop) (H H' : jH) : Prop := (∀ q, q < H.2.1 → ¬ W q → H'.1 q = H.1 q) ∧ H.2.1 ≤ H'.2.1 ∧ H'.2.2.1 + H.2.1 = H.2.2.1 + H'.2.1 ∧ H.2.2.2.1 ≤ H'.2.2.2.1 ∧ H'.2.2.2.2 = H.2.2.2.2
section
variable {W W1 : Nat → Prop} {H H1 H2 : jH} {a n : Nat} {e : jC}
theorem zFm.rf (W : Nat → Prop) (H : jH) : zFm W H H := ⟨fun _ _ _ => rfl, Nat.le_refl _, rfl, Nat.le_refl _, rfl⟩
theorem zFm.tr (h1 : zFm W H H1) (h2 : zFm W1 H1 H2) (hW : ∀ q, q < H.2.1 → W1 q → W q) : zFm W H H2 := by
  obtain ⟨a1, a2, a3, a4, a5⟩ := h1
  obtain ⟨b1, b2, b3, b4, b5⟩ := h2
  exact ⟨fun q hq hw => (b1 q (by omega) (fun hc => hw (hW q hq hc))).trans (a1 q hq hw), by omega, by omega, by omega, b5.trans a5⟩
theorem zFm.set (h1 : zFm W H H1) (ha : H.2.1 ≤ a ∨ W a) : zFm W H (jset H1 a e) := by
  obtain ⟨a1, a2, a3, a4, a5⟩ := h1
  refine ⟨fun q hq hw => ?_, a2, a3, a4, a5⟩
  rw [zse_n _ _ (fun c => ?_)]
  · exact a1 q hq hw
  · rw [c] at hq hw
    rcases ha with ha | ha
    · omega
    · exact hw ha
theorem zFm.nw (h1 : zFm W H H1) : zFm W H (jnew H1 e n) := by
  obtain ⟨a1, a2, a3, a4, a5⟩ := h1
  refine ⟨fun q hq hw => ?_, Nat.le_succ_of_le a2, ?_, Nat.le_trans a4 (Nat.le_add_right _ _), a5⟩
  · rw [znw_n _ _ _ (by omega)]
    exact a1 q hq hw
  · show H1.2.2.1 + 1 + H.2.1 = H.2.2.1 + (H1.2.1 + 1)
    omega
theorem zFm.mo (h1 : zFm W H H1) (hW : ∀ q, q < H.2.1 → W q → W1 q) : zFm W1 H H1 := ⟨fun q hq hw => h1.1 q hq (fun c => hw (hW q hq c)), h1.2⟩
theorem zFm.at (h1 : zFm W H H1) {q : Nat} {e : jC} (he : H.1 q = some e) (hq : q < H.2.1) (hw : ¬ W q) : H1.1 q = some e := (h1.1 q hq hw).trans he
end
/-- what may lie in a list -/
def zOk (H : jH) (v : Option Nat) : Prop := ∃ r c, v = some r ∧ r < H.2.1 ∧ jcd H r = some c ∧ c ∈ okl_java_lang_Object
theorem zOk.le {H H' : jH} {v : Option Nat} (h : zOk H v) (hl : jLe H H') : zOk H' v := by
  obtain ⟨r, c, e1, e2, e3, e4⟩ := h
  exact ⟨r, c, e1, Nat.lt_of_lt_of_le e2 hl.1, hl.2.2.2.2 r c e2 e3, e4⟩
theorem zOk.jk {H : jH} {v : Option Nat} (h : zOk H v) : jokR H okl_java_lang_Object v = true := by
  obtain ⟨r, c, rfl, e2, e3, e4⟩ := h
  unfold jokR
  simp only [e3]
  exact decide_eq_true e4
/-- a list: its array, how long that is, how many, what -/
def zAL (H : jH) (p arr cap n : Nat) (f : Nat → Option Nat) : Prop := (∃ mc : Int32, H.1 p = some (.inl (4, [.int mc, .ref arr, .int (nI n)]))) ∧ H.1 arr = some (.inr (4, cap, zRf f)) ∧ p ≠ arr ∧ n ≤ cap ∧ cap ≤ 100000 ∧ (p < H.2.1 ∧ arr < H.2.1) ∧ H.2.2.2.2 0 ≤ p ∧ (cap = 0 → arr = H.2.2.2.2 52) ∧ (0 < cap → H.2.2.2.2 0 ≤ arr) ∧ ∀ i, i < n → zOk H (f i)
section
variable {α : Type} {H : jH} {p arr cap n x : Nat} {f : Nat → Option Nat} {mc m : Int32}
theorem zl_p0 (h1 : H.1 p = some (.inl (4, [.int mc, .ref arr, .int m]))) (hb : H.2.2.2.2 0 ≤ p) (x : Int32) (K : Unit → jM α) : (jB (jpI [4] 0 (some p) x) K).1 H = (K ()).1 (jset H p (.inl (4, [.int x, .ref arr, .int m]))) := zpV h1 (by decide) hb (by show 0 < 3; decide) K
theorem zl_p1 {v : Value} (h1 : H.1 p = some (.inl (4, [.int mc, v, .int m]))) (hb : H.2.2.2.2 0 ≤ p) (x : Nat) (K : Unit → jM α) : (jB (jpR [4] 1 (some p) (some x)) K).1 H = (K ()).1 (jset H p (.inl (4, [.int mc, .ref x, .int m]))) := zpV h1 (by decide) hb (by show 1 < 3; decide) K
theorem zl_p2 (h1 : H.1 p = some (.inl (4, [.int mc, .ref arr, .int m]))) (hb : H.2.2.2.2 0 ≤ p) (x : Int32) (K : Unit → jM α) : (jB (jpI [4] 2 (some p) x) K).1 H = (K ()).1 (jset H p (.inl (4, [.int mc, .ref arr, .int x]))) := zpV h1 (by decide) hb (by show 2 < 3; decide) K
theorem zcpR {kd : Nat} {ok : List Nat} {a b n1 n2 i j m : Nat} {f g : Nat → Option Nat} {H : jH} (h1 : H.1 a = some (.inr (kd, n1, zRf f))) (h2 : H.1 b = some (.inr (kd, n2, zRf g))) (hb : H.2.2.2.2 0 ≤ b) (hi : i + m ≤ n1) (hj : j + m ≤ n2) (hn1 : n1 < 2 ^ 31) (hn2 : n2 < 2 ^ 31) (hok : ∀ q, q < m → jokR H ok (f (i + q)) = true) (K : Unit → jM α) : (jB (jcpR kd ok (some a) (nI i) (some b) (nI j) (nI m)) K).1 H = (K ()).1 (jset H b (.inr (kd, n2, zRf (va_cpy f g i j m)))) := by
  have a1 : ¬ nI i < 0 := nI_pos (by omega)
  have a2 : ¬ nI j < 0 := nI_pos (by omega)
  have a3 : ¬ nI m < 0 := nI_pos (by omega)
  have b1 : (nI i).toNatClampNeg = i := nI_clamp (by omega)
  have b2 : (nI j).toNatClampNeg = j := nI_clamp (by omega)
  have b3 : (nI m).toNatClampNeg = m := nI_clamp (by omega)
  have c1 : (List.range m).all (fun q => jokR H ok (f (i + q))) = true := by
    rw [List.all_eq_true]
    intro q hq
    exact hok q (List.mem_range.mp hq)
  refine zBW ?_ K
  unfold jcpRg
  simp only [h1, h2, b1, b2, b3]
  rw [if_pos ⟨⟨trivial, trivial, hb⟩, ⟨a1, a2, a3⟩, hi, hj, c1⟩]
theorem zgc {a n : Nat} {x : jX} (h1 : H.1 a = some (.inr (4, n, x))) (K : Option Nat → jM α) : (jB (jgetC (some a)) K).1 H = (K (some (H.2.2.2.2 55))).1 H := by
  have hc : jcd H a = some 1004 := by unfold jcd; rw [h1]; rfl
  exact zBO (by simp only [hc, if_true]) K
/-- one is laid where there is room -/
theorem zal_put {mc : Int32} (h1 : H.1 p = some (.inl (4, [.int mc, .ref arr, .int (nI n)]))) (h2 : H.1 arr = some (.inr (4, cap, zRf f))) (hpa : p ≠ arr) (hn : n < cap) (hc : cap < 2 ^ 31) (hb : H.2.2.2.2 0 ≤ p) (hb2 : H.2.2.2.2 0 ≤ arr) (hx : jokR H okl_java_lang_Object (some x) = true) : (fJ2_add_2_11 p (some x) (some arr) (nI n)).1 H = some ((), jset (jset H arr (.inr (4, cap, zRf (va_up f n (some x))))) p (.inl (4, [.int mc, .ref arr, .int (nI (n + 1))]))) := by
  unfold fJ2_add_2_11
  rw [zsR h2 hb2 hn hc hx, zc1_da, zl_p2 (mc := mc) (m := nI n) ((zse_n _ _ hpa).trans h1) hb]
  rfl
def zNc (cap : Nat) : Nat := cap + max 1 (cap / 2)
theorem zal_grow {mc : Int32} (h1 : H.1 p = some (.inl (4, [.int mc, .ref arr, .int (nI n)]))) (h2 : H.1 arr = some (.inr (4, cap, zRf f))) (hpa : p ≠ arr) (hp : p < H.2.1) (ha : arr < H.2.1) (hn : n = cap) (h0 : 0 < cap) (hc : cap ≤ 100000) (hb : H.2.2.2.2 0 ≤ p) (hok : ∀ i, i < n → zOk H (f i)) :
    (fJ2_grow p).1 H = some (some H.2.1, jset (jset (jnew H (.inr (4, zNc cap, zRf fun _ => none)) (zNc cap)) H.2.1 (.inr (4, zNc cap, zRf (va_cpy f (fun _ => none) 0 0 cap)))) p (.inl (4, [.int mc, .ref H.2.1, .int (nI n)]))) := by
  have hN : zNc cap ≤ 200000 := by unfold zNc; omega
  have hN1 : cap ≤ zNc cap := by unfold zNc; omega
  have hne : p ≠ H.2.1 := by omega
  have hle := jnew_le H (.inr (4, zNc cap, zRf fun _ => none)) (zNc cap)
  have e1 : nI cap + 1 - nI cap = 1 := by rw [zc1_da, pk_sub (by omega), Nat.add_sub_cancel_left]; rfl
  have e2 : nI cap >>> (1 &&& 31) = nI (cap / 2) := (zshr (l := 1) (by omega) (by decide)).trans (by rw [Nat.pow_one])
  have e3 : (fJ14_newLength (nI cap) 1 (nI (cap / 2))).1 H = some (nI (zNc cap), H) := by
    unfold fJ14_newLength
    rw [show (1 : Int32) = nI 1 from rfl, zjm (by decide) (by omega), nI_add]
    rw [if_neg (fun q => by have := (zc0_ge (by omega)).mp q; omega), if_neg (show ¬ 2147483639 < nI (cap + max 1 (cap / 2)) from nI_nlt (a := 2147483639) (by omega) (by decide))]
    rfl
  unfold fJ2_grow fJ2_grow_2 fJ2_grow_2_20
  rw [zgI h1 (by decide) rfl, zA, zgRs h1 (by decide) rfl, zA, zln h2, zIB, if_pos (show 0 < nI cap from (nI_lt h0 (by omega) : nI 0 < nI cap)), hn, e1, e2, zA, jB_eq e3, zA, zgRs h1 (by decide) rfl]
  unfold fJ15_copyOf fJ15_copyOf_2
  rw [zA, zA, zgc h2, zA, zA, zK, zIB, if_pos rfl, zA, znaRB (by omega), zA, zln ((znw_n _ _ _ (by omega)).trans h2)]
  have e4 : jmin (nI cap) (nI (zNc cap)) = nI cap := by
    unfold jmin
    rw [if_neg (nI_nlt (by omega) (by omega))]
  rw [e4, zA, show (0 : Int32) = nI 0 from rfl, zcpR (n1 := cap) (n2 := zNc cap) (f := f) (g := fun _ => none) ((znw_n _ _ _ (by omega)).trans h2) (znw_e _ _ _) (by show H.2.2.2.2 0 ≤ H.2.1; omega) (by omega) (by omega) (by omega) (by omega) (fun q hq => by rw [Nat.zero_add]; exact ((hok q (by omega)).le hle).jk)]
  rw [zR, zR, zA, zl_p1 (v := .ref arr) (mc := mc) (m := nI n) ((zse_n _ _ hne).trans ((znw_n _ _ _ hne).trans h1)) hb, hn]
  rfl
/-- one is added -/
theorem zAL_add (hL : zAL H p arr cap n f) (hx : zOk H (some x)) (hn : n < 50000) : ∃ H' arr' cap' f', (fJ2_add p (some x)).1 H = some (1, H') ∧ zAL H' p arr' cap' (n + 1) f' ∧ (∀ i, i < n → f' i = f i) ∧ f' n = some x ∧ zFm (fun q => q = p ∨ (q = arr ∧ n < cap)) H H' ∧ ((arr' = arr ∧ cap' = cap ∧ n < cap ∧ H'.2 = H.2) ∨ (n = cap ∧ arr' = H.2.1 ∧ H'.2.1 = H.2.1 + 1 ∧ cap' = (if cap = 0 then 10 else zNc cap) ∧ H'.2.2.2.1 = H.2.2.2.1 + cap')) := by
  obtain ⟨⟨mc, h1⟩, h2, hpa, hnc, hc, ⟨hp, ha⟩, hb, hK, hb2, hok⟩ := hL
  obtain ⟨H1, hH1⟩ : ∃ H1, H1 = jset H p (.inl (4, [.int (mc + 1), .ref arr, .int (nI n)])) := ⟨_, rfl⟩
  have l1 : jLe H H1 := by rw [hH1]; exact jsetO_le h1
  have f1 : zFm (fun q => q = p ∨ (q = arr ∧ n < cap)) H H1 := by rw [hH1]; exact (zFm.rf _ _).set (Or.inr (Or.inl rfl))
  have a1 : H1.1 p = some (.inl (4, [.int (mc + 1), .ref arr, .int (nI n)])) := by rw [hH1]; exact zse_e _ _ _
  have a2 : H1.1 arr = some (.inr (4, cap, zRf f)) := by rw [hH1]; exact (zse_n _ _ (Ne.symm hpa)).trans h2
  have s1 : H1.2 = H.2 := by rw [hH1]; rfl
  have hd : ∀ K : Unit → jM Int32, (jB (jpI [4] 0 (some p) (mc + 1)) K).1 H = (K ()).1 H1 := fun K => by rw [hH1]; exact zl_p0 h1 hb _ K
  by_cases c : n = cap
  · -- the array is full
    have key : ∀ (c' : Nat) (g : Nat → Option Nat) (H2 : jH), c' ≤ 200000 → n < c' → (∀ i, i < n → g i = f i) → (fJ2_grow p).1 H1 = some (some H.2.1, H2) → H2.1 p = some (.inl (4, [.int (mc + 1), .ref H.2.1, .int (nI n)])) → H2.1 H.2.1 = some (.inr (4, c', zRf g)) → jLe H H2 → zFm (fun q => q = p ∨ (q = arr ∧ n < cap)) H H2 → H2.2.1 = H.2.1 + 1 → H2.2.2.2.1 = H.2.2.2.1 + c' → H2.2.2.2.2 = H.2.2.2.2 → ∃ H' f', (fJ2_add p (some x)).1 H = some (1, H') ∧ (∃ mc : Int32, H'.1 p = some (.inl (4, [.int mc, .ref H.2.1, .int (nI (n + 1))]))) ∧ H'.1 H.2.1 = some (.inr (4, c', zRf f')) ∧ (∀ i, i < n → f' i = f i) ∧ f' n = some x ∧ zFm (fun q => q = p ∨ (q = arr ∧ n < cap)) H H' ∧ H'.2 = H2.2 ∧ jLe H H' := by
      intro c' g H2 hc' hnc' hg e b1 b2 l2 f2 s2 s3 s4
      have hpn : p ≠ H.2.1 := by omega
      have hx2 : jokR H2 okl_java_lang_Object (some x) = true := (hx.le l2).jk
      have e11 := zal_put (x := x) b1 b2 hpn hnc' (by omega) (by rw [s4]; exact hb) (by rw [s4]; omega) hx2
      refine ⟨_, va_up g n (some x), ?_, ⟨mc + 1, zse_e _ _ _⟩, (zse_n _ _ (Ne.symm hpn)).trans (zse_e _ _ _), fun i hi => (va_up_ne _ _ (by omega)).trans (hg i hi), va_up_self _ _ _, ((f2.set (Or.inl (Nat.le_refl _))).set (Or.inr (Or.inl rfl))), rfl, jLe.tr l2 (jLe.tr (jsetA_le b2) (jsetO_le ((zse_n _ _ hpn).trans b1)))⟩
      unfold fJ2_add fJ2_add_2
      rw [zgI h1 (by decide) rfl, hd, zgRs a1 (by decide) rfl, zgI a1 (by decide) rfl, zA, zln a2, zIB, if_pos (by rw [c]), zA, jB_eq e, jB_eq e11]
      rfl
    by_cases c0 : cap = 0
    · have hne : p ≠ H1.2.1 := by rw [s1]; omega
      have eg : (fJ2_grow p).1 H1 = some (some H.2.1, jset (jnew H1 (.inr (4, 10, zRf fun _ => none)) 10) p (.inl (4, [.int (mc + 1), .ref H.2.1, .int (nI n)]))) := by
        unfold fJ2_grow fJ2_grow_2
        rw [zgI a1 (by decide) rfl, zA, zgRs a1 (by decide) rfl, zA, zln a2, zIB, if_neg (by rw [c0]; decide), zA, zgRs a1 (by decide) rfl, zA, zK, zIB, if_pos (by rw [hK c0, s1]), c, c0, show jmax 10 (nI 0 + 1) = nI 10 from by decide, zA, znaRB (by decide), zA, zl_p1 (v := .ref arr) (mc := mc + 1) (m := nI n) ((znw_n _ _ _ hne).trans a1) (by show H1.2.2.2.2 0 ≤ p; rw [s1]; exact hb)]
        rw [show H1.2.1 = H.2.1 by rw [s1], c, c0]
        rfl
      obtain ⟨H', f', k1, k2, k3, k4, k5, k6, k7, k8⟩ := key 10 (fun _ => none) _ (by decide) (by omega) (fun i hi => by omega) eg (zse_e _ _ _) ((zse_n _ _ (by omega)).trans (by rw [← s1]; exact znw_e _ _ _)) (jLe.tr l1 (jLe.tr (jnew_le _ _ _) (jsetO_le ((znw_n _ _ _ hne).trans a1)))) (f1.nw.set (Or.inr (Or.inl rfl))) (by show H1.2.1 + 1 = _; rw [s1]) (by show H1.2.2.2.1 + 10 = _; rw [s1]) (by show H1.2.2.2.2 = _; rw [s1])
      have q1 : H'.2.1 = H.2.1 + 1 := by rw [k7]; show H1.2.1 + 1 = _; rw [s1]
      have q2 : H'.2.2.2.1 = H.2.2.2.1 + 10 := by rw [k7]; show H1.2.2.2.1 + 10 = _; rw [s1]
      have q3 : H'.2.2.2.2 = H.2.2.2.2 := by rw [k7]; show H1.2.2.2.2 = _; rw [s1]
      refine ⟨H', H.2.1, 10, f', k1, ⟨k2, k3, by omega, by omega, by decide, ⟨by omega, by omega⟩, by rw [q3]; exact hb, fun q => (by cases q), fun _ => by rw [q3]; omega, fun i hi => ?_⟩, k4, k5, k6, Or.inr ⟨c, rfl, q1, by rw [if_pos c0], q2⟩⟩
      by_cases e : i = n
      · rw [e, k5]; exact hx.le k8
      · rw [k4 i (by omega)]; exact (hok i (by omega)).le k8
    · have hN : zNc cap ≤ 200000 ∧ cap < zNc cap ∧ zNc cap ≤ 100000 := by
        have : cap < 50000 := by omega
        unfold zNc; omega
      have eg := zal_grow (H := H1) a1 a2 hpa (by rw [s1]; exact hp) (by rw [s1]; exact ha) c (by omega) hc (by rw [s1]; exact hb) (fun i hi => (hok i hi).le l1)
      rw [show H1.2.1 = H.2.1 by rw [s1]] at eg
      have hne : p ≠ H1.2.1 := by rw [s1]; omega
      obtain ⟨H', f', k1, k2, k3, k4, k5, k6, k7, k8⟩ := key (zNc cap) (va_cpy f (fun _ => none) 0 0 cap) _ hN.1 (by omega) (fun i hi => (pk_cpy_in (by omega) (by omega)).trans (by congr 1; omega)) eg (zse_e _ _ _) ((zse_n _ _ (by omega)).trans (zse_e _ _ _)) (jLe.tr l1 (jLe.tr (jnew_le _ _ _) (jLe.tr (jsetA_le (by rw [← s1]; exact znw_e _ _ _)) (jsetO_le ((zse_n _ _ (by omega)).trans ((znw_n _ _ _ hne).trans a1)))))) ((f1.nw.set (Or.inl (Nat.le_refl _))).set (Or.inr (Or.inl rfl))) (by show H1.2.1 + 1 = _; rw [s1]) (by show H1.2.2.2.1 + zNc cap = _; rw [s1]) (by show H1.2.2.2.2 = _; rw [s1])
      have q1 : H'.2.1 = H.2.1 + 1 := by rw [k7]; show H1.2.1 + 1 = _; rw [s1]
      have q2 : H'.2.2.2.1 = H.2.2.2.1 + zNc cap := by rw [k7]; show H1.2.2.2.1 + zNc cap = _; rw [s1]
      have q3 : H'.2.2.2.2 = H.2.2.2.2 := by rw [k7]; show H1.2.2.2.2 = _; rw [s1]
      refine ⟨H', H.2.1, zNc cap, f', k1, ⟨k2, k3, by omega, by omega, hN.2.2, ⟨by omega, by omega⟩, by rw [q3]; exact hb, fun q => by omega, fun _ => by rw [q3]; omega, fun i hi => ?_⟩, k4, k5, k6, Or.inr ⟨c, rfl, q1, by rw [if_neg c0], q2⟩⟩
      by_cases e : i = n
      · rw [e, k5]; exact hx.le k8
      · rw [k4 i (by omega)]; exact (hok i (by omega)).le k8
  · have hnc' : n < cap := by omega
    have hb2' := hb2 (by omega)
    have e11 := zal_put (x := x) a1 a2 hpa hnc' (by omega) (by rw [s1]; exact hb) (by rw [s1]; exact hb2') ((hx.le l1).jk)
    obtain ⟨H', hH'⟩ : ∃ H', H' = jset (jset H1 arr (.inr (4, cap, zRf (va_up f n (some x))))) p (.inl (4, [.int (mc + 1), .ref arr, .int (nI (n + 1))])) := ⟨_, rfl⟩
    have l8 : jLe H H' := by rw [hH']; exact jLe.tr l1 (jLe.tr (jsetA_le a2) (jsetO_le ((zse_n _ _ hpa).trans a1)))
    have s8 : H'.2 = H.2 := by rw [hH']; exact s1
    refine ⟨H', arr, cap, va_up f n (some x), ?_, ⟨⟨mc + 1, by rw [hH']; exact zse_e _ _ _⟩, by rw [hH']; exact (zse_n _ _ (Ne.symm hpa)).trans (zse_e _ _ _), hpa, by omega, hc, by rw [s8]; exact ⟨hp, ha⟩, by rw [s8]; exact hb, fun q => by omega, fun _ => by rw [s8]; exact hb2', fun i hi => ?_⟩, fun i hi => va_up_ne _ _ (by omega), va_up_self _ _ _, ?_, Or.inl ⟨rfl, rfl, hnc', s8⟩⟩
    · unfold fJ2_add fJ2_add_2
      rw [zgI h1 (by decide) rfl, hd, zgRs a1 (by decide) rfl, zgI a1 (by decide) rfl, zA, zln a2, zIB, if_neg (fun q => c ((nI_eq (by omega) (by omega)).mp q)), jB_eq e11, hH']
      rfl
    · by_cases e : i = n
      · rw [e, va_up_self]; exact hx.le l8
      · rw [va_up_ne _ _ e]; exact (hok i (by omega)).le l8
    · rw [hH']
      exact (f1.set (Or.inr (Or.inr ⟨rfl, hnc'⟩))).set (Or.inr (Or.inl rfl))
end
