/-! PURE 73: names of a library, as the component keeps them -/
set_option maxRecDepth 100000
/-- names, and what they name (a skin, 20 and a text), in a heap -/
def zNl (H : jH) (lb pn po cnt : Nat) (what name : Nat → Nat) : Prop := (∃ rest, H.1 lb = some (.inl (3, .ref pn :: .ref po :: rest))) ∧ ∃ a1 c1 f1 v1 a2 c2 f2 v2, H.1 pn = some (.inl (4, [v1, .ref a1, .int (nI cnt)])) ∧ H.1 a1 = some (.inr (4, c1, zRf f1)) ∧ (cnt ≤ c1 ∧ c1 < 2 ^ 31) ∧ H.1 po = some (.inl (4, [v2, .ref a2, .int (nI cnt)])) ∧ H.1 a2 = some (.inr (4, c2, zRf f2)) ∧ (cnt ≤ c2 ∧ c2 < 2 ^ 31) ∧ ∀ j, j < cnt → ∃ x y, f1 j = some x ∧ f2 j = some y ∧ H.1 x = some (.inl (10, [.long (nL (name j))])) ∧ H.1 y = some (.inl (11, [.int (nI (what j))]))
def zfd (cnt : Nat) (what name : Nat → Nat) (v : Nat) : Option Nat := match zFs (fun j => decide (name j = v)) cnt 0 with
  | none => none
  | some j => some (what j)
/-- they are the names of skins and of texts, each once -/
def zNo (cS cT : Nat) (nS nT : Nat → Nat) (cnt : Nat) (what name : Nat → Nat) : Prop := (cS ≤ 3 ∧ cT ≤ 6 ∧ cnt = cS + cT) ∧ (∀ j, j < cnt → name j < 2 ^ 40) ∧ (∀ j, j < cnt → (what j < cS ∧ name j = nS (what j)) ∨ ∃ t, t < cT ∧ what j = 20 + t ∧ name j = nT t) ∧ (∀ s, s < cS → ∃ j, j < cnt ∧ what j = s) ∧ (∀ t, t < cT → ∃ j, j < cnt ∧ what j = 20 + t) ∧ ∀ j j', j < cnt → j' < cnt → name j = name j' → j = j'
section
variable {cS cT cnt : Nat} {nS nT what name : Nat → Nat} {v : Nat}
theorem zfd_of (h : zNo cS cT nS nT cnt what name) {j : Nat} (hj : j < cnt) (hv : name j = v) : zfd cnt what name v = some (what j) := by
  unfold zfd
  cases hf : zFs (fun j => decide (name j = v)) cnt 0 with
  | none =>
    have := zfs_n.mp hf j (Nat.zero_le _) (by omega)
    rw [decide_eq_true hv] at this
    cases this
  | some k =>
    obtain ⟨a1, a2, a3⟩ := zFs_31 hf
    have : k = j := h.2.2.2.2.2 k j (by omega) hj ((of_decide_eq_true a3).trans hv.symm)
    rw [this]
theorem zfd_s (h : zNo cS cT nS nT cnt what name) {s : Nat} (hs : zFnd nS cS v = some s) : zfd cnt what name v = some s ∧ s < cS := by
  obtain ⟨a1, a2, a3⟩ := zFs_31 hs
  have hs' : s < cS := by omega
  obtain ⟨j, b1, b2⟩ := h.2.2.2.1 s hs'
  rcases h.2.2.1 j b1 with ⟨c1, c2⟩ | ⟨t, c1, c2, c3⟩
  · refine ⟨?_, hs'⟩
    rw [zfd_of h b1 (by rw [c2, b2]; exact of_decide_eq_true a3), b2]
  · have := h.1.1
    omega
theorem zfd_t (h : zNo cS cT nS nT cnt what name) {t : Nat} (ht : zFnd nT cT v = some t) : zfd cnt what name v = some (20 + t) ∧ t < cT := by
  obtain ⟨a1, a2, a3⟩ := zFs_31 ht
  have ht' : t < cT := by omega
  obtain ⟨j, b1, b2⟩ := h.2.2.2.2.1 t ht'
  rcases h.2.2.1 j b1 with ⟨c1, c2⟩ | ⟨t', c1, c2, c3⟩
  · have := h.1.1
    omega
  · have e : t' = t := by omega
    refine ⟨?_, ht'⟩
    rw [zfd_of h b1 (by rw [c3, e]; exact of_decide_eq_true a3), b2]
theorem zfd_c (h : zNo cS cT nS nT cnt what name) : (zFnd nS cS v = none ∧ zFnd nT cT v = none ∧ zfd cnt what name v = none) ∨ (∃ s, s < cS ∧ zFnd nS cS v = some s ∧ zfd cnt what name v = some s) ∨ ∃ t, t < cT ∧ zFnd nT cT v = some t ∧ zFnd nS cS v = none ∧ zfd cnt what name v = some (20 + t) := by
  cases hs : zFnd nS cS v with
  | some s =>
    obtain ⟨e1, e2⟩ := zfd_s h hs
    exact Or.inr (Or.inl ⟨s, e2, rfl, e1⟩)
  | none =>
    cases ht : zFnd nT cT v with
    | some t =>
      obtain ⟨e1, e2⟩ := zfd_t h ht
      exact Or.inr (Or.inr ⟨t, e2, rfl, rfl, e1⟩)
    | none =>
      refine Or.inl ⟨rfl, rfl, ?_⟩
      unfold zfd
      cases hf : zFs (fun j => decide (name j = v)) cnt 0 with
      | none => rfl
      | some k =>
        obtain ⟨a1, a2, a3⟩ := zFs_31 hf
        have a3 := of_decide_eq_true a3
        rcases h.2.2.1 k (by omega) with ⟨c1, c2⟩ | ⟨t, c1, c2, c3⟩
        · have := zfs_n.mp hs (what k) (Nat.zero_le _) (by omega)
          rw [decide_eq_true (c2.symm.trans a3)] at this
          cases this
        · have := zfs_n.mp ht t (Nat.zero_le _) (by omega)
          rw [decide_eq_true (c3.symm.trans a3)] at this
          cases this
theorem zfd_lt (h : zNo cS cT nS nT cnt what name) {x : Nat} (hx : zfd cnt what name v = some x) : x < 30 := by
  have := h.1
  rcases zfd_c (v := v) h with ⟨-, -, e⟩ | ⟨s, e1, -, e⟩ | ⟨t, e1, -, -, e⟩
  · rw [e] at hx; cases hx
  · rw [e] at hx; cases hx; omega
  · rw [e] at hx; cases hx; omega
end
section
variable {α : Type} {N : Nat} {H : jH} {lb pn po cnt : Nat} {what name : Nat → Nat}
theorem zn_find (h : zNl H lb pn po cnt what name) (hc : cnt ≤ 9) (hn : ∀ j, j < cnt → name j < 2 ^ 40) (hN : 3000 ≤ N) {v : Nat} (hv : v < 2 ^ 40) (K : Int32 → jM α) : (jB (fX4_find N lb (nL v)) K).1 H = (K (zo (zfd cnt what name v))).1 H := by
  obtain ⟨⟨rest, e0⟩, a1, c1, f1, v1, a2, c2, f2, v2, e1, e2, ⟨e3, e3'⟩, e4, e5, ⟨e6, e6'⟩, e7⟩ := h
  have loop : ∀ (j m i : Nat), i + j = cnt → j < m → (fX4_find_2 N lb m (nL v) (nI i)).1 H = some (zo (match zFs (fun j => decide (name j = v)) j i with
    | none => none
    | some j => some (what j)), H) := by
    intro j
    induction j with
    | zero =>
      intro m i hi hm
      obtain ⟨m, rfl⟩ : ∃ m', m = m' + 1 := ⟨m - 1, by omega⟩
      rw [fX4_find_2, zgRs e0 (by decide) rfl, zrc (c := 4) (by unfold jcd; rw [e1]; rfl), zal_size e1, zI, if_pos (nI_le (by omega) (by omega))]
      rfl
    | succ j ih =>
      intro m i hi hm
      obtain ⟨m, rfl⟩ : ∃ m', m = m' + 1 := ⟨m - 1, by omega⟩
      obtain ⟨x, y, g1, g2, g3, g4⟩ := e7 i (by omega)
      have hx : jcd H x = some 10 := by unfold jcd; rw [g3]; rfl
      have hy : jcd H y = some 11 := by unfold jcd; rw [g4]; rfl
      have hni := hn i (by omega)
      rw [fX4_find_2, zgRs e0 (by decide) rfl, zrc (c := 4) (by unfold jcd; rw [e1]; rfl), zal_size e1, zI, if_neg (nI_ge (by omega) (by omega)), zgRs e0 (by decide) rfl, zrc (c := 4) (by unfold jcd; rw [e1]; rfl), zal_get e1 e2 (by omega) e3 e3', g1, zck hx (by decide), zrc hx]
      unfold fJ13_longValue
      rw [zA, zgL g3 (by decide) rfl, zR, zI, zc1_da, zFs]
      by_cases c : name i = v
      · rw [if_pos ((nL_c0 (by omega) (by omega)).mpr c), if_pos (decide_eq_true c)]
        unfold fX4_find_32 fJ16_intValue
        rw [zgRs e0 (by decide) rfl, zrc (c := 4) (by unfold jcd; rw [e4]; rfl), zal_get e4 e5 (by omega) e6 e6', g2, zck hy (by decide), zrc hy, zA, zgI g4 (by decide) rfl]
        rfl
      · rw [if_neg (fun z => c ((nL_c0 (by omega) (by omega)).mp z)), if_neg (fun z => c (of_decide_eq_true z))]
        exact ih m (i + 1) (by omega) (by omega)
  exact jB_eq (loop cnt N 0 (by omega) (by omega))
theorem zln_of {i : Nat} (hi : i < 256) (h : 128 ≤ i) : Int64.ofInt ((i : Int) - 128) = nL (i - 128) := by
  rw [show ((i : Int) - 128) = ((i - 128 : Nat) : Int) by omega]
  exact Int64.ofInt_eq_ofNat
theorem zin_of {i : Nat} (hi : i < 256) (h : 128 ≤ i) : Int32.ofInt ((i : Int) - 128) = nI (i - 128) := by
  rw [show ((i : Int) - 128) = ((i - 128 : Nat) : Int) by omega]
  exact Int32.ofInt_eq_ofNat
/-- a number as an object -/
theorem zlv (hK : zKc H) (hb : H.2.2.2.2 0 ≤ H.2.1) {v : Nat} (hv : v < 2 ^ 40) : ∃ a H', (fJ13_valueOf (nL v)).1 H = some (some a, H') ∧ H'.1 a = some (.inl (10, [.long (nL v)])) ∧ zFm (fun _ => False) H H' ∧ jLe H H' ∧ ((a < H.2.2.2.2 0 ∧ H' = H) ∨ (a = H.2.1 ∧ H'.2.1 = H.2.1 + 1 ∧ H'.2.2.2.1 = H.2.2.2.1 + 1)) := by
  unfold fJ13_valueOf
  rw [zI, if_neg (show ¬ lg_cmp (nL v) (-128) < 0 from by
    have h1 : ¬ nL v < -128 := by
      rw [Int64.lt_iff_toInt_lt, nL_toInt (by omega)]
      have : (-128 : Int64).toInt = -128 := by decide
      omega
    unfold lg_cmp
    by_cases c : nL v > -128
    · rw [if_pos c]; decide
    · rw [if_neg c]
      by_cases c2 : nL v = -128
      · rw [if_pos c2]; decide
      · exfalso
        rcases Int64.lt_or_eq_of_le (Int64.not_lt.mp c) with h | h
        · exact h1 h
        · exact c2 h), zI]
  by_cases c : v ≤ 127
  · have e1 : ¬ 0 < lg_cmp (nL v) 127 := by
      intro q
      have := (nL_ce (a := v) (b := 127) (by omega) (by decide)).mpr c
      exact absurd q (Int32.not_lt.mpr this)
    obtain ⟨k1, f, k2, k3⟩ := hK.2.2.1
    obtain ⟨d1, d2, d3⟩ := k3 (v + 128) (by omega)
    rw [if_neg e1, zK, nL_l2i (by omega), show nI v + 128 = nI (v + 128) from nI_add v 128, zaR k2 (by omega) (by decide), d1]
    refine ⟨_, H, rfl, ?_, zFm.rf _ _, jLe.rf _, Or.inl ⟨d2, rfl⟩⟩
    rw [d3, zln_of (by omega) (by omega), Nat.add_sub_cancel]
  · have e1 : 0 < lg_cmp (nL v) 127 := by
      rw [← Int32.not_le]
      intro q
      exact c ((nL_ce (a := v) (b := 127) (by omega) (by decide)).mp q)
    rw [if_pos e1]
    unfold fJ13_valueOf_31 fJ13_init fJ12_init
    rw [znwB, zA, zR, zA]
    unfold jpL
    rw [zpV (znw_e _ _ _) (by decide) (by show H.2.2.2.2 0 ≤ H.2.1; exact hb) (by show 0 < 1; decide)]
    refine ⟨H.2.1, _, rfl, zse_e _ _ _, (zFm.rf _ _).nw.set (Or.inl (Nat.le_refl _)), jLe.tr (jnew_le _ _ _) (jsetO_le (znw_e _ _ _)), Or.inr ⟨rfl, rfl, rfl⟩⟩
theorem ziv (hK : zKc H) {v : Nat} (hv : v ≤ 127) : ∃ a, (fJ16_valueOf (nI v)).1 H = some (some a, H) ∧ H.1 a = some (.inl (11, [.int (nI v)])) ∧ a < H.2.2.2.2 0 := by
  obtain ⟨k1, f, k2, k3⟩ := hK.2.2.2
  obtain ⟨d1, d2, d3⟩ := k3 (v + 128) (by omega)
  unfold fJ16_valueOf
  rw [zI, if_neg (show ¬ nI v < -128 from by
    rw [fa_lt_, nI_toInt (by omega)]
    have : (-128 : Int32).toInt = -128 := by decide
    omega), zI, if_neg (show ¬ 127 < nI v from nI_nlt (a := 127) (by omega) (by decide)), zK, show nI v + 128 = nI (v + 128) from nI_add v 128, zaR k2 (by omega) (by decide), d1]
  refine ⟨_, rfl, ?_, d2⟩
  rw [d3, zin_of (by omega) (by omega), Nat.add_sub_cancel]
end
section
variable {N w c i d lb pn po cnt cS cT : Nat} {u : zTau} {n : Int32} {H : jH} {what name nS nT : Nat → Nat}
/-- a skin that is told -/
theorem zrs_ts (hu : zUg u c) (hN : 3000 ≤ N) (h : zRdS w u c (.ref lb) n i d H) (hl : zNl H lb pn po cnt what name) (ho : zNo cS cT nS nT cnt what name) : (zNm u i = false ∧ zBd w u n (1, i) H 1 7 ((fX2_told N (w + 1) 0).1 H)) ∨ (zNm u i = true ∧ zFnd nS cS (u.2.1 i) = none ∧ zBd w u n (2, i) H 1 7 ((fX2_told N (w + 1) 0).1 H)) ∨ (zNm u i = true ∧ ∃ s, s < cS ∧ zFnd nS cS (u.2.1 i) = some s ∧ ∃ H', (fX2_told N (w + 1) 0).1 H = some (.inl (nI s), H') ∧ zRdS w u c (.ref lb) n (i + 1) d H' ∧ zFm (fun q => q = w + 1) H H' ∧ H'.2 = H.2 ∧ jLe H H') := by
  have hi := h.2.2.2.2.1
  obtain ⟨u1, u2, u3, u4, u5⟩ := hu.2.2.2 i hi
  obtain ⟨o1, o2, o3⟩ := id ho.1
  unfold fX2_told
  rw [zrs_nm hu hN h, zI]
  cases hz : zNm u i with
  | false =>
    rw [if_pos zb_f]
    exact Or.inl ⟨rfl, zbd_thr hu h (k := 1) (by decide)⟩
  | true =>
    have k1 : u.1 i = 1 := by
      unfold zNm at hz
      simp only [Bool.and_eq_true, decide_eq_true_eq] at hz
      exact hz.1
    have hlc : jcd H lb = some 3 := by
      obtain ⟨rest, e0⟩ := hl.1
      unfold jcd; rw [e0]; rfl
    rw [if_neg zb1n, zgRs h.2.2.2.1 (by decide) rfl, zrs_9 h, zrs_11 h, zrs_vw hu h hi k1, zrc hlc, zn_find hl (by omega) ho.2.1 hN (by omega)]
    have hw : ∀ x : Int32, (fX1_within x 0 19).1 H = some (zb (!decide (x < 0) && !decide (19 < x)), H) := fun x => zw_in _
    rcases zfd_c (v := u.2.1 i) ho with ⟨e1, e2, e3⟩ | ⟨s, e1, e2, e3⟩ | ⟨t, e1, e2, e2', e3⟩
    · rw [e3, show zo none - 0 = (-1 : Int32) from by decide, jB_eq (hw _), zI, if_pos (by decide)]
      exact Or.inr (Or.inl ⟨rfl, e1, zbd_thr hu h (k := 2) (by decide)⟩)
    · have hi1 := zne_lt hu hi (by omega : u.1 i ≠ 0)
      obtain ⟨a1, a2, a3⟩ := zrs_to (α := Int32 ⊕ Nat) h (i + 1) hi1
      have e4 : (!decide (nI s < 0) && !decide (19 < nI s)) = true := by
        rw [decide_eq_false (nI_pos (by omega)), decide_eq_false (show ¬ 19 < nI s from nI_nlt (a := 19) (by omega) (by decide))]; rfl
      rw [e3, show zo (some s) - 0 = nI s from Int32.sub_zero _, jB_eq (hw _), zI, e4, if_neg zb1n, zrs_11 h, zc1_da, a2]
      exact Or.inr (Or.inr ⟨rfl, s, e1, e2, _, rfl, a1, a3, rfl, zrs_le h _ _ _ _⟩)
    · have e4 : (!decide (nI (20 + t) < 0) && !decide (19 < nI (20 + t))) = false := by
        rw [decide_eq_true (show 19 < nI (20 + t) from (nI_lt (a := 19) (by omega) (by omega)))]; rw [Bool.and_comm]; rfl
      rw [e3, show zo (some (20 + t)) - 0 = nI (20 + t) from Int32.sub_zero _, jB_eq (hw _), zI, e4, if_pos zb_f]
      exact Or.inr (Or.inl ⟨rfl, e2', zbd_thr hu h (k := 2) (by decide)⟩)
/-- a text that is told -/
theorem zrs_tt (hu : zUg u c) (hN : 3000 ≤ N) (h : zRdS w u c (.ref lb) n i d H) (hl : zNl H lb pn po cnt what name) (ho : zNo cS cT nS nT cnt what name) : (zNm u i = false ∧ zBd w u n (1, i) H 1 7 ((fX2_told N (w + 1) 20).1 H)) ∨ (zNm u i = true ∧ zFnd nT cT (u.2.1 i) = none ∧ zBd w u n (2, i) H 1 7 ((fX2_told N (w + 1) 20).1 H)) ∨ (zNm u i = true ∧ ∃ s, s < cT ∧ zFnd nT cT (u.2.1 i) = some s ∧ ∃ H', (fX2_told N (w + 1) 20).1 H = some (.inl (nI s), H') ∧ zRdS w u c (.ref lb) n (i + 1) d H' ∧ zFm (fun q => q = w + 1) H H' ∧ H'.2 = H.2 ∧ jLe H H') := by
  have hi := h.2.2.2.2.1
  obtain ⟨u1, u2, u3, u4, u5⟩ := hu.2.2.2 i hi
  obtain ⟨o1, o2, o3⟩ := id ho.1
  unfold fX2_told
  rw [zrs_nm hu hN h, zI]
  cases hz : zNm u i with
  | false =>
    rw [if_pos zb_f]
    exact Or.inl ⟨rfl, zbd_thr hu h (k := 1) (by decide)⟩
  | true =>
    have k1 : u.1 i = 1 := by
      unfold zNm at hz
      simp only [Bool.and_eq_true, decide_eq_true_eq] at hz
      exact hz.1
    have hlc : jcd H lb = some 3 := by
      obtain ⟨rest, e0⟩ := hl.1
      unfold jcd; rw [e0]; rfl
    rw [if_neg zb1n, zgRs h.2.2.2.1 (by decide) rfl, zrs_9 h, zrs_11 h, zrs_vw hu h hi k1, zrc hlc, zn_find hl (by omega) ho.2.1 hN (by omega)]
    have hw : ∀ x : Int32, (fX1_within x 0 19).1 H = some (zb (!decide (x < 0) && !decide (19 < x)), H) := fun x => zw_in _
    rcases zfd_c (v := u.2.1 i) ho with ⟨e1, e2, e3⟩ | ⟨s, e1, e2, e3⟩ | ⟨t, e1, e2, e2', e3⟩
    · rw [e3, show zo none - 20 = (-21 : Int32) from by decide, jB_eq (hw _), zI, if_pos (by decide)]
      exact Or.inr (Or.inl ⟨rfl, e2, zbd_thr hu h (k := 2) (by decide)⟩)
    · have e5 : zFnd nT cT (u.2.1 i) = none := by
        cases ht : zFnd nT cT (u.2.1 i) with
        | none => rfl
        | some t =>
          have := (zfd_t ho ht).1
          rw [e3] at this
          cases this
          omega
      have hs3 : s = 0 ∨ s = 1 ∨ s = 2 := by omega
      rw [e3]
      have e4 : (!decide (zo (some s) - 20 < 0) && !decide (19 < zo (some s) - 20)) = false := by
        rcases hs3 with e | e | e <;> rw [e] <;> decide
      rw [jB_eq (hw _), zI, e4, if_pos zb_f]
      exact Or.inr (Or.inl ⟨rfl, e5, zbd_thr hu h (k := 2) (by decide)⟩)
    · have hi1 := zne_lt hu hi (by omega : u.1 i ≠ 0)
      obtain ⟨a1, a2, a3⟩ := zrs_to (α := Int32 ⊕ Nat) h (i + 1) hi1
      have e4 : (!decide (nI t < 0) && !decide (19 < nI t)) = true := by
        rw [decide_eq_false (nI_pos (by omega)), decide_eq_false (show ¬ 19 < nI t from nI_nlt (a := 19) (by omega) (by decide))]; rfl
      rw [e3, show zo (some (20 + t)) - 20 = nI t from (pk_sub (b := 20) (by omega)).trans (by rw [Nat.add_sub_cancel_left]), jB_eq (hw _), zI, e4, if_neg zb1n, zrs_11 h, zc1_da, a2]
      exact Or.inr (Or.inr ⟨rfl, t, e1, e2, _, rfl, a1, a3, rfl, zrs_le h _ _ _ _⟩)
end
