/-! PURE A4: the reader is made (printed by tools/ini2.py) -/
set_option maxRecDepth 100000
/-- a list of words is being filled -/
def zPof (a cls len k n m : Nat) (idx : Nat → Nat) (fs : List Value) (Q : Nat → Option jC → Prop) (S : Nat) (h0 H : jH) : Prop := H.1 a = some (.inl (cls, fs)) ∧ fs.length = len ∧ H.2.1 = a + k + 1 ∧ (∀ j, 1 ≤ j → j < k → Q j (H.1 (a + j))) ∧ (∃ g, H.1 (a + k) = some (.inr (5, n, zRf g)) ∧ ∀ i, i < m → g i = some (h0.2.2.2.2 (idx i))) ∧ (∀ q, q < a → H.1 q = h0.1 q) ∧ H.2.2.2.2 = h0.2.2.2.2 ∧ H.2.2.2.2 0 ≤ a ∧ H.2.2.1 + h0.2.1 = h0.2.2.1 + H.2.1 ∧ H.2.2.2.1 = S ∧ 1 ≤ k ∧ jLe h0 H
section
variable {a cls len k k' n m : Nat} {idx : Nat → Nat} {fs fs' : List Value} {Q : Nat → Option jC → Prop} {S S' : Nat} {h0 H : jH}
theorem zPob.W (h : zPob a cls len k fs Q S h0 H) (n : Nat) (idx : Nat → Nat) (hn : n ≤ 1000000) (hs : S' = S + n) : ∃ H', (∀ {α β : Type} (R : Nat → jM α) (T : α → jM β), (jB (jB (jnaR 5 (nI n)) R) T).1 H = (jB (R (a + k)) T).1 H') ∧ zPof a cls len k n 0 idx fs Q S' h0 H' := by
  subst hs
  obtain ⟨h1, h2, h3, h4, h5, h6, h7, h8, h9, h10, h11⟩ := h
  refine ⟨jnew H (.inr (5, n, zRf fun _ => none)) n, fun R T => ?_, (znw_n _ _ _ (by omega)).trans h1, h2, by show H.2.1 + 1 = _; omega, fun j j1 j2 => ?_, ⟨fun _ => none, by rw [← h3]; exact znw_e _ _ _, fun i hi => absurd hi (Nat.not_lt_zero i)⟩, fun q hq => (znw_n _ _ _ (by omega)).trans (h5 q hq), h6, h7, ?_, ?_, h10, jLe.tr h11 (jnew_le _ _ _)⟩
  · rw [zA, znaRB hn, h3]
  · rw [znw_n _ _ _ (by omega)]; exact h4 j j1 j2
  · show H.2.2.1 + 1 + h0.2.1 = h0.2.2.1 + (H.2.1 + 1)
    omega
  · show H.2.2.2.1 + n = S + n
    omega
theorem zPof.F {kk : Nat} (h : zPof a cls len k n m idx fs Q S h0 H) (hm : m < n) (hn : n < 1000) (hc : jcd h0 (h0.2.2.2.2 kk) = some 33 ∧ h0.2.2.2.2 kk < h0.2.2.2.2 0) (hk : kk = idx m) {m' : Nat} (hm' : m' = m + 1) : ∃ H', (∀ {α β : Type} (R : Unit → jM α) (T : α → jM β), (jB (jB (jK kk) fun y => jB (jsR 5 [33] (some (a + k)) (nI m) y) R) T).1 H = (jB (R ()) T).1 H') ∧ zPof a cls len k n m' idx fs Q S h0 H' := by
  subst hm'
  obtain ⟨h1, h2, h3, h4, ⟨g, g1, g2⟩, h5, h6, h7, h8, h9, h10, h11⟩ := h
  refine ⟨jset H (a + k) (.inr (5, n, zRf (va_up g m (some (h0.2.2.2.2 kk))))), fun R T => ?_, (zse_n _ _ (by omega)).trans h1, h2, h3, fun j j1 j2 => ?_, ⟨_, zse_e _ _ _, fun i hi => ?_⟩, fun q hq => (zse_n _ _ (by omega)).trans (h5 q hq), h6, h7, h8, h9, h10, jLe.tr h11 (jsetA_le g1)⟩
  · rw [zA, zK, zA, h6]
    refine zsR g1 (by omega) hm (by omega) ?_ _
    have e : jcd H (h0.2.2.2.2 kk) = some 33 := by
      have := hc.1
      unfold jcd at this ⊢
      rw [h5 _ (by rw [← h6] at hc ⊢; omega)]
      exact this
    unfold jokR
    dsimp only
    rw [e]
    rfl
  · rw [zse_n _ _ (by omega)]; exact h4 j j1 j2
  · by_cases c : i = m
    · rw [c, ← hk]; exact if_pos rfl
    · rw [va_up_ne _ _ c]; exact g2 i (by omega)
theorem zPof.C {fld : Nat} (h : zPof a cls len k n n idx fs Q S h0 H) (hQ : ∀ g, (∀ i, i < n → g i = some (h0.2.2.2.2 (idx i))) → Q k (some (.inr (5, n, zRf g)))) (hf : fld < len) (hk : k' = k + 1) (hfs : fs.set fld (.ref (a + k)) = fs') : ∃ H', (∀ {α β : Type} (R : Unit → jM α) (T : α → jM β), (jB (jB (jpR [cls] fld (some a) (some (a + k))) R) T).1 H = (jB (R ()) T).1 H') ∧ zPob a cls len k' fs' Q S h0 H' := by
  subst hk hfs
  obtain ⟨h1, h2, h3, h4, ⟨g, g1, g2⟩, h5, h6, h7, h8, h9, h10, h11⟩ := h
  refine ⟨jset H a (.inl (cls, fs.set fld (.ref (a + k)))), fun R T => ?_, zse_e _ _ _, by rw [List.length_set]; exact h2, by show H.2.1 = _; omega, fun j j1 j2 => ?_, fun q hq => (zse_n _ _ (by omega)).trans (h5 q hq), h6, h7, h8, h9, by omega, jLe.tr h11 (jsetO_le h1)⟩
  · rw [zA]
    exact zpV h1 (List.mem_singleton.mpr rfl) h7 (by rw [h2]; exact hf) _
  · rw [zse_n _ _ (by omega)]
    by_cases c : j = k
    · rw [c, g1]; exact hQ g g2
    · exact h4 j j1 (by omega)
end
/-- what lies behind the reader -/
def zQr (K : Nat → Nat) (j : Nat) (c : Option jC) : Prop := match j with
  | 1 => ∃ g, c = some (.inr (5, 4, zRf g)) ∧ ∀ i, i < 4 → g i = some (K (1 + i))
  | 2 => ∃ g, c = some (.inr (5, 4, zRf g)) ∧ ∀ i, i < 4 → g i = some (K (1 + (4 + i)))
  | 3 => ∃ g, c = some (.inr (5, 16, zRf g)) ∧ ∀ i, i < 16 → g i = some (K (1 + (8 + i)))
  | 4 => ∃ g, c = some (.inr (5, 2, zRf g)) ∧ ∀ i, i < 2 → g i = some (K (1 + (20 - i)))
  | 5 => ∃ g, c = some (.inr (5, 4, zRf g)) ∧ ∀ i, i < 4 → g i = some (K (1 + (15 + i)))
  | 6 => c = some (.inr (0, 1000, .inl fun _ => 0))
  | 7 => c = some (.inr (0, 1001, .inl fun _ => 0))
  | 8 => c = some (.inr (1, 1001, .inr (.inl fun _ => 0)))
  | _ => c = some (.inr (0, 1001, .inl fun _ => 0))
theorem zC_reader (h0 : jH) (hK : h0.2.2.2.2 0 ≤ h0.2.1) (hs : ∀ i, 1 ≤ i → i < 25 → jcd h0 (h0.2.2.2.2 i) = some 33 ∧ h0.2.2.2.2 i < h0.2.2.2.2 0) : ∃ H', (∀ {β : Type} (T : Unit → jM β), (jB (fX2_init h0.2.1) T).1 (jnew h0 (.inl (1, [.null, .null, .null, .null, .null, .null, .null, .int 0, .null, .null, .null, .int 0, .int 0])) 13) = (T ()).1 H') ∧ H'.1 h0.2.1 = some (.inl (1, [.ref (h0.2.1 + 1), .ref (h0.2.1 + 2), .ref (h0.2.1 + 3), .ref (h0.2.1 + 4), .ref (h0.2.1 + 5), .null, .ref (h0.2.1 + 6), .int 0, .ref (h0.2.1 + 7), .ref (h0.2.1 + 8), .ref (h0.2.1 + 9), .int 0, .int 0])) ∧ (∀ j, 1 ≤ j → j < 10 → zQr h0.2.2.2.2 j (H'.1 (h0.2.1 + j))) ∧ H'.2.1 = h0.2.1 + 10 ∧ (∀ q, q < h0.2.1 → H'.1 q = h0.1 q) ∧ H'.2.2.2.2 = h0.2.2.2.2 ∧ H'.2.2.1 + h0.2.1 = h0.2.2.1 + H'.2.1 ∧ H'.2.2.2.1 = h0.2.2.2.1 + 4046 ∧ jLe h0 H' := by
  have p0 := zPob.new (cls := 1) (len := 13) (n := 13) (fs := [.null, .null, .null, .null, .null, .null, .null, .int 0, .null, .null, .null, .int 0, .int 0]) (Q := zQr h0.2.2.2.2) h0 hK rfl
  obtain ⟨H1, e1, p1⟩ := p0.W (S' := h0.2.2.2.1 + 17) 4 (fun i => 1 + i) (by decide) (by omega)
  obtain ⟨H2, e2, p2⟩ := p1.F (kk := 1) (m' := 1) (by decide) (by decide) (hs 1 (by decide) (by decide)) rfl rfl
  obtain ⟨H3, e3, p3⟩ := p2.F (kk := 2) (m' := 2) (by decide) (by decide) (hs 2 (by decide) (by decide)) rfl rfl
  obtain ⟨H4, e4, p4⟩ := p3.F (kk := 3) (m' := 3) (by decide) (by decide) (hs 3 (by decide) (by decide)) rfl rfl
  obtain ⟨H5, e5, p5⟩ := p4.F (kk := 4) (m' := 4) (by decide) (by decide) (hs 4 (by decide) (by decide)) rfl rfl
  obtain ⟨H6, e6, p6⟩ := p5.C (fld := 0) (k' := 2) (fs' := [.ref (h0.2.1 + 1), .null, .null, .null, .null, .null, .null, .int 0, .null, .null, .null, .int 0, .int 0]) (fun g hg => ⟨g, rfl, hg⟩) (by decide) rfl rfl
  obtain ⟨H7, e7, p7⟩ := p6.W (S' := h0.2.2.2.1 + 21) 4 (fun i => 1 + (4 + i)) (by decide) (by omega)
  obtain ⟨H8, e8, p8⟩ := p7.F (kk := 5) (m' := 1) (by decide) (by decide) (hs 5 (by decide) (by decide)) rfl rfl
  obtain ⟨H9, e9, p9⟩ := p8.F (kk := 6) (m' := 2) (by decide) (by decide) (hs 6 (by decide) (by decide)) rfl rfl
  obtain ⟨H10, e10, p10⟩ := p9.F (kk := 7) (m' := 3) (by decide) (by decide) (hs 7 (by decide) (by decide)) rfl rfl
  obtain ⟨H11, e11, p11⟩ := p10.F (kk := 8) (m' := 4) (by decide) (by decide) (hs 8 (by decide) (by decide)) rfl rfl
  obtain ⟨H12, e12, p12⟩ := p11.C (fld := 1) (k' := 3) (fs' := [.ref (h0.2.1 + 1), .ref (h0.2.1 + 2), .null, .null, .null, .null, .null, .int 0, .null, .null, .null, .int 0, .int 0]) (fun g hg => ⟨g, rfl, hg⟩) (by decide) rfl rfl
  obtain ⟨H13, e13, p13⟩ := p12.W (S' := h0.2.2.2.1 + 37) 16 (fun i => 1 + (8 + i)) (by decide) (by omega)
  obtain ⟨H14, e14, p14⟩ := p13.F (kk := 9) (m' := 1) (by decide) (by decide) (hs 9 (by decide) (by decide)) rfl rfl
  obtain ⟨H15, e15, p15⟩ := p14.F (kk := 10) (m' := 2) (by decide) (by decide) (hs 10 (by decide) (by decide)) rfl rfl
  obtain ⟨H16, e16, p16⟩ := p15.F (kk := 11) (m' := 3) (by decide) (by decide) (hs 11 (by decide) (by decide)) rfl rfl
  obtain ⟨H17, e17, p17⟩ := p16.F (kk := 12) (m' := 4) (by decide) (by decide) (hs 12 (by decide) (by decide)) rfl rfl
  obtain ⟨H18, e18, p18⟩ := p17.F (kk := 13) (m' := 5) (by decide) (by decide) (hs 13 (by decide) (by decide)) rfl rfl
  obtain ⟨H19, e19, p19⟩ := p18.F (kk := 14) (m' := 6) (by decide) (by decide) (hs 14 (by decide) (by decide)) rfl rfl
  obtain ⟨H20, e20, p20⟩ := p19.F (kk := 15) (m' := 7) (by decide) (by decide) (hs 15 (by decide) (by decide)) rfl rfl
  obtain ⟨H21, e21, p21⟩ := p20.F (kk := 16) (m' := 8) (by decide) (by decide) (hs 16 (by decide) (by decide)) rfl rfl
  obtain ⟨H22, e22, p22⟩ := p21.F (kk := 17) (m' := 9) (by decide) (by decide) (hs 17 (by decide) (by decide)) rfl rfl
  obtain ⟨H23, e23, p23⟩ := p22.F (kk := 18) (m' := 10) (by decide) (by decide) (hs 18 (by decide) (by decide)) rfl rfl
  obtain ⟨H24, e24, p24⟩ := p23.F (kk := 19) (m' := 11) (by decide) (by decide) (hs 19 (by decide) (by decide)) rfl rfl
  obtain ⟨H25, e25, p25⟩ := p24.F (kk := 20) (m' := 12) (by decide) (by decide) (hs 20 (by decide) (by decide)) rfl rfl
  obtain ⟨H26, e26, p26⟩ := p25.F (kk := 21) (m' := 13) (by decide) (by decide) (hs 21 (by decide) (by decide)) rfl rfl
  obtain ⟨H27, e27, p27⟩ := p26.F (kk := 22) (m' := 14) (by decide) (by decide) (hs 22 (by decide) (by decide)) rfl rfl
  obtain ⟨H28, e28, p28⟩ := p27.F (kk := 23) (m' := 15) (by decide) (by decide) (hs 23 (by decide) (by decide)) rfl rfl
  obtain ⟨H29, e29, p29⟩ := p28.F (kk := 24) (m' := 16) (by decide) (by decide) (hs 24 (by decide) (by decide)) rfl rfl
  obtain ⟨H30, e30, p30⟩ := p29.C (fld := 2) (k' := 4) (fs' := [.ref (h0.2.1 + 1), .ref (h0.2.1 + 2), .ref (h0.2.1 + 3), .null, .null, .null, .null, .int 0, .null, .null, .null, .int 0, .int 0]) (fun g hg => ⟨g, rfl, hg⟩) (by decide) rfl rfl
  obtain ⟨H31, e31, p31⟩ := p30.W (S' := h0.2.2.2.1 + 39) 2 (fun i => 1 + (20 - i)) (by decide) (by omega)
  obtain ⟨H32, e32, p32⟩ := p31.F (kk := 21) (m' := 1) (by decide) (by decide) (hs 21 (by decide) (by decide)) rfl rfl
  obtain ⟨H33, e33, p33⟩ := p32.F (kk := 20) (m' := 2) (by decide) (by decide) (hs 20 (by decide) (by decide)) rfl rfl
  obtain ⟨H34, e34, p34⟩ := p33.C (fld := 3) (k' := 5) (fs' := [.ref (h0.2.1 + 1), .ref (h0.2.1 + 2), .ref (h0.2.1 + 3), .ref (h0.2.1 + 4), .null, .null, .null, .int 0, .null, .null, .null, .int 0, .int 0]) (fun g hg => ⟨g, rfl, hg⟩) (by decide) rfl rfl
  obtain ⟨H35, e35, p35⟩ := p34.W (S' := h0.2.2.2.1 + 43) 4 (fun i => 1 + (15 + i)) (by decide) (by omega)
  obtain ⟨H36, e36, p36⟩ := p35.F (kk := 16) (m' := 1) (by decide) (by decide) (hs 16 (by decide) (by decide)) rfl rfl
  obtain ⟨H37, e37, p37⟩ := p36.F (kk := 17) (m' := 2) (by decide) (by decide) (hs 17 (by decide) (by decide)) rfl rfl
  obtain ⟨H38, e38, p38⟩ := p37.F (kk := 18) (m' := 3) (by decide) (by decide) (hs 18 (by decide) (by decide)) rfl rfl
  obtain ⟨H39, e39, p39⟩ := p38.F (kk := 19) (m' := 4) (by decide) (by decide) (hs 19 (by decide) (by decide)) rfl rfl
  obtain ⟨H40, e40, p40⟩ := p39.C (fld := 4) (k' := 6) (fs' := [.ref (h0.2.1 + 1), .ref (h0.2.1 + 2), .ref (h0.2.1 + 3), .ref (h0.2.1 + 4), .ref (h0.2.1 + 5), .null, .null, .int 0, .null, .null, .null, .int 0, .int 0]) (fun g hg => ⟨g, rfl, hg⟩) (by decide) rfl rfl
  obtain ⟨H41, e41, p41⟩ := p40.I (kd := 0) (n := 1000) (fld := 6) (k' := 7) (S' := h0.2.2.2.1 + 1043) (fs' := [.ref (h0.2.1 + 1), .ref (h0.2.1 + 2), .ref (h0.2.1 + 3), .ref (h0.2.1 + 4), .ref (h0.2.1 + 5), .null, .ref (h0.2.1 + 6), .int 0, .null, .null, .null, .int 0, .int 0]) rfl (by decide) (by decide) rfl (by omega) rfl
  obtain ⟨H42, e42, p42⟩ := p41.I (kd := 0) (n := 1001) (fld := 8) (k' := 8) (S' := h0.2.2.2.1 + 2044) (fs' := [.ref (h0.2.1 + 1), .ref (h0.2.1 + 2), .ref (h0.2.1 + 3), .ref (h0.2.1 + 4), .ref (h0.2.1 + 5), .null, .ref (h0.2.1 + 6), .int 0, .ref (h0.2.1 + 7), .null, .null, .int 0, .int 0]) rfl (by decide) (by decide) rfl (by omega) rfl
  obtain ⟨H43, e43, p43⟩ := p42.L (kd := 1) (n := 1001) (fld := 9) (k' := 9) (S' := h0.2.2.2.1 + 3045) (fs' := [.ref (h0.2.1 + 1), .ref (h0.2.1 + 2), .ref (h0.2.1 + 3), .ref (h0.2.1 + 4), .ref (h0.2.1 + 5), .null, .ref (h0.2.1 + 6), .int 0, .ref (h0.2.1 + 7), .ref (h0.2.1 + 8), .null, .int 0, .int 0]) rfl (by decide) (by decide) rfl (by omega) rfl
  obtain ⟨H44, e44, p44⟩ := p43.I (kd := 0) (n := 1001) (fld := 10) (k' := 10) (S' := h0.2.2.2.1 + 4046) (fs' := [.ref (h0.2.1 + 1), .ref (h0.2.1 + 2), .ref (h0.2.1 + 3), .ref (h0.2.1 + 4), .ref (h0.2.1 + 5), .null, .ref (h0.2.1 + 6), .int 0, .ref (h0.2.1 + 7), .ref (h0.2.1 + 8), .ref (h0.2.1 + 9), .int 0, .int 0]) rfl (by decide) (by decide) rfl (by omega) rfl
  obtain ⟨h1, h2, h3, h4, h5, h6, h7, h8, h9, h10, h11⟩ := p44
  refine ⟨H44, fun T => ?_, h1, h4, h3, h5, h6, h8, h9, h11⟩
  unfold fX2_init
  refine (e1 _ _).trans ?_
  refine (e2 _ _).trans ?_
  refine (e3 _ _).trans ?_
  refine (e4 _ _).trans ?_
  refine (e5 _ _).trans ?_
  refine (e6 _ _).trans ?_
  refine (e7 _ _).trans ?_
  refine (e8 _ _).trans ?_
  refine (e9 _ _).trans ?_
  refine (e10 _ _).trans ?_
  refine (e11 _ _).trans ?_
  refine (e12 _ _).trans ?_
  refine (e13 _ _).trans ?_
  refine (e14 _ _).trans ?_
  refine (e15 _ _).trans ?_
  refine (e16 _ _).trans ?_
  refine (e17 _ _).trans ?_
  refine (e18 _ _).trans ?_
  refine (e19 _ _).trans ?_
  refine (e20 _ _).trans ?_
  refine (e21 _ _).trans ?_
  refine (e22 _ _).trans ?_
  refine (e23 _ _).trans ?_
  refine (e24 _ _).trans ?_
  refine (e25 _ _).trans ?_
  refine (e26 _ _).trans ?_
  refine (e27 _ _).trans ?_
  refine (e28 _ _).trans ?_
  refine (e29 _ _).trans ?_
  refine (e30 _ _).trans ?_
  refine (e31 _ _).trans ?_
  refine (e32 _ _).trans ?_
  refine (e33 _ _).trans ?_
  refine (e34 _ _).trans ?_
  refine (e35 _ _).trans ?_
  refine (e36 _ _).trans ?_
  refine (e37 _ _).trans ?_
  refine (e38 _ _).trans ?_
  refine (e39 _ _).trans ?_
  refine (e40 _ _).trans ?_
  refine (e41 _ _).trans ?_
  refine (e42 _ _).trans ?_
  refine (e43 _ _).trans ?_
  refine (e44 _ _).trans ?_
  rfl
