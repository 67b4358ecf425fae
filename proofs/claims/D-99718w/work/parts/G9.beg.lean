/-! PURE 93: a shelf begins, wherever it lies -/
set_option maxRecDepth 100000
def zSI (b : Nat) (x : zSS) (H : jH) : Prop := H.1 b = some (.inl (2, [va_rf x.1.1, .int x.1.2.1, .int x.1.2.2, .ref (b + 1), .ref (b + 2), .ref (b + 3)])) ∧ H.1 (b + 1) = some (.inr (0, 3, .inl x.2.1)) ∧ H.1 (b + 2) = some (.inr (0, 18, .inl x.2.2.1)) ∧ H.1 (b + 3) = some (.inr (0, 18, .inl x.2.2.2))
def zUps (b : Nat) (H H' : jH) : Prop := (∀ q, (q < b ∨ b + 4 ≤ q) → H'.1 q = H.1 q) ∧ H'.2 = H.2 ∧ jLe H H'
/-- skins as a library keeps them -/
def zSki (lb n : Nat) (th : Nat → Nat) (P : Nat → Prop) (H : jH) : Prop := ∃ (v0 v1 : Value) (rest : List Value) (sl : Nat) (v : Value) (sa cap : Nat) (g : Nat → Option Nat) (sk : Nat → Nat), H.1 lb = some (.inl (3, v0 :: v1 :: .ref sl :: rest)) ∧ H.1 sl = some (.inl (4, [v, .ref sa, .int (nI n)])) ∧ H.1 sa = some (.inr (4, cap, zRf g)) ∧ (n ≤ cap ∧ cap < 2 ^ 31) ∧ (P lb ∧ P sl ∧ P sa) ∧ ∀ i, i < n → g i = some (sk i) ∧ P (sk i) ∧ ∃ li ho, H.1 (sk i) = some (.inl (12, [.int li, .int (nI (th i)), .int ho]))
section
variable {N b lb n : Nat} {x : zSS} {H H1 H2 : jH} {th : Nat → Nat}
theorem zSI.s4 (h : zSI b x H) : ∀ i, i < 4 → H.1 (b + i) = zS4 b x (b + i) := fun i hi => by
  obtain ⟨a0, a1, a2, a3⟩ := h
  have : i = 0 ∨ i = 1 ∨ i = 2 ∨ i = 3 := by omega
  unfold zS4
  rcases this with e | e | e | e <;> subst e
  · rw [if_pos (by omega)]; exact a0
  · rw [if_neg (by omega), if_pos (by omega)]; exact a1
  · rw [if_neg (by omega), if_neg (by omega), if_pos (by omega)]; exact a2
  · rw [if_neg (by omega), if_neg (by omega), if_neg (by omega), if_pos (by omega)]; exact a3
theorem zUps.rf (b : Nat) (H : jH) : zUps b H H := ⟨fun _ _ => rfl, rfl, jLe.rf _⟩
theorem zUps.tr (h1 : zUps b H H1) (h2 : zUps b H1 H2) : zUps b H H2 := ⟨fun q hq => (h2.1 q hq).trans (h1.1 q hq), h2.2.1.trans h1.2.1, jLe.tr h1.2.2 h2.2.2⟩
theorem zUps.st {q : Nat} {e e' : jC} (he : H.1 q = some e) (hk : jce e' = jce e) (hq : b ≤ q ∧ q < b + 4) : zUps b H (jset H q e') := by
  refine ⟨fun p hp => zse_n _ _ (by omega), rfl, Nat.le_refl _, Nat.le_refl _, Nat.le_refl _, rfl, fun p c hp hc => ?_⟩
  unfold jcd at hc ⊢
  by_cases d : p = q
  · rw [d, zse_e]
    rw [d, he] at hc
    exact hk.trans hc
  · rw [zse_n _ _ d]; exact hc
theorem zSI.p0 (h : zSI b x H) (y : Option Nat × Int32 × Int32) : zSI b (y, x.2) (jset H b (.inl (2, [va_rf y.1, .int y.2.1, .int y.2.2, .ref (b + 1), .ref (b + 2), .ref (b + 3)]))) ∧ zUps b H (jset H b (.inl (2, [va_rf y.1, .int y.2.1, .int y.2.2, .ref (b + 1), .ref (b + 2), .ref (b + 3)]))) := by
  obtain ⟨a0, a1, a2, a3⟩ := h
  exact ⟨⟨zse_e _ _ _, (zse_n _ _ (by omega)).trans a1, (zse_n _ _ (by omega)).trans a2, (zse_n _ _ (by omega)).trans a3⟩, zUps.st a0 rfl (by omega)⟩
theorem zSI.p1 (h : zSI b x H) (y : Nat → Int32) : zSI b (x.1, y, x.2.2) (jset H (b + 1) (.inr (0, 3, .inl y))) ∧ zUps b H (jset H (b + 1) (.inr (0, 3, .inl y))) := by
  obtain ⟨a0, a1, a2, a3⟩ := h
  exact ⟨⟨(zse_n _ _ (by omega)).trans a0, zse_e _ _ _, (zse_n _ _ (by omega)).trans a2, (zse_n _ _ (by omega)).trans a3⟩, zUps.st a1 rfl (by omega)⟩
theorem zSI.p2 (h : zSI b x H) (y : Nat → Int32) : zSI b (x.1, x.2.1, y, x.2.2.2) (jset H (b + 2) (.inr (0, 18, .inl y))) ∧ zUps b H (jset H (b + 2) (.inr (0, 18, .inl y))) := by
  obtain ⟨a0, a1, a2, a3⟩ := h
  exact ⟨⟨(zse_n _ _ (by omega)).trans a0, (zse_n _ _ (by omega)).trans a1, zse_e _ _ _, (zse_n _ _ (by omega)).trans a3⟩, zUps.st a2 rfl (by omega)⟩
theorem zSI.p3 (h : zSI b x H) (y : Nat → Int32) : zSI b (x.1, x.2.1, x.2.2.1, y) (jset H (b + 3) (.inr (0, 18, .inl y))) ∧ zUps b H (jset H (b + 3) (.inr (0, 18, .inl y))) := by
  obtain ⟨a0, a1, a2, a3⟩ := h
  exact ⟨⟨(zse_n _ _ (by omega)).trans a0, (zse_n _ _ (by omega)).trans a1, (zse_n _ _ (by omega)).trans a2, zse_e _ _ _⟩, zUps.st a3 rfl (by omega)⟩
theorem zSki.up {P : Nat → Prop} (h : zSki lb n th P H) (hu : ∀ q, P q → H1.1 q = H.1 q) : zSki lb n th P H1 := by
  obtain ⟨v0, v1, rest, sl, v, sa, cap, g, sk, a1, a2, a3, a4, ⟨a5, a6, a7⟩, a8⟩ := h
  refine ⟨v0, v1, rest, sl, v, sa, cap, g, sk, (hu _ a5).trans a1, (hu _ a6).trans a2, (hu _ a7).trans a3, a4, ⟨a5, a6, a7⟩, fun i hi => ?_⟩
  obtain ⟨b1, b2, li, ho, b3⟩ := a8 i hi
  exact ⟨b1, b2, li, ho, (hu _ b2).trans b3⟩
theorem zbg_cl (hK : H.2.2.2.2 0 ≤ b) (h : zSI b x H) (hO : x.1.2.2 = 0) {l : Nat} (hl : l < 18) : ∃ H', (fX3_clears b (nI l)).1 H = some ((), H') ∧ zSI b (x.1, x.2.1, upd x.2.2.1 l 0, upd x.2.2.2 l 0) H' ∧ zUps b H H' := by
  obtain ⟨g1, u1⟩ := h.p2 (upd x.2.2.1 l 0)
  obtain ⟨g2, u2⟩ := g1.p3 (upd x.2.2.2 l 0)
  obtain ⟨g3, u3⟩ := g2.p0 (x.1.1, x.1.2.1, 0)
  refine ⟨_, ?_, ?_, u1.tr (u2.tr u3)⟩
  · unfold fX3_clears
    rw [zgRs h.1 (by decide) rfl, zsI h.2.2.1 (by omega) hl (by decide)]
    rw [zgRs g1.1 (by decide) rfl, zsI g1.2.2.2 (by show H.2.2.2.2 0 ≤ _; omega) hl (by decide)]
    rw [zgI g2.1 (by decide) rfl]
    refine (zpV g2.1 (by decide) (by show H.2.2.2.2 0 ≤ _; omega) (by show 2 < 6; decide) _).trans ?_
    show some _ = some _
    rw [hO, Int32.zero_and]
    rfl
  · have e : ((x.1.1, x.1.2.1, (0 : Int32)) : Option Nat × Int32 × Int32) = x.1 := by rw [← hO]
    rw [show ((x.1, x.2.1, upd x.2.2.1 l 0, upd x.2.2.2 l 0) : zSS) = ((x.1.1, x.1.2.1, 0), x.2.1, upd x.2.2.1 l 0, upd x.2.2.2 l 0) from Prod.ext e.symm rfl]
    exact g3
theorem zbg_17 : ∀ (j m l : Nat) (x : zSS) (H : jH), l + j = 18 → j < m → H.2.2.2.2 0 ≤ b → zSI b x H → x.1.2.2 = 0 → (∀ q, q < l → x.2.2.1 q = 0 ∧ x.2.2.2 q = 0) → ∃ H' x', (fX3_begins_17 N b m (nI l)).1 H = (fX3_begins_36 N b N 0).1 H' ∧ zSI b x' H' ∧ x'.1 = x.1 ∧ x'.2.1 = x.2.1 ∧ (∀ q, q < 18 → x'.2.2.1 q = 0 ∧ x'.2.2.2 q = 0) ∧ zUps b H H'
  | 0, m + 1, l, x, H, hl, hm, hK, h, hO, hq => by
    refine ⟨H, x, ?_, h, rfl, rfl, fun q hq' => hq q (by omega), zUps.rf _ _⟩
    rw [fX3_begins_17, show l = 18 by omega, zI, if_pos (by decide)]
    rfl
  | j + 1, m + 1, l, x, H, hl, hm, hK, h, hO, hq => by
    obtain ⟨H1, e1, g1, u1⟩ := zbg_cl hK h hO (show l < 18 by omega)
    obtain ⟨H', x', e2, g2, y1, y2, y3, u2⟩ := zbg_17 j m (l + 1) _ H1 (by omega) (by omega) (by rw [u1.2.1]; exact hK) g1 hO (fun q hq' => by
      by_cases e : q = l
      · rw [e]; exact ⟨zu_eq _ _ _, zu_eq _ _ _⟩
      · exact ⟨(zu_ne _ _ e).trans (hq q (by omega)).1, (zu_ne _ _ e).trans (hq q (by omega)).2⟩)
    refine ⟨H', x', ?_, g2, y1, y2, y3, u1.tr u2⟩
    have e : ¬ (18 : Int32) ≤ nI l := by rw [zc18_le (by omega)]; omega
    rw [fX3_begins_17, zI, if_neg e, jB_eq e1, zc1_da]
    exact e2
theorem zbg_36 (hn : n ≤ 3) : ∀ (j m s : Nat) (x : zSS) (H : jH), s + j = n → j < m → H.2.2.2.2 0 ≤ b → zSI b x H → x.1.1 = some lb → zSki lb n th (fun q => q < b ∨ b + 4 ≤ q) H → (∀ q, q < s → x.2.1 q = nI (th q)) → ∃ H' x', (fX3_begins_36 N b m (nI s)).1 H = some (some b, H') ∧ zSI b x' H' ∧ x'.1 = x.1 ∧ x'.2.2 = x.2.2 ∧ (∀ q, q < n → x'.2.1 q = nI (th q)) ∧ zUps b H H'
  | 0, m + 1, s, x, H, hs, hm, hK, h, hl, hk, hq => by
    obtain ⟨v0, v1, rest, sl, v, sa, cap, g, sk, a1, a2, a3, a4, ⟨a5, a6, a7⟩, a8⟩ := hk
    refine ⟨H, x, ?_, h, rfl, rfl, fun q hq' => hq q (by omega), zUps.rf _ _⟩
    have hx0 := h.1
    rw [hl] at hx0
    rw [fX3_begins_36]
    unfold fX3_skins
    rw [zA, zgRs hx0 (by decide) rfl, zA, zgRs a1 (by decide) rfl, zA, zrc (c := 4) (by unfold jcd; rw [a2]; rfl), zA, zal_size a2]
    show (if nI n ≤ nI s then _ else _ : jM (Option Nat)).1 H = _
    rw [zI, if_pos (nI_le (by omega) (by omega))]
    rfl
  | j + 1, m + 1, s, x, H, hs, hm, hK, h, hl, hk, hq => by
    obtain ⟨v0, v1, rest, sl, v, sa, cap, g, sk, a1, a2, a3, a4, ⟨a5, a6, a7⟩, a8⟩ := id hk
    obtain ⟨b1, b2, li, ho, b3⟩ := a8 s (by omega)
    obtain ⟨g1, u1⟩ := h.p1 (upd x.2.1 s (nI (th s)))
    obtain ⟨H', x', e2, g2, y1, y2, y3, u2⟩ := zbg_36 hn j m (s + 1) _ _ (by omega) (by omega) (by rw [u1.2.1]; exact hK) g1 hl (hk.up (fun q hq => u1.1 q hq)) (fun q hq' => by
      by_cases e : q = s
      · rw [e]; exact zu_eq _ _ _
      · exact (zu_ne _ _ e).trans (hq q (by omega)))
    refine ⟨H', x', ?_, g2, y1, y2, y3, u1.tr u2⟩
    have hx0 := h.1
    rw [hl] at hx0
    rw [fX3_begins_36]
    unfold fX3_skins
    rw [zA, zgRs hx0 (by decide) rfl, zA, zgRs a1 (by decide) rfl, zA, zrc (c := 4) (by unfold jcd; rw [a2]; rfl), zA, zal_size a2]
    show (if nI n ≤ nI s then _ else _ : jM (Option Nat)).1 H = _
    rw [zI, if_neg (nI_ge (by omega) (by omega)), zgRs h.1 (by decide) rfl]
    unfold fX3_skin
    rw [zA, zgRs hx0 (by decide) rfl, zA, zgRs a1 (by decide) rfl, zA, zrc (c := 4) (by unfold jcd; rw [a2]; rfl), zA, zal_get a2 a3 (by omega) a4.1 a4.2, b1, zA, zck (c := 12) (by unfold jcd; rw [b3]; rfl) (by decide)]
    show (jB (jgI [12] 1 (some (sk s))) fun y4 => jB (jsI 0 (some (b + 1)) (nI s) y4) fun _ => fX3_begins_36 N b m (nI s + 1)).1 H = _
    rw [zgI b3 (by decide) rfl, zsI h.2.1 (by omega) (by omega) (by decide), zc1_da]
    exact e2
/-- a shelf begins with a library -/
theorem zbg (hN : 3000 ≤ N) (hK : H.2.2.2.2 0 ≤ b) (h : zSI b x H) (hn : n ≤ 3) (hk : zSki lb n th (fun q => q < b ∨ b + 4 ≤ q) H) : ∃ H' x', (fX3_begins N b (some lb)).1 H = some (some b, H') ∧ zSI b x' H' ∧ x'.1 = (some lb, 0, 0) ∧ (∀ q, q < n → x'.2.1 q = nI (th q)) ∧ (∀ q, q < 18 → x'.2.2.1 q = 0 ∧ x'.2.2.2 q = 0) ∧ zUps b H H' := by
  obtain ⟨g1, u1⟩ := h.p0 (some lb, x.1.2.1, x.1.2.2)
  obtain ⟨g2, u2⟩ := g1.p0 (some lb, 0, x.1.2.2)
  obtain ⟨g3, u3⟩ := g2.p0 (some lb, 0, 0)
  have u03 := u1.tr (u2.tr u3)
  obtain ⟨H4, x4, e4, g4, y1, y2, y3, u4⟩ := zbg_17 (N := N) 18 N 0 _ _ rfl (by omega) (by rw [u03.2.1]; exact hK) g3 rfl (fun q hq => absurd hq (Nat.not_lt_zero q))
  have u04 := u03.tr u4
  obtain ⟨H5, x5, e5, g5, z1, z2, z3, u5⟩ := zbg_36 (N := N) hn n N 0 x4 H4 (by omega) (by omega) (by rw [u04.2.1]; exact hK) g4 (by rw [y1]) (hk.up (fun q hq => u04.1 q hq)) (fun q hq => absurd hq (Nat.not_lt_zero q))
  refine ⟨H5, x5, ?_, g5, z1.trans y1, z3, fun q hq => by rw [z2]; exact y3 q hq, u04.tr u5⟩
  unfold fX3_begins
  refine (zpV h.1 (by decide) hK (by show 0 < 6; decide) _).trans ?_
  refine (zpV g1.1 (by decide) (by rw [u1.2.1]; exact hK) (by show 1 < 6; decide) _).trans ?_
  refine (zpV g2.1 (by decide) (by rw [(u1.tr u2).2.1]; exact hK) (by show 2 < 6; decide) _).trans ?_
  exact e4.trans e5
theorem zSm.bg {k : zKA} {B : zLB} {x : zSS} (hB : zLok B) (h1 : x.1 = (some (k.1 3), 0, 0)) (h2 : ∀ q, q < zS B → x.2.1 q = nI (zTh0 B q)) (h3 : ∀ q, q < 18 → x.2.2.1 q = 0 ∧ x.2.2.2 q = 0) : zSm k B (z00 B) x := by
  refine ⟨by rw [h1], by rw [h1]; rfl, ?_, fun s hs => ?_, fun q hq => ?_⟩
  · rw [h1]
    show (0 : Int32) = nI (zOf (z00 B))
    have : zOf (z00 B) = 0 := (zOf_of (S := z00 B) (by decide : (0 : Nat) < 262144) (fun q hq => by
      show _ = (0 : Nat).testBit _
      simp)).symm
    rw [this]
    rfl
  · rw [h2 s hs]
    show _ = nI (if s < zS B then zTh0 B s else 0)
    rw [if_pos hs]
  · exact ⟨(h3 q hq).1, (h3 q hq).2⟩
end
