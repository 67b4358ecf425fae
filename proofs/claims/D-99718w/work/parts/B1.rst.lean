/-! PURE 38: the reference reads the statements of a library -/
set_option maxRecDepth 100000
def zlm (j q : Nat) : Prop := (j = 10 → q < 3) ∧ (13 ≤ j → j ≤ 15 → q < 3) ∧ (16 ≤ j → j ≤ 18 → q < 6) ∧ (j = 19 → q < 12) ∧ (20 ≤ j → j ≤ 21 → q < 1) ∧ (j = 22 → q < 1000) ∧ j ≠ 24 ∧ j ≠ 25
/-- what is read does not touch what is -/
def zKpt (F : Nat → Int32) (L : Nat → Int64) (A : Nat → Nat → Int32) (M : Nat → Nat → Int64) (F' : Nat → Int32) (L' : Nat → Int64) (A' : Nat → Nat → Int32) (M' : Nat → Nat → Int64) : Prop :=
  (∀ k, k ≠ 9 → k ≠ 23 → k ≠ 36 → F' k = F k) ∧ (∀ k, k ≠ 7 → k ≠ 37 → L' k = L k) ∧ (∀ j q, zlm j q → A' j q = A j q) ∧ ∀ j q, (j = 11 → q < 3) → (j = 12 → q < 6) → M' j q = M j q
theorem zKpt.rf (F : Nat → Int32) (L : Nat → Int64) (A : Nat → Nat → Int32) (M : Nat → Nat → Int64) : zKpt F L A M F L A M := ⟨fun _ _ _ _ => rfl, fun _ _ _ => rfl, fun _ _ _ => rfl, fun _ _ _ _ => rfl⟩
theorem zKpt.tr {F F1 F2 : Nat → Int32} {L L1 L2 : Nat → Int64} {A A1 A2 : Nat → Nat → Int32} {M M1 M2 : Nat → Nat → Int64} (h1 : zKpt F L A M F1 L1 A1 M1) (h2 : zKpt F1 L1 A1 M1 F2 L2 A2 M2) : zKpt F L A M F2 L2 A2 M2 :=
  ⟨fun k a b c => (h2.1 k a b c).trans (h1.1 k a b c), fun k a b => (h2.2.1 k a b).trans (h1.2.1 k a b), fun j q a => (h2.2.2.1 j q a).trans (h1.2.2.1 j q a), fun j q a b => (h2.2.2.2 j q a b).trans (h1.2.2.2 j q a b)⟩
section
variable {F F' : Nat → Int32} {L L' : Nat → Int64} {A A' : Nat → Nat → Int32} {M M' : Nat → Nat → Int64}
theorem zKpt.f (h1 : zKpt F L A M F' L' A' M') {k : Nat} (x : Int32) (hk : k = 9 ∨ k = 23 ∨ k = 36) : zKpt F L A M (upd F' k x) L' A' M' := ⟨fun j a b c => by rw [zu_ne _ _ (by omega)]; exact h1.1 j a b c, h1.2⟩
theorem zKpt.l (h1 : zKpt F L A M F' L' A' M') (x : Int64) : zKpt F L A M F' (vp_updL L' 37 x) A' M' := ⟨h1.1, fun j a b => by rw [pk_uLn b]; exact h1.2.1 j a b, h1.2.2⟩
theorem zKpt.a (h1 : zKpt F L A M F' L' A' M') {j d : Nat} (x : Int32) (hj : ¬ zlm j d) : zKpt F L A M F' L' (zst A' j d x) M' := ⟨h1.1, h1.2.1, fun j' q a => by
  by_cases e : j' = j
  · have : q ≠ d := fun e2 => hj (by rw [← e, ← e2]; exact a)
    rw [zst_q _ _ this]; exact h1.2.2.1 j' q a
  · rw [zst_j _ _ e]; exact h1.2.2.1 j' q a, h1.2.2.2⟩
theorem zKpt.m (h1 : zKpt F L A M F' L' A' M') {j d : Nat} (x : Int64) (hj : (j = 11 ∧ 3 ≤ d) ∨ (j = 12 ∧ 6 ≤ d)) : zKpt F L A M F' L' A' (zuA M' j (vp_updL (M' j) d x)) := ⟨h1.1, h1.2.1, h1.2.2.1, fun j' q a b => by
  by_cases e : j' = j
  · have : q ≠ d := by omega
    rw [e, zuA_eq, pk_uLn this, ← e]; exact h1.2.2.2 j' q a b
  · rw [zuA_ne _ _ e]; exact h1.2.2.2 j' q a b⟩
theorem zKpt.tp (h1 : zKpt F L A M F' L' A' M') {t : Nat → Nat} {n : Nat} (hT : zTp F A t n) : zTp F' A' t n := by
  refine ⟨(h1.1 3 (by decide) (by decide) (by decide)).trans hT.1, hT.2.1, fun k hk => ?_⟩
  rw [h1.2.2.1 2 k (by unfold zlm; omega)]
  exact hT.2.2 k hk
end
theorem z10n : ¬ (1 : Int32) = 0 := by decide
theorem z00p : (0 : Int32) = 0 := rfl
/-- the library that is read -/
def zRD (D : zDr) (F : Nat → Int32) (A : Nat → Nat → Int32) (M : Nat → Nat → Int64) : Prop := (A 10 3 = nI (zS D.1) ∧ A 10 4 = nI (zT D.1) ∧ A 10 5 = nI (zD D.1)) ∧
  (∀ k, k < zS D.1 → (A 13 (3 + k) = nI (zLi D.1 k) ∧ A 14 (3 + k) = nI (zTh0 D.1 k) ∧ A 15 (3 + k) = nI (zHo D.1 k)) ∧ M 11 (3 + k) = nL (D.2.1 k) ∧ D.2.1 k < 300000000000) ∧
  (∀ t, t < zT D.1 → (A 16 (6 + t) = nI (zKi D.1 t) ∧ A 17 (6 + t) = nI (zGa D.1 t) ∧ A 18 (6 + t) = nI (zLo D.1 t)) ∧ M 12 (6 + t) = nL (D.2.2.1 t) ∧ D.2.2.1 t < 300000000000) ∧
  (∀ i, i < zD D.1 → A 19 (12 + i) = nI (zDa D.1 i)) ∧
  A 20 1 = nI 1000 ∧ A 21 1 = nI (1000 + D.2.2.2.length) ∧ F 23 = nI (1000 + D.2.2.2.length) ∧ zHc (A 22) 1000 D.2.2.2
theorem zRD.ns {D : zDr} {F : Nat → Int32} {A : Nat → Nat → Int32} {M : Nat → Nat → Int64} (hD : zRD D F A M) (hok : zDok D) : zNS 1 A M D.2.1 (zS D.1) := ⟨hok.1.1, Nat.le_refl _, hD.1.1, fun k hk => (hD.2.1 k hk).2⟩
theorem zRD.nt {D : zDr} {F : Nat → Int32} {A : Nat → Nat → Int32} {M : Nat → Nat → Int64} (hD : zRD D F A M) (hok : zDok D) : zNT 1 A M D.2.2.1 (zT D.1) := ⟨hok.1.2.1, Nat.le_refl _, hD.1.2.1, fun k hk => (hD.2.2.1 k hk).2⟩
theorem zRD.f {D : zDr} {F : Nat → Int32} {A : Nat → Nat → Int32} {M : Nat → Nat → Int64} (hD : zRD D F A M) {k : Nat} (x : Int32) (hk : k ≠ 23) : zRD D (upd F k x) A M := ⟨hD.1, hD.2.1, hD.2.2.1, hD.2.2.2.1, hD.2.2.2.2.1, hD.2.2.2.2.2.1, by rw [zu_ne _ _ (by omega)]; exact hD.2.2.2.2.2.2.1, hD.2.2.2.2.2.2.2⟩
section
variable (h : jH) (a : Nat) (t : Nat → Nat) (n : Nat) in
def zSt4 (F : Nat → Int32) (L : Nat → Int64) (A : Nat → Nat → Int32) (M : Nat → Nat → Int64) (r : zSR) (out : Option (Int32 × jH)) : Prop :=
  (∃ e, r = .inl e ∧ ∃ F' L' A' M', out = some (0, zQ h a t n F' L' A' M' e.2) ∧ F' 9 = nI (e.1 + 16 * zBg t n e.2) ∧ zKpt F L A M F' L' A' M') ∨
  ∃ x, r = .inr x ∧ ∃ F' L' A' M', out = some (1, zQ h a t n F' L' A' M' x.1) ∧ zRD x.2 F' A' M' ∧ zKpt F L A M F' L' A' M'
variable {N : Nat} {h : jH} {a : Nat} {t : Nat → Nat} {n : Nat} {F F' : Nat → Int32} {L L' : Nat → Int64} {A A' : Nat → Nat → Int32} {M M' : Nat → Nat → Int64} {i : Nat} {D : zDr}
theorem zSt4.er {e j : Nat} (hk : zKpt F L A M F' L' A' M') : zSt4 h a t n F L A M (.inl (e, j)) (some (0, zQ h a t n (upd F' 9 (nI (e + 16 * zBg t n j))) L' A' M' j)) := Or.inl ⟨_, rfl, _, _, _, _, rfl, zu_eq _ _ _, hk.f _ (Or.inl rfl)⟩
theorem zR_cl (hb : h.2.2.2.2 0 ≤ a) (hN : 3000 ≤ N) (hT : zTp F A t n) (hk : zKpt F L A M F' L' A' M') (hD : zRD D F' A' M') : zSt4 h a t n F L A M (zCl (zOfT t n) i D) ((jB (fX7_closes N a) fun y => jRn .boolean y).1 (zQ h a t n F' L' A' M' i)) := by
  rw [zQ_closes hb hN (hk.tp hT)]
  unfold zCl
  cases ziss (zOfT t n) i 59 with
  | true => rw [if_pos rfl, if_pos rfl]; exact Or.inr ⟨_, rfl, _, _, _, _, rfl, hD, hk⟩
  | false => rw [if_neg zff, if_neg zff]; exact zSt4.er hk
theorem zR_sSkin (hb : h.2.2.2.2 0 ≤ a) (hN : 3000 ≤ N) (hT : zTp F A t n) (hok : zDok D) (hD : zRD D F A M) : zSt4 h a t n F L A M (zsSkin (zOfT t n) i D) ((fX7_readsSkin N a).1 (zQ h a t n F L A M i)) := by
  have hs3 := hok.1.1
  have hw2' : (zOfT t n).2.1 (i + 1) < 300000000000 := zTw_lt _ _ _
  unfold zsSkin fX7_readsSkin fX7_readsSkin_45
  rw [zr_g10, zr_a10_3, hD.1.1, zc3_ad, zI]
  by_cases c1 : zS D.1 = 3
  · rw [if_pos c1, if_pos (show nI (3 + zS D.1) = 6 by rw [c1]; rfl), zQ_fails hb (x := 5) (w := 5) rfl]
    exact zSt4.er (zKpt.rf _ _ _ _)
  · rw [if_neg c1, if_neg (show ¬ nI (3 + zS D.1) = 6 from fun q => c1 (by have := (nI_eq (b := 6) (by omega) (by decide)).mp q; omega)), zQ_next hb hN hT, zQ_new hb hN hT (hD.ns hok) (hD.nt hok)]
    unfold zNe
    cases hn : zNew (zOfT t n) (i + 1) D with
    | some e =>
      dsimp only
      rw [zI, if_pos z00p]
      exact zSt4.er (zKpt.rf _ _ _ _)
    | none =>
      dsimp only
      have k1 := (zKpt.rf F L A M).l (nL ((zOfT t n).2.1 (i + 1)))
      rw [zI, if_neg z10n, zQ_both hb hN hT (w0 := 6564799) (w := 6564799) rfl (by decide) (x := 1) (lo := 1) (y := 6) (hi := 6) rfl rfl (by decide) (by decide)]
      unfold zBo
      cases hw : zisw (zOfT t n) (i + 2) 6564799 with
      | false =>
        rw [if_neg zff, if_neg zff, zI, if_pos z00p]
        exact zSt4.er k1
      | true =>
        rw [if_pos rfl, if_pos rfl]
        cases hu1 : zNu (zOfT t n) (i + 2 + 1) 1 6 with
        | inl e =>
          dsimp only
          rw [zI, if_pos z00p]
          exact zSt4.er k1
        | inr l =>
          dsimp only
          have k2 : zKpt F L A M _ _ _ _ := (k1.f (k := 36) (nI l) (by omega)).a (j := 13) (d := 3 + zS D.1) (nI l) (by unfold zlm; omega)
          rw [zI, if_neg z10n, zr_g13, zr_g36, zQ_o (by decide) (by decide) (by decide) (by decide), zu_eq, zr_s13 hb (by omega), zst_d, zQ_both hb hN (k2.tp hT) (w0 := 10792937) (w := 10792937) rfl (by decide) (x := 1) (lo := 1) (y := 30) (hi := 30) rfl rfl (by decide) (by decide)]
          cases hw2 : zisw (zOfT t n) (i + 4) 10792937 with
          | false =>
            rw [if_neg zff, if_neg zff, zI, if_pos z00p]
            exact zSt4.er k2
          | true =>
            rw [if_pos rfl, if_pos rfl]
            cases hu2 : zNu (zOfT t n) (i + 4 + 1) 1 30 with
            | inl e =>
              dsimp only
              rw [zI, if_pos z00p]
              exact zSt4.er k2
            | inr th =>
              dsimp only
              have k3 : zKpt F L A M _ _ _ _ := ((((k2.f (k := 36) (nI th) (by omega)).a (j := 14) (d := 3 + zS D.1) (nI th) (by unfold zlm; omega)).a (j := 15) (d := 3 + zS D.1) 0 (by unfold zlm; omega)).m (j := 11) (d := 3 + zS D.1) (nL ((zOfT t n).2.1 (i + 1))) (by omega)).a (j := 10) (d := 3) (nI (zS D.1 + 1)) (by unfold zlm; omega)
              rw [zI, if_neg z10n, zr_g14, zr_g36, zQ_o (by decide) (by decide) (by decide) (by decide), zu_eq, zr_s14 hb (by omega), zst_d, zr_g15, zr_s15 hb (by omega), zst_d, zr_g11, zr_g37]
              have e37 : zKl (vp_updL L 37 (nL ((zOfT t n).2.1 (i + 1)))) t n (zBg t n (i + 4 + 1 + 1)) 37 = nL ((zOfT t n).2.1 (i + 1)) := by
                unfold zKl
                rw [pk_uLn (by decide), pk_uLs]
              have e10 : (zst (zst (zst A 13 (3 + zS D.1) (nI l)) 14 (3 + zS D.1) (nI th)) 15 (3 + zS D.1) 0) 10 3 = nI (zS D.1) := by
                rw [zst_j _ _ (by decide), zst_j _ _ (by decide), zst_j _ _ (by decide)]
                exact hD.1.1
              rw [e37, zr_s11 hb (by omega), zr_g10, zr_a10_3, e10, show (3 : Int32) = nI 3 from rfl, zc1_da, zr_s10 hb (by decide), zst_d]
              have key : zRD (zaS D ((zOfT t n).2.1 (i + 1)) l th) (upd (upd F 36 (nI l)) 36 (nI th)) (zst (zst (zst (zst A 13 (3 + zS D.1) (nI l)) 14 (3 + zS D.1) (nI th)) 15 (3 + zS D.1) 0) 10 3 (nI (zS D.1 + 1))) (zuA M 11 (vp_updL (M 11) (3 + zS D.1) (nL ((zOfT t n).2.1 (i + 1))))) := by
                obtain ⟨⟨d1, d2, d3⟩, d4, d5, d6, d7, d8, d9, d10⟩ := hD
                refine ⟨⟨?_, ?_, ?_⟩, fun k hk => ?_, fun q hq => ?_, fun q hq => ?_, ?_, ?_, ?_, ?_⟩
                · rw [zst_e]; rfl
                · rw [zst_q _ _ (by decide), zst_j _ _ (by decide), zst_j _ _ (by decide), zst_j _ _ (by decide)]; exact d2
                · rw [zst_q _ _ (by decide), zst_j _ _ (by decide), zst_j _ _ (by decide), zst_j _ _ (by decide)]; exact d3
                · have hk : k < zS D.1 + 1 := hk
                  rw [zst_j _ _ (show 13 ≠ 10 by decide), zst_j _ _ (show 14 ≠ 10 by decide), zst_j _ _ (show 15 ≠ 10 by decide), zst_j _ _ (show 13 ≠ 15 by decide), zst_j _ _ (show 14 ≠ 15 by decide), zst_j _ _ (show 13 ≠ 14 by decide), zuA_eq]
                  show (_ = nI (zup (D.1.2.1 0) (zS D.1) l k) ∧ _ = nI (zup (D.1.2.1 1) (zS D.1) th k) ∧ _ = nI (zup (D.1.2.1 2) (zS D.1) 0 k)) ∧ _ = nL (zup D.2.1 (zS D.1) ((zOfT t n).2.1 (i + 1)) k) ∧ zup D.2.1 (zS D.1) ((zOfT t n).2.1 (i + 1)) k < 300000000000
                  by_cases e : k = zS D.1
                  · rw [e, zup_e, zup_e, zup_e, zup_e, zst_e, zst_e, zst_e, pk_uLs]
                    exact ⟨⟨rfl, rfl, rfl⟩, rfl, hw2'⟩
                  · rw [zup_n _ _ e, zup_n _ _ e, zup_n _ _ e, zup_n _ _ e, zst_q _ _ (show 3 + k ≠ 3 + zS D.1 by omega), zst_q _ _ (show 3 + k ≠ 3 + zS D.1 by omega), zst_q _ _ (show 3 + k ≠ 3 + zS D.1 by omega), zst_q _ _ (show 3 + k ≠ 3 + zS D.1 by omega), zst_q _ _ (show 3 + k ≠ 3 + zS D.1 by omega), pk_uLn (by omega)]
                    exact d4 k (by omega)
                · rw [zst_j _ _ (by decide), zst_j _ _ (by decide), zst_j _ _ (by decide), zst_j _ _ (by decide), zst_j _ _ (by decide), zst_j _ _ (by decide), zst_j _ _ (by decide), zst_j _ _ (by decide), zst_j _ _ (by decide), zst_j _ _ (by decide), zst_j _ _ (by decide), zst_j _ _ (by decide), zuA_ne _ _ (by decide)]
                  exact d5 q hq
                · rw [zst_j _ _ (by decide), zst_j _ _ (by decide), zst_j _ _ (by decide), zst_j _ _ (by decide)]
                  exact d6 q hq
                · rw [zst_j _ _ (by decide), zst_j _ _ (by decide), zst_j _ _ (by decide), zst_j _ _ (by decide)]; exact d7
                · rw [zst_j _ _ (by decide), zst_j _ _ (by decide), zst_j _ _ (by decide), zst_j _ _ (by decide)]; exact d8
                · rw [zu_ne _ _ (by decide), zu_ne _ _ (by decide)]; exact d9
                · rw [zst_j _ _ (by decide), zst_j _ _ (by decide), zst_j _ _ (by decide), zst_j _ _ (by decide)]; exact d10
              have k4 : zKpt F L A M (upd (upd F 36 (nI l)) 36 (nI th)) (vp_updL L 37 (nL ((zOfT t n).2.1 (i + 1)))) (zst (zst (zst (zst A 13 (3 + zS D.1) (nI l)) 14 (3 + zS D.1) (nI th)) 15 (3 + zS D.1) 0) 10 3 (nI (zS D.1 + 1))) (zuA M 11 (vp_updL (M 11) (3 + zS D.1) (nL ((zOfT t n).2.1 (i + 1))))) := k3
              clear k3
              have fin := zR_cl (N := N) (h := h) (a := a) (i := i + 6) hb hN hT k4 key
              exact fin
end
