/-! PURE 45: the reference's year(): a line -/
set_option maxRecDepth 100000
section
variable {N : Nat} {h : jH} {a : Nat} {t : Nat → Nat} {n : Nat} {F F1 : Nat → Int32} {L : Nat → Int64} {A A1 : Nat → Nat → Int32} {M : Nat → Nat → Int64} {i : Nat} {Y : zYy}
variable (h a t n L M) in
def zSy (F : Nat → Int32) (A : Nat → Nat → Int32) (r : zYR) (out : Option (Int32 × jH)) : Prop :=
  (∃ e, r = .inl e ∧ ∃ F' A', out = some (0, zQ h a t n F' L A' M e.2) ∧ F' 9 = nI (e.1 + 16 * zBg t n e.2) ∧ zKy F A F' A') ∨
  ∃ x, r = .inr x ∧ ∃ F' A', out = some (1, zQ h a t n F' L A' M x.1) ∧ zRln 5 A' x.2 ∧ zKy F A F' A'
theorem zSy.er {e j : Nat} (hk : zKy F A F1 A1) : zSy h a t n L M F A (.inl (e, j)) (some (0, zQ h a t n (upd F1 9 (nI (e + 16 * zBg t n j))) L A1 M j)) := Or.inl ⟨_, rfl, _, _, rfl, zu_eq _ _ _, hk.f _ (Or.inl rfl)⟩
theorem zRln.st {s : Nat} (hY : zRln s A Y) {j d : Nat} (x : Int32) (hj : 39 ≤ j ∧ j ≤ 42) (hd : 40 * s + Y.1 ≤ d) : zRln s (zst A j d x) Y := by
  refine ⟨by rw [zst_j _ _ (by omega)]; exact hY.1, fun k hk => ?_⟩
  rw [zst_q _ _ (by omega), zst_q _ _ (by omega), zst_q _ _ (by omega), zst_q _ _ (by omega)]
  exact hY.2 k hk
theorem zR_y180 (hb : h.2.2.2.2 0 ≤ a) (hN : 3000 ≤ N) (hT : zTp F A t n) (hk : zKy F A F1 A1) (hY : zRln 5 A1 Y) (h40 : Y.1 < 40) {w x b l : Nat} (h1 : A1 39 (200 + Y.1) = nI w) (h2 : w = 0 → A1 40 (200 + Y.1) = nI x ∧ A1 42 (200 + Y.1) = nI l) (h3 : w ≠ 3 → A1 41 (200 + Y.1) = nI b) : zSy h a t n L M F A (zYcl (zOfT t n) i (zYad Y (w, x, b, l))) ((fX7_readsLine_180 N a).1 (zQ h a t n F1 L A1 M i)) := by
  have k2 := hk.a (j := 38) (d := 5) (nI (Y.1 + 1)) (Or.inl ⟨rfl, Nat.le_refl _⟩)
  have key : zRln 5 (zst A1 38 5 (nI (Y.1 + 1))) (zYad Y (w, x, b, l)) := by
    refine ⟨by rw [zst_e]; rfl, fun k hk => ?_⟩
    have hk : k < Y.1 + 1 := hk
    rw [zst_j _ _ (by decide), zst_j _ _ (by decide), zst_j _ _ (by decide), zst_j _ _ (by decide)]
    show A1 39 (40 * 5 + k) = nI (if k = Y.1 then (w, x, b, l) else Y.2 k).1 ∧ ((if k = Y.1 then (w, x, b, l) else Y.2 k).1 = 0 → A1 40 (40 * 5 + k) = nI (if k = Y.1 then (w, x, b, l) else Y.2 k).2.1 ∧ A1 42 (40 * 5 + k) = nI (if k = Y.1 then (w, x, b, l) else Y.2 k).2.2.2) ∧ ((if k = Y.1 then (w, x, b, l) else Y.2 k).1 ≠ 3 → A1 41 (40 * 5 + k) = nI (if k = Y.1 then (w, x, b, l) else Y.2 k).2.2.1)
    by_cases e : k = Y.1
    · rw [if_pos e, e]; exact ⟨h1, h2, h3⟩
    · rw [if_neg e]; exact hY.2 k (by omega)
  unfold fX7_readsLine_180
  rw [zr_g38, zr_a38_5, hY.1, zc1_da, zr_s38_5 hb, zst_d, zQ_closes hb hN (k2.tp hT)]
  unfold zYcl
  cases ziss (zOfT t n) i 59 with
  | true => rw [if_pos rfl, if_pos rfl]; exact Or.inr ⟨_, rfl, _, _, rfl, key, k2⟩
  | false => rw [if_neg zff, if_neg zff]; exact zSy.er k2
theorem zR_yl (hb : h.2.2.2.2 0 ≤ a) (hN : 3000 ≤ N) (hT : zTp F A t n) {nS nT : Nat → Nat} {cS cT : Nat} (hS : zNS 0 A M nS cS) (hTt : zNT 0 A M nT cT) (hY : zRln 5 A Y) (hY40 : Y.1 ≤ 40) : zSy h a t n L M F A (zYst (zOfT t n) nS cS nT cT i Y) ((fX7_readsLine N a).1 (zQ h a t n F L A M i)) := by
  have e57 : (fX7_readsLine N a).1 (zQ h a t n F L A M i) = (fX7_readsLine_57 N a (zo (zAct (zOfT t n) i))).1 (zQ h a t n F L A M i) := by
    unfold fX7_readsLine zAct
    rw [zQ_isW (x := 12584543) (w := 12584543) rfl (by decide), zI]
    cases h1 : zisw (zOfT t n) i 12584543 with
    | true => rw [if_neg zb1n, if_pos rfl]; rfl
    | false =>
      rw [if_pos zb_f, if_neg zff, zQ_isW (x := 274579016) (w := 274579016) rfl (by decide), zI]
      cases h1 : zisw (zOfT t n) i 274579016 with
      | true => rw [if_neg zb1n, if_pos rfl]; rfl
      | false =>
        rw [if_pos zb_f, if_neg zff, zQ_isW (x := 10793335) (w := 10793335) rfl (by decide), zI]
        cases h1 : zisw (zOfT t n) i 10793335 with
        | true => rw [if_neg zb1n, if_pos rfl]; rfl
        | false =>
          rw [if_pos zb_f, if_neg zff, zQ_isW (x := 456500) (w := 456500) rfl (by decide), zI]
          cases h1 : zisw (zOfT t n) i 456500 with
          | true => rw [if_neg zb1n, if_pos rfl]; rfl
          | false => rw [if_pos zb_f, if_neg zff]; rfl
  rw [e57]
  unfold zYst fX7_readsLine_57
  cases ha : zAct (zOfT t n) i with
  | none =>
    rw [zI, if_neg (show ¬ 0 ≤ zo none by decide), zQ_fails hb (x := 1) (w := 1) rfl]
    exact zSy.er (zKy.rf _ _)
  | some w =>
    obtain ⟨hw, hin⟩ := zAct_lt (zOfT_un t n) ha
    dsimp only
    rw [show zo (some w) = nI w from rfl, zI, if_pos (show 0 ≤ nI w by rw [zc0_le (by omega)]; omega), zr_g38, zr_a38_5, hY.1, zI]
    by_cases c40 : Y.1 = 40
    · rw [if_pos c40, if_pos (show nI Y.1 = 40 by rw [c40]; rfl), zQ_fails hb (x := 5) (w := 5) rfl]
      exact zSy.er (zKy.rf _ _)
    · have k1 := (zKy.rf F A).a (j := 39) (d := 200 + Y.1) (nI w) (Or.inr ⟨by omega, by omega, by omega⟩)
      have y1 := hY.st (j := 39) (d := 200 + Y.1) (nI w) (by omega) (by omega)
      rw [if_neg c40, if_neg (show ¬ nI Y.1 = 40 from fun q => c40 ((nI_eq (b := 40) (by omega) (by decide)).mp q)), zQ_next hb hN hT, zr_g38, zr_a38_5, hY.1, zr_g39, zc200_ad, zr_s39 hb (by omega), zst_d, zI]
      unfold zYln fX7_readsLine_130 fX7_readsLine_155
      by_cases c3 : w = 3
      · rw [if_pos c3, if_neg (show ¬ nI w = 0 by rw [c3]; decide), zI, if_pos (show nI w = 3 by rw [c3]; rfl), zI, if_neg (show ¬ nI w = 0 by rw [c3]; decide)]
        exact zR_y180 hb hN hT k1 y1 (by omega) (by rw [zst_e, c3]) (fun q => absurd q (by decide)) (fun q => absurd rfl q)
      · rw [if_neg c3]
        by_cases c0 : w = 0
        · rw [if_pos c0, if_pos (show nI w = 0 by rw [c0]; rfl), zQ_text hb hN (k1.tp hT) (k1.nt hTt)]
          unfold zYnm
          cases hn : zNm (zOfT t n) (i + 1) with
          | false =>
            rw [if_neg zff, if_neg zff, zI, if_pos z00p]
            exact zSy.er k1
          | true =>
            rw [if_pos rfl, if_pos rfl]
            cases hf : zFnd nT cT ((zOfT t n).2.1 (i + 1)) with
            | none =>
              dsimp only
              rw [zI, if_pos z00p]
              exact zSy.er (k1.f _ (by omega))
            | some x =>
              dsimp only
              have k2 := (k1.f (k := 36) (nI x) (by omega)).a (j := 40) (d := 200 + Y.1) (nI x) (Or.inr ⟨by omega, by omega, by omega⟩)
              have y2 := y1.st (j := 40) (d := 200 + Y.1) (nI x) (by omega) (by omega)
              rw [zI, if_neg z10n, zr_g40, zr_g36, zQ_o (by decide) (by decide) (by decide) (by decide), zu_eq, zr_s40 hb (by omega), zst_d, zI, if_neg (show ¬ nI w = 3 by rw [c0]; decide), zQ_skin hb hN (k2.tp hT) (x := 0) (r := 0) rfl (k2.ns hS)]
              cases hn2 : zNm (zOfT t n) (i + 2) with
              | false =>
                rw [if_neg zff, if_neg zff, zI, if_pos z00p]
                exact zSy.er k2
              | true =>
                rw [if_pos rfl, if_pos rfl]
                cases hf2 : zFnd nS cS ((zOfT t n).2.1 (i + 2)) with
                | none =>
                  dsimp only
                  rw [zI, if_pos z00p]
                  exact zSy.er (k2.f _ (by omega))
                | some b =>
                  dsimp only
                  have k3 := (k2.f (k := 36) (nI b) (by omega)).a (j := 41) (d := 200 + Y.1) (nI b) (Or.inr ⟨by omega, by omega, by omega⟩)
                  have y3 := y2.st (j := 41) (d := 200 + Y.1) (nI b) (by omega) (by omega)
                  rw [zI, if_neg z10n, zr_g41, zr_g36, zQ_o (by decide) (by decide) (by decide) (by decide), zu_eq, zr_s41 hb (by omega), zst_d, zI, if_pos (show nI w = 0 by rw [c0]; rfl), zQ_num hb hN (k3.tp hT) (x := 0) (lo := 0) (y := 5) (hi := 5) rfl rfl (by decide) (by decide)]
                  cases hu1 : zNu (zOfT t n) (i + 3) 0 5 with
                  | inl e =>
                    dsimp only
                    rw [zI, if_pos z00p]
                    exact zSy.er k3
                  | inr l =>
                    dsimp only
                    have k4 := (k3.f (k := 36) (nI l) (by omega)).a (j := 42) (d := 200 + Y.1) (nI l) (Or.inr ⟨by omega, by omega, by omega⟩)
                    have y4 := y3.st (j := 42) (d := 200 + Y.1) (nI l) (by omega) (by omega)
                    rw [zI, if_neg z10n, zr_g42, zr_g36, zQ_o (by decide) (by decide) (by decide) (by decide), zu_eq, zr_s42 hb (by omega), zst_d]
                    refine zR_y180 (i := i + 4) hb hN hT k4 y4 (by omega) ?_ (fun _ => ⟨?_, ?_⟩) (fun _ => ?_)
                    · rw [zst_j _ _ (by decide), zst_j _ _ (by decide), zst_j _ _ (by decide), zst_e, c0]
                    · rw [zst_j _ _ (by decide), zst_j _ _ (by decide), zst_e]
                    · rw [zst_e]
                    · rw [zst_j _ _ (by decide), zst_e]
        · rw [if_neg c0, if_neg (show ¬ nI w = 0 from fun q => c0 ((nI_eq (b := 0) (by omega) (by decide)).mp q)), zI, if_neg (show ¬ nI w = 3 from fun q => c3 ((nI_eq (b := 3) (by omega) (by decide)).mp q)), zQ_skin hb hN (k1.tp hT) (x := 0) (r := 0) rfl (k1.ns hS)]
          unfold zYnm
          cases hn : zNm (zOfT t n) (i + 1) with
          | false =>
            rw [if_neg zff, if_neg zff, zI, if_pos z00p]
            exact zSy.er k1
          | true =>
            rw [if_pos rfl, if_pos rfl]
            cases hf : zFnd nS cS ((zOfT t n).2.1 (i + 1)) with
            | none =>
              dsimp only
              rw [zI, if_pos z00p]
              exact zSy.er (k1.f _ (by omega))
            | some b =>
              dsimp only
              have k3 := (k1.f (k := 36) (nI b) (by omega)).a (j := 41) (d := 200 + Y.1) (nI b) (Or.inr ⟨by omega, by omega, by omega⟩)
              have y3 := y1.st (j := 41) (d := 200 + Y.1) (nI b) (by omega) (by omega)
              rw [zI, if_neg z10n, zr_g41, zr_g36, zQ_o (by decide) (by decide) (by decide) (by decide), zu_eq, zr_s41 hb (by omega), zst_d, zI, if_neg (show ¬ nI w = 0 from fun q => c0 ((nI_eq (b := 0) (by omega) (by decide)).mp q))]
              refine zR_y180 (i := i + 2) hb hN hT k3 y3 (by omega) ?_ (fun q => absurd q c0) (fun _ => ?_)
              · rw [zst_j _ _ (by decide), zst_e]
              · rw [zst_e]
end
