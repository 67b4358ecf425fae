/-! PURE 46: the reference's year(): the call; lines are laid -/
set_option maxRecDepth 100000
def zcp (f : Nat → Int32) (s d k : Nat) : Nat → Int32 := fun q => if d ≤ q ∧ q < d + k then f (s + (q - d)) else f q
theorem zcp_0 (f : Nat → Int32) (s d : Nat) : zcp f s d 0 = f := funext fun q => if_neg (by omega)
theorem zcp_s (f : Nat → Int32) (s d k : Nat) : upd (zcp f s d k) (d + k) (f (s + k)) = zcp f s d (k + 1) := by
  funext q
  unfold zcp
  by_cases e : q = d + k
  · rw [e, zu_eq, if_pos (by omega), Nat.add_sub_cancel_left]
  · rw [zu_ne _ _ e]
    by_cases e2 : d ≤ q ∧ q < d + k
    · rw [if_pos e2, if_pos (show d ≤ q ∧ q < d + (k + 1) by omega)]
    · rw [if_neg e2, if_neg (show ¬ (d ≤ q ∧ q < d + (k + 1)) by omega)]
theorem zcp_o (f : Nat → Int32) {s d k q : Nat} (h : q < d ∨ d + k ≤ q) : zcp f s d k q = f q := if_neg (by omega)
theorem zcp_i (f : Nat → Int32) {s d k q : Nat} (h : q < k) : zcp f s d k (d + q) = f (s + q) := by
  unfold zcp
  rw [if_pos (by omega), Nat.add_sub_cancel_left]
def zL4 (A : Nat → Nat → Int32) (b : Nat) (f1 f2 f3 f4 : Nat → Int32) : Nat → Nat → Int32 := fun j => if j = b then f1 else if j = b + 1 then f2 else if j = b + 2 then f3 else if j = b + 3 then f4 else A j
section
variable (A : Nat → Nat → Int32) (b : Nat) (f1 f2 f3 f4 g : Nat → Int32)
theorem zL4_1 : zL4 A b f1 f2 f3 f4 b = f1 := if_pos rfl
theorem zL4_2 : zL4 A b f1 f2 f3 f4 (b + 1) = f2 := by unfold zL4; rw [if_neg (by omega), if_pos rfl]
theorem zL4_3 : zL4 A b f1 f2 f3 f4 (b + 2) = f3 := by unfold zL4; rw [if_neg (by omega), if_neg (by omega), if_pos rfl]
theorem zL4_4 : zL4 A b f1 f2 f3 f4 (b + 3) = f4 := by unfold zL4; rw [if_neg (by omega), if_neg (by omega), if_neg (by omega), if_pos rfl]
theorem zL4_o {j : Nat} (h : j < b ∨ b + 3 < j) : zL4 A b f1 f2 f3 f4 j = A j := by unfold zL4; rw [if_neg (by omega), if_neg (by omega), if_neg (by omega), if_neg (by omega)]
theorem zL4_u1 : zuA (zL4 A b f1 f2 f3 f4) b g = zL4 A b g f2 f3 f4 := by
  funext j; unfold zuA zL4
  by_cases h : j = b
  · rw [if_pos h, if_pos h]
  · rw [if_neg h, if_neg h, if_neg h]
theorem zL4_u2 : zuA (zL4 A b f1 f2 f3 f4) (b + 1) g = zL4 A b f1 g f3 f4 := by
  funext j; unfold zuA zL4
  by_cases h : j = b + 1
  · rw [if_pos h, if_neg (by omega), if_pos h]
  · rw [if_neg h, if_neg h, if_neg h]
theorem zL4_u3 : zuA (zL4 A b f1 f2 f3 f4) (b + 2) g = zL4 A b f1 f2 g f4 := by
  funext j; unfold zuA zL4
  by_cases h : j = b + 2
  · rw [if_pos h, if_neg (by omega), if_neg (by omega), if_pos h]
  · rw [if_neg h, if_neg h, if_neg h]
theorem zL4_u4 : zuA (zL4 A b f1 f2 f3 f4) (b + 3) g = zL4 A b f1 f2 f3 g := by
  funext j; unfold zuA zL4
  by_cases h : j = b + 3
  · rw [if_pos h, if_neg (by omega), if_neg (by omega), if_neg (by omega), if_pos h]
  · rw [if_neg h, if_neg h, if_neg h]
theorem zL4_A : zL4 A b (A b) (A (b + 1)) (A (b + 2)) (A (b + 3)) = A := by
  funext j; unfold zL4
  by_cases h1 : j = b
  · rw [if_pos h1, h1]
  · rw [if_neg h1]
    by_cases h2 : j = b + 1
    · rw [if_pos h2, h2]
    · rw [if_neg h2]
      by_cases h3 : j = b + 2
      · rw [if_pos h3, h3]
      · rw [if_neg h3]
        by_cases h4 : j = b + 3
        · rw [if_pos h4, h4]
        · rw [if_neg h4]
theorem zL39_2 : zL4 A 39 f1 f2 f3 f4 40 = f2 := zL4_2 A 39 f1 f2 f3 f4
theorem zL39_3 : zL4 A 39 f1 f2 f3 f4 41 = f3 := zL4_3 A 39 f1 f2 f3 f4
theorem zL39_4 : zL4 A 39 f1 f2 f3 f4 42 = f4 := zL4_4 A 39 f1 f2 f3 f4
theorem zL39_u2 : zuA (zL4 A 39 f1 f2 f3 f4) 40 g = zL4 A 39 f1 g f3 f4 := zL4_u2 A 39 f1 f2 f3 f4 g
theorem zL39_u3 : zuA (zL4 A 39 f1 f2 f3 f4) 41 g = zL4 A 39 f1 f2 g f4 := zL4_u3 A 39 f1 f2 f3 f4 g
theorem zL39_u4 : zuA (zL4 A 39 f1 f2 f3 f4) 42 g = zL4 A 39 f1 f2 f3 g := zL4_u4 A 39 f1 f2 f3 f4 g
theorem zL39_A : zL4 A 39 (A 39) (A 40) (A 41) (A 42) = A := zL4_A A 39
end
section
variable {α : Type} {N : Nat} {h : jH} {a : Nat} {t : Nat → Nat} {n : Nat} {F : Nat → Int32} {L : Nat → Int64} {A : Nat → Nat → Int32} {M : Nat → Nat → Int64}
theorem zR_ll14 (hb : h.2.2.2.2 0 ≤ a) {f g : Nat} (hf : f ≤ 5) (hg : g ≤ 5) (hfg : f ≠ g) : ∀ (i k m : Nat), k + i = 40 → i < m → (fX7_laysLines_14 N a m (nI f) (nI g) (nI k)).1 (rH h a (F, L, zL4 A 39 (zcp (A 39) (40 * f) (40 * g) k) (zcp (A 40) (40 * f) (40 * g) k) (zcp (A 41) (40 * f) (40 * g) k) (zcp (A 42) (40 * f) (40 * g) k), M)) = some ((), rH h a (F, L, zL4 A 39 (zcp (A 39) (40 * f) (40 * g) 40) (zcp (A 40) (40 * f) (40 * g) 40) (zcp (A 41) (40 * f) (40 * g) 40) (zcp (A 42) (40 * f) (40 * g) 40), M))
  | 0, k, m + 1, hk, hm => by
    rw [fX7_laysLines_14, zI, if_pos (show 40 ≤ nI k from (nI_le (by omega) (by omega) : nI 40 ≤ nI k)), show k = 40 by omega]
    rfl
  | i + 1, k, m + 1, hk, hm => by
    have ih := zR_ll14 hb hf hg hfg i (k + 1) m (by omega) (by omega)
    have hd : 40 * f + k < 40 * g ∨ 40 * g + k ≤ 40 * f + k := by omega
    rw [fX7_laysLines_14, zI, if_neg (show ¬ 40 ≤ nI k from (nI_ge (by omega) (by omega) : ¬ nI 40 ≤ nI k))]
    rw [zr_g39, zr_g39, show (40 : Int32) * nI f + nI k = nI (40 * f + k) by rw [zc40_mu, nI_add], show (40 : Int32) * nI g + nI k = nI (40 * g + k) by rw [zc40_mu, nI_add], zr_a39 (by omega), zr_s39 hb (by omega), zL4_1, zcp_o _ hd, zcp_s, zL4_u1]
    rw [zr_g40, zr_g40, zr_a40 (by omega), zr_s40 hb (by omega), zL39_2, zcp_o _ hd, zcp_s, zL39_u2]
    rw [zr_g41, zr_g41, zr_a41 (by omega), zr_s41 hb (by omega), zL39_3, zcp_o _ hd, zcp_s, zL39_u3]
    rw [zr_g42, zr_g42, zr_a42 (by omega), zr_s42 hb (by omega), zL39_4, zcp_o _ hd, zcp_s, zL39_u4, zc1_da]
    exact ih
/-- lines laid from a slot to another one -/
def zLL (A : Nat → Nat → Int32) (f g : Nat) : Nat → Nat → Int32 := zL4 (zst A 38 g (A 38 f)) 39 (zcp (A 39) (40 * f) (40 * g) 40) (zcp (A 40) (40 * f) (40 * g) 40) (zcp (A 41) (40 * f) (40 * g) 40) (zcp (A 42) (40 * f) (40 * g) 40)
theorem zR_ll (hb : h.2.2.2.2 0 ≤ a) (hN : 3000 ≤ N) {x y : Int32} {f g : Nat} (hx : x = nI f) (hy : y = nI g) (hf : f ≤ 5) (hg : g ≤ 5) (hfg : f ≠ g) (K : Unit → jM α) : (jB (fX7_laysLines N a x y) K).1 (rH h a (F, L, A, M)) = (K ()).1 (rH h a (F, L, zLL A f g, M)) := by
  have e := zR_ll14 (N := N) (F := F) (L := L) (A := zst A 38 g (A 38 f)) (M := M) hb hf hg hfg 40 0 N rfl (by omega)
  rw [zcp_0, zcp_0, zcp_0, zcp_0, zL39_A, zst_j _ _ (by decide), zst_j _ _ (by decide), zst_j _ _ (by decide), zst_j _ _ (by decide)] at e
  refine jB_eq ?_
  unfold fX7_laysLines
  rw [hx, hy, zr_g38, zr_g38, zr_a38 (by omega), zr_s38 hb (by omega), zst_d]
  exact e
theorem zLL_o (A : Nat → Nat → Int32) (f g : Nat) {j : Nat} (h : j < 38 ∨ 42 < j) : zLL A f g j = A j := by
  unfold zLL
  rw [zL4_o _ _ _ _ _ _ (by omega), zst_j _ _ (by omega)]
theorem zLL_38 (A : Nat → Nat → Int32) (f g : Nat) : zLL A f g 38 = upd (A 38) g (A 38 f) := by
  unfold zLL
  rw [zL4_o _ _ _ _ _ _ (by omega)]
  unfold zst
  rw [zuA_eq]
theorem zLL_l (A : Nat → Nat → Int32) (f g : Nat) {j : Nat} (h1 : 39 ≤ j) (h2 : j ≤ 42) : zLL A f g j = zcp (A j) (40 * f) (40 * g) 40 := by
  have : j = 39 ∨ j = 40 ∨ j = 41 ∨ j = 42 := by omega
  unfold zLL
  rcases this with e | e | e | e
  · rw [e, zL4_1]
  · rw [e, zL39_2]
  · rw [e, zL39_3]
  · rw [e, zL39_4]
/-- what lies in slots -/
theorem zRln.to_ {f : Nat} {Y : zYy} (hf : zRln f A Y) (hY : Y.1 ≤ 40) {g : Nat} : zRln g (zLL A f g) Y := by
  refine ⟨by rw [zLL_38, zu_eq]; exact hf.1, fun k hk => ?_⟩
  rw [zLL_l A f g (by decide) (by decide), zLL_l A f g (by decide) (by decide), zLL_l A f g (by decide) (by decide), zLL_l A f g (by decide) (by decide), zcp_i _ (by omega), zcp_i _ (by omega), zcp_i _ (by omega), zcp_i _ (by omega)]
  exact hf.2 k hk
theorem zRln.ot_ {s : Nat} {Y : zYy} (hs : zRln s A Y) (hY : Y.1 ≤ 40) {f g : Nat} (hg : s ≠ g) : zRln s (zLL A f g) Y := by
  refine ⟨by rw [zLL_38, zu_ne _ _ hg]; exact hs.1, fun k hk => ?_⟩
  rw [zLL_l A f g (by decide) (by decide), zLL_l A f g (by decide) (by decide), zLL_l A f g (by decide) (by decide), zLL_l A f g (by decide) (by decide), zcp_o _ (by omega), zcp_o _ (by omega), zcp_o _ (by omega), zcp_o _ (by omega)]
  exact hs.2 k hk
theorem zR_y16 (hb : h.2.2.2.2 0 ≤ a) (hN : 3000 ≤ N) (hT : zTp F A t n) {nS nT : Nat → Nat} {cS cT : Nat} (hS : zNS 0 A M nS cS) (hTt : zNT 0 A M nT cT) : ∀ (m f i : Nat) (Y : zYy) (F' : Nat → Int32) (A' : Nat → Nat → Int32), i ≤ n → n < m + i → m ≤ f → zYok cS cT Y → zKy F A F' A' → zRln 5 A' Y →
    (∃ e, zYrs (zOfT t n) nS cS nT cT m i Y = .inl e ∧ e.1 ≠ 0 ∧ ∃ F2 A2, (fX7_year_16 N a f).1 (zQ h a t n F' L A' M i) = some (nI (e.1 + 16 * zBg t n e.2), zQ h a t n F2 L A2 M e.2) ∧ zKy F A F2 A2) ∨
    ∃ Y2 j, zYrs (zOfT t n) nS cS nT cT m i Y = .inr Y2 ∧ zYok cS cT Y2 ∧ ∃ F2 A2, (fX7_year_16 N a f).1 (zQ h a t n F' L A' M i) = some (0, zQ h a t n F2 L (zLL A2 5 0) M j) ∧ zRln 5 A2 Y2 ∧ zKy F A F2 A2
  | 0, f, i, Y, F', A', hi, hm, hf, hok, hk, hY => by omega
  | m + 1, 0, i, Y, F', A', hi, hm, hf, hok, hk, hY => by omega
  | m + 1, f + 1, i, Y, F', A', hi, hm, hf, hok, hk, hY => by
    have h1 : (zOfT t n).1 i < 5 := zTki_lt _ _ _
    rw [zYrs, fX7_year_16, zr_g6, zQ_6, zI]
    by_cases c0 : (zOfT t n).1 i = 0
    · rw [if_pos c0, if_pos (show nI ((zOfT t n).1 i) = 0 by rw [c0]; rfl)]
      refine Or.inr ⟨Y, i, rfl, hok, F', A', ?_, hY, hk⟩
      unfold fX7_year_35
      rw [zR_ll hb hN (x := 5) (f := 5) (y := 0) (g := 0) rfl rfl (by decide) (by decide) (by decide)]
      rfl
    · rw [if_neg c0, if_neg (show ¬ nI ((zOfT t n).1 i) = 0 from fun q => c0 ((nI_eq (b := 0) (by omega) (by decide)).mp q))]
      have hst := zR_yl (N := N) (L := L) (Y := Y) (i := i) hb hN (hk.tp hT) (hk.ns hS) (hk.nt hTt) hY hok.1
      have hsg := zYst_g (zOfT_un t n) (nS := nS) (nT := nT) (cS := cS) (cT := cT) hi hok
      rcases hst with ⟨e, e1, F2, A2, e2, e3, e4⟩ | ⟨x, e1, F2, A2, e2, e3, e4⟩
      · rw [e1] at hsg ⊢
        rcases hsg with ⟨e', g1, g2, g3⟩ | ⟨x, g1, g2, g3, g4⟩
        · cases g1
          refine Or.inl ⟨e, rfl, g2, F2, A2, ?_, hk.tr e4⟩
          rw [jB_eq e2, zI, if_pos z00p]
          unfold fX7_year_30
          rw [zr_g9, zQ_o (by decide) (by decide) (by decide) (by decide), e3]
          rfl
        · cases g1
      · rw [e1] at hsg ⊢
        rcases hsg with ⟨e', g1, g2, g3⟩ | ⟨x', g1, g2, g3, g4⟩
        · cases g1
        · cases g1
          have ih := zR_y16 hb hN hT hS hTt m f x.1 x.2 F2 A2 g3 (by omega) (by omega) g4 (hk.tr e4) e3
          rw [jB_eq e2, zI, if_neg z10n]
          exact ih
/-- the call -/
theorem zR_year (hb : h.2.2.2.2 0 ≤ a) (hN : 3000 ≤ N) (hq : zTq F A t n) {nS nT : Nat → Nat} {cS cT : Nat} (hS : zNS 0 A M nS cS) (hTt : zNT 0 A M nT cT) {m0 : Nat} (hm0 : n < m0) (hm1 : m0 ≤ N) :
    (∃ e, zYrs (zOfT t n) nS cS nT cT m0 0 (0, fun _ => (0, 0, 0, 0)) = .inl e ∧ ∃ F' L' A', (fX7_year N a).1 (rH h a (F, L, A, M)) = some (nI (e.1 + 16 * zBg t n e.2), rH h a (F', L', A', M)) ∧ F' 1 = 0 ∧ F' 54 = F 54 ∧ ∀ j q, (j = 38 → q < 5) → (39 ≤ j → j ≤ 42 → q < 200) → A' j q = A j q) ∨
    ∃ Y, zYrs (zOfT t n) nS cS nT cT m0 0 (0, fun _ => (0, 0, 0, 0)) = .inr Y ∧ zYok cS cT Y ∧ ∃ F' L' A2, (fX7_year N a).1 (rH h a (F, L, A, M)) = some (0, rH h a (F', L', zLL A2 5 0, M)) ∧ F' 1 = 0 ∧ F' 54 = F 54 ∧ zRln 5 A2 Y ∧ ∀ j q, (j = 38 → q < 5) → (39 ≤ j → j ≤ 42 → q < 200) → A2 j q = A j q := by
  obtain ⟨h1, hn, ht⟩ := id hq
  have k0 := (zKy.rf (upd (upd (upd F 0 0) 3 (nI n)) 1 0) A).a (j := 38) (d := 5) 0 (Or.inl ⟨rfl, Nat.le_refl _⟩)
  have hT : zTp (upd (upd (upd F 0 0) 3 (nI n)) 1 0) A t n := ⟨by rw [zu_ne _ _ (by decide), zu_eq], hn, ht⟩
  have hq2 : zTq (upd F 0 0) (zst A 38 5 0) t n := ⟨by rw [zu_ne _ _ (by decide)]; exact h1, hn, fun k hk => by rw [zst_j _ _ (by decide)]; exact ht k hk⟩
  have er : (fX7_year N a).1 (rH h a (F, L, A, M)) = (fX7_year_16 N a N).1 (zQ h a t n (upd (upd (upd F 0 0) 3 (nI n)) 1 0) L (zst A 38 5 0) M 0) := by
    unfold fX7_year
    rw [zr_p0 hb, zr_g38, zr_s38_5 hb, zst_d, zR_begins hb hN hq2]
  have hres := zR_y16 (L := L) hb hN hT hS hTt m0 N 0 (0, fun _ => (0, 0, 0, 0)) _ _ (Nat.zero_le n) (by omega) hm1 ⟨by decide, fun k hk => absurd hk (Nat.not_lt_zero k)⟩ k0 ⟨by rw [zst_e]; rfl, fun k hk => absurd hk (Nat.not_lt_zero k)⟩
  have f1 : ∀ {F2 : Nat → Int32} {A2 : Nat → Nat → Int32} {j : Nat}, zKy (upd (upd (upd F 0 0) 3 (nI n)) 1 0) A F2 A2 → zKs F2 t n (zBg t n j) 1 = 0 ∧ zKs F2 t n (zBg t n j) 54 = F 54 := by
    intro F2 A2 j hk
    refine ⟨?_, ?_⟩
    · rw [zQ_o (by decide) (by decide) (by decide) (by decide), hk.1 1 (by decide) (by decide), zu_eq]
    · rw [zQ_o (by decide) (by decide) (by decide) (by decide), hk.1 54 (by decide) (by decide), zu_ne _ _ (by decide), zu_ne _ _ (by decide), zu_ne _ _ (by decide)]
  rcases hres with ⟨e, w1, w2, F2, A2, w3, w5⟩ | ⟨Y2, j, w1, w2, F2, A2, w3, w4, w5⟩
  · exact Or.inl ⟨e, w1, _, _, A2, er.trans w3, (f1 w5).1, (f1 w5).2, w5.2⟩
  · exact Or.inr ⟨Y2, w1, w2, _, _, A2, er.trans w3, (f1 w5).1, (f1 w5).2, w4, w5.2⟩
end
