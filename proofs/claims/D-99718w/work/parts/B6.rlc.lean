/-! PURE 43: the reference's library(): the call -/
set_option maxRecDepth 100000
section
variable {α : Type} {N : Nat} {h : jH} {a : Nat} {t : Nat → Nat} {n : Nat} {F : Nat → Int32} {L : Nat → Int64} {A : Nat → Nat → Int32} {M : Nat → Nat → Int64}
/-- the tape -/
def zTq (F : Nat → Int32) (A : Nat → Nat → Int32) (t : Nat → Nat) (n : Nat) : Prop := F 1 = nI n ∧ n ≤ 1000 ∧ ∀ k, k < n → A 2 k = nI (t k) ∧ t k < 128
theorem zR_begins (hb : h.2.2.2.2 0 ≤ a) (hN : 3000 ≤ N) (hq : zTq F A t n) (K : Unit → jM α) : (jB (fX7_begins N a) K).1 (rH h a (F, L, A, M)) = (K ()).1 (zQ h a t n (upd (upd F 3 (nI n)) 1 0) L A M 0) := by
  obtain ⟨h1, hn, ht⟩ := hq
  have hT : zTp (upd (upd F 3 (nI n)) 1 0) A t n := ⟨by rw [zu_ne _ _ (by decide), zu_eq], hn, ht⟩
  unfold fX7_begins
  rw [zA, zr_g1, h1, zA, zr_p3 hb, zA, zr_p1 hb, zA, zr_p4 hb]
  have e : upd (upd (upd F 3 (nI n)) 1 0) 4 0 = zF4 (upd (upd F 3 (nI n)) 1 0) (nI 0) (upd (upd F 3 (nI n)) 1 0 5) (upd (upd F 3 (nI n)) 1 0 6) (upd (upd F 3 (nI n)) 1 0 8) := by
    rw [← zF4_u4 (upd (upd F 3 (nI n)) 1 0) (upd (upd F 3 (nI n)) 1 0 4), zF4_F]
    rfl
  rw [e, zA, jB_eq (zR_next hb hN hT (Nat.zero_le n) _ _ _)]
  rfl
theorem zR_rA2 (hb : h.2.2.2.2 0 ≤ a) : ∀ f, 4 ≤ f → (fX7_readsAll_2 N a f 0).1 (rH h a (F, L, A, M)) = (fX7_readsAll_22 N a).1 (rH h a (F, L, zst (zst (zst A 10 3 0) 10 4 0) 10 5 0, M))
  | f + 4, _ => by
    rw [fX7_readsAll_2, zI, if_neg (by decide), zr_g10, show (3 : Int32) + 0 = nI 3 from rfl, zr_s10 hb (by decide), zst_d, show (0 : Int32) + 1 = 1 from rfl]
    rw [fX7_readsAll_2, zI, if_neg (by decide), zr_g10, show (3 : Int32) + 1 = nI 4 from rfl, zr_s10 hb (by decide), zst_d, show (1 : Int32) + 1 = 2 from rfl]
    rw [fX7_readsAll_2, zI, if_neg (by decide), zr_g10, show (3 : Int32) + 2 = nI 5 from rfl, zr_s10 hb (by decide), zst_d, show (2 : Int32) + 1 = 3 from rfl]
    rw [fX7_readsAll_2, zI, if_pos (by decide)]
theorem zR_l46 (hb : h.2.2.2.2 0 ≤ a) : ∀ f, 5 ≤ f → (fX7_library_46 N a f 0).1 (rH h a (F, L, A, M)) = some (0, rH h a (F, L, zst (zst (zst (zst A 53 0 0) 53 1 0) 53 2 0) 53 3 0, M))
  | f + 5, _ => by
    rw [fX7_library_46, zI, if_neg (by decide), zr_g53, zsZ (Or.inl rfl), show (0 : Int32) = nI 0 from rfl, zr_s53 hb (by decide), zst_d, show nI 0 + 1 = nI 1 from rfl]
    rw [fX7_library_46, zI, if_neg (by decide), zr_g53, zsZ (Or.inl rfl), zr_s53 hb (by decide), zst_d, show nI 1 + 1 = nI 2 from rfl]
    rw [fX7_library_46, zI, if_neg (by decide), zr_g53, zsZ (Or.inl rfl), zr_s53 hb (by decide), zst_d, show nI 2 + 1 = nI 3 from rfl]
    rw [fX7_library_46, zI, if_neg (by decide), zr_g53, zsZ (Or.inl rfl), zr_s53 hb (by decide), zst_d, show nI 3 + 1 = nI 4 from rfl]
    rw [fX7_library_46, zI, if_pos (by decide)]
    rfl
theorem zR_library (hb : h.2.2.2.2 0 ≤ a) (hN : 3000 ≤ N) (hq : zTq F A t n) {m0 : Nat} (hm0 : n < m0) (hm1 : m0 ≤ N) :
    (∃ e, zLib (zOfT t n) m0 m0 0 zD0 = .inl e ∧ ∃ F' L' A' M', (fX7_library N a).1 (rH h a (F, L, A, M)) = some (nI (e.1 + 16 * zBg t n e.2), rH h a (F', L', A', M')) ∧ F' 1 = 0 ∧ F' 54 = F 54 ∧ (∀ j q, zlm j q → A' j q = A j q) ∧ ∀ j q, (j = 11 → q < 3) → (j = 12 → q < 6) → M' j q = M j q) ∨
    ∃ D, zLib (zOfT t n) m0 m0 0 zD0 = .inr D ∧ zDok D ∧ ∃ F' L' A' M', (fX7_library N a).1 (rH h a (F, L, A, M)) = some (0, rH h a (F', L', A', M')) ∧ F' 1 = 0 ∧ F' 54 = 0 ∧ zRX N a D.1 (z00 D.1) A' ∧ zNS 0 A' M' D.2.1 (zS D.1) ∧ zNT 0 A' M' D.2.2.1 (zT D.1) ∧ A' 38 0 = 0 ∧ A' 43 0 = 0 ∧ (∀ k, k < 4 → A' 53 k = 0) ∧ A' 2 = A 2 ∧ A' 47 = A 47 := by
  obtain ⟨h1, hn, ht⟩ := id hq
  have kA : zKpt (upd (upd (upd F 0 0) 3 (nI n)) 1 0) L A M (upd (upd (upd (upd F 0 0) 23 1000) 3 (nI n)) 1 0) L (zst (zst (zst (zst (zst A 10 3 0) 10 4 0) 10 5 0) 20 1 1000) 21 1 1000) M := by
    have k0 : zKpt (upd (upd (upd F 0 0) 3 (nI n)) 1 0) L A M (upd (upd (upd (upd F 0 0) 23 1000) 3 (nI n)) 1 0) L A M := by
      refine ⟨fun k k1 k2 k3 => ?_, fun _ _ _ => rfl, fun _ _ _ => rfl, fun _ _ _ _ => rfl⟩
      by_cases e1 : k = 1
      · rw [e1, zu_eq, zu_eq]
      · rw [zu_ne _ _ e1, zu_ne _ _ e1]
        by_cases e3 : k = 3
        · rw [e3, zu_eq, zu_eq]
        · rw [zu_ne _ _ e3, zu_ne _ _ e3, zu_ne _ _ k2]
    exact ((((k0.a _ (by unfold zlm; omega)).a _ (by unfold zlm; omega)).a _ (by unfold zlm; omega)).a _ (by unfold zlm; omega)).a _ (by unfold zlm; omega)
  have hT : zTp (upd (upd (upd F 0 0) 3 (nI n)) 1 0) A t n := ⟨by rw [zu_ne _ _ (by decide), zu_eq], hn, ht⟩
  have hq2 : zTq (upd (upd F 0 0) 23 1000) (zst (zst (zst (zst (zst A 10 3 0) 10 4 0) 10 5 0) 20 1 1000) 21 1 1000) t n := ⟨by rw [zu_ne _ _ (by decide), zu_ne _ _ (by decide)]; exact h1, hn, fun k hk => by rw [zst_j _ _ (by decide), zst_j _ _ (by decide), zst_j _ _ (by decide), zst_j _ _ (by decide), zst_j _ _ (by decide)]; exact ht k hk⟩
  have er : (fX7_readsAll N a).1 (rH h a (upd F 0 0, L, A, M)) = (fX7_readsAll_51 N a N).1 (zQ h a t n (upd (upd (upd (upd F 0 0) 23 1000) 3 (nI n)) 1 0) L (zst (zst (zst (zst (zst A 10 3 0) 10 4 0) 10 5 0) 20 1 1000) 21 1 1000) M 0) := by
    unfold fX7_readsAll
    rw [zR_rA2 hb N (by omega)]
    unfold fX7_readsAll_22
    rw [zr_g20, show (1 : Int32) = nI 1 from rfl, zr_s20 hb (by decide), zst_d, zr_g21, zr_s21 hb (by decide), zst_d, zr_p23 hb, zR_begins hb hN hq2]
  have hD0 : zRD zD0 (upd (upd (upd (upd F 0 0) 23 1000) 3 (nI n)) 1 0) (zst (zst (zst (zst (zst A 10 3 0) 10 4 0) 10 5 0) 20 1 1000) 21 1 1000) M := by
    refine ⟨⟨?_, ?_, ?_⟩, fun k hk => absurd hk (Nat.not_lt_zero k), fun k hk => absurd hk (Nat.not_lt_zero k), fun k hk => absurd hk (Nat.not_lt_zero k), ?_, ?_, ?_, trivial⟩
    · rw [zst_j _ _ (by decide), zst_j _ _ (by decide), zst_q _ _ (by decide), zst_q _ _ (by decide), zst_e]; rfl
    · rw [zst_j _ _ (by decide), zst_j _ _ (by decide), zst_q _ _ (by decide), zst_e]; rfl
    · rw [zst_j _ _ (by decide), zst_j _ _ (by decide), zst_e]; rfl
    · rw [zst_j _ _ (by decide), zst_e]; rfl
    · rw [zst_e]; rfl
    · rw [zu_ne _ _ (by decide), zu_ne _ _ (by decide), zu_eq]; rfl
  have hres := zR_all (L := L) (M := M) hb hN hT hm0 hm1 m0 N 0 zD0 _ _ _ _ (Nat.zero_le n) (by omega) hm1 zDok_0 kA hD0
  rcases hres with ⟨e, w1, w2, F2, L2, A2, M2, w3, w4, w5⟩ | ⟨D2, j, w1, w2, F2, L2, A2, M2, w3, w4, w5⟩
  · refine Or.inl ⟨e, w1, zKs F2 t n (zBg t n e.2), zKl L2 t n (zBg t n e.2), A2, M2, ?_, ?_, ?_, w5.2.2.1, w5.2.2.2⟩
    · unfold fX7_library
      rw [zr_p0 hb, jB_eq (er.trans w3), zI, if_pos z00p, zr_g9, zQ_o (by decide) (by decide) (by decide) (by decide), w4]
      rfl
    · rw [zQ_o (by decide) (by decide) (by decide) (by decide), w5.1 1 (by decide) (by decide) (by decide), zu_eq]
    · rw [zQ_o (by decide) (by decide) (by decide) (by decide), w5.1 54 (by decide) (by decide) (by decide), zu_ne _ _ (by decide), zu_ne _ _ (by decide), zu_ne _ _ (by decide)]
  · have hs3 := w2.1.1
    have e10 : zLaA A2 (A2 20 1 - 1000) (A2 21 1 - 1000) 10 0 = nI (zS D2.1) := by
      unfold zLaA
      rw [if_pos (Or.inl rfl), zsh_lo _ (by decide)]
      exact w4.1.1
    have e14 : ∀ k, k < zS D2.1 → zLaA A2 (A2 20 1 - 1000) (A2 21 1 - 1000) 14 k = nI (zTh0 D2.1 k) := by
      intro k hk
      unfold zLaA
      rw [if_pos (by omega), zsh_lo _ (by omega)]
      exact (w4.2.1 k hk).1.2.1
    have eL : ∀ k, 22 < k → zLaA A2 (A2 20 1 - 1000) (A2 21 1 - 1000) k = A2 k := by
      intro k hk
      unfold zLaA
      rw [if_neg (by omega), if_neg (by omega), if_neg (by omega), if_neg (by omega), if_neg (by omega), if_neg (by omega)]
    obtain ⟨A8, hA8⟩ : ∃ A8, A8 = zuA (zLaA A2 (A2 20 1 - 1000) (A2 21 1 - 1000)) 48 (zF48 (zLaA A2 (A2 20 1 - 1000) (A2 21 1 - 1000) 48) (zLaA A2 (A2 20 1 - 1000) (A2 21 1 - 1000) 14) (zS D2.1) (zS D2.1)) := ⟨_, rfl⟩
    have hfr : zRs (z00 D2.1) A8 := by rw [hA8]; exact zF48_rs _ e14 hs3 _
    have hrun : (fX7_library N a).1 (rH h a (F, L, A, M)) = some (0, rH h a (upd (zKs F2 t n (zBg t n j)) 54 0, zKl L2 t n (zBg t n j), zst (zst (zst (zst (zst (zst A8 38 0 0) 43 0 0) 53 0 0) 53 1 0) 53 2 0) 53 3 0, zLaM M2)) := by
      unfold fX7_library
      rw [zr_p0 hb, jB_eq (er.trans w3), zI, if_neg z10n, zR_lays hb hN, zR_fresh0 hb hN e10 hs3, ← hA8, zr_g38, show (0 : Int32) = nI 0 from rfl, zr_s38 hb (by decide), zst_d, zr_g43, zr_s43 hb (by decide), zst_d, zr_p54 hb]
      exact zR_l46 hb N (by omega)
    have eA : ∀ k, k ≠ 38 → k ≠ 43 → k ≠ 53 → zst (zst (zst (zst (zst (zst A8 38 0 0) 43 0 0) 53 0 0) 53 1 0) 53 2 0) 53 3 0 k = A8 k := by
      intro k k1 k2 k3
      rw [zst_j _ _ k3, zst_j _ _ k3, zst_j _ _ k3, zst_j _ _ k3, zst_j _ _ k2, zst_j _ _ k1]
    have hla := zRD_lays (a := a) hN (zOfT_o t n) w2 (zLib_ev (zDev_0 _ _) w1) w4 (zst (zst (zst (zst (zst (zst A8 38 0 0) 43 0 0) 53 0 0) 53 1 0) 53 2 0) 53 3 0) (fun k k1 k2 => by rw [eA k (by omega) (by omega) (by omega), hA8, zuA_ne _ _ (by omega)])
    obtain ⟨l1, l2, l3, l4⟩ := hla
    refine Or.inr ⟨D2, w1, w2, _, _, _, _, hrun, ?_, zu_eq _ _ _, ⟨hN, w2.1, zSok_00 w2.1, l1, ?_, l2⟩, l3, l4, ?_, ?_, ?_, ?_, ?_⟩
    · rw [zu_ne _ _ (by decide), zQ_o (by decide) (by decide) (by decide) (by decide), w5.1 1 (by decide) (by decide) (by decide), zu_eq]
    · unfold zRs
      rw [eA 48 (by decide) (by decide) (by decide)]
      exact hfr
    · rw [zst_j _ _ (by decide), zst_j _ _ (by decide), zst_j _ _ (by decide), zst_j _ _ (by decide), zst_j _ _ (by decide), zst_e]
    · rw [zst_j _ _ (by decide), zst_j _ _ (by decide), zst_j _ _ (by decide), zst_j _ _ (by decide), zst_e]
    · intro k hk
      have : k = 0 ∨ k = 1 ∨ k = 2 ∨ k = 3 := by omega
      rcases this with e | e | e | e
      · rw [e, zst_q _ _ (by decide), zst_q _ _ (by decide), zst_q _ _ (by decide), zst_e]
      · rw [e, zst_q _ _ (by decide), zst_q _ _ (by decide), zst_e]
      · rw [e, zst_q _ _ (by decide), zst_e]
      · rw [e, zst_e]
    · rw [eA 2 (by decide) (by decide) (by decide), hA8, zuA_ne _ _ (by decide)]
      funext q
      unfold zLaA
      rw [if_neg (by omega), if_neg (by omega), if_neg (by omega), if_neg (by omega), if_neg (by omega), if_neg (by omega)]
      exact w5.2.2.1 2 q (by unfold zlm; omega)
    · rw [eA 47 (by decide) (by decide) (by decide), hA8, zuA_ne _ _ (by decide), eL 47 (by decide)]
      funext q
      exact w5.2.2.1 47 q (by unfold zlm; omega)
end
