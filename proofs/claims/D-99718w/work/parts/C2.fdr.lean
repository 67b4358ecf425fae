/-! PURE 49: the reference's feed() -/
set_option maxRecDepth 100000
def zFdn (x y z : Int64) : Nat → Nat → (Nat → Nat) × Nat → (Nat → Nat) × Nat
  | 0, _, T => T
  | j + 1, k, T => zFdn x y z j (k + 1) (zFd1 T (zbc (if k < 8 then x else if k < 16 then y else z) (nI (56 - 8 * (k % 8)))))
theorem zFdn_1 (x y z : Int64) : ∀ j k T i, k + j = 8 → zFdn x y z (j + i) k T = zFdn x y z i 8 (zFdw x j k T)
  | 0, k, T, i, h => by rw [show k = 8 by omega, Nat.zero_add]; rfl
  | j + 1, k, T, i, h => by
    rw [show j + 1 + i = j + i + 1 by omega, zFdn, zFdn_1 x y z j (k + 1) _ i (by omega), zFdw, if_pos (by omega), Nat.mod_eq_of_lt (by omega)]
theorem zFdn_2 (x y z : Int64) : ∀ j k T i, k + j = 8 → zFdn x y z (j + i) (8 + k) T = zFdn x y z i 16 (zFdw y j k T)
  | 0, k, T, i, h => by rw [show k = 8 by omega, Nat.zero_add]; rfl
  | j + 1, k, T, i, h => by
    rw [show j + 1 + i = j + i + 1 by omega, zFdn, show 8 + k + 1 = 8 + (k + 1) by omega, zFdn_2 x y z j (k + 1) _ i (by omega), zFdw, if_neg (by omega), if_pos (by omega), show (8 + k) % 8 = k by omega]
theorem zFdn_3 (x y z : Int64) : ∀ j k T, k + j = 8 → zFdn x y z j (16 + k) T = zFdw z j k T
  | 0, k, T, h => rfl
  | j + 1, k, T, h => by
    rw [zFdn, show 16 + k + 1 = 16 + (k + 1) by omega, zFdn_3 x y z j (k + 1) _ (by omega), zFdw, if_neg (by omega), if_neg (by omega), show (16 + k) % 8 = k by omega]
theorem zFdn_e (x y z : Int64) (T : (Nat → Nat) × Nat) : zFdn x y z 24 0 T = zFed x y z T := by
  have h1 := zFdn_1 x y z 8 0 T 16 rfl
  have h2 := zFdn_2 x y z 8 0 (zFdw x 8 0 T) 8 rfl
  have h3 := zFdn_3 x y z 8 0 (zFdw y 8 0 (zFdw x 8 0 T)) rfl
  exact h1.trans (h2.trans h3)
section
variable {N : Nat} {h : jH} {a : Nat} {F F1 : Nat → Int32} {L : Nat → Int64} {A A1 : Nat → Nat → Int32} {M : Nat → Nat → Int64} {T : (Nat → Nat) × Nat}
def zTT (T : (Nat → Nat) × Nat) (F : Nat → Int32) (A : Nat → Nat → Int32) : Prop := zTok0 T ∧ F 1 = nI T.2 ∧ ∀ k, k < T.2 → A 2 k = nI (T.1 k)
def zKf (F : Nat → Int32) (A : Nat → Nat → Int32) (F' : Nat → Int32) (A' : Nat → Nat → Int32) : Prop := (∀ k, k ≠ 1 → F' k = F k) ∧ ∀ j, j ≠ 2 → A' j = A j
theorem zR_f39 (hb : h.2.2.2.2 0 ≤ a) (hT : zTT T F1 A1) (hk : zKf F A F1 A1) (K8 : Int64 → Int64 → Int64 → Int32 → jM Int32) (x y z w : Int64) {k : Nat} (hk24 : k < 24) : ∃ F' A', (fX7_feed_39 N K8 a x y z (nI k) w).1 (rH h a (F1, L, A1, M)) = (K8 x y z (nI (k + 1))).1 (rH h a (F', L, A', M)) ∧ zTT (zFd1 T (zbc w (nI (56 - 8 * (k % 8))))) F' A' ∧ zKf F A F' A' := by
  obtain ⟨⟨t1, t2⟩, t3, t4⟩ := id hT
  have es : (56 : Int32) - (8 * (nI k &&& 7)) = nI (56 - 8 * (k % 8)) := by
    rw [show (7 : Int32) = nI 7 from rfl, zand, show k &&& 7 = k % 8 from Nat.and_two_pow_sub_one_eq_mod k 3, zc8_mu, show (56 : Int32) = nI 56 from rfl, pk_sub (by omega)]
  obtain ⟨z1, z2⟩ := zby_n w (nI (56 - 8 * (k % 8)))
  have z1' : ((((w.toUInt64 >>> ((56 - (8 * (nI k &&& 7))).toInt64.toUInt64 &&& Int64.toUInt64 63)).toInt64) &&& 255).toInt32) = nI (zbc w (nI (56 - 8 * (k % 8)))) := by
    rw [es]; exact z1
  unfold fX7_feed_39 fX7_feed_114
  rw [z1', zr_g1, t3, zI, zc1_da]
  generalize zbc w (nI (56 - 8 * (k % 8))) = c at z2
  unfold zFd1
  by_cases c0 : 1000 ≤ T.2
  · rw [if_pos (show 1000 ≤ nI T.2 from (nI_le c0 (by omega) : nI 1000 ≤ nI T.2)), if_neg (by omega)]
    exact ⟨F1, A1, rfl, hT, hk⟩
  · rw [if_neg (show ¬ 1000 ≤ nI T.2 from (nI_ge (by omega) (by omega) : ¬ nI 1000 ≤ nI T.2)), zI]
    have e93 : (c = 10 ∨ 32 ≤ c ∧ c ≤ 126) → ∃ F' A', (fX7_feed_93 N K8 a x y z (nI k) (nI c)).1 (rH h a (F1, L, A1, M)) = (K8 x y z (nI (k + 1))).1 (rH h a (F', L, A', M)) ∧ zTT (if (c = 10 ∨ 32 ≤ c ∧ c ≤ 126) ∧ T.2 < 1000 then (zup T.1 T.2 c, T.2 + 1) else T) F' A' ∧ zKf F A F' A' := by
      intro hc
      rw [if_pos ⟨hc, by omega⟩]
      refine ⟨upd F1 1 (nI (T.2 + 1)), zst A1 2 T.2 (nI c), ?_, ⟨?_, zu_eq _ _ _, fun q hq => ?_⟩, fun q hq => ?_, fun q hq => ?_⟩
      · unfold fX7_feed_93 fX7_feed_114
        rw [zr_g2, zr_g1, t3, zr_s2 hb (by omega), zst_d, zr_g1, t3, zc1_da, zr_p1 hb, zc1_da]
      · have := zFd1_ok ⟨t1, t2⟩ c
        unfold zFd1 at this
        rw [if_pos ⟨hc, by omega⟩] at this
        exact this
      · have hq : q < T.2 + 1 := hq
        show _ = nI (zup T.1 T.2 c q)
        by_cases e : q = T.2
        · rw [e, zup_e, zst_e]
        · rw [zup_n _ _ e, zst_q _ _ e]; exact t4 q (by omega)
      · rw [zu_ne _ _ hq]; exact hk.1 q hq
      · rw [zst_j _ _ hq]; exact hk.2 q hq
    by_cases c1 : c = 10
    · rw [if_pos (show nI c = 10 by rw [c1]; rfl)]
      exact e93 (Or.inl c1)
    · rw [if_neg (show ¬ nI c = 10 from fun q => c1 ((nI_eq (b := 10) (by omega) (by decide)).mp q)), zI]
      by_cases c2 : c < 32
      · rw [if_pos (show nI c < 32 from (nI_ltI (b := 32) (by omega) (by decide)).mpr c2), if_neg (by omega)]
        exact ⟨F1, A1, rfl, hT, hk⟩
      · rw [if_neg (show ¬ nI c < 32 from fun q => c2 ((nI_ltI (b := 32) (by omega) (by decide)).mp q)), zI]
        by_cases c3 : 126 < c
        · rw [if_pos (show 126 < nI c from (nI_ltI (a := 126) (by decide) (by omega)).mpr c3), if_neg (by omega)]
          exact ⟨F1, A1, rfl, hT, hk⟩
        · rw [if_neg (show ¬ 126 < nI c from fun q => c3 ((nI_ltI (a := 126) (by decide) (by omega)).mp q))]
          exact e93 (Or.inr ⟨by omega, by omega⟩)
theorem zR_f8 (hb : h.2.2.2.2 0 ≤ a) (x y z : Int64) : ∀ (j k m : Nat) (T : (Nat → Nat) × Nat) (F1 : Nat → Int32) (A1 : Nat → Nat → Int32), k + j = 24 → j < m → zTT T F1 A1 → zKf F A F1 A1 → ∃ F' A', (fX7_feed_8 N a m x y z (nI k)).1 (rH h a (F1, L, A1, M)) = some (nI (zFdn x y z j k T).2, rH h a (F', L, A', M)) ∧ zTT (zFdn x y z j k T) F' A' ∧ zKf F A F' A'
  | 0, k, m + 1, T, F1, A1, hk, hm, hT, hK => by
    refine ⟨F1, A1, ?_, hT, hK⟩
    rw [fX7_feed_8, zI, if_pos (show 24 ≤ nI k from (nI_le (by omega) (by omega) : nI 24 ≤ nI k))]
    unfold fX7_feed_120
    rw [zr_g1, hT.2.1]
    rfl
  | j + 1, k, m + 1, T, F1, A1, hk, hm, hT, hK => by
    obtain ⟨F2, A2, e1, e2, e3⟩ := zR_f39 (N := N) (L := L) (M := M) hb hT hK (fX7_feed_8 N a m) x y z (if k < 8 then x else if k < 16 then y else z) (show k < 24 by omega)
    obtain ⟨F3, A3, g1, g2, g3⟩ := zR_f8 hb x y z j (k + 1) m _ F2 A2 (by omega) (by omega) e2 e3
    refine ⟨F3, A3, ?_, g2, g3⟩
    rw [zFdn]
    refine Eq.trans ?_ (e1.trans g1)
    rw [fX7_feed_8, zI, if_neg (show ¬ 24 ≤ nI k from (nI_ge (by omega) (by omega) : ¬ nI 24 ≤ nI k)), zI]
    by_cases c1 : k < 8
    · rw [if_neg (show ¬ 8 ≤ nI k from (nI_ge (by omega) (by omega) : ¬ nI 8 ≤ nI k)), if_pos c1]
    · rw [if_pos (show 8 ≤ nI k from (nI_le (by omega) (by omega) : nI 8 ≤ nI k)), if_neg c1, zI]
      by_cases c2 : k < 16
      · rw [if_neg (show ¬ 16 ≤ nI k from (nI_ge (by omega) (by omega) : ¬ nI 16 ≤ nI k)), if_pos c2]
      · rw [if_pos (show 16 ≤ nI k from (nI_le (by omega) (by omega) : nI 16 ≤ nI k)), if_neg c2]
theorem zR_feed (hb : h.2.2.2.2 0 ≤ a) (hN : 3000 ≤ N) (x y z : Int64) (hT : zTT T F A) : ∃ F' A', (fX7_feed N a x y z).1 (rH h a (F, L, A, M)) = some (nI (zFed x y z T).2, rH h a (F', L, A', M)) ∧ zTT (zFed x y z T) F' A' ∧ (∀ k, k ≠ 0 → k ≠ 1 → F' k = F k) ∧ ∀ j, j ≠ 2 → A' j = A j := by
  obtain ⟨F', A', e1, e2, e3⟩ := zR_f8 (N := N) (F := upd F 0 0) (A := A) (L := L) (M := M) hb x y z 24 0 N T (upd F 0 0) A rfl (by omega) ⟨hT.1, by rw [zu_ne _ _ (by decide)]; exact hT.2.1, hT.2.2⟩ ⟨fun _ _ => rfl, fun _ _ => rfl⟩
  rw [zFdn_e] at e1 e2
  refine ⟨F', A', ?_, e2, fun k k1 k2 => (e3.1 k k2).trans (zu_ne _ _ k1), e3.2⟩
  unfold fX7_feed
  rw [zr_p0 hb]
  exact e1
end
