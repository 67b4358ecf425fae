/-! PURE A8: the law answers true -/
set_option maxRecDepth 100000
theorem zLaw {N b n : Nat} {s : Nat → Int32} (h0 : jH) (hN : 3000 ≤ N) (hK : h0.2.2.2.2 0 ≤ h0.2.1) (hu : h0.2.2.1 ≤ h0.2.1) (hc : zKc h0) (hs : h0.1 b = some (.inr (9, n, .inl s))) (hb : b < h0.2.2.2.2 0) (hn : n ≤ 448) (x1 : Option Nat) : ∃ H', (fL_law N b x1).1 h0 = some (1, H') ∧ H'.2.2.1 ≤ h0.2.2.1 + 80000 ∧ H'.2.2.2.1 ≤ h0.2.2.2.1 + 1000000 := by
  obtain ⟨H1, e1, o1, s1, K1, u1, t1, g1⟩ := zC_init h0 hN hK hc
  obtain ⟨H2, e2, c2, s2, o2, K2, u2, t2, l2⟩ := zR_init H1 (by rw [K1, s1]; omega)
  rw [s1] at e2 c2 s2 o2
  obtain ⟨H3, hH3⟩ : ∃ H3, H3 = jnew H2 (.inr (1, 1, .inr (.inl fun _ => 0))) 1 := ⟨_, rfl⟩
  have s2' : H2.2.1 = h0.2.1 + 85 := by omega
  have o3 : ∀ q, q ≠ h0.2.1 + 85 → H3.1 q = H2.1 q := fun q hq => by rw [hH3]; exact znw_n _ _ _ (by rw [s2']; exact hq)
  have g3 : H3.1 (h0.2.1 + 85) = some (.inr (1, 1, .inr (.inl fun _ => 0))) := by rw [hH3, ← s2']; exact znw_e _ _ _
  have s3 : H3.2 = (H2.2.1 + 1, H2.2.2.1 + 1, H2.2.2.2.1 + 1, H2.2.2.2.2) := by rw [hH3]; rfl
  have l3 : jLe H2 H3 := by rw [hH3]; exact jnew_le _ _ _
  have K3 : H3.2.2.2.2 = h0.2.2.2.2 := by rw [s3]; show H2.2.2.2.2 = _; rw [K2, K1]
  have e21 : H3.2.1 = h0.2.1 + 86 := by rw [s3]; show H2.2.1 + 1 = _; omega
  have t3 : H3.2.2.2.1 = H2.2.2.2.1 + 1 := by rw [s3]
  have u3 : H3.2.2.1 = H2.2.2.1 + 1 := by rw [s3]
  have hCG := g1 H3 (fun q hq => (o3 q (by omega)).trans (o2 q hq)) (jLe.tr l2 l3) (by omega)
  have hL : zLst N h0.2.1 b n (h0.2.1 + 86) H3.2.2.2.1 (h0.2.1 - h0.2.2.1) s zG00 0 H3 := by
    refine ⟨hCG, ⟨fun _ => 0, fun _ => 0, fun _ _ => 0, fun _ _ => 0, rH_of (fun j hj => ?_), zRG_00 hN _⟩, ⟨_, g3⟩, ⟨?_, by rw [K3]; exact hb⟩, zHok_00, ⟨?_, ?_⟩, ?_⟩
    · rw [o3 _ (by omega)]
      exact c2 j hj
    · rw [o3 _ (by omega), o2 _ (by omega), o1 _ (by omega)]
      exact hs
    · show H3.2.1 + 40 * 0 ≤ _
      omega
    · show H3.2.2.2.1 + 400 * 0 ≤ _
      omega
    · omega
  obtain ⟨H', r1, r2, r3, r4⟩ := zlaw_lp hn N 0 0 zG00 H3 (Nat.zero_le _) (by omega) (Nat.zero_le _) hL
  refine ⟨H', ?_, by omega, by omega⟩
  unfold fL_law
  rw [znwB, jB_eq e1, znwB, s1]
  refine (e2 _).trans ?_
  rw [show (1 : Int32) = nI 1 from rfl, znaLB (by decide), ← hH3, s2']
  exact r1
