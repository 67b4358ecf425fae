/-! PURE 53: a shelf is kept behind, another one is there then: the reference -/
set_option maxRecDepth 100000
section
variable {α : Type} {N a : Nat} {h : jH} {F F' : Nat → Int32} {L : Nat → Int64} {A A' : Nat → Nat → Int32} {M : Nat → Nat → Int64} {B : zLB} {S S' : zMS} {nm : (Nat → Nat) × (Nat → Nat)} {T : (Nat → Nat) × Nat} {Y : zYy} {E : zEy} {U : zUy} {Mk : Nat → Option (zMS × zYy × zEy)}
/-- only the shelf, and what calls work with, changes -/
theorem zRG.sh (hG : zRG N a ((B, S), nm, T, Y, E, U, Mk) F A M) (hX : zRX N a B S' A') (h1 : F' 1 = F 1) (h54 : F' 54 = F 54) (hA : ∀ k, (k < 26 ∨ 35 < k) → k ≠ 48 → k ≠ 49 → k ≠ 50 → k ≠ 55 → k ≠ 56 → A' k = A k) : zRG N a ((B, S'), nm, T, Y, E, U, Mk) F' A' M := by
  obtain ⟨-, g2, g3, g4, g5, ⟨g6, g7⟩, ⟨g8, g9⟩, g10⟩ := hG
  have eA : ∀ k, (k < 26 ∨ (35 < k ∧ k < 48) ∨ (50 < k ∧ k < 55)) → A' k = A k := fun k hk => hA k (by omega) (by omega) (by omega) (by omega) (by omega) (by omega)
  refine ⟨hX, ?_, ?_, ⟨g4.1, h1.trans g4.2.1, by rw [eA 2 (by omega)]; exact g4.2.2⟩, g5.eq (fun k a b => eA k (by omega)), ⟨g6.eq (fun k a b => eA k (by omega)), ?_⟩, ⟨h54.trans g8, by rw [eA 52 (by omega)]; exact g9⟩, fun j hj => ?_⟩
  · unfold zNS at g2 ⊢
    rw [eA 10 (by omega)]
    exact g2
  · unfold zNT at g3 ⊢
    rw [eA 10 (by omega)]
    exact g3
  · unfold zBl at g7 ⊢
    rw [eA 47 (by omega)]
    exact g7
  · obtain ⟨a1, a2⟩ := g10 j hj
    refine ⟨by rw [eA 53 (by omega)]; exact a1, fun x hx => ?_⟩
    obtain ⟨b1, b2, b3⟩ := a2 x hx
    exact ⟨by rw [eA 51 (by omega)]; exact b1, b2.eq (fun k a b => eA k (by omega)), b3.eq (fun k a b => eA k (by omega))⟩
theorem zRG_keeps {c : Nat} (hb : h.2.2.2.2 0 ≤ a) (hok : zGok c ((B, S), nm, T, Y, E, U, Mk)) (hG : zRG N a ((B, S), nm, T, Y, E, U, Mk) F A M) : ∃ F' A', (∀ K : Unit → jM α, (jB (fX7_keeps N a) K).1 (rH h a (F, L, A, M)) = (K ()).1 (rH h a (F', L, A', M))) ∧ zRG N a ((B, S), nm, T, Y, E, zUk U S, Mk) F' A' M := by
  obtain ⟨f, e1, e2⟩ := zR_keeps (α := α) (L := L) (M := M) hb hG.1.1 hok.2.2.2.2.2.1.1 hG.2.2.2.2.2.2.1.1 hG.2.2.2.2.2.2.1.2 (zRw0_s.mp hG.1.2.2.2.2.1)
  refine ⟨_, _, e2, ?_⟩
  have eA : ∀ k, k ≠ 52 → zuA A 52 f k = A k := fun k hk => zuA_ne _ _ hk
  obtain ⟨g1, g2, g3, g4, g5, ⟨g6, g7⟩, ⟨g8, g9⟩, g10⟩ := hG
  refine ⟨g1.to (fun k k1 k2 => eA k (by omega)) g1.2.2.1 ?_, ?_, ?_, ⟨g4.1, ?_, by rw [eA 2 (by omega)]; exact g4.2.2⟩, g5.eq (fun k a b => eA k (by omega)), ⟨g6.eq (fun k a b => eA k (by omega)), ?_⟩, ⟨zu_eq _ _ _, by rw [zuA_eq]; exact e1⟩, fun j hj => ?_⟩
  · have h5 : zRs S A := g1.2.2.2.2.1
    unfold zRs at h5 ⊢
    rw [eA 48 (by decide)]
    exact h5
  · unfold zNS at g2 ⊢
    rw [eA 10 (by omega)]
    exact g2
  · unfold zNT at g3 ⊢
    rw [eA 10 (by omega)]
    exact g3
  · rw [zu_ne _ _ (by decide)]; exact g4.2.1
  · unfold zBl at g7 ⊢
    rw [eA 47 (by omega)]
    exact g7
  · obtain ⟨a1, a2⟩ := g10 j hj
    refine ⟨by rw [eA 53 (by omega)]; exact a1, fun x hx => ?_⟩
    obtain ⟨b1, b2, b3⟩ := a2 x hx
    exact ⟨by rw [eA 51 (by omega)]; exact b1, b2.eq (fun k a b => eA k (by omega)), b3.eq (fun k a b => eA k (by omega))⟩
end
