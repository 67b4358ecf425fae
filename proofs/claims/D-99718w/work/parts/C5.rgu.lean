/-! PURE 52: feed, undo over all that is kept: the reference -/
set_option maxRecDepth 100000
section
variable {N a : Nat} {h : jH} {F : Nat → Int32} {L : Nat → Int64} {A : Nat → Nat → Int32} {M : Nat → Nat → Int64} {B : zLB} {S : zMS} {nm : (Nat → Nat) × (Nat → Nat)} {T : (Nat → Nat) × Nat} {Y : zYy} {E : zEy} {U : zUy} {Mk : Nat → Option (zMS × zYy × zEy)}
theorem zRG_feed (hb : h.2.2.2.2 0 ≤ a) (hG : zRG N a ((B, S), nm, T, Y, E, U, Mk) F A M) (x y z : Int64) : ∃ F' A', (fX7_feed N a x y z).1 (rH h a (F, L, A, M)) = some (nI (zFed x y z T).2, rH h a (F', L, A', M)) ∧ zRG N a ((B, S), nm, zFed x y z T, Y, E, U, Mk) F' A' M := by
  obtain ⟨F', A', e1, e2, e3, e4⟩ := zR_feed (L := L) (M := M) hb hG.1.1 x y z hG.2.2.2.1
  refine ⟨F', A', e1, ?_⟩
  have hX : zRX N a B S A' := by
    refine hG.1.to (fun k k1 k2 => e4 k (by omega)) hG.1.2.2.1 ?_
    have h5 : zRs S A := hG.1.2.2.2.2.1
    unfold zRs at h5 ⊢
    rw [e4 48 (by decide)]
    exact h5
  obtain ⟨-, g2, g3, g4, g5, ⟨g6, g7⟩, ⟨g8, g9⟩, g10⟩ := hG
  refine ⟨hX, ?_, ?_, e2, g5.eq (fun k a b => e4 k (by omega)), ⟨g6.eq (fun k a b => e4 k (by omega)), ?_⟩, ⟨(e3 54 (by decide) (by decide)).trans g8, by rw [e4 52 (by decide)]; exact g9⟩, fun j hj => ?_⟩
  · unfold zNS at g2 ⊢
    rw [e4 10 (by decide)]
    exact g2
  · unfold zNT at g3 ⊢
    rw [e4 10 (by decide)]
    exact g3
  · unfold zBl at g7 ⊢
    rw [e4 47 (by decide)]
    exact g7
  · obtain ⟨a1, a2⟩ := g10 j hj
    refine ⟨by rw [e4 53 (by decide)]; exact a1, fun x hx => ?_⟩
    obtain ⟨b1, b2, b3⟩ := a2 x hx
    exact ⟨by rw [e4 51 (by decide)]; exact b1, b2.eq (fun k a b => e4 k (by omega)), b3.eq (fun k a b => e4 k (by omega))⟩
theorem zRG_undo {c : Nat} (hb : h.2.2.2.2 0 ≤ a) (hok : zGok c ((B, S), nm, T, Y, E, U, Mk)) (hG : zRG N a ((B, S), nm, T, Y, E, U, Mk) F A M) : ∃ F' A', (fX7_undo N a).1 (rH h a (F, L, A, M)) = some (zb (!decide (U.1 = 0)), rH h a (F', L, A', M)) ∧ zRG N a ((B, if U.1 = 0 then S else U.2 (U.1 - 1)), nm, T, Y, E, (U.1 - 1, U.2), Mk) F' A' M := by
  have hU : U.1 ≤ 16 := hok.2.2.2.2.2.1.1
  have e := zR_undo (L := L) (M := M) hb hG.1.1 hU hG.2.2.2.2.2.2.1.1 hG.2.2.2.2.2.2.1.2
  by_cases c0 : U.1 = 0
  · rw [if_pos c0] at e
    refine ⟨upd F 0 0, A, ?_, ?_⟩
    · rw [e, decide_eq_true c0]; rfl
    · rw [if_pos c0]
      have := hG.rx (F' := upd F 0 0) (A' := A) hG.1 (zu_ne _ _ (by decide)) (zu_ne _ _ (by decide)) rfl rfl (fun _ _ _ => rfl) (fun _ _ _ => rfl)
      obtain ⟨g1, g2, g3, g4, g5, g6, ⟨g8, g9⟩, g10⟩ := this
      refine ⟨g1, g2, g3, g4, g5, g6, ⟨?_, fun j hj => ?_⟩, g10⟩
      · show upd F 0 0 54 = nI (U.1 - 1)
        rw [show U.1 - 1 = U.1 by omega]; exact g8
      · have hj : j < U.1 - 1 := hj
        omega
  · rw [if_neg c0] at e
    refine ⟨upd (upd F 0 0) 54 (nI (U.1 - 1)), zuA A 48 (va_cpy (A 52) (A 48) (25 * (U.1 - 1)) 0 25), ?_, ?_⟩
    · rw [e, decide_eq_false c0]; rfl
    · rw [if_neg c0]
      obtain ⟨g1, g2, g3, g4, g5, ⟨g6, g7⟩, ⟨g8, g9⟩, g10⟩ := hG
      have eA : ∀ k, k ≠ 48 → zuA A 48 (va_cpy (A 52) (A 48) (25 * (U.1 - 1)) 0 25) k = A k := fun k hk => zuA_ne _ _ hk
      refine ⟨g1.to (fun k k1 k2 => eA k (by omega)) (hok.2.2.2.2.2.1.2 (U.1 - 1) (by show U.1 - 1 < U.1; omega)).1 ?_, ?_, ?_, ⟨g4.1, ?_, ?_⟩, g5.eq (fun k a b => eA k (by omega)), ⟨g6.eq (fun k a b => eA k (by omega)), ?_⟩, ⟨zu_eq _ _ _, fun j hj => ?_⟩, fun j hj => ?_⟩
      · rw [zRw0_s, zuA_eq]
        exact (g9 (U.1 - 1) (by show U.1 - 1 < U.1; omega)).cp
      · unfold zNS at g2 ⊢
        rw [eA 10 (by decide)]
        exact g2
      · unfold zNT at g3 ⊢
        rw [eA 10 (by decide)]
        exact g3
      · rw [zu_ne _ _ (by decide), zu_ne _ _ (by decide)]; exact g4.2.1
      · rw [eA 2 (by decide)]; exact g4.2.2
      · unfold zBl at g7 ⊢
        rw [eA 47 (by decide)]
        exact g7
      · have hj : j < U.1 - 1 := hj
        rw [eA 52 (by decide)]
        exact g9 j (by show j < U.1; omega)
      · obtain ⟨a1, a2⟩ := g10 j hj
        refine ⟨by rw [eA 53 (by decide)]; exact a1, fun x hx => ?_⟩
        obtain ⟨b1, b2, b3⟩ := a2 x hx
        exact ⟨by rw [eA 51 (by decide)]; exact b1, b2.eq (fun k a b => eA k (by omega)), b3.eq (fun k a b => eA k (by omega))⟩
end
