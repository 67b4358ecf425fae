/-! PURE 54: week() over all that is kept: the reference -/
set_option maxRecDepth 100000
section
variable {α : Type} {N a : Nat} {h : jH} {F F' : Nat → Int32} {L : Nat → Int64} {A A' : Nat → Nat → Int32} {M : Nat → Nat → Int64} {B : zLB} {S S' : zMS} {nm : (Nat → Nat) × (Nat → Nat)} {T : (Nat → Nat) × Nat} {Y : zYy} {E : zEy} {U : zUy} {Mk : Nat → Option (zMS × zYy × zEy)}
/-- something is done to the shelf -/
theorem zRG.rt {m : jM α} {v : α} {g g' : Int64} (hT : zRT N a B S g m v S' g') (hb : h.2.2.2.2 0 ≤ a) (hg : L 58 = g) (hG : zRG N a ((B, S), nm, T, Y, E, U, Mk) F A M) : ∃ L' A', m.1 (rH h a (F, L, A, M)) = some (v, rH h a (F, L', A', M)) ∧ zRG N a ((B, S'), nm, T, Y, E, U, Mk) F A' M := by
  obtain ⟨L', A', -, hs, hX, e⟩ := hT h F L A M hb hG.1 hg
  exact ⟨L', A', e, hG.sh hX rfl rfl (fun k k1 k2 _ _ _ _ => hs k k1 k2)⟩
theorem zRG.ro {m : jM α} {v : α} (hT : zRO N a B S m v) (hb : h.2.2.2.2 0 ≤ a) (hG : zRG N a ((B, S), nm, T, Y, E, U, Mk) F A M) : ∃ A', m.1 (rH h a (F, L, A, M)) = some (v, rH h a (F, L, A', M)) ∧ zRG N a ((B, S), nm, T, Y, E, U, Mk) F A' M := by
  obtain ⟨A', hs, e⟩ := hT h F L A M hb hG.1
  exact ⟨A', e, hG.sh (hG.1.scr hs) rfl rfl (fun k k1 k2 _ _ _ _ => hs k k1)⟩
theorem zRG.f0 (hG : zRG N a ((B, S), nm, T, Y, E, U, Mk) F A M) : zRG N a ((B, S), nm, T, Y, E, U, Mk) (upd F 0 0) A M := hG.sh hG.1 (zu_ne _ _ (by decide)) (zu_ne _ _ (by decide)) (fun _ _ _ _ _ _ _ => rfl)
theorem zRG_week {c : Nat} (hc : c < 1000) (hb : h.2.2.2.2 0 ≤ a) (hok : zGok c ((B, S), nm, T, Y, E, U, Mk)) (hG : zRG N a ((B, S), nm, T, Y, E, U, Mk) F A M) : ∃ F' L' A', (fX7_week N a).1 (rH h a (F, L, A, M)) = some (nI (zWk S + 1), rH h a (F', L', A', M)) ∧ zRG N a ((B, zNx S), nm, T, Y, E, zUk U S, Mk) F' A' M := by
  have hw : zWk S + 1 < 1000000 := by
    have : zWk S ≤ c := hok.2.1.2
    omega
  obtain ⟨F1, A1, e1, g1⟩ := zRG_keeps (α := Int32) (L := L) hb hok hG.f0
  have hT : zRT N a B S (L 58) (jB (jgR [7] 48 (some a)) fun y2 => jB (jaI 0 y2 0) fun y3 => jB (jsI 0 y2 0 (y3 + 1)) fun _ => jB (jgR [7] 48 (some a)) fun y4 => jB (jaI 0 y4 0) fun y5 => jR y5) (nI (zWk S + 1)) (zNx S) (L 58) := zRT.bo zR_o48 (zRT.bo zR_wk (zRT.bind (zT_week hw) (zRT.bo zR_o48 (zRT.bo zR_wk (zRT.ret _)))))
  obtain ⟨L2, A2, e2, g2⟩ := g1.rt (L := L) hT hb rfl
  refine ⟨F1, L2, A2, ?_, g2⟩
  unfold fX7_week
  rw [zr_p0 hb, e1]
  exact e2
end
