/-! PURE 55: write() over all that is kept: the reference -/
set_option maxRecDepth 100000
def zO_write (B : zLB) (S : zMS) (x y z : Int32) : Option (Nat × Nat × Nat) := match zix x (zT B) with
  | none => none
  | some t => match zil B y z with
    | none => none
    | some p => if zCw B S t p.1 p.2 = true then some (t, p.1, p.2) else none
def zSw_write (B : zLB) (S : zMS) (U : zUy) (o : Option (Nat × Nat × Nat)) : zMS × zUy := match o with
  | none => (S, U)
  | some p => (zWr B S p.1 p.2.1 p.2.2, zUk U S)
section
variable {N a : Nat} {h : jH} {F : Nat → Int32} {L : Nat → Int64} {A : Nat → Nat → Int32} {M : Nat → Nat → Int64} {B : zLB} {S : zMS} {nm : (Nat → Nat) × (Nat → Nat)} {T : (Nat → Nat) × Nat} {Y : zYy} {E : zEy} {U : zUy} {Mk : Nat → Option (zMS × zYy × zEy)}
theorem zRG_write {c : Nat} (hb : h.2.2.2.2 0 ≤ a) (hok : zGok c ((B, S), nm, T, Y, E, U, Mk)) (hG : zRG N a ((B, S), nm, T, Y, E, U, Mk) F A M) (x y z : Int32) : ∃ F' L' A', (fX7_write N a x y z).1 (rH h a (F, L, A, M)) = some (zb (zO_write B S x y z).isSome, rH h a (F', L', A', M)) ∧ zRG N a ((B, (zSw_write B S U (zO_write B S x y z)).1), nm, T, Y, E, (zSw_write B S U (zO_write B S x y z)).2, Mk) F' A' M := by
  have hB : zLok B := hok.1
  have hT6 := hB.2.1
  obtain ⟨A1, e1, g1⟩ := hG.f0.ro (L := L) (zR_isText x) hb
  unfold fX7_write fX7_write_32 zO_write
  rw [zr_p0 hb, jB_eq e1, zI]
  rcases zix_cases x (n := zT B) (by omega) with ⟨h3, -⟩ | ⟨t, h3, h4, rfl⟩
  · rw [h3, if_pos (show zb (none : Option Nat).isSome = 0 from rfl)]
    exact ⟨_, _, _, rfl, g1⟩
  · rw [h4, if_neg (show ¬ zb (some t).isSome = 0 from zb1n)]
    obtain ⟨A2, e2, g2⟩ := g1.ro (L := L) (zR_isLine y z) hb
    rw [jB_eq e2, zI]
    rcases zil_cases hB y z with h5 | ⟨s, l, h5, h6, h7, h8, rfl, rfl, h9⟩
    · rw [h5, if_pos (show zb (none : Option (Nat × Nat)).isSome = 0 from rfl)]
      exact ⟨_, _, _, rfl, g2⟩
    · rw [h9, if_neg (show ¬ zb (some (s, l)).isSome = 0 from zb1n)]
      obtain ⟨A3, e3, g3⟩ := g2.ro (L := L) (zR_can h3 h5 h7) hb
      rw [jB_eq e3, zI]
      dsimp only
      cases hw : zCw B S t s l with
      | false =>
        rw [if_pos zb_f, if_neg zff]
        exact ⟨_, _, _, rfl, g3⟩
      | true =>
        rw [if_neg zb1n, if_pos rfl]
        obtain ⟨F4, A4, e4, g4⟩ := zRG_keeps (α := Int32) (L := L) hb hok g3
        obtain ⟨L5, A5, e5, g5⟩ := g4.rt (L := L) (zT_writes h3 h5 hw) hb rfl
        refine ⟨F4, L5, A5, ?_, g5⟩
        rw [e4, jB_eq e5]
        rfl
end
