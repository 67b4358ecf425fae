/-! PURE 56: scrape(), third() over all that is kept: the reference -/
set_option maxRecDepth 100000
/-- the skin that is scraped -/
def zO_scr (B : zLB) (S : zMS) (w : Nat) (x : Int32) : Option Nat := match zix x (zS B) with
  | none => none
  | some s => if zSb B S s w = 0 then none else some s
def zSw_scr (B : zLB) (S : zMS) (U : zUy) (w : Nat) (o : Option Nat) : zMS × zUy := match o with
  | none => (S, U)
  | some s => (zSc B S s w, zUk U S)
def zV_scr (B : zLB) (S : zMS) (w : Nat) (o : Option Nat) : Int32 := match o with
  | none => -1
  | some s => nI (zTh (zSc B S s w) s)
section
variable {N a : Nat} {h : jH} {F : Nat → Int32} {L : Nat → Int64} {A : Nat → Nat → Int32} {M : Nat → Nat → Int64} {B : zLB} {S : zMS} {nm : (Nat → Nat) × (Nat → Nat)} {T : (Nat → Nat) × Nat} {Y : zYy} {E : zEy} {U : zUy} {Mk : Nat → Option (zMS × zYy × zEy)}
theorem zRG_scr {c : Nat} (hb : h.2.2.2.2 0 ≤ a) (hok : zGok c ((B, S), nm, T, Y, E, U, Mk)) (hG : zRG N a ((B, S), nm, T, Y, E, U, Mk) F A M) (x : Int32) (w : Nat) : ∃ F' L' A', (fX7_scrapesNow N a x (nI w)).1 (rH h a (F, L, A, M)) = some (zV_scr B S w (zO_scr B S w x), rH h a (F', L', A', M)) ∧ zRG N a ((B, (zSw_scr B S U w (zO_scr B S w x)).1), nm, T, Y, E, (zSw_scr B S U w (zO_scr B S w x)).2, Mk) F' A' M := by
  have hB : zLok B := hok.1
  have hS3 := hB.1
  obtain ⟨A1, e1, g1⟩ := hG.ro (L := L) (zR_isSkin x) hb
  unfold fX7_scrapesNow fX7_scrapesNow_17 zO_scr
  rw [jB_eq e1, zI]
  rcases zix_cases x (n := zS B) (by omega) with ⟨h3, -⟩ | ⟨s, h3, h4, rfl⟩
  · rw [h3, if_pos (show zb (none : Option Nat).isSome = 0 from rfl)]
    exact ⟨_, _, _, rfl, g1⟩
  · rw [h4, if_neg (show ¬ zb (some s).isSome = 0 from zb1n)]
    obtain ⟨A2, e2, g2⟩ := g1.ro (L := L) (zR_scraped (w := w) (show s < 3 by omega)) hb
    have hle : zSb B S s w ≤ 3 := by
      unfold zSb
      split
      · omega
      · split <;> split <;> omega
    rw [jB_eq e2, zI]
    dsimp only
    by_cases c0 : zSb B S s w = 0
    · rw [if_pos c0, if_pos (show nI (zSb B S s w) = 0 by rw [c0]; rfl)]
      exact ⟨_, _, _, rfl, g2⟩
    · rw [if_neg c0, if_neg (show ¬ nI (zSb B S s w) = 0 from fun q => c0 ((nI_eq (b := 0) (by omega) (by decide)).mp q))]
      obtain ⟨F4, A4, e4, g4⟩ := zRG_keeps (α := Int32) (L := L) hb hok g2
      obtain ⟨L5, A5, e5, g5⟩ := g4.rt (L := L) (zT_scrapes (w := w) (show s < 3 by omega)) hb rfl
      refine ⟨F4, L5, A5, ?_, g5⟩
      have hth : A5 48 (1 + s) = nI (zTh (zSc B S s w) s) := (g5.1.2.2.2.2.1.2.1 s (by omega)).1
      rw [e4, jB_eq e5, zr_g48, zc1_ad, zr_a48 (by omega), hth]
      rfl
end
