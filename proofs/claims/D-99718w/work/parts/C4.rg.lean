/-! PURE 51: all that the reference keeps -/
set_option maxRecDepth 100000
/-- all that is kept: library, shelf; names of skins, of texts; tape; lines; what is seen; shelves behind; marks -/
abbrev zGS : Type := (zLB × zMS) × ((Nat → Nat) × (Nat → Nat)) × ((Nat → Nat) × Nat) × zYy × zEy × zUy × (Nat → Option (zMS × zYy × zEy))
/-- a good shelf whose week is at most c -/
def zSw (B : zLB) (c : Nat) (S : zMS) : Prop := zSok B S ∧ zWk S ≤ c
/-- it is good (after c calls at most) -/
def zGok (c : Nat) (G : zGS) : Prop := zLok G.1.1 ∧ zSw G.1.1 c G.1.2 ∧ zTok0 G.2.2.1 ∧ zYok (zS G.1.1) (zT G.1.1) G.2.2.2.1 ∧ zEok G.1.1 G.2.2.2.2.1 ∧ (G.2.2.2.2.2.1.1 ≤ 16 ∧ ∀ j, j < G.2.2.2.2.2.1.1 → zSw G.1.1 c (G.2.2.2.2.2.1.2 j)) ∧ ∀ j, j < 4 → ∀ x, G.2.2.2.2.2.2 j = some x → zSw G.1.1 c x.1 ∧ zYok (zS G.1.1) (zT G.1.1) x.2.1 ∧ zEok G.1.1 x.2.2
/-- the reference holds it -/
def zRG (N a : Nat) (G : zGS) (F : Nat → Int32) (A : Nat → Nat → Int32) (M : Nat → Nat → Int64) : Prop := zRX N a G.1.1 G.1.2 A ∧ zNS 0 A M G.2.1.1 (zS G.1.1) ∧ zNT 0 A M G.2.1.2 (zT G.1.1) ∧ zTT G.2.2.1 F A ∧ zRln 0 A G.2.2.2.1 ∧ (zRse 0 A G.2.2.2.2.1 ∧ zBl A) ∧ (F 54 = nI G.2.2.2.2.2.1.1 ∧ ∀ j, j < G.2.2.2.2.2.1.1 → zRw0 (A 52) (25 * j) (G.2.2.2.2.2.1.2 j)) ∧ ∀ j, j < 4 → A 53 j = zb (G.2.2.2.2.2.2 j).isSome ∧ ∀ x, G.2.2.2.2.2.2 j = some x → zRw0 (A 51) (25 * j) x.1 ∧ zRln (1 + j) A x.2.1 ∧ zRse (1 + j) A x.2.2
theorem zRln.eq {s : Nat} {A A' : Nat → Nat → Int32} {Y : zYy} (h : zRln s A Y) (hA : ∀ k, 38 ≤ k → k ≤ 42 → A' k = A k) : zRln s A' Y := by
  unfold zRln at h ⊢
  rw [hA 38 (by omega) (by omega), hA 39 (by omega) (by omega), hA 40 (by omega) (by omega), hA 41 (by omega) (by omega), hA 42 (by omega) (by omega)]
  exact h
theorem zRse.eq {s : Nat} {A A' : Nat → Nat → Int32} {E : zEy} (h : zRse s A E) (hA : ∀ k, 43 ≤ k → k ≤ 47 → A' k = A k) : zRse s A' E := by
  unfold zRse at h ⊢
  rw [hA 43 (by omega) (by omega), hA 44 (by omega) (by omega), hA 45 (by omega) (by omega), hA 46 (by omega) (by omega), hA 47 (by omega) (by omega)]
  exact h
/-- a call that leaves all but the shelf -/
theorem zRG.rx {N a : Nat} {G : zGS} {F F' : Nat → Int32} {A A' : Nat → Nat → Int32} {M : Nat → Nat → Int64} (h : zRG N a G F A M) (hX : zRX N a G.1.1 G.1.2 A') (h1 : F' 1 = F 1) (h54 : F' 54 = F 54) (h2 : A' 2 = A 2) (h10 : A' 10 = A 10) (hA : ∀ k, 38 ≤ k → k ≤ 47 → A' k = A k) (h5 : ∀ k, 51 ≤ k → k ≤ 53 → A' k = A k) : zRG N a G F' A' M := by
  obtain ⟨-, g2, g3, g4, g5, ⟨g6, g7⟩, ⟨g8, g9⟩, g10⟩ := h
  refine ⟨hX, ?_, ?_, ⟨g4.1, h1.trans g4.2.1, by rw [h2]; exact g4.2.2⟩, g5.eq (fun k a b => hA k a (by omega)), ⟨g6.eq (fun k a b => hA k (by omega) b), ?_⟩, ⟨h54.trans g8, by rw [h5 52 (by omega) (by omega)]; exact g9⟩, fun j hj => ?_⟩
  · unfold zNS at g2 ⊢
    rw [h10]
    exact g2
  · unfold zNT at g3 ⊢
    rw [h10]
    exact g3
  · unfold zBl at g7 ⊢
    rw [hA 47 (by omega) (by omega)]
    exact g7
  · obtain ⟨a1, a2⟩ := g10 j hj
    refine ⟨by rw [h5 53 (by omega) (by omega)]; exact a1, fun x hx => ?_⟩
    obtain ⟨b1, b2, b3⟩ := a2 x hx
    exact ⟨by rw [h5 51 (by omega) (by omega)]; exact b1, b2.eq (fun k a b => hA k a (by omega)), b3.eq (fun k a b => hA k (by omega) b)⟩
theorem zRG.rw {α : Type} {N a : Nat} {G : zGS} {m : jM α} {v : α} (hW : zRW N a G.1.1 G.1.2 m v) {h : jH} {F : Nat → Int32} {L : Nat → Int64} {A : Nat → Nat → Int32} {M : Nat → Nat → Int64} (hb : h.2.2.2.2 0 ≤ a) (hG : zRG N a G F A M) : ∃ F' L' A', m.1 (rH h a (F, L, A, M)) = some (v, rH h a (F', L', A', M)) ∧ zRG N a G F' A' M := by
  obtain ⟨F', L', A', ⟨f1, f2⟩, hs, hX, e⟩ := hW h F L A M hb hG.1
  refine ⟨F', L', A', e, hG.rx hX f1 f2 ?_ ?_ (fun k a b => ?_) (fun k a b => ?_)⟩
  · exact hs 2 (by omega)
  · exact hs 10 (by omega)
  · exact hs k (by omega)
  · exact hs k (by omega)
