/-! PURE 57: see() over all that is kept: the reference -/
set_option maxRecDepth 100000
def zO_see (B : zLB) (E : zEy) (x y z : Int32) : Option (Nat × Nat × Nat) := match zix x (zS B) with
  | none => none
  | some s => match zir y 1 9 with
    | none => none
    | some d => match zir z 0 9 with
      | none => none
      | some m => if E.1 = 8 then none else some (s, d, m)
def zSw_see (E : zEy) (b : Bool) (o : Option (Nat × Nat × Nat)) : zEy := match o with
  | none => E
  | some p => (E.1 + 1, fun k => if k = E.1 then (p.1, p.2.1, p.2.2, b) else E.2 k)
section
variable {N a : Nat} {h : jH} {F : Nat → Int32} {L : Nat → Int64} {A : Nat → Nat → Int32} {M : Nat → Nat → Int64} {B : zLB} {S : zMS} {nm : (Nat → Nat) × (Nat → Nat)} {T : (Nat → Nat) × Nat} {Y : zYy} {E : zEy} {U : zUy} {Mk : Nat → Option (zMS × zYy × zEy)}
theorem zRG_see {c : Nat} (hb : h.2.2.2.2 0 ≤ a) (hok : zGok c ((B, S), nm, T, Y, E, U, Mk)) (hG : zRG N a ((B, S), nm, T, Y, E, U, Mk) F A M) (x y z : Int32) (b : Bool) : ∃ F' A', (fX7_see a x y z (zb b)).1 (rH h a (F, L, A, M)) = some (zb (zO_see B E x y z).isSome, rH h a (F', L, A', M)) ∧ zRG N a ((B, S), nm, T, Y, zSw_see E b (zO_see B E x y z), U, Mk) F' A' M := by
  have hB : zLok B := hok.1
  have hS3 := hB.1
  have hE8 : E.1 ≤ 8 := hok.2.2.2.2.1.1
  obtain ⟨A1, e1, g1⟩ := hG.f0.ro (L := L) (zR_isSkin x) hb
  unfold fX7_see fX7_see_44 zO_see
  rw [zr_p0 hb, jB_eq e1, zI]
  rcases zix_cases x (n := zS B) (by omega) with ⟨h3, -⟩ | ⟨s, h3, h4, rfl⟩
  · rw [h3, if_pos (show zb (none : Option Nat).isSome = 0 from rfl)]
    exact ⟨_, _, rfl, g1⟩
  · rw [h4, if_neg (show ¬ zb (some s).isSome = 0 from zb1n)]
    obtain ⟨A2, e2, g2⟩ := g1.ro (L := L) (zR_within y 1 9) hb
    rw [jB_eq e2, zI]
    dsimp only
    rcases zir_cases y (lo := 1) (n := 9) (by decide) (by decide) with ⟨h5, h6⟩ | ⟨d, h5, h6, h7, rfl, h8⟩
    · rw [h5, show (!decide (y < 1) && !decide (9 < y)) = false from h6, if_pos zb_f]
      exact ⟨_, _, rfl, g2⟩
    · rw [h7, show (!decide (nI d < 1) && !decide (9 < nI d)) = true from h8, if_neg zb1n]
      obtain ⟨A3, e3, g3⟩ := g2.ro (L := L) (zR_within z 0 9) hb
      rw [jB_eq e3, zI]
      dsimp only
      rcases zir_cases z (lo := 0) (n := 9) (by decide) (by decide) with ⟨h9, h10⟩ | ⟨m, h9, h10, h11, rfl, h12⟩
      · rw [h9, show (!decide (z < 0) && !decide (9 < z)) = false from h10, if_pos zb_f]
        exact ⟨_, _, rfl, g3⟩
      · have e43 : A3 43 0 = nI E.1 := g3.2.2.2.2.2.1.1.1
        rw [h11, show (!decide (nI m < 0) && !decide (9 < nI m)) = true from h12, if_neg zb1n, zr_g43, zr_a43_0, e43, zI]
        dsimp only
        by_cases c8 : E.1 = 8
        · rw [if_pos c8, if_pos (show nI E.1 = 8 by rw [c8]; rfl)]
          exact ⟨_, _, rfl, g3⟩
        · rw [if_neg c8, if_neg (show ¬ nI E.1 = 8 from fun q => c8 ((nI_eq (b := 8) (by omega) (by decide)).mp q))]
          have hz : zb b = 0 ∨ zb b = 1 := by cases b <;> simp [zb]
          refine ⟨upd F 0 0, zst (zst (zst (zst (zst A3 44 E.1 (nI s)) 45 E.1 (nI d)) 46 E.1 (nI m)) 47 E.1 (zb b)) 43 0 (nI (E.1 + 1)), ?_, ?_⟩
          · rw [zr_g44, zr_g43, zr_a43_0, e43, zr_s44 hb (by omega), zst_d]
            rw [zr_g45, zr_g43, zr_a43_0, zst_j _ _ (by decide), e43, zr_s45 hb (by omega), zst_d]
            rw [zr_g46, zr_g43, zr_a43_0, zst_j _ _ (by decide), zst_j _ _ (by decide), e43, zr_s46 hb (by omega), zst_d]
            rw [zr_g47, zr_g43, zr_a43_0, zst_j _ _ (by decide), zst_j _ _ (by decide), zst_j _ _ (by decide), e43, zsZ hz, zr_s47 hb (by omega), zst_d]
            rw [zr_g43, zr_a43_0, zst_j _ _ (by decide), zst_j _ _ (by decide), zst_j _ _ (by decide), zst_j _ _ (by decide), e43, zc1_da, zr_s43_0 hb, zst_d]
            rfl
          · obtain ⟨g1, g2, g3, g4, g5, ⟨g6, g7⟩, ⟨g8, g9⟩, g10⟩ := g3
            have eA : ∀ k, (k < 43 ∨ 47 < k) → zst (zst (zst (zst (zst A3 44 E.1 (nI s)) 45 E.1 (nI d)) 46 E.1 (nI m)) 47 E.1 (zb b)) 43 0 (nI (E.1 + 1)) k = A3 k := fun k hk => by rw [zst_j _ _ (by omega), zst_j _ _ (by omega), zst_j _ _ (by omega), zst_j _ _ (by omega), zst_j _ _ (by omega)]
            have eB : ∀ k q, q ≠ E.1 → q ≠ 0 ∨ k ≠ 43 → zst (zst (zst (zst (zst A3 44 E.1 (nI s)) 45 E.1 (nI d)) 46 E.1 (nI m)) 47 E.1 (zb b)) 43 0 (nI (E.1 + 1)) k q = A3 k q := fun k q hq hk => by
              have e0 : zst (zst (zst (zst A3 44 E.1 (nI s)) 45 E.1 (nI d)) 46 E.1 (nI m)) 47 E.1 (zb b) k q = A3 k q := by rw [zst_q _ _ hq, zst_q _ _ hq, zst_q _ _ hq, zst_q _ _ hq]
              rcases hk with hk | hk
              · rw [zst_q _ _ hk, e0]
              · rw [zst_j _ _ hk, e0]
            refine ⟨g1.to (fun k k1 k2 => eA k (by omega)) g1.2.2.1 ?_, ?_, ?_, ⟨g4.1, g4.2.1, by rw [eA 2 (by omega)]; exact g4.2.2⟩, g5.eq (fun k a b => eA k (by omega)), ⟨⟨?_, fun k hk => ?_⟩, fun q hq => ?_⟩, ⟨g8, by rw [eA 52 (by omega)]; exact g9⟩, fun j hj => ?_⟩
            · have h5 : zRs S A3 := g1.2.2.2.2.1
              unfold zRs at h5 ⊢
              rw [eA 48 (by omega)]
              exact h5
            · unfold zNS at g2 ⊢
              rw [eA 10 (by omega)]
              exact g2
            · unfold zNT at g3 ⊢
              rw [eA 10 (by omega)]
              exact g3
            · rw [zst_e]; rfl
            · have hk : k < E.1 + 1 := hk
              rw [show 8 * 0 + k = k by omega]
              show _ = nI (if k = E.1 then (s, d, m, b) else E.2 k).1 ∧ _ = nI (if k = E.1 then (s, d, m, b) else E.2 k).2.1 ∧ _ = nI (if k = E.1 then (s, d, m, b) else E.2 k).2.2.1 ∧ _ = zb (if k = E.1 then (s, d, m, b) else E.2 k).2.2.2
              by_cases e : k = E.1
              · rw [if_pos e, e, zst_j _ _ (show 44 ≠ 43 by decide), zst_j _ _ (show 44 ≠ 47 by decide), zst_j _ _ (show 44 ≠ 46 by decide), zst_j _ _ (show 44 ≠ 45 by decide), zst_e, zst_j _ _ (show 45 ≠ 43 by decide), zst_j _ _ (show 45 ≠ 47 by decide), zst_j _ _ (show 45 ≠ 46 by decide), zst_e, zst_j _ _ (show 46 ≠ 43 by decide), zst_j _ _ (show 46 ≠ 47 by decide), zst_e, zst_j _ _ (show 47 ≠ 43 by decide), zst_e]
                exact ⟨rfl, rfl, rfl, rfl⟩
              · rw [if_neg e, eB 44 k e (Or.inr (by decide)), eB 45 k e (Or.inr (by decide)), eB 46 k e (Or.inr (by decide)), eB 47 k e (Or.inr (by decide))]
                have := g6.2 k (by show k < E.1; omega)
                rw [show 8 * 0 + k = k by omega] at this
                exact this
            · by_cases e : q = E.1
              · rw [e, zst_j _ _ (by decide), zst_e]; exact hz
              · rw [eB 47 q e (Or.inr (by decide))]; exact g7 q hq
            · obtain ⟨a1, a2⟩ := g10 j hj
              refine ⟨by rw [eA 53 (by omega)]; exact a1, fun x hx => ?_⟩
              obtain ⟨b1, b2, b3⟩ := a2 x hx
              refine ⟨by rw [eA 51 (by omega)]; exact b1, b2.eq (fun k a b => eA k (by omega)), ⟨?_, fun k hk => ?_⟩⟩
              · by_cases e : 1 + j = E.1
                · rw [zst_q _ _ (by omega), zst_j _ _ (by decide), zst_j _ _ (by decide), zst_j _ _ (by decide), zst_j _ _ (by decide)]; exact b3.1
                · rw [eB 43 (1 + j) e (Or.inl (by omega))]; exact b3.1
              · rw [eB 44 _ (by omega) (Or.inr (by decide)), eB 45 _ (by omega) (Or.inr (by decide)), eB 46 _ (by omega) (Or.inr (by decide)), eB 47 _ (by omega) (Or.inr (by decide))]
                exact b3.2 k hk
end
