/-! PURE 87: see: the component -/
set_option maxRecDepth 100000
/-- new cells that aren't changed from here on -/
def zZx (Z : Nat → Option jC) (H1 : jH) (P : Nat → Bool) : Nat → Option jC := fun q => if P q = true then H1.1 q else Z q
section
variable {α β : Type} {N w : Nat} {k : zKA} {X : Bool → zSS} {f : Nat → Int32} {R : zCR} {τ τ1 : Nat → Nat} {Z Z1 : Nat → Option jC} {B : zLB} {S S' S1 : zMS} {H H1 : jH} {nm : (Nat → Nat) × (Nat → Nat)} {T : (Nat → Nat) × Nat} {Y : zYy} {E : zEy} {U : zUy} {Mk : Nat → Option (zMS × zYy × zEy)} {P : Nat → Bool}
theorem zG3.lt (h : zG3 w τ Z H) (hK : H.2.2.2.2 0 ≤ H.2.1) {q : Nat} {e : jC} (he : Z q = some e) : q < H.2.1 := by
  rcases (h q e he).2 with c | c
  · omega
  · exact c.2.2.2
theorem zZx_mo (h : zG3 w τ Z H) (hK : H.2.2.2.2 0 ≤ H.2.1) (hP : ∀ q, P q = true → H.2.1 ≤ q) : ∀ q e, Z q = some e → zZx Z H1 P q = some e := fun q e he => by
  unfold zZx
  rw [if_neg (fun c => by have := hP q c; have := h.lt hK he; omega)]
  exact he
theorem zG3.ex (h : zG3 w τ Z H) (hf : ∀ q, (q < H.2.2.2.2 0 ∨ zOw w τ H q 0) → H1.1 q = H.1 q) (ht : ∀ q, q < H.2.1 → τ q ≠ 5 → τ1 q = τ q) (hl : jLe H H1) (hw : w + 86 ≤ H.2.1) (hP : ∀ q, P q = true → H.2.1 ≤ q ∧ q < H1.2.1 ∧ τ1 q = 0) : zG3 w τ1 (zZx Z H1 P) H1 := fun q e he => by
  unfold zZx at he
  by_cases c : P q = true
  · rw [if_pos c] at he
    obtain ⟨p1, p2, p3⟩ := hP q c
    exact ⟨he, Or.inr ⟨p3, by omega, by omega, p2⟩⟩
  · rw [if_neg c] at he
    exact h.fr hf ht hl q e he
theorem zLis.mZ {p : Nat} {Y : zYy} (h : zGY p Y Z) (hZ : ∀ q e, Z q = some e → Z1 q = some e) : zGY p Y Z1 := by
  obtain ⟨l, hl⟩ := h
  exact ⟨l, hl.mo hZ⟩
theorem zNl.mo {lb pn po cnt : Nat} {what name : Nat → Nat} {H H1 : jH} (h : zNl H lb pn po cnt what name) (hZ : ∀ q e, H.1 q = some e → H1.1 q = some e) : zNl H1 lb pn po cnt what name := by
  obtain ⟨⟨rest, n1⟩, a1, c1, f1, v1, a2, c2, f2, v2, m1, m2, m3, m4, m5, m6, m7⟩ := h
  refine ⟨⟨rest, hZ _ _ n1⟩, a1, c1, f1, v1, a2, c2, f2, v2, hZ _ _ m1, hZ _ _ m2, m3, hZ _ _ m4, hZ _ _ m5, m6, fun j hj => ?_⟩
  obtain ⟨x, y, x1, x2, x3, x4⟩ := m7 j hj
  exact ⟨x, y, x1, x2, hZ _ _ x3, hZ _ _ x4⟩
theorem zG2.mo (h : zG2 N k B nm Z) (hZ : ∀ q e, Z q = some e → Z1 q = some e) : zG2 N k B nm Z1 := by
  obtain ⟨a1, ⟨⟨v0, v1, b1⟩, ⟨⟨v2, b2⟩, ⟨g1, b3, b3'⟩, b4, b5, b6⟩, ⟨⟨v3, c2⟩, ⟨g2, c3, c3'⟩, c4, c5, c6⟩, ⟨d, d1, d2⟩, e1⟩, a3, pn, po, what, name, n1, n5⟩ := h
  refine ⟨a1, ⟨⟨v0, v1, hZ _ _ b1⟩, ⟨⟨v2, hZ _ _ b2⟩, ⟨g1, hZ _ _ b3, b3'⟩, b4, b5, fun i hi => hZ _ _ (b6 i hi)⟩, ⟨⟨v3, hZ _ _ c2⟩, ⟨g2, hZ _ _ c3, c3'⟩, c4, c5, fun i hi => hZ _ _ (c6 i hi)⟩, ⟨d, hZ _ _ d1, d2⟩, hZ _ _ e1⟩, ?_, pn, po, what, name, ?_, n5⟩
  · rcases a3 with a3 | ⟨v, e, x1, x2, x3⟩
    · exact Or.inl a3
    · exact Or.inr ⟨v, e, x1, x2, fun H2 h2 => x3 H2 (fun q x hx => h2 q x (hZ _ _ hx))⟩
  · exact zNl.mo n1 (fun q e he => hZ q e he)
theorem zFx_k {i : Nat} (h : i ≤ 10 ∨ (27 ≤ i ∧ i ≤ 30) ∨ (35 ≤ i ∧ i ≤ 39)) : zFx i := h
theorem zCG_see (hS : zSok B S) (hB : zLok B) (hE : zEok B E) (hG : zCG N w ((B, S), nm, T, Y, E, U, Mk) H) (x y z : Int32) (b : Bool) : zCal N w ((B, S), nm, T, Y, zSw_see E b (zO_see B E x y z), U, Mk) (fX1_see w x y z (zb b)) (zb (zO_see B E x y z).isSome) 2 44 H := by
  have hS3 := hB.1
  have hE8 : E.1 ≤ 8 := hE.1
  unfold fX1_see fX1_see_40 zO_see
  refine hG.bo hS (fun k hk => by rw [← hk]; exact zC_isSkin x) (fun H hG => ?_)
  rcases zix_cases x (n := zS B) (by omega) with ⟨h3, -⟩ | ⟨s, h3, h4, rfl⟩
  · rw [h3, if_pos (show zb (none : Option Nat).isSome = 0 from rfl)]
    exact (zCal.ret hG).mo (by omega) (by omega)
  · rw [h4, if_neg (show ¬ zb (some s).isSome = 0 from zb1n)]
    refine hG.bo hS (fun k hk => zC_within y 1 9) (fun H hG => ?_)
    dsimp only
    rcases zir_cases y (lo := 1) (n := 9) (by decide) (by decide) with ⟨h5, h6⟩ | ⟨d, h5, h6, h7, rfl, h8⟩
    · rw [h5, show (!decide (y < 1) && !decide (9 < y)) = false from h6, if_pos zb_f]
      exact (zCal.ret hG).mo (by omega) (by omega)
    · rw [h7, show (!decide (nI d < 1) && !decide (9 < nI d)) = true from h8, if_neg zb1n]
      refine hG.bo hS (fun k hk => zC_within z 0 9) (fun H hG => ?_)
      dsimp only
      rcases zir_cases z (lo := 0) (n := 9) (by decide) (by decide) with ⟨h9, h10⟩ | ⟨m, h9, h10, h11, rfl, h12⟩
      · rw [h9, show (!decide (z < 0) && !decide (9 < z)) = false from h10, if_pos zb_f]
        exact (zCal.ret hG).mo (by omega) (by omega)
      · rw [h11, show (!decide (nI m < 0) && !decide (9 < nI m)) = true from h12, if_neg zb1n]
        dsimp only
        obtain ⟨k, X, f, R, Z, τ, h1, h2, hY, h3', h4', h5', h6', h7'⟩ := id hG
        have h4' : zG4 w τ Z E R.2.2.2.2.2 H := h4'
        obtain ⟨arr, cap, g, r, b1, b2, b3, b4, b5⟩ := h4'
        obtain ⟨⟨mc, c1⟩, c2, c3, c4, -⟩ := id b1
        obtain ⟨a1, a2, a3, a4, aH, aS, a7, a8, a9⟩ := id h1
        have hw := h1.wc
        by_cases c8 : E.1 = 8
        · rw [if_pos c8]
          refine ⟨H, ?_, hG, zFm.rf _ _, by omega, by omega⟩
          rw [zgRs hw (by decide) rfl, zrc (c := 4) (by unfold jcd; rw [c1]; rfl), zal_size c1, zI, if_pos (show nI E.1 = 8 by rw [c8]; rfl)]
          rfl
        · rw [if_neg c8]
          obtain ⟨p, hp⟩ : ∃ p, p = R.2.2.2.2.2 := ⟨_, rfl⟩
          rw [← hp] at b1 b2 c1
          obtain ⟨bf, hbf⟩ : ∃ bf : Nat → Int32, bf = upd (upd (upd (upd (fun _ => 0) 0 (nI s)) 1 (nI d)) 2 (nI m)) 3 (zb b) := ⟨_, rfl⟩
          obtain ⟨H0, hH0⟩ : ∃ H0, H0 = jnew H (.inr (0, 4, .inl fun _ => 0)) 4 := ⟨_, rfl⟩
          have q0 : H0.1 H.2.1 = some (.inr (0, 4, .inl fun _ => 0)) := by rw [hH0]; exact znw_e _ _ _
          obtain ⟨H1, hH1⟩ : ∃ H1, H1 = jset (jset (jset (jset H0 H.2.1 (.inr (0, 4, .inl (upd (fun _ => 0) 0 (nI s))))) H.2.1 (.inr (0, 4, .inl (upd (upd (fun _ => 0) 0 (nI s)) 1 (nI d))))) H.2.1 (.inr (0, 4, .inl (upd (upd (upd (fun _ => 0) 0 (nI s)) 1 (nI d)) 2 (nI m))))) H.2.1 (.inr (0, 4, .inl bf)) := ⟨_, rfl⟩
          have hKl : H.2.2.2.2 0 ≤ H.2.1 := by omega
          have q1 : H1.1 H.2.1 = some (.inr (0, 4, .inl bf)) := by rw [hH1]; exact zse_e _ _ _
          have o1 : ∀ q, q ≠ H.2.1 → H1.1 q = H.1 q := fun q hq => by
            rw [hH1, zse_n _ _ hq, zse_n _ _ hq, zse_n _ _ hq, zse_n _ _ hq, hH0]
            exact znw_n _ _ _ hq
          have k1 : H1.2 = (H.2.1 + 1, H.2.2.1 + 1, H.2.2.2.1 + 4, H.2.2.2.2) := by rw [hH1, hH0]; rfl
          have l1 : jLe H H1 := by
            refine ⟨by rw [k1]; show _ ≤ H.2.1 + 1; omega, by rw [k1]; show _ ≤ H.2.2.1 + 1; omega, by rw [k1]; show _ ≤ H.2.2.2.1 + 4; omega, by rw [k1], fun q c hq hc => ?_⟩
            unfold jcd at hc ⊢
            rw [o1 q (by omega)]
            exact hc
          have run1 : ∀ K : Unit → jM Int32, (jB (jnaI 0 4) fun q8 => jB (jsI 0 (some q8) 0 (nI s)) fun _ => jB (jsI 0 (some q8) 1 (nI d)) fun _ => jB (jsI 0 (some q8) 2 (nI m)) fun _ => jB (jsI 0 (some q8) 3 (zb b)) K).1 H = (K ()).1 H1 := fun K => by
            rw [show (4 : Int32) = nI 4 from rfl, znaIB (by decide), ← hH0]
            refine (zsI (i := 0) q0 (by rw [hH0]; exact hKl) (by decide) (by decide) _).trans ?_
            refine (zsI (i := 1) (zse_e _ _ _) (by rw [hH0]; exact hKl) (by decide) (by decide) _).trans ?_
            refine (zsI (i := 2) (zse_e _ _ _) (by rw [hH0]; exact hKl) (by decide) (by decide) _).trans ?_
            refine (zsI (i := 3) (zse_e _ _ _) (by rw [hH0]; exact hKl) (by decide) (by decide) _).trans ?_
            rw [hH1, hbf]
          have b1' := b1.up (o1 _ (by have := b2.2.2.2; omega)) (o1 _ (by have := b3.2.2.2; omega)) l1
          obtain ⟨⟨mc1, c1'⟩, -⟩ := id b1'
          have hx : zOk H1 (some H.2.1) := ⟨H.2.1, 1000, rfl, by rw [k1]; show H.2.1 < H.2.1 + 1; omega, by unfold jcd; rw [q1]; rfl, by decide⟩
          obtain ⟨H2, arr', cap', g', r2, p1, p2, p3, m2, p5⟩ := zAL_add b1' hx (by omega)
          have l2 := (fJ2_add p (some H.2.1)).2 _ _ _ r2
          have l02 := jLe.tr l1 l2
          obtain ⟨τ1, hτ⟩ : ∃ τ1 : Nat → Nat, τ1 = fun q => if q < H.2.1 then τ q else if q = H.2.1 then 0 else 3 := ⟨_, rfl⟩
          have ht0 : ∀ q, q < H.2.1 → τ1 q = τ q := fun q hq => by rw [hτ]; exact if_pos hq
          have ht : ∀ q, q < H.2.1 → τ q ≠ 5 → τ1 q = τ q := fun q hq _ => ht0 q hq
          have hp3 := b2.1
          have harr3 := b3.1
          have old : ∀ q, q < H.2.1 → ¬ zOw w τ H q 3 → H2.1 q = H.1 q := fun q hq hn => by
            rw [m2.1 q (by have := l1.1; omega) (by
              rintro (e | ⟨e, -⟩)
              · rw [e] at hn; exact hn b2
              · rw [e] at hn; exact hn b3)]
            exact o1 q (by omega)
          have oF : ∀ i, i < 40 → zFx i → H2.1 (w + i) = H.1 (w + i) := fun i h1 h2 => old _ (by omega) (fun c => by have := c.1; rw [a7 i h1 h2] at this; omega)
          have hc : ∀ q, q < H.2.2.2.2 0 → H2.1 q = H.1 q := fun q hq => old q (by omega) (fun c => by have := c.2.1; omega)
          have hz : ∀ q, (q < H.2.2.2.2 0 ∨ zOw w τ H q 0) → H2.1 q = H.1 q := fun q hq => by
            rcases hq with hq | hq
            · exact hc q hq
            · exact old q hq.2.2.2 (fun c => by have := c.1; rw [hq.1] at this; omega)
          have hP : ∀ q, (decide (q = H.2.1)) = true → H.2.1 ≤ q ∧ q < H2.2.1 ∧ τ1 q = 0 := fun q hq => by
            have e := of_decide_eq_true hq
            refine ⟨by omega, ?_, by rw [hτ]; dsimp only; rw [if_neg (by omega), if_pos e]⟩
            have := l2.1
            rw [k1] at this
            have : H.2.1 + 1 ≤ H2.2.1 := this
            omega
          have hZ := zZx_mo (H1 := H2) h3' hKl (fun q hq => (hP q hq).1)
          have q2 : H2.1 H.2.1 = some (.inr (0, 4, .inl bf)) := (m2.1 _ (by rw [k1]; show H.2.1 < H.2.1 + 1; omega) (by
            rintro (e | ⟨e, -⟩)
            · have := b2.2.2.2; omega
            · have := b3.2.2.2; omega)).trans q1
          have e21 : H2.2.1 ≤ H.2.1 + 2 ∧ cap' ≤ 40 ∧ H2.2.2.2.1 ≤ H.2.2.2.1 + 44 ∧ 1 ≤ cap' ∧ cap' ≤ 20 := by
            rcases p5 with ⟨d1, d2, d3, d4⟩ | ⟨d1, d2, d3, d4, d5⟩
            · rw [d4, k1]
              exact ⟨by show H.2.1 + 1 ≤ _; omega, by omega, by show H.2.2.2.1 + 4 ≤ _; omega, by omega, by omega⟩
            · rw [if_neg (by omega)] at d4
              have : cap' ≤ 20 ∧ 1 ≤ cap' := by rw [d4]; unfold zNc; omega
              rw [d3, d5, k1]
              exact ⟨by show H.2.1 + 1 + 1 ≤ _; omega, by omega, by show H.2.2.2.1 + 4 + cap' ≤ _; omega, by omega, by omega⟩
          refine ⟨H2, ?_, ⟨k, X, f, R, zZx Z H2 (fun q => decide (q = H.2.1)), τ1, h1.fr (fun q hq => ?_) ht l02, h2.mo hZ, zLis.mZ hY hZ, h3'.ex hz ht l02 a4.2 hP, ?_, h5'.fr hc h7'.kc.2.1.1 (oF 35 (by decide) (Or.inr (Or.inr ⟨by decide, by decide⟩))) (fun q hq => old q (by rcases hq with hq | hq <;> exact hq.2.2.2) (fun c => by have := c.1; rcases hq with hq | hq <;> (rw [hq.1] at this; omega))) ht0 l02, h6'.fr (oF 39 (by decide) (Or.inr (Or.inr ⟨by decide, by decide⟩))) hZ, h7'.fr hc (fun q e1 e2 => ?_) l02⟩, ⟨fun q hq hW => old q hq (fun c => hW ⟨c.2.1, c.2.2.1⟩), l02.1, ?_, l02.2.2.1, l02.2.2.2.1⟩, e21.1, e21.2.2.1⟩
          · rw [zgRs hw (by decide) rfl, zrc (c := 4) (by unfold jcd; rw [← hp, c1]; rfl), ← hp, zal_size c1, zI, if_neg (show ¬ nI E.1 = 8 from fun q => c8 ((nI_eq (b := 8) (by omega) (by decide)).mp q)), zgRs hw (by decide) rfl, ← hp]
            have fin : ∀ v : Int32, v = zb b → (jB (jnaI 0 4) fun q8 => jB (jsI 0 (some q8) 0 (nI s)) fun _ => jB (jsI 0 (some q8) 1 (nI d)) fun _ => jB (jsI 0 (some q8) 2 (nI m)) fun _ => fX1_see_73 w (some p) (some q8) (some q8) 3 v).1 H = some (1, H2) := fun v hv => by
              rw [hv]
              have e1 := run1 (fun _ => jB (jrc 4 (some p)) fun b2 => jB (fJ2_add b2 (some H.2.1)) fun y1 => jRn .boolean 1)
              rw [zrc (c := 4) (by unfold jcd; rw [c1']; rfl), jB_eq r2] at e1
              have e2 : (jRn .boolean 1).1 H2 = some (1, H2) := rfl
              rw [e2] at e1
              rw [← e1, show (4 : Int32) = nI 4 from rfl, znaIB (by decide), znaIB (by decide)]
              rfl
            have sp : (jB (jnaI 0 4) fun q8 => jB (jsI 0 (some q8) 0 (nI s)) fun _ => jB (jsI 0 (some q8) 1 (nI d)) fun _ => jB (jsI 0 (some q8) 2 (nI m)) fun _ => if zb b = 0 then fX1_see_73 w (some p) (some q8) (some q8) 3 0 else fX1_see_73 w (some p) (some q8) (some q8) 3 1) = (jB (jnaI 0 4) fun q8 => jB (jsI 0 (some q8) 0 (nI s)) fun _ => jB (jsI 0 (some q8) 1 (nI d)) fun _ => jB (jsI 0 (some q8) 2 (nI m)) fun _ => fX1_see_73 w (some p) (some q8) (some q8) 3 (zb b)) := by
              cases b with
              | false => simp only [if_pos zb_f]; rfl
              | true => simp only [if_neg zb1n]; rfl
            exact (congrArg (fun m : jM Int32 => m.1 H) sp).trans (fin (zb b) rfl)
          · obtain ⟨x1, x2, x3⟩ := h1.tg hq
            exact old q x2 (fun c => by have := c.1; omega)
          · show zG4 w τ1 _ (E.1 + 1, fun k => if k = E.1 then (s, d, m, b) else E.2 k) R.2.2.2.2.2 H2
            rw [← hp]
            refine ⟨arr', cap', g', fun i => if i = E.1 then H.2.1 else r i, p1, b2.le ht0 l02.1, ?_, ⟨e21.2.2.2.1, e21.2.2.2.2⟩, fun i hi => ?_⟩
            · rcases p5 with ⟨d1, d2, d3, d4⟩ | ⟨d1, d2, d3, d4, d5⟩
              · rw [d1]; exact b3.le ht0 l02.1
              · have d2' : arr' = H.2.1 + 1 := by rw [d2, k1]
                rw [d2', hτ]
                refine ⟨by dsimp only; rw [if_neg (by omega), if_neg (by omega)], by omega, by omega, ?_⟩
                rw [d3, k1]
                show H.2.1 + 1 < H.2.1 + 1 + 1
                omega
            · have hi : i < E.1 + 1 := hi
              dsimp only
              by_cases c : i = E.1
              · rw [if_pos c, if_pos c, c]
                refine ⟨p3, bf, ?_, by rw [hbf]; rfl, by rw [hbf]; rfl, by rw [hbf]; rfl, by rw [hbf]; rfl⟩
                unfold zZx
                rw [if_pos (decide_eq_true rfl)]
                exact q2
              · rw [if_neg c, if_neg c]
                obtain ⟨x1, bb, x2, x3⟩ := b5 i (by omega)
                exact ⟨(p2 i (by omega)).trans x1, bb, hZ _ _ x2, x3⟩
          · have := oF (q - w) (by omega) (Or.inl (by omega))
            rw [show w + (q - w) = q by omega] at this
            exact this
          · have q1 := m2.2.2.1
            rw [k1] at q1
            have q1 : H2.2.2.1 + (H.2.1 + 1) = H.2.2.1 + 1 + H2.2.1 := q1
            omega
end
