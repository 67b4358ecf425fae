/-! PURE 82: calls of the component that only look, over all that is kept -/
set_option maxRecDepth 100000
/-- a call: it answers v; all that is kept is G' then; what isn't the component's is as it was -/
def zCal {α : Type} (N w : Nat) (G' : zGS) (m : jM α) (v : α) (c s : Nat) (H : jH) : Prop := ∃ H', m.1 H = some (v, H') ∧ zCG N w G' H' ∧ zFm (fun q => w ≤ q ∧ (q < w + 40 ∨ w + 86 ≤ q)) H H' ∧ H'.2.1 ≤ H.2.1 + c ∧ H'.2.2.2.1 ≤ H.2.2.2.1 + s
def zCWq {α : Type} (Q : jH → zCR → Prop) (N : Nat) (k : zKA) (B : zLB) (S : zMS) (m : jM α) (v : α) : Prop := ∀ (h : jH) (X : Bool → zSS) (f : Nat → Int32) (R : zCR), zCX N h k true B S X → Q h R → ∃ X' f' R', X' true = X true ∧ R'.2.2.2.2 = R.2.2.2.2 ∧ m.1 (cH h k (X, f, R)) = some (v, cH h k (X', f', R'))
section
variable {α : Type} {N w : Nat} {k : zKA} {X : Bool → zSS} {f : Nat → Int32} {R : zCR} {τ τ1 : Nat → Nat} {Z Z1 : Nat → Option jC} {B : zLB} {S : zMS} {H H1 : jH} {nm : (Nat → Nat) × (Nat → Nat)} {T : (Nat → Nat) × Nat} {Y : zYy} {E : zEy} {U : zUy} {Mk : Nat → Option (zMS × zYy × zEy)} {m : jM α} {v : α} {Q : jH → zCR → Prop}
theorem zCW.q (h : zCW N k B S m v) : zCWq Q N k B S m v := fun h' X f R hX _ => h h' X f R hX
theorem zCWp.q (h : zCWp Q N k B S m v) : zCWq Q N k B S m v := fun h' X f R hX hQ => by
  obtain ⟨X', f', a, e⟩ := h h' X f R hX hQ
  exact ⟨X', f', R, a, rfl, e⟩
theorem zCP.q (h : zCP Q N k B S m v) : zCWq Q N k B S m v := fun h' X f R hX hQ => by
  obtain ⟨f', e⟩ := h h' X f R hX hQ
  exact ⟨X, f', R, rfl, rfl, e⟩
/-- what isn't the component's is outside -/
theorem zG1.cfo (h : zG1 N w k X f R τ B S H) {q : Nat} (hq : q < w ∨ (w + 40 ≤ q ∧ q < w + 86)) : zcf k q := by
  obtain ⟨-, h0, hk, -, -, -, h6, h1, h2⟩ := h
  unfold zcf
  rw [h0]
  refine ⟨by omega, by omega, by omega, ?_, ?_⟩
  · rcases Nat.lt_or_ge q (k.1 1) with c | c
    · exact Or.inl c
    · rcases Nat.lt_or_ge q (k.1 1 + 4) with d | d
      · exfalso
        obtain ⟨-, a1, a2, -⟩ := h1 (q - k.1 1) (by omega)
        rw [show k.1 1 + (q - k.1 1) = q by omega] at a1 a2
        omega
      · exact Or.inr d
  · intro e
    obtain ⟨-, a1, a2, -⟩ := h2
    rw [← e] at a1 a2
    omega
theorem zG7.kc (h : zG7 w T H) : zKc H := by
  obtain ⟨⟨dr, i, d, k1, -⟩, -⟩ := h
  exact k1
theorem zRa.cf (h : zG1 N w k X f R τ B S H) {q : Nat} (h1 : w < q) (h2 : q < w + 11) : zcf k q := by
  obtain ⟨-, h0, hk, -⟩ := h
  obtain ⟨k1, k2, k3⟩ := hk
  rw [h0] at k1 k2
  unfold zcf
  rw [h0]
  exact ⟨by omega, by omega, by omega, by omega, by omega⟩
/-- nothing but cells that calls work with has changed -/
theorem zCG.co (h1 : zG1 N w k X f R τ B S H) (h2 : zG2 N k B nm Z) (hY : zGY R.2.2.2.2.1 Y Z) (h3 : zG3 w τ Z H) (h4 : zG4 w τ Z E R.2.2.2.2.2 H) (h5 : zG5 w k B τ U H) (h6 : zG6 w k B Z Mk H) (h7 : zG7 w T H) {X' : Bool → zSS} {f' : Nat → Int32} {R' : zCR} {S' : zMS} (hS : zSm k B S' (X' true)) (hR : R'.2.2.2.2 = R.2.2.2.2) (hl : jLe H (cH H k (X', f', R'))) : zCG N w ((B, S'), nm, T, Y, E, U, Mk) (cH H k (X', f', R')) ∧ zFm (fun q => w ≤ q ∧ (q < w + 40 ∨ w + 86 ≤ q)) H (cH H k (X', f', R')) := by
  obtain ⟨a1, a2, a3, a4, a5, a6, a7, a8, a9⟩ := id h1
  have fr : ∀ {q : Nat}, zcf k q → (cH H k (X', f', R')).1 q = H.1 q := fun hq => cH_fr hq
  have hc : ∀ q, q < H.2.2.2.2 0 → (cH H k (X', f', R')).1 q = H.1 q := fun q hq => fr (h1.cf (Or.inl (by omega)))
  have tg : ∀ {q t : Nat}, zOw w τ H q t → t ≠ 1 → t ≠ 2 → t ≠ 6 → (cH H k (X', f', R')).1 q = H.1 q := fun h b1 b2 b3 => fr (h1.cf (Or.inr (by rw [h.1]; exact ⟨b1, b2, b3⟩)))
  have e35 : zcf k (w + 35) := by
    obtain ⟨k1, k2, k3⟩ := a3
    rw [a2] at k1 k2
    unfold zcf
    rw [a2]
    exact ⟨by omega, by omega, by omega, by omega, by omega⟩
  have e39 : zcf k (w + 39) := by
    obtain ⟨k1, k2, k3⟩ := a3
    rw [a2] at k1 k2
    unfold zcf
    rw [a2]
    exact ⟨by omega, by omega, by omega, by omega, by omega⟩
  have hR1 : R'.2.2.2.2.1 = R.2.2.2.2.1 := by rw [hR]
  have hR2 : R'.2.2.2.2.2 = R.2.2.2.2.2 := by rw [hR]
  refine ⟨⟨k, X', f', R', Z, τ, ⟨a1, a2, a3, a4, (cH_cH H k _ _).symm, hS, a7, a8, a9⟩, h2, by rw [hR1]; exact hY, h3.fr (fun q hq => ?_) (fun _ _ _ => rfl) hl, by rw [hR2]; exact h4.fr (fun q hq => tg hq (by decide) (by decide) (by decide)) (fun _ _ _ => rfl) hl (fun _ _ h => h), h5.fr hc h7.kc.2.1.1 (fr e35) (fun q hq => ?_) (fun _ _ => rfl) hl, h6.fr (fr e39) (fun _ _ h => h), h7.fr hc (fun q b1 b2 => fr (zRa.cf h1 b1 b2)) hl⟩, ⟨fun q hq hw => fr (h1.cfo (by omega)), Nat.le_refl _, rfl, Nat.le_refl _, rfl⟩⟩
  · rcases hq with hq | hq
    · exact hc q hq
    · exact tg hq (by decide) (by decide) (by decide)
  · rcases hq with hq | hq
    · exact tg hq (by decide) (by decide) (by decide)
    · exact tg hq (by decide) (by decide) (by decide)
theorem zCG.q (hS : zSok B S) (hG : zCG N w ((B, S), nm, T, Y, E, U, Mk) H) (hW : ∀ (k : zKA) (g : Nat → Option jC) (p3 p4 : Nat) (l r : Nat → Nat), k.1 0 = w → zLis g p3 Y l → zSe g p4 E r → zCWq (zQv k g p3 p4) N k B S m v) : zCal N w ((B, S), nm, T, Y, E, U, Mk) m v 0 0 H := by
  obtain ⟨k, X, f, R, Z, τ, h1, h2, hY, h3, h4, h5, h6, h7⟩ := hG
  obtain ⟨l, hl⟩ := id hY
  obtain ⟨arr, cap, fE, r, b1, b2, b3, b4, b5⟩ := id h4
  obtain ⟨⟨mc, c1⟩, c2, -, c4, c5, -⟩ := id b1
  have hv := h1.cfZ h3
  obtain ⟨g, hg⟩ : ∃ g : Nat → Option jC, g = fun q => if q = R.2.2.2.2.2 ∨ q = arr then H.1 q else Z q := ⟨_, rfl⟩
  have cf3 : ∀ {q : Nat}, zOw w τ H q 3 → zcf k q := fun h => h1.cf (Or.inr (by rw [h.1]; exact ⟨by decide, by decide, by decide⟩))
  have hgv : zVw H k g := fun q e he => by
    rw [hg] at he
    dsimp only at he
    by_cases c : q = R.2.2.2.2.2 ∨ q = arr
    · rw [if_pos c] at he
      refine ⟨he, ?_⟩
      rcases c with c | c
      · rw [c]; exact cf3 b2
      · rw [c]; exact cf3 b3
    · rw [if_neg c] at he
      exact hv q e he
  have hgZ : ∀ q e, Z q = some e → g q = some e := fun q e he => by
    rw [hg]
    dsimp only
    by_cases c : q = R.2.2.2.2.2 ∨ q = arr
    · rw [if_pos c]; exact (h3 q e he).1
    · rw [if_neg c]; exact he
  have hse : zSe g R.2.2.2.2.2 E r := by
    refine ⟨⟨.int mc, arr, cap, fE, ?_, ?_, c4, by omega, fun i hi => (b5 i hi).1⟩, fun i hi => ?_⟩
    · rw [hg]; dsimp only; rw [if_pos (Or.inl rfl)]; exact c1
    · rw [hg]; dsimp only; rw [if_pos (Or.inr rfl)]; exact c2
    · obtain ⟨d1, b, d2, d3⟩ := b5 i hi
      exact ⟨b, hgZ _ _ d2, d3⟩
  have hX := h1.cx h2 h3 hS
  obtain ⟨X', f', R', e1, e2, e3⟩ := hW k g R.2.2.2.2.1 R.2.2.2.2.2 l r h1.2.1 (hl.mo hgZ) hse H X f R hX ⟨rfl, rfl, hgv⟩
  have eH := h1.2.2.2.2.1
  rw [← eH] at e3
  have hle := m.2 _ _ _ e3
  obtain ⟨g1, g2⟩ := zCG.co h1 h2 hY h3 h4 h5 h6 h7 (X' := X') (f' := f') (R' := R') (by rw [e1]; exact h1.2.2.2.2.2.1) e2 hle
  exact ⟨_, e3, g1, g2, Nat.le_refl _, Nat.le_refl _⟩
theorem zCG.cw (hS : zSok B S) (hG : zCG N w ((B, S), nm, T, Y, E, U, Mk) H) (hW : ∀ k : zKA, k.1 0 = w → zCW N k B S m v) : zCal N w ((B, S), nm, T, Y, E, U, Mk) m v 0 0 H := hG.q hS (fun k g p3 p4 l r hk _ _ => (hW k hk).q)
theorem zCG_who (hS : zSok B S) (hE : zEok B E) (hG : zCG N w ((B, S), nm, T, Y, E, U, Mk) H) : zCal N w ((B, S), nm, T, Y, E, U, Mk) (fX1_who N w) (nI (zO_who B S E)) 0 0 H := hG.q hS (fun k g p3 p4 l r hk _ hse => by rw [← hk]; exact (zC_op_who hE hse).q)
theorem zCG_ask (hS : zSok B S) (hE : zEok B E) (hG : zCG N w ((B, S), nm, T, Y, E, U, Mk) H) (x : Int32) : zCal N w ((B, S), nm, T, Y, E, U, Mk) (fX1_ask N w x) (zO_ask B S E x) 0 0 H := hG.q hS (fun k g p3 p4 l r hk _ hse => by rw [← hk]; exact (zC_op_ask hE hse x).q)
theorem zCG_judged (hS : zSok B S) (hY : zYok (zS B) (zT B) Y) (hG : zCG N w ((B, S), nm, T, Y, E, U, Mk) H) (x : Int32) : zCal N w ((B, S), nm, T, Y, E, U, Mk) (fX1_judged N w x) (zO_judged B Y x) 0 0 H := hG.q hS (fun k g p3 p4 l r hk hl _ => by rw [← hk]; exact (zC_op_judged hY hl x).q)
/-- the component's own cell -/
theorem zG1.wc (h : zG1 N w k X f R τ B S H) : H.1 w = some (.inl (0, [.ref (w + 1), .ref (k.1 1), .ref (w + 27), .ref R.2.2.2.2.1, .ref R.2.2.2.2.2, .ref (w + 35), .ref (w + 36), .long R.1, .ref (w + 39)])) := by
  have := zc_w (h := H) (X := X) (f := f) (R := R) h.2.2.1
  rw [← h.2.2.2.2.1, h.2.1] at this
  exact this
theorem zCG_count (hS : zSok B S) (hG : zCG N w ((B, S), nm, T, Y, E, U, Mk) H) (x : Int32) : zCal N w ((B, S), nm, T, Y, E, U, Mk) (fX1_count N w x) (zO_count B S Y.1 E.1 U.1 T.2 x) 0 0 H := by
  have same : ∀ {v : Int32}, (fX1_count N w x).1 H = some (v, H) → zCal N w ((B, S), nm, T, Y, E, U, Mk) (fX1_count N w x) v 0 0 H := fun e => ⟨H, e, hG, zFm.rf _ _, Nat.le_refl _, Nat.le_refl _⟩
  unfold zO_count
  rcases zix_cases x (n := 12) (by decide) with ⟨h3, h4⟩ | ⟨j, h3, h4, rfl⟩
  · rw [h3]
    refine same ?_
    have ne : ∀ c, c < 12 → ¬ x = nI c := fun c hc => zix_no (by decide) h3 hc
    unfold fX1_count
    rw [zI, if_neg (show ¬ x = 0 from ne 0 (by decide)), zI, if_neg (show ¬ x = 1 from ne 1 (by decide)), zI, if_neg (show ¬ x = 2 from ne 2 (by decide)), zI, if_neg (show ¬ x = 3 from ne 3 (by decide)), zI, if_neg (show ¬ x = 4 from ne 4 (by decide)), zI, if_neg (show ¬ x = 5 from ne 5 (by decide)), zI, if_neg (show ¬ x = 6 from ne 6 (by decide)), zI, if_neg (show ¬ x = 7 from ne 7 (by decide)), zI, if_neg (show ¬ x = 8 from ne 8 (by decide)), zI, if_neg (show ¬ x = 9 from ne 9 (by decide)), zI, if_neg (show ¬ x = 10 from ne 10 (by decide)), zI, if_neg (show ¬ x = 11 from ne 11 (by decide))]
    rfl
  · rw [h4]
    dsimp only
    by_cases c8 : j < 8
    · rw [if_pos c8]
      exact hG.cw hS (fun k hk => by rw [← hk]; exact (zC_count8 c8).w)
    · rw [if_neg c8]
      obtain ⟨k, X, f, R, Z, τ, h1, h2, ⟨l, hY⟩, h3', h4', h5, h6, h7⟩ := id hG
      have hw := h1.wc
      refine same ?_
      have : j = 8 ∨ j = 9 ∨ j = 10 ∨ j = 11 := by omega
      unfold fX1_count
      rcases this with e | e | e | e <;> subst e
      · obtain ⟨⟨v, arr, cap, ff, a1, -⟩, -⟩ := hY
        have a1 := (h3' _ _ a1).1
        rw [zI, if_neg (by decide), zI, if_neg (by decide), zI, if_neg (by decide), zI, if_neg (by decide), zI, if_neg (by decide), zI, if_neg (by decide), zI, if_neg (by decide), zI, if_neg (by decide), zI, if_pos (by decide), zgRs hw (by decide) rfl, zrc (c := 4) (by unfold jcd; rw [a1]; rfl), zal_size a1]
        rfl
      · obtain ⟨arr, cap, ff, r, ⟨⟨mc, a1⟩, -⟩, -⟩ := h4'
        rw [zI, if_neg (by decide), zI, if_neg (by decide), zI, if_neg (by decide), zI, if_neg (by decide), zI, if_neg (by decide), zI, if_neg (by decide), zI, if_neg (by decide), zI, if_neg (by decide), zI, if_neg (by decide), zI, if_pos (by decide), zgRs hw (by decide) rfl, zrc (c := 4) (by unfold jcd; rw [a1]; rfl), zal_size a1]
        rfl
      · obtain ⟨arr, cap, ff, bs, xs, ⟨⟨mc, a1⟩, -⟩, -⟩ := h5
        rw [zI, if_neg (by decide), zI, if_neg (by decide), zI, if_neg (by decide), zI, if_neg (by decide), zI, if_neg (by decide), zI, if_neg (by decide), zI, if_neg (by decide), zI, if_neg (by decide), zI, if_neg (by decide), zI, if_neg (by decide), zI, if_pos (by decide), zgRs hw (by decide) rfl, zrc (c := 4) (by unfold jcd; rw [a1]; rfl), zal_size a1]
        rfl
      · obtain ⟨⟨dr, i, d, k1, k2, -⟩, -⟩ := h7
        rw [zI, if_neg (by decide), zI, if_neg (by decide), zI, if_neg (by decide), zI, if_neg (by decide), zI, if_neg (by decide), zI, if_neg (by decide), zI, if_neg (by decide), zI, if_neg (by decide), zI, if_neg (by decide), zI, if_neg (by decide), zI, if_neg (by decide), zI, if_pos (by decide), zgRs hw (by decide) rfl, zgI k2 (by decide) rfl]
        rfl
end
