/-! PURE 84: a shelf is kept behind: the component -/
set_option maxRecDepth 100000
section
variable {α : Type} {N w : Nat} {k : zKA} {X : Bool → zSS} {f : Nat → Int32} {R : zCR} {τ τ1 : Nat → Nat} {Z Z1 : Nat → Option jC} {B : zLB} {S : zMS} {H H1 : jH} {nm : (Nat → Nat) × (Nat → Nat)} {T : (Nat → Nat) × Nat} {Y : zYy} {E : zEy} {U : zUy} {Mk : Nat → Option (zMS × zYy × zEy)}
theorem cH_in {q : Nat} (c : zCS) (hq : ¬ zcf k q) : ∃ e, ∀ h : jH, (cH h k c).1 q = some e := by
  have go : ∀ h : jH, (cH h k c).1 q = zOr (zS4 (k.1 1) (c.1 true) q) (zOr (zS4 (k.1 0 + 27) (c.1 false) q) (zOr (zMi k c q) (h.1 q))) := fun _ => rfl
  cases e1 : zS4 (k.1 1) (c.1 true) q with
  | some e => exact ⟨e, fun h => by rw [go, e1]; rfl⟩
  | none =>
    cases e2 : zS4 (k.1 0 + 27) (c.1 false) q with
    | some e => exact ⟨e, fun h => by rw [go, e1, e2]; rfl⟩
    | none =>
      cases e3 : zMi k c q with
      | some e => exact ⟨e, fun h => by rw [go, e1, e2, e3]; rfl⟩
      | none =>
        exfalso
        apply hq
        have s4 : ∀ (p : Nat) (x : zSS), zS4 p x q = none → q < p ∨ p + 4 ≤ q := fun p x e => by
          rcases Nat.lt_or_ge q p with c | c
          · exact Or.inl c
          · rcases Nat.lt_or_ge q (p + 4) with d | d
            · obtain ⟨y, hy⟩ := zS4_ex p x (i := q - p) (by omega)
              rw [show p + (q - p) = q by omega] at hy
              rw [hy] at e; cases e
            · exact Or.inr d
        have m1 := s4 _ _ e1
        have m2 := s4 _ _ e2
        unfold zMi at e3
        split at e3
        · cases e3
        · split at e3
          · cases e3
          · split at e3
            · cases e3
            · split at e3
              · cases e3
              · split at e3
                · cases e3
                · rename_i n1 n2 n3 n4 n5
                  exact ⟨n1, by omega, by omega, m1, n5⟩
theorem zG1.fr (h : zG1 N w k X f R τ B S H) (hf : ∀ q, ¬ zcf k q → H1.1 q = H.1 q) (ht : ∀ q, q < H.2.1 → τ q ≠ 5 → τ1 q = τ q) (hl : jLe H H1) : zG1 N w k X f R τ1 B S H1 := by
  obtain ⟨a1, a2, a3, a4, a5, a6, a7, a8, a9⟩ := h
  refine ⟨a1, a2, a3, ⟨by rw [hl.2.2.2.1]; exact a4.1, Nat.le_trans a4.2 hl.1⟩, ?_, a6, fun i hi hx => (ht _ (by omega) (by rw [a7 i hi hx]; decide)).trans (a7 i hi hx), fun i hi => (a8 i hi).l5 (by decide) ht hl.1, a9.l5 (by decide) ht hl.1⟩
  refine Prod.ext (funext fun q => ?_) rfl
  by_cases c : zcf k q
  · exact (cH_fr c).symm
  · obtain ⟨e, he⟩ := cH_in (X, f, R) c
    rw [he, hf q c, a5]
    exact he _
/-- its shelf's cells -/
theorem zG1.sh (h : zG1 N w k X f R τ B S H) {i : Nat} (hi : i < 4) : H.1 (k.1 1 + i) = zS4 (k.1 1) (X true) (k.1 1 + i) := by
  obtain ⟨-, -, -, -, a5, -⟩ := h
  obtain ⟨e, he⟩ := zS4_ex (k.1 1) (X true) hi
  have : H.1 (k.1 1 + i) = (cH H k (X, f, R)).1 (k.1 1 + i) := by rw [← a5]
  rw [this]
  show zOr (zS4 (k.1 1) (X true) (k.1 1 + i)) _ = _
  rw [he]
  rfl
/-- a cell that calls work with has tag 1, 2, 6 -/
theorem zG1.tg (h : zG1 N w k X f R τ B S H) {q : Nat} (hq : ¬ zcf k q) : w ≤ q ∧ q < H.2.1 ∧ (τ q = 1 ∨ τ q = 2 ∨ (τ q = 6 ∧ q < w + 39 ∧ (q = w ∨ w + 27 ≤ q) ∧ (q < w + 31 ∨ w + 36 ≤ q))) := by
  obtain ⟨-, a2, a3, a4, -, -, a7, a8, a9⟩ := h
  unfold zcf at hq
  rw [a2] at hq
  by_cases c0 : q = w
  · rw [c0]; exact ⟨Nat.le_refl _, by omega, Or.inr (Or.inr ⟨a7 0 (by decide) (Or.inl (by decide)), by omega, Or.inl rfl, by omega⟩)⟩
  by_cases c1 : q < w + 27 ∨ w + 31 ≤ q
  · by_cases c2 : q < w + 36 ∨ w + 39 ≤ q
    · by_cases c3 : q < k.1 1 ∨ k.1 1 + 4 ≤ q
      · by_cases c4 : q = k.1 2
        · rw [c4]; exact ⟨a9.2.1, a9.2.2.2, Or.inr (Or.inl a9.1)⟩
        · exact absurd ⟨c0, c1, c2, c3, c4⟩ hq
      · have := a8 (q - k.1 1) (by omega)
        rw [show k.1 1 + (q - k.1 1) = q by omega] at this
        exact ⟨this.2.1, this.2.2.2, Or.inl this.1⟩
    · have := a7 (q - w) (by omega) (Or.inr (Or.inr ⟨by omega, by omega⟩))
      rw [show w + (q - w) = q by omega] at this
      exact ⟨by omega, by omega, Or.inr (Or.inr ⟨this, by omega, by omega, by omega⟩)⟩
  · have := a7 (q - w) (by omega) (Or.inr (Or.inl ⟨by omega, by omega⟩))
    rw [show w + (q - w) = q by omega] at this
    exact ⟨by omega, by omega, Or.inr (Or.inr ⟨this, by omega, by omega, by omega⟩)⟩
/-- all but the shelves behind, if nothing but these has changed -/
theorem zCG.f5 (h1 : zG1 N w k X f R τ B S H) (hY : zGY R.2.2.2.2.1 Y Z) (h3 : zG3 w τ Z H) (h4 : zG4 w τ Z E R.2.2.2.2.2 H) (h6 : zG6 w k B Z Mk H) (h7 : zG7 w T H) (hf : ∀ q, q < H.2.1 → q ≠ w + 35 → ¬ zOw w τ H q 4 → H1.1 q = H.1 q) (ht : ∀ q, q < H.2.1 → τ q ≠ 5 → τ1 q = τ q) (hl : jLe H H1) : zG1 N w k X f R τ1 B S H1 ∧ zG3 w τ1 Z H1 ∧ zG4 w τ1 Z E R.2.2.2.2.2 H1 ∧ zG6 w k B Z Mk H1 ∧ zG7 w T H1 := by
  obtain ⟨a1, a2, a3, a4, -, -, a7, -, -⟩ := id h1
  have t35 := a7 35 (by decide) (Or.inr (Or.inr ⟨by decide, by decide⟩))
  have tw : ∀ i, i < 40 → zFx i → i ≠ 35 → H1.1 (w + i) = H.1 (w + i) := fun i h1 h2 h3 => hf _ (by omega) (by omega) (fun c => by have := c.1; rw [a7 i h1 h2] at this; omega)
  have tg : ∀ {q t : Nat}, zOw w τ H q t → t ≠ 4 → t ≠ 6 → H1.1 q = H.1 q := fun {q t} h b1 b2 => hf q h.2.2.2 (fun e => by rw [e] at h; exact b2 (h.1.symm.trans t35)) (fun c => b1 (h.1.symm.trans c.1))
  have hc : ∀ q, q < H.2.2.2.2 0 → H1.1 q = H.1 q := fun q hq => hf q (by omega) (by omega) (fun c => by have := c.2.1; omega)
  refine ⟨h1.fr (fun q hq => ?_) ht hl, h3.fr (fun q hq => ?_) ht hl, h4.fr (fun q hq => tg hq (by decide) (by decide)) ht hl (fun _ _ h => h), h6.fr (tw 39 (by decide) (Or.inr (Or.inr ⟨by decide, by decide⟩)) (by decide)) (fun _ _ h => h), h7.fr hc (fun q b1 b2 => ?_) hl⟩
  · obtain ⟨c1, c2, c3⟩ := h1.tg hq
    refine hf q c2 ?_ (fun c => ?_)
    · rcases c3 with c | c | c
      · intro e; rw [e, t35] at c; omega
      · intro e; rw [e, t35] at c; omega
      · omega
    · have := c.1; omega
  · rcases hq with hq | hq
    · exact hc q hq
    · exact tg hq (by decide) (by decide)
  · have := tw (q - w) (by omega) (Or.inl (by omega)) (by omega)
    rw [show w + (q - w) = q by omega] at this
    exact this
theorem zCG_keep (hU : U.1 ≤ 16) (hG : zCG N w ((B, S), nm, T, Y, E, U, Mk) H) : zCal N w ((B, S), nm, T, Y, E, zUk U S, Mk) (fX1_keep w) () 5 85 H := by
  obtain ⟨k, X, f, R, Z, τ, h1, h2, hY, h3, h4, h5, h6, h7⟩ := hG
  obtain ⟨a1, a2, a3, a4, aH, aS, a7, a8, a9⟩ := id h1
  have hw := h1.wc
  have h5 : zG5 w k B τ U H := h5
  have t35 := a7 35 (by decide) (Or.inr (Or.inr ⟨by decide, by decide⟩))
  have t0 := a7 0 (by decide) (Or.inl (by decide))
  have hc52 := h7.kc.2.1.1
  have hxs : ∀ i, i < 4 → H.1 (k.1 1 + i) = zS4 (k.1 1) (X true) (k.1 1 + i) := fun i hi => h1.sh hi
  -- the first one goes if there are sixteen
  have pA : ∃ H1 U', (fX1_keep w).1 H = (fX1_keep_21 w).1 H1 ∧ zG5 w k B τ U' H1 ∧ U'.1 ≤ 15 ∧ zUk U S = (U'.1 + 1, fun j => if j = U'.1 then S else U'.2 j) ∧ (∀ q, q ≠ w + 35 → ¬ zOw w τ H q 4 → H1.1 q = H.1 q) ∧ H1.2 = H.2 ∧ jLe H H1 := by
    obtain ⟨arr, cap, g, bs, xs, b1, b2, b3, b4, b5⟩ := id h5
    obtain ⟨⟨mc, c1⟩, c2, c3, c4, -⟩ := id b1
    unfold fX1_keep
    rw [zgRs hw (by decide) rfl, zrc (c := 4) (by unfold jcd; rw [c1]; rfl), zal_size c1]
    by_cases c : U.1 = 16
    · have b1' : zAL H (w + 35) arr cap (14 + 2) g := by rw [c] at b1; exact b1
      obtain ⟨H1, g', r1, r2, r3, r4, r5, r6⟩ := zAL_shift b1'
      have htag := b2 (by omega)
      refine ⟨H1, (15, fun j => U.2 (j + 1)), ?_, ⟨arr, cap, g', fun j => bs (j + 1), fun j => xs (j + 1), r2, fun h => (b2 h).le (fun _ _ => rfl) r6.1, b3, fun j hj => ?_, fun i j hi hj => b5 (i + 1) (j + 1) (by omega) (by rw [c]; have : j < 15 := hj; omega)⟩, Nat.le_refl _, ?_, fun q h1 h2 => r4 q h1 (fun e => ?_), r5, r6⟩
      · rw [zI, if_pos (by rw [c]; rfl), zgRs hw (by decide) rfl, zrc (c := 4) (by unfold jcd; rw [c1]; rfl), jB_eq r1]
      · have hj : j < 15 := hj
        obtain ⟨d1, d2, d3, d4⟩ := b4 (j + 1) (by omega)
        refine ⟨(r3 j (by omega)).trans d1, d2, fun i hi => ?_, d4⟩
        obtain ⟨e1, e2⟩ := d3 i hi
        refine ⟨e1.le (fun _ _ => rfl) r6.1, (r4 _ (fun e => ?_) (fun e => ?_)).trans e2⟩
        · have := e1.1; rw [e] at this; omega
        · have := e1.1; rw [e, htag.1] at this; omega
      · unfold zUk; rw [if_pos c]
      · rw [e] at h2
        exact h2 htag
    · refine ⟨H, U, ?_, h5, by omega, ?_, fun _ _ _ => rfl, rfl, jLe.rf _⟩
      · rw [zI, if_neg (show ¬ nI U.1 = 16 from fun q => c ((nI_eq (b := 16) (by omega) (by decide)).mp q))]
      · unfold zUk; rw [if_neg c]
  obtain ⟨H1, U', r1, h5', hU', eU, fr1, s1, l1⟩ := pA
  rw [eU]
  have hw1 : H1.1 w = _ := (fr1 w (by omega) (fun c => by have := c.1; rw [show τ w = 6 from t0] at this; omega)).trans hw
  have nsh : ∀ i, i < 4 → H1.1 (k.1 1 + i) = zS4 (k.1 1) (X true) (k.1 1 + i) := fun i hi => (fr1 _ (fun e => by have := (a8 i hi).1; rw [e, t35] at this; omega) (fun c => by have := c.1; rw [(a8 i hi).1] at this; omega)).trans (hxs i hi)
  have hb1 : k.1 1 + 4 ≤ H1.2.1 := by rw [s1]; have := (a8 3 (by decide)).2.2.2; omega
  obtain ⟨H2, x', r2, n2, x1, x2, x3, m2, s2, u2, l2⟩ := zsh_cp nsh hb1 (by rw [s1]; omega)
  obtain ⟨arr, cap, g, bs, xs, b1, b2, b3, b4, b5⟩ := h5'
  have harr : arr < H1.2.1 := b1.2.2.2.2.2.1.2
  have b1' := b1.up (m2.1 _ (by rw [s1]; omega) id) (m2.1 _ harr id) l2
  obtain ⟨⟨mc, c1⟩, -⟩ := id b1'
  have n0 : H2.1 H1.2.1 = zS4 H1.2.1 x' H1.2.1 := n2 0 (by decide)
  have hx : zOk H2 (some H1.2.1) := ⟨H1.2.1, 2, rfl, by omega, by unfold jcd; rw [n0]; unfold zS4; rw [if_pos rfl]; rfl, by decide⟩
  obtain ⟨H3, arr', cap', g', r3, c2, c3, c4, m3, c5⟩ := zAL_add b1' hx (by omega)
  have l3 := (fJ2_add (w + 35) (some H1.2.1)).2 _ _ _ r3
  have l03 := jLe.tr l1 (jLe.tr l2 l3)
  have e2 : H2.2.1 = H.2.1 + 4 := by rw [s2, s1]
  have run : (fX1_keep w).1 H = some ((), H3) := by
    rw [r1]
    unfold fX1_keep_21
    rw [zgRs hw1 (by decide) rfl, zgRs hw1 (by decide) rfl, zrc (c := 2) (by unfold jcd; rw [show H1.1 (k.1 1) = zS4 (k.1 1) (X true) (k.1 1) from nsh 0 (by decide)]; unfold zS4; rw [if_pos rfl]; rfl), jB_eq r2, zrc (c := 4) (by unfold jcd; rw [c1]; rfl), jB_eq r3]
    rfl
  -- what is left as it was
  have old : ∀ q, q < H.2.1 → q ≠ w + 35 → ¬ zOw w τ H q 4 → H3.1 q = H.1 q := fun q hq h35 h4' => by
    have n3 : ¬ (q = w + 35 ∨ (q = arr ∧ U'.1 < cap)) := by
      rintro (e | ⟨e, e'⟩)
      · exact h35 e
      · have := b2 (by omega)
        rw [← e] at this
        exact h4' (this.le (fun _ _ => rfl) (by rw [s1]; exact Nat.le_refl _))
    rw [m3.1 q (by omega) n3, m2.1 q (by rw [s1]; exact hq) id, fr1 q h35 h4']
  obtain ⟨τ1, hτ⟩ : ∃ τ1 : Nat → Nat, τ1 = fun q => if q < H.2.1 then τ q else if q < H.2.1 + 4 then 5 else 4 := ⟨_, rfl⟩
  have ht : ∀ q, q < H.2.1 → τ1 q = τ q := fun q hq => by rw [hτ]; exact if_pos hq
  obtain ⟨k1, k3, k4, k6, k7⟩ := zCG.f5 h1 hY h3 h4 h6 h7 old (fun q hq _ => ht q hq) l03
  have e1 : H1.2.1 = H.2.1 := by rw [s1]
  have g5 : ∀ q, q < 4 → zOw w τ1 H3 (H.2.1 + q) 5 := fun q hq => ⟨by rw [hτ]; dsimp only; rw [if_neg (by omega), if_pos (by omega)], by omega, by omega, by have := l3.1; omega⟩
  have keep5 : ∀ {q : Nat}, zOw w τ H1 q 5 → zOw w τ1 H3 q 5 := fun {q} h => ⟨(ht q (by have := h.2.2.2; omega)).trans h.1, h.2.1, h.2.2.1, by have := h.2.2.2; have := l3.1; omega⟩
  refine ⟨H3, run, ⟨k, X, f, R, Z, τ1, k1, h2, hY, k3, k4, ?_, k6, k7⟩, ?_, ?_, ?_⟩
  · refine ⟨arr', cap', g', fun j => if j = U'.1 then H.2.1 else bs j, fun j => if j = U'.1 then x' else xs j, c2, fun hc => ?_, ?_, fun j hj => ?_, fun i j hi hj => ?_⟩
    · rcases c5 with ⟨d1, d2, d3, d4⟩ | ⟨d1, d2, d3, d4, d5⟩
      · rw [d1]
        have := b2 (by omega)
        exact ⟨(ht _ (by have := this.2.2.2; omega)).trans this.1, this.2.1, this.2.2.1, by have := this.2.2.2; have := l3.1; omega⟩
      · rw [d2]
        exact ⟨by rw [hτ]; dsimp only; rw [if_neg (by omega), if_neg (by omega)], by omega, by omega, by omega⟩
    · rcases c5 with ⟨d1, d2, d3, d4⟩ | ⟨d1, d2, d3, d4, d5⟩
      · omega
      · rw [d4]
        by_cases c0 : cap = 0
        · rw [if_pos c0]; decide
        · rw [if_neg c0]; unfold zNc; omega
    · have hj : j < U'.1 + 1 := hj
      by_cases c : j = U'.1
      · dsimp only
        rw [if_pos c, if_pos c, if_pos c, c, ← e1]
        refine ⟨c4, by omega, fun i hi => ⟨by rw [e1]; exact g5 i hi, ?_⟩, zSm.cp aS h2.1.1 x1 x2 x3⟩
        rw [m3.1 _ (by omega) (by rintro (e | ⟨e, -⟩) <;> omega)]
        exact n2 i hi
      · dsimp only
        rw [if_neg c, if_neg c, if_neg c]
        obtain ⟨d1, d2, d3, d4⟩ := b4 j (by omega)
        refine ⟨(c3 j (by omega)).trans d1, d2, fun i hi => ?_, d4⟩
        obtain ⟨q1, q2⟩ := d3 i hi
        refine ⟨keep5 q1, ?_⟩
        have hlt := q1.2.2.2
        rw [m3.1 _ (by omega) (by
          rintro (e | ⟨e, e'⟩)
          · have := q1.1; rw [e, t35] at this; omega
          · have := q1.1; rw [e, (b2 (by omega)).1] at this; omega), m2.1 _ hlt id]
        exact q2
    · have hj : j < U'.1 + 1 := hj
      dsimp only
      rw [if_neg (show ¬ i = U'.1 by omega)]
      by_cases c : j = U'.1
      · rw [if_pos c]
        have := ((b4 i (by omega)).2.2.1 3 (by decide)).1.2.2.2
        omega
      · rw [if_neg c]
        exact b5 i j hi (by omega)
  · refine ⟨fun q hq hW => old q hq ?_ ?_, l03.1, ?_, l03.2.2.1, l03.2.2.2.1⟩
    · intro e; rw [e] at hW; exact hW (by omega)
    · exact fun c => hW ⟨c.2.1, c.2.2.1⟩
    · have q1 := m2.2.2.1
      have q2 := m3.2.2.1
      rw [s1] at q1
      omega
  · rcases c5 with ⟨d1, d2, d3, d4⟩ | ⟨d1, d2, d3, d4, d5⟩
    · rw [d4]; omega
    · omega
  · rcases c5 with ⟨d1, d2, d3, d4⟩ | ⟨d1, d2, d3, d4, d5⟩
    · rw [d4, u2, s1]; omega
    · rw [d5, u2, s1]
      have : cap' ≤ 40 := by
        rw [d4]
        by_cases c0 : cap = 0
        · rw [if_pos c0]; decide
        · rw [if_neg c0]; unfold zNc; omega
      omega
end
