/-! PURE 86: undo: the component -/
set_option maxRecDepth 100000
def zk1 (k : zKA) (b : Nat) : zKA := (fun i => if i = 1 then b else k.1 i, k.2)
section
variable {α β : Type} {N w : Nat} {k : zKA} {X : Bool → zSS} {f : Nat → Int32} {R : zCR} {τ τ1 : Nat → Nat} {Z Z1 : Nat → Option jC} {B : zLB} {S S' S1 : zMS} {H H1 : jH} {nm : (Nat → Nat) × (Nat → Nat)} {T : (Nat → Nat) × Nat} {Y : zYy} {E : zEy} {U : zUy} {Mk : Nat → Option (zMS × zYy × zEy)}
/-- cells that calls work with, put together -/
theorem cH_mk {c : zCS} (hk : zKok k) (h1 : ∀ i, i < 4 → H.1 (k.1 1 + i) = zS4 (k.1 1) (c.1 true) (k.1 1 + i)) (h2 : ∀ i, i < 4 → H.1 (k.1 0 + 27 + i) = zS4 (k.1 0 + 27) (c.1 false) (k.1 0 + 27 + i)) (h3 : ∀ q, (q = k.1 0 ∨ q = k.1 0 + 36 ∨ q = k.1 0 + 37 ∨ q = k.1 0 + 38 ∨ q = k.1 2) → H.1 q = zMi k c q) : H = cH H k c := by
  refine Prod.ext (funext fun q => ?_) rfl
  show H.1 q = zOr (zS4 (k.1 1) (c.1 true) q) (zOr (zS4 (k.1 0 + 27) (c.1 false) q) (zOr (zMi k c q) (H.1 q)))
  cases e1 : zS4 (k.1 1) (c.1 true) q with
  | some e =>
    show H.1 q = some e
    rcases Nat.lt_or_ge q (k.1 1) with d | d
    · rw [zS4_no (Or.inl d)] at e1; cases e1
    · rcases Nat.lt_or_ge q (k.1 1 + 4) with d' | d'
      · have := h1 (q - k.1 1) (by omega)
        rw [show k.1 1 + (q - k.1 1) = q by omega] at this
        rw [this, e1]
      · rw [zS4_no (Or.inr d')] at e1; cases e1
  | none =>
    cases e2 : zS4 (k.1 0 + 27) (c.1 false) q with
    | some e =>
      show H.1 q = some e
      rcases Nat.lt_or_ge q (k.1 0 + 27) with d | d
      · rw [zS4_no (Or.inl d)] at e2; cases e2
      · rcases Nat.lt_or_ge q (k.1 0 + 27 + 4) with d' | d'
        · have := h2 (q - (k.1 0 + 27)) (by omega)
          rw [show k.1 0 + 27 + (q - (k.1 0 + 27)) = q by omega] at this
          rw [this, e2]
        · rw [zS4_no (Or.inr d')] at e2; cases e2
    | none =>
      cases e3 : zMi k c q with
      | some e =>
        show H.1 q = some e
        by_cases d : q = k.1 0 ∨ q = k.1 0 + 36 ∨ q = k.1 0 + 37 ∨ q = k.1 0 + 38 ∨ q = k.1 2
        · rw [h3 q d, e3]
        · unfold zMi at e3
          rw [if_neg (by omega), if_neg (by omega), if_neg (by omega), if_neg (by omega), if_neg (by omega)] at e3
          cases e3
      | none => rfl
theorem zG1.tr (h : zG1 N w k X f R τ B S H) {i : Nat} (hi : i < 4) : H.1 (k.1 0 + 27 + i) = zS4 (k.1 0 + 27) (X false) (k.1 0 + 27 + i) := by
  obtain ⟨-, -, hk, -, a5, -⟩ := h
  obtain ⟨e, he⟩ := zS4_ex (k.1 0 + 27) (X false) hi
  have : H.1 (k.1 0 + 27 + i) = (cH H k (X, f, R)).1 (k.1 0 + 27 + i) := by rw [← a5]
  rw [this]
  show zOr (zS4 (k.1 1) (X true) (k.1 0 + 27 + i)) (zOr (zS4 (k.1 0 + 27) (X false) (k.1 0 + 27 + i)) _) = _
  rw [zS4_no (by unfold zKok at hk; omega), he]
  rfl
theorem zG1.mi (h : zG1 N w k X f R τ B S H) {q : Nat} (hq : q = k.1 0 ∨ q = k.1 0 + 36 ∨ q = k.1 0 + 37 ∨ q = k.1 0 + 38 ∨ q = k.1 2) : H.1 q = zMi k (X, f, R) q := by
  obtain ⟨-, -, hk, -, a5, -⟩ := h
  have : H.1 q = (cH H k (X, f, R)).1 q := by rw [← a5]
  rw [this]
  show zOr (zS4 (k.1 1) (X true) q) (zOr (zS4 (k.1 0 + 27) (X false) q) (zOr (zMi k (X, f, R) q) _)) = _
  rw [zS4_no (by unfold zKok at hk; omega), zS4_no (by unfold zKok at hk; omega)]
  show zOr (zMi k (X, f, R) q) _ = _
  have : ∃ e, zMi k (X, f, R) q = some e := by
    unfold zMi
    by_cases c1 : q = k.1 0
    · rw [if_pos c1]; exact ⟨_, rfl⟩
    rw [if_neg c1]
    by_cases c2 : q = k.1 0 + 36
    · rw [if_pos c2]; exact ⟨_, rfl⟩
    rw [if_neg c2]
    by_cases c3 : q = k.1 0 + 37
    · rw [if_pos c3]; exact ⟨_, rfl⟩
    rw [if_neg c3]
    by_cases c4 : q = k.1 0 + 38
    · rw [if_pos c4]; exact ⟨_, rfl⟩
    rw [if_neg c4, if_pos (by omega)]; exact ⟨_, rfl⟩
  obtain ⟨e, he⟩ := this
  rw [he]
  rfl
/-- cells that the component works with, but those at w and the shelf: unchanged -/
theorem zMi_ne {k k' : zKA} {c c' : zCS} (h0 : k'.1 0 = k.1 0) (h2 : k'.1 2 = k.1 2) (e1 : c'.2.1 = c.2.1) (e2 : c'.2.2.2.1 = c.2.2.2.1) (e3 : c'.2.2.2.2.1 = c.2.2.2.2.1) (e4 : c'.2.2.2.2.2.1 = c.2.2.2.2.2.1) {q : Nat} (hq : q ≠ k.1 0) : zMi k' c' q = zMi k c q := by
  unfold zMi
  rw [h0, h2, if_neg hq, if_neg hq, e1, e2, e3, e4]
theorem zCG_undo (hG : zCG N w ((B, S), nm, T, Y, E, U, Mk) H) (hU : U.1 ≤ 16) : zCal N w ((B, if U.1 = 0 then S else U.2 (U.1 - 1)), nm, T, Y, E, (U.1 - 1, U.2), Mk) (fX1_undo w) (zb (!decide (U.1 = 0))) 0 0 H := by
  obtain ⟨k, X, f, R, Z, τ, h1, h2, hY, h3, h4, h5, h6, h7⟩ := id hG
  have h5 : zG5 w k B τ U H := h5
  obtain ⟨arr, cap, g, bs, xs, b1, b2, b3, b4, b5⟩ := h5
  obtain ⟨⟨mc, c1⟩, c2, c3, c4, -⟩ := id b1
  obtain ⟨a1, a2, a3, a4, aH, aS, a7, a8, a9⟩ := id h1
  have hw := h1.wc
  have eE : (fJ2_isEmpty (w + 35)).1 H = some (zb (decide (U.1 = 0)), H) := by
    unfold fJ2_isEmpty fJ2_isEmpty_12
    rw [zgI c1 (by decide) rfl, zI]
    by_cases c : U.1 = 0
    · rw [if_pos (show nI U.1 = 0 by rw [c]; rfl), decide_eq_true c]; rfl
    · rw [if_neg (show ¬ nI U.1 = 0 from fun q => c ((nI_eq (b := 0) (by omega) (by decide)).mp q)), decide_eq_false c]; rfl
  by_cases c0 : U.1 = 0
  · rw [if_pos c0, decide_eq_true c0]
    have e : (U.1 - 1, U.2) = U := Prod.ext (by show U.1 - 1 = U.1; omega) rfl
    rw [e]
    refine ⟨H, ?_, hG, zFm.rf _ _, Nat.le_refl _, Nat.le_refl _⟩
    unfold fX1_undo
    rw [zgRs hw (by decide) rfl, zrc (c := 4) (by unfold jcd; rw [c1]; rfl), jB_eq eE, decide_eq_true c0, zI, if_neg zb1n]
    rfl
  · rw [if_neg c0, decide_eq_false c0]
    obtain ⟨n, hn⟩ : ∃ n, U.1 = n + 1 := ⟨U.1 - 1, by omega⟩
    rw [hn, Nat.add_sub_cancel]
    rw [hn] at b1 c1
    obtain ⟨H1, r1, p1, p2, p3, p4⟩ := zAL_pop b1
    obtain ⟨d1, d2, d3, d4⟩ := b4 n (by omega)
    have htag := b2 (by omega)
    have t35 := a7 35 (by decide) (Or.inr (Or.inr ⟨by decide, by decide⟩))
    have tw : ∀ i, i < 40 → zFx i → i ≠ 35 → H1.1 (w + i) = H.1 (w + i) := fun i h1 h2 h3 => p2 _ (by omega) (fun e => by have := a7 i h1 h2; rw [e, htag.1] at this; omega)
    have tg : ∀ {q t : Nat}, zOw w τ H q t → t ≠ 4 → t ≠ 6 → H1.1 q = H.1 q := fun {q t} h b1 b2 => p2 q (fun e => by rw [e] at h; exact b2 (h.1.symm.trans t35)) (fun e => by rw [e] at h; exact b1 (h.1.symm.trans htag.1))
    have hw1 := (tw 0 (by decide) (Or.inl (by decide)) (by decide)).trans hw
    obtain ⟨H2, hH2⟩ : ∃ H2, H2 = jset H1 w (.inl (0, [.ref (w + 1), .ref (bs n), .ref (w + 27), .ref R.2.2.2.2.1, .ref R.2.2.2.2.2, .ref (w + 35), .ref (w + 36), .long R.1, .ref (w + 39)])) := ⟨_, rfl⟩
    have fr : ∀ q, q ≠ w → H2.1 q = H1.1 q := fun q hq => by rw [hH2]; exact zse_n _ _ hq
    have s2 : H2.2 = H.2 := by rw [hH2]; exact p3
    have run : (fX1_undo w).1 H = some (1, H2) := by
      unfold fX1_undo
      have hbn : H1.1 (bs n) = zS4 (bs n) (xs n) (bs n) := (tg (d3 0 (by decide)).1 (by decide) (by decide)).trans (d3 0 (by decide)).2
      have cd : jcd H1 (bs n) = some 2 := by unfold jcd; rw [hbn]; unfold zS4; rw [if_pos rfl]; rfl
      rw [zgRs hw (by decide) rfl, zrc (c := 4) (by unfold jcd; rw [c1]; rfl), jB_eq eE, decide_eq_false c0, zI, if_pos zb_f, zgRs hw (by decide) rfl, zgRs hw (by decide) rfl, zrc (c := 4) (by unfold jcd; rw [c1]; rfl), zal_size c1, zrc (c := 4) (by unfold jcd; rw [c1]; rfl), zc1_sb (by omega), Nat.add_sub_cancel, jB_eq r1, d1, zck cd (by decide)]
      have pp : ∀ K : Unit → jM Int32, (jB (jpR [0] 1 (some w) (some (bs n))) K).1 H1 = (K ()).1 H2 := fun K => by
        rw [hH2]
        exact zpV hw1 (by decide) (by rw [p3]; exact a4.1) (by show 1 < 9; decide) K
      rw [pp]
      rfl
    have l2 : jLe H H2 := (fX1_undo w).2 _ _ _ run
    obtain ⟨τ1, hτ⟩ : ∃ τ1 : Nat → Nat, τ1 = fun q => if bs n ≤ q ∧ q < bs n + 4 then 1 else τ q := ⟨_, rfl⟩
    have t5 : ∀ q, bs n ≤ q → q < bs n + 4 → τ q = 5 := fun q e1 e2 => by
      have := (d3 (q - bs n) (by omega)).1.1
      rw [show bs n + (q - bs n) = q by omega] at this
      exact this
    have ht : ∀ q, q < H.2.1 → τ q ≠ 5 → τ1 q = τ q := fun q _ h => by
      rw [hτ]
      exact if_neg (fun e => h (t5 q e.1 e.2))
    have k2 : k.1 2 < bs n ∨ bs n + 4 ≤ k.1 2 := by
      rcases Nat.lt_or_ge (k.1 2) (bs n) with e | e
      · exact Or.inl e
      · rcases Nat.lt_or_ge (k.1 2) (bs n + 4) with e' | e'
        · have := t5 _ e e'
          rw [a9.1] at this; omega
        · exact Or.inr e'
    have hc : ∀ q, q < H.2.2.2.2 0 → H2.1 q = H.1 q := fun q hq => by
      rw [fr q (by omega)]
      exact p2 q (by omega) (fun e => by have := htag.2.1; omega)
    have tg2 : ∀ {q t : Nat}, zOw w τ H q t → t ≠ 4 → t ≠ 6 → H2.1 q = H.1 q := fun {q t} h e1 e2 => by
      rw [fr q (fun e => e2 (by rw [e] at h; exact h.1.symm.trans (a7 0 (by decide) (Or.inl (by decide)))))]
      exact tg h e1 e2
    refine ⟨H2, run, ⟨zk1 k (bs n), zX X true (xs n), f, R, Z, τ1, ⟨a1, a2, ?_, by rw [s2]; exact a4, ?_, ?_, fun i hi hx => ?_, fun i hi => ?_, ?_⟩, h2, hY, h3.fr (fun q hq => ?_) ht l2, h4.fr (fun q hq => tg2 hq (by decide) (by decide)) ht l2 (fun _ _ h => h), ?_, zG6.fr (k := zk1 k (bs n)) h6 ?_ (fun _ _ h => h), h7.fr hc (fun q e1 e2 => ?_) l2⟩, ⟨fun q hq hW => ?_, l2.1, ?_, l2.2.2.1, l2.2.2.2.1⟩, by rw [s2]; omega, by rw [s2]; omega⟩
    · obtain ⟨k1, k2', k3⟩ := a3
      refine ⟨Or.inr ?_, k2', k2⟩
      show k.1 0 + 40 ≤ bs n
      omega
    · refine cH_mk ?_ (fun i hi => ?_) (fun i hi => ?_) (fun q hq => ?_)
      · obtain ⟨k1, k2', k3⟩ := a3
        refine ⟨Or.inr ?_, k2', k2⟩
        show k.1 0 + 40 ≤ bs n
        omega
      · show H2.1 (bs n + i) = zS4 (bs n) (zX X true (xs n) true) (bs n + i)
        rw [zX_eq]
        exact (tg2 (d3 i hi).1 (by decide) (by decide)).trans (d3 i hi).2
      · show H2.1 (k.1 0 + 27 + i) = zS4 (k.1 0 + 27) (zX X true (xs n) false) (k.1 0 + 27 + i)
        rw [zX_ne X (xs n) (by decide)]
        refine Eq.trans ?_ (h1.tr hi)
        rw [a2, fr _ (by omega), Nat.add_assoc]
        exact tw (27 + i) (by omega) (Or.inr (Or.inl ⟨by omega, by omega⟩)) (by omega)
      · have hq : q = k.1 0 ∨ q = k.1 0 + 36 ∨ q = k.1 0 + 37 ∨ q = k.1 0 + 38 ∨ q = k.1 2 := hq
        by_cases e : q = k.1 0
        · unfold zMi
          rw [if_pos (show q = (zk1 k (bs n)).1 0 from e), e, a2, hH2, zse_e]
          exact (by rw [a2] : (some (.inl (0, [.ref (w + 1), .ref (bs n), .ref (w + 27), .ref R.2.2.2.2.1, .ref R.2.2.2.2.2, .ref (w + 35), .ref (w + 36), .long R.1, .ref (w + 39)])) : Option jC) = some (.inl (0, [.ref (k.1 0 + 1), .ref (bs n), .ref (k.1 0 + 27), .ref R.2.2.2.2.1, .ref R.2.2.2.2.2, .ref (k.1 0 + 35), .ref (k.1 0 + 36), .long R.1, .ref (k.1 0 + 39)])))
        · refine Eq.trans ?_ (zMi_ne (k := k) (k' := zk1 k (bs n)) (c := (X, f, R)) (c' := (zX X true (xs n), f, R)) rfl rfl rfl rfl rfl rfl e).symm
          rw [← h1.mi hq, fr q (by rw [← a2]; exact e)]
          rw [a2] at hq e
          by_cases e2 : q = k.1 2
          · rw [e2]; exact tg a9 (by decide) (by decide)
          · have := tw (q - w) (by omega) (Or.inr (Or.inr ⟨by omega, by omega⟩)) (by omega)
            rw [show w + (q - w) = q by omega] at this
            exact this
    · show zSm (zk1 k (bs n)) B (U.2 n) (zX X true (xs n) true)
      rw [zX_eq]
      exact d4
    · exact (ht _ (by omega) (by rw [a7 i hi hx]; decide)).trans (a7 i hi hx)
    · have := (d3 i hi).1
      refine ⟨?_, this.2.1, this.2.2.1, by rw [s2]; exact this.2.2.2⟩
      show τ1 (bs n + i) = 1
      rw [hτ]
      exact if_pos ⟨by omega, by omega⟩
    · exact a9.l5 (by decide) ht l2.1
    · rcases hq with hq | hq
      · exact hc q hq
      · exact tg2 hq (by decide) (by decide)
    · refine ⟨arr, cap, va_up g n none, bs, xs, p1.up (fr _ (by omega)) (fr _ (fun e => ?_)) ((by rw [hH2]; exact jsetO_le hw1)), fun c => (b2 c).l5 (by decide) ht l2.1, b3, fun j hj => ?_, fun i j hi hj => b5 i j hi (by have : j < n := hj; omega)⟩
      · have e1 := htag.1
        rw [e] at e1
        have := a7 0 (by decide) (Or.inl (by decide))
        rw [Nat.add_zero] at this
        omega
      · have hj : j < n := hj
        obtain ⟨q1, q2, q3, q4⟩ := b4 j (by omega)
        have hd := b5 j n hj (by omega)
        refine ⟨by rw [va_up_ne _ _ (by omega)]; exact q1, q2, fun i hi => ⟨⟨?_, (q3 i hi).1.2.1, (q3 i hi).1.2.2.1, by rw [s2]; exact (q3 i hi).1.2.2.2⟩, (tg2 (q3 i hi).1 (by decide) (by decide)).trans (q3 i hi).2⟩, q4⟩
        rw [hτ]
        dsimp only
        rw [if_neg (by omega)]
        exact (q3 i hi).1.1
    · rw [fr _ (by omega)]
      exact tw 39 (by decide) (Or.inr (Or.inr ⟨by decide, by decide⟩)) (by decide)
    · rw [fr _ (by omega)]
      have := tw (q - w) (by omega) (Or.inl (by omega)) (by omega)
      rw [show w + (q - w) = q by omega] at this
      exact this
    · rw [fr q (fun e => hW ⟨by omega, by omega⟩)]
      exact p2 q (fun e => hW ⟨by omega, by omega⟩) (fun e => by have := htag.2; rw [← e] at this; exact hW ⟨this.1, this.2.1⟩)
    · rw [s2]
end
