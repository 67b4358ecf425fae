/-! PURE 92: year: the component -/
set_option maxRecDepth 100000
/-- what a year answers; all that is kept then -/
def zO_year (G : zGS) : Int32 × zGS := match zYrs (zOfT G.2.2.1.1 G.2.2.1.2) G.2.1.1 (zS G.1.1) G.2.1.2 (zT G.1.1) 1001 0 (0, fun _ => (0, 0, 0, 0)) with
  | .inl e => (nI (e.1 + 16 * zBg G.2.2.1.1 G.2.2.1.2 e.2), G.1, G.2.1, (G.2.2.1.1, 0), G.2.2.2)
  | .inr Y => (0, G.1, G.2.1, (G.2.2.1.1, 0), Y, G.2.2.2.2)
section
variable {N w : Nat} {k : zKA} {X : Bool → zSS} {f : Nat → Int32} {R : zCR} {τ τ1 : Nat → Nat} {Z : Nat → Option jC} {B : zLB} {S : zMS} {H H1 : jH} {nm : (Nat → Nat) × (Nat → Nat)} {T : (Nat → Nat) × Nat} {Y : zYy} {E : zEy} {U : zUy} {Mk : Nat → Option (zMS × zYy × zEy)}
/-- the reader may have changed, all else is as it was -/
theorem zCG.f7 (h1 : zG1 N w k X f R τ B S H) (h3 : zG3 w τ Z H) (h4 : zG4 w τ Z E R.2.2.2.2.2 H) (h5 : zG5 w k B τ U H) (h7 : zG7 w T H) (old : ∀ q, q < H.2.1 → (q ≤ w ∨ w + 11 ≤ q) → H1.1 q = H.1 q) (ht : ∀ q, q < H.2.1 → τ1 q = τ q) (hl : jLe H H1) : zG1 N w k X f R τ1 B S H1 ∧ zG3 w τ1 Z H1 ∧ zG4 w τ1 Z E R.2.2.2.2.2 H1 ∧ zG5 w k B τ1 U H1 ∧ H1.1 (w + 39) = H.1 (w + 39) := by
  obtain ⟨a1, a2, a3, a4, aH, aS, a7, a8, a9⟩ := id h1
  have oT : ∀ {q t : Nat}, zOw w τ H q t → t ≠ 6 → H1.1 q = H.1 q := fun {q t} h e => old q h.2.2.2 (by
    rcases Nat.lt_or_ge q (w + 11) with c | c
    · refine Or.inl ?_
      rcases Nat.lt_or_ge w q with d | d
      · exfalso
        have := a7 (q - w) (by omega) (Or.inl (by omega))
        rw [show w + (q - w) = q by omega, h.1] at this
        exact e this
      · exact d
    · exact Or.inr c)
  have hc : ∀ q, q < H.2.2.2.2 0 → H1.1 q = H.1 q := fun q hq => old q (by omega) (by omega)
  refine ⟨h1.fr (fun q hq => ?_) (fun q hq _ => ht q hq) hl, h3.fr (fun q hq => ?_) (fun q hq _ => ht q hq) hl, h4.fr (fun q hq => oT hq (by decide)) (fun q hq _ => ht q hq) hl (fun _ _ h => h), h5.fr hc h7.kc.2.1.1 (old _ (by omega) (by omega)) (fun q hq => by rcases hq with hq | hq <;> exact oT hq (by decide)) ht hl, old _ (by omega) (by omega)⟩
  · obtain ⟨y1, y2, y3⟩ := h1.tg hq
    rcases y3 with y3 | y3 | y3
    · exact oT ⟨y3, y1, (by
        obtain ⟨k1, k2, k3⟩ := a3
        by_cases c : w + 11 ≤ q ∧ q < w + 40
        · omega
        · by_cases d : q < w + 40
          · omega
          · rcases Nat.lt_or_ge q (w + 86) with e | e
            · exfalso
              exact hq (h1.cfo (Or.inr ⟨by omega, e⟩))
            · exact Or.inr e), y2⟩ (by decide)
    · exact oT ⟨y3, y1, (by
        by_cases d : q < w + 40
        · omega
        · rcases Nat.lt_or_ge q (w + 86) with e | e
          · exfalso
            exact hq (h1.cfo (Or.inr ⟨by omega, e⟩))
          · exact Or.inr e), y2⟩ (by decide)
    · exact old q y2 (by omega)
  · rcases hq with hq | hq
    · exact hc q hq
    · exact oT hq (by decide)
theorem zG1.now (h : zG1 N w k X f R τ B S H) {α : Type} (K : Option Nat → jM α) : (jB (fX1_now w) K).1 H = (K (some (k.1 3))).1 H := by
  have h0 := h.sh (i := 0) (by decide)
  have h0' : H.1 (k.1 1) = some (.inl (2, [va_rf (X true).1.1, .int (X true).1.2.1, .int (X true).1.2.2, .ref (k.1 1 + 1), .ref (k.1 1 + 2), .ref (k.1 1 + 3)])) := h0.trans (if_pos rfl)
  unfold fX1_now
  rw [zA, zgRs h.wc (by decide) rfl, zA]
  refine (zgR (x := (X true).1.1) h0' (by decide) rfl _).trans ?_
  rw [h.2.2.2.2.2.1.1]
  rfl
theorem zCG_year (hG : zCG N w ((B, S), nm, T, Y, E, U, Mk) H) : zCal N w (zO_year ((B, S), nm, T, Y, E, U, Mk)).2 (fX1_year N w) (zO_year ((B, S), nm, T, Y, E, U, Mk)).1 (100 + 40 * (T.2 + 1)) (1000 + 400 * (T.2 + 1)) H := by
  obtain ⟨k, X, f, R, Z, τ, h1, h2, hY, h3, h4, h5, h6, h7⟩ := id hG
  have h7 : zG7 w T H := h7
  have h4 : zG4 w τ Z E R.2.2.2.2.2 H := h4
  have h5 : zG5 w k B τ U H := h5
  have h6 : zG6 w k B Z Mk H := h6
  obtain ⟨a1, a2, a3, a4, aH, aS, a7, a8, a9⟩ := id h1
  have hw := h1.wc
  have hKl : H.2.2.2.2 0 ≤ H.2.1 := by omega
  obtain ⟨⟨dr, i, d, hT⟩, hRa, so, pl, va, s1, s2, s3⟩ := id h7
  obtain ⟨d', hd⟩ := zI_ex d
  subst hd
  obtain ⟨z1, z2, z3, pn, po, what, name, hN1, hN2⟩ := id h2
  have zk : ∀ {H' : jH}, zFm (fun x => x = w + 1 ∨ (w + 8 ≤ x ∧ x ≤ w + 10)) H H' → ∀ q e, Z q = some e → H'.1 q = some e := fun hf q e he => by
    have hlt := h3.lt hKl he
    refine (hf.1 q hlt (fun c => ?_)).trans (h3 q e he).1
    rcases (h3 q e he).2 with y | y
    · omega
    · have := a7 (q - w) (by omega) (Or.inl (by omega))
      rw [show w + (q - w) = q by omega, y.1] at this
      omega
  have hT2 := hT.2.2.2.1.1
  have kk : ∀ {H' : jH}, zFm (fun x => x = w + 1 ∨ (w + 8 ≤ x ∧ x ≤ w + 10)) H H' → (∃ dr i d, H'.1 (w + 1) = some (zRc w dr 0 i d)) → zTv w H' → zG7 w (T.1, 0) H' := fun {H'} hf h8 h9 => by
    obtain ⟨dr', i', d', h8⟩ := h8
    obtain ⟨so', va', pl', v1, v2, v3⟩ := h9
    obtain ⟨k1, k2, ⟨tp, k3, k4⟩, ⟨k5, k6⟩, k7, k8⟩ := hT
    have hK : H'.2.2.2.2 = H.2.2.2.2 := hf.2.2.2.2
    have of : ∀ i, i < 8 → i ≠ 1 → H'.1 (w + i) = H.1 (w + i) := fun i e1 e2 => hf.1 _ (by omega) (by omega)
    refine ⟨⟨dr', i', d', k1.fr (fun q hq => hf.1 q (by omega) (by omega)) hK, h8, ⟨tp, (of 7 (by decide) (by decide)).trans k3, fun k hk => absurd hk (Nat.not_lt_zero k)⟩, ⟨Nat.zero_le _, fun k hk => absurd hk (Nat.not_lt_zero k)⟩, by rw [hK]; exact k7, by have := hf.2.1; omega⟩, ?_, so', pl', va', v1, v2, v3⟩
    unfold zRa at hRa ⊢
    rw [hK, of 2 (by decide) (by decide), of 3 (by decide) (by decide), of 4 (by decide) (by decide), of 5 (by decide) (by decide), of 6 (by decide) (by decide)]
    exact hRa
  have cd1 : jcd H (w + 1) = some 1 := by unfold jcd; rw [hT.2.1]; rfl
  rcases zy_read (lb := k.1 3) a1 hT hRa ⟨s1, s2, s3⟩ (fun H' hf => zNl.mo hN1 (zk hf)) hN2 (m0 := 1001) (by omega) (by omega) with ⟨e, e1, H', q, fs, e2, e3, e4, e5, e6, e7, e8, e9⟩ | ⟨Y', c, j, H', H0, e1, e2, e3, e4, e5, e6, e7, e8⟩
  · have eO : zO_year ((B, S), nm, T, Y, E, U, Mk) = (nI (e.1 + 16 * zBg T.1 T.2 e.2), (B, S), nm, (T.1, 0), Y, E, U, Mk) := by
      unfold zO_year
      dsimp only
      rw [e1]
    rw [eO]
    have run : (fX1_year N w).1 H = some (nI (e.1 + 16 * zBg T.1 T.2 e.2), H') := by
      unfold fX1_year fX1_year_17
      rw [zgRs hw (by decide) rfl, h1.now, zrc (c := 1) cd1, zBHr e2, zrc (c := 9) (by unfold jcd; rw [e5]; rfl), zgI e5 (by decide) e6]
      rfl
    have l : jLe H H' := (fX1_year N w).2 _ _ _ run
    obtain ⟨τ1, hτ⟩ : ∃ τ1 : Nat → Nat, τ1 = τ := ⟨_, rfl⟩
    obtain ⟨g1, g3, g4, g5, g39⟩ := zCG.f7 (τ1 := τ) h1 h3 h4 h5 h7 (fun q hq hn => e3.1 q hq (by omega)) (fun _ _ => rfl) l
    exact ⟨H', run, ⟨k, X, f, R, Z, τ, g1, h2, hY, g3, g4, g5, h6.fr g39 (fun _ _ h => h), kk e3 e4 e9⟩, e3.mo (fun q _ hq => by omega), by omega, by omega⟩
  · have eO : zO_year ((B, S), nm, T, Y, E, U, Mk) = (0, (B, S), nm, (T.1, 0), Y', E, U, Mk) := by
      unfold zO_year
      dsimp only
      rw [e1]
    rw [eO]
    have hw1 := (e3.1 w (by omega) (by omega)).trans hw
    obtain ⟨H2, hH2⟩ : ∃ H2, H2 = jset H' w (.inl (0, [.ref (w + 1), .ref (k.1 1), .ref (w + 27), .ref H.2.1, .ref R.2.2.2.2.2, .ref (w + 35), .ref (w + 36), .long R.1, .ref (w + 39)])) := ⟨_, rfl⟩
    have q2 : H2.1 w = some (.inl (0, [.ref (w + 1), .ref (k.1 1), .ref (w + 27), .ref H.2.1, .ref R.2.2.2.2.2, .ref (w + 35), .ref (w + 36), .long R.1, .ref (w + 39)])) := by rw [hH2]; exact zse_e _ _ _
    have o2 : ∀ q, q ≠ w → H2.1 q = H'.1 q := fun q hq => by rw [hH2]; exact zse_n _ _ hq
    have s2' : H2.2 = H'.2 := by rw [hH2]; rfl
    have run : (fX1_year N w).1 H = some (0, H2) := by
      unfold fX1_year
      rw [zgRs hw (by decide) rfl, h1.now, zrc (c := 1) cd1, zBHl e2]
      have pp : ∀ K : Unit → jM Int32, (jB (jpR [0] 3 (some w) (some H.2.1)) K).1 H' = (K ()).1 H2 := fun K => by
        rw [hH2]
        exact zpV hw1 (by decide) (by rw [e3.2.2.2.2]; exact a4.1) (by show 3 < 9; decide) K
      rw [pp]
      rfl
    have l2 : jLe H H2 := (fX1_year N w).2 _ _ _ run
    obtain ⟨y1, y2, y3, ⟨y4, y5⟩, arr, cap, fl, ll, y6, y7, y8, y9⟩ := e8
    have s0 : H0.2.1 = H.2.1 := by rw [e4]
    have t0 : H0.2.2.2.1 = H.2.2.2.1 := by rw [e4]
    rw [s0] at y4 y7 y9
    rw [t0] at y5
    have hF2 : zFm (fun x => x = w ∨ x = w + 1 ∨ (w + 8 ≤ x ∧ x ≤ w + 10)) H H2 := by
      rw [hH2]
      exact (e3.mo (fun q _ hq => Or.inr hq)).set (Or.inr (Or.inl rfl))
    obtain ⟨τ1, hτ⟩ : ∃ τ1 : Nat → Nat, τ1 = fun q => if q < H.2.1 then τ q else 0 := ⟨_, rfl⟩
    have ht0 : ∀ q, q < H.2.1 → τ1 q = τ q := fun q hq => by rw [hτ]; exact if_pos hq
    have hP : ∀ q, (decide (H.2.1 ≤ q ∧ q < H2.2.1)) = true → H.2.1 ≤ q ∧ q < H2.2.1 ∧ τ1 q = 0 := fun q hq => by
      obtain ⟨e1, e2⟩ := of_decide_eq_true hq
      exact ⟨e1, e2, by rw [hτ]; dsimp only; rw [if_neg (by omega)]⟩
    have hZ := zZx_mo (H1 := H2) h3 hKl (fun q hq => (hP q hq).1)
    have nZ : ∀ {q : Nat} {e : jC}, H.2.1 ≤ q → q < H'.2.1 → H'.1 q = some e → zZx Z H2 (fun q => decide (H.2.1 ≤ q ∧ q < H2.2.1)) q = some e := fun {q e} h1 h2 h3 => by
      unfold zZx
      rw [if_pos (decide_eq_true ⟨h1, by rw [s2']; exact h2⟩), o2 q (by omega)]
      exact h3
    have t0w := a7 0 (by decide) (Or.inl (by decide))
    have oT : ∀ {q t : Nat}, zOw w τ H q t → t ≠ 6 → H2.1 q = H.1 q := fun {q t} h e => by
      refine hF2.1 q h.2.2.2 (fun c => e ?_)
      have := a7 (q - w) (by omega) (Or.inl (by omega))
      rw [show w + (q - w) = q by omega, h.1] at this
      exact this
    have oF : ∀ i, 27 ≤ i → i < 40 → H2.1 (w + i) = H.1 (w + i) := fun i i1 i2 => hF2.1 _ (by omega) (by omega)
    have hc : ∀ q, q < H.2.2.2.2 0 → H2.1 q = H.1 q := fun q hq => hF2.1 q (by omega) (by omega)
    have hz : ∀ q, (q < H.2.2.2.2 0 ∨ zOw w τ H q 0) → H2.1 q = H.1 q := fun q hq => by
      rcases hq with hq | hq
      · exact hc q hq
      · exact oT hq (by decide)
    have hTv : zTv w H' := by
      obtain ⟨d9, hR9⟩ := y1
      obtain ⟨so', va', pl', v1, v2, v3, -⟩ := hR9.2.2.1
      exact ⟨so', va', pl', v1, v2, v3⟩
    have g7 := kk e3 (by obtain ⟨d9, hR9⟩ := y1; exact ⟨_, _, _, hR9.2.2.2.1⟩) hTv
    refine ⟨H2, run, ⟨k, X, f, (R.1, R.2.1, R.2.2.1, R.2.2.2.1, H.2.1, R.2.2.2.2.2), zZx Z H2 (fun q => decide (H.2.1 ≤ q ∧ q < H2.2.1)), τ1, ⟨a1, a2, a3, ⟨by rw [l2.2.2.2.1]; exact a4.1, Nat.le_trans a4.2 l2.1⟩, ?_, aS, fun i hi hx => (ht0 _ (by omega)).trans (a7 i hi hx), fun i hi => (a8 i hi).le ht0 l2.1, a9.le ht0 l2.1⟩, h2.mo hZ, ⟨ll, ?_⟩, h3.ex hz (fun q hq _ => ht0 q hq) l2 a4.2 hP, h4.fr (fun q hq => oT hq (by decide)) (fun q hq _ => ht0 q hq) l2 hZ, h5.fr hc h7.kc.2.1.1 (oF 35 (by decide) (by decide)) (fun q hq => by rcases hq with hq | hq <;> exact oT hq (by decide)) ht0 l2, h6.fr (oF 39 (by decide) (by decide)) hZ, g7.fr (fun q hq => o2 q (by rw [e3.2.2.2.2] at hq; omega)) (fun q e1 e2 => o2 q (by omega)) (by rw [hH2]; exact jsetO_le hw1)⟩, hF2.mo (fun q _ hq => by omega), by rw [s2']; omega, by rw [s2']; omega⟩
    · refine cH_mk a3 (fun i hi => ?_) (fun i hi => ?_) (fun q hq => ?_)
      · exact (oT (a8 i hi) (by decide)).trans (h1.sh hi)
      · refine Eq.trans ?_ (h1.tr hi)
        rw [a2, Nat.add_assoc]
        exact oF (27 + i) (by omega) (by omega)
      · by_cases e : q = k.1 0
        · unfold zMi
          rw [if_pos e, e, a2, q2]
        · refine Eq.trans ?_ (zMi_ne (k := k) (k' := k) (c := (X, f, R)) (c' := (X, f, (R.1, R.2.1, R.2.2.1, R.2.2.2.1, H.2.1, R.2.2.2.2.2))) rfl rfl rfl rfl rfl rfl e).symm
          rw [← h1.mi hq]
          rw [a2] at hq e
          by_cases e2 : q = k.1 2
          · rw [e2]; exact oT a9 (by decide)
          · have := oF (q - w) (by omega) (by omega)
            rw [show w + (q - w) = q by omega] at this
            exact this
    · obtain ⟨⟨mc, x1⟩, x2, x3, x4, x5, ⟨x6, x7⟩, -⟩ := y6
      refine ⟨⟨.int mc, arr, cap, fl, nZ y7.1 x6 x1, nZ y7.2 x7 x2, x4, by omega, fun i hi => (y9 i hi).1⟩, fun i hi => ?_⟩
      obtain ⟨v1, ⟨v2, v3, -⟩, v4⟩ := y9 i hi
      exact nZ v2 v3 v4
end
