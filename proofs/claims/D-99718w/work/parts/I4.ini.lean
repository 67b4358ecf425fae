/-! PURE A7: the component holds nothing at first -/
set_option maxRecDepth 100000
section
variable {N : Nat}
theorem zC_init (h0 : jH) (hN : 3000 ≤ N) (hK : h0.2.2.2.2 0 ≤ h0.2.1) (hc : zKc h0) : ∃ H', (fX1_init N h0.2.1).1 (jnew h0 (.inl (0, [.null, .null, .null, .null, .null, .null, .null, .long 0, .null])) 9) = some ((), H') ∧ (∀ q, q < h0.2.1 → H'.1 q = h0.1 q) ∧ H'.2.1 = h0.2.1 + 40 ∧ H'.2.2.2.2 = h0.2.2.2.2 ∧ H'.2.2.1 + h0.2.1 = h0.2.2.1 + H'.2.1 ∧ H'.2.2.2.1 = h0.2.2.2.1 + 4223 ∧ (∀ HE : jH, (∀ q, q < h0.2.1 + 40 → HE.1 q = H'.1 q) → jLe H' HE → h0.2.1 + 86 ≤ HE.2.1 → zCG N h0.2.1 zG00 HE) := by
  obtain ⟨H7, H6, H5, x', A, e7, w7, o7, s7, K7, u7, t7, b6, ⟨r6, q6⟩, g6, ⟨y1, y3⟩, o6, s5, K5, hA, g5, hLm⟩ := zCi_a h0 hN hK hc
  obtain ⟨f52, h52⟩ := hc.2.1.2
  have hlt52 := hc.2.1.1
  obtain ⟨H19, e19, w19, b27, s19, K19, u19, t19, g27, g31, g33, g35, ⟨g36, g37, g38⟩, g39⟩ := zCi_b (w := h0.2.1) hK hlt52 (f52 := f52) (by rw [o7 _ (by omega), b6 _ (by omega)]; exact h52) w7 s7 K7
  have run : (fX1_init N h0.2.1).1 (jnew h0 (.inl (0, [.null, .null, .null, .null, .null, .null, .null, .long 0, .null])) 9) = some ((), H19) := by
    unfold fX1_init
    exact (e7 _).trans e19
  obtain ⟨w, hw⟩ : ∃ w, w = h0.2.1 := ⟨_, rfl⟩
  rw [← hw] at hK b6 w7 o7 s7 u7 r6 q6 g6 y1 o6 s5 hA g5 hLm w19 b27 s19 g27 g31 g33 g35 g36 g37 g38 g39 run ⊢
  have c6 : ∀ q, q ≠ w → q < w + 27 → H19.1 q = H6.1 q := fun q h1 h2 => (b27 q h1 h2).trans (o7 q h1)
  refine ⟨H19, run, fun q hq => (c6 q (by omega) (by omega)).trans (b6 q hq), s19, K19, by omega, by omega, fun HE hE lE sE => ?_⟩
  clear e7 e19 u7 u19 t7 t19 run
  have KE : HE.2.2.2.2 = h0.2.2.2.2 := lE.2.2.2.1.trans K19
  have hEo : ∀ q, q < w → HE.1 q = h0.1 q := fun q hq => (hE q (by omega)).trans ((c6 q (by omega) (by omega)).trans (b6 q hq))
  have hA0 : A 0 = w + 15 := by rw [hA]
  have hA11 : A 11 = w + 26 := by rw [hA]
  have gf : ∃ g, H5.1 (A 11) = some (.inr (0, 4, .inl g)) := g5.2.2.2.2.2.2
  obtain ⟨gF, hgF⟩ := gf
  obtain ⟨τ, hτ⟩ : ∃ τ : Nat → Nat, τ = fun q => if q < w + 11 then 6 else if q < w + 15 then 1 else if q < w + 26 then 0 else if q < w + 27 then 2 else if q < w + 31 then 6 else if q < w + 33 then 0 else if q < w + 35 then 3 else 6 := ⟨_, rfl⟩
  obtain ⟨P, hPd⟩ : ∃ P : Nat → Bool, P = fun q => decide (q < h0.2.2.2.2 0 ∨ (w + 15 ≤ q ∧ q < w + 33 ∧ q ≠ w + 26 ∧ (q < w + 27 ∨ w + 31 ≤ q))) := ⟨_, rfl⟩
  have hP : ∀ q, P q = true ↔ (q < h0.2.2.2.2 0 ∨ (w + 15 ≤ q ∧ q < w + 33 ∧ q ≠ w + 26 ∧ (q < w + 27 ∨ w + 31 ≤ q))) := fun q => by rw [hPd]; exact decide_eq_true_iff
  obtain ⟨Z, hZd⟩ : ∃ Z : Nat → Option jC, Z = fun q => if P q = true then HE.1 q else none := ⟨_, rfl⟩
  have hZ : ∀ q e, (q < h0.2.2.2.2 0 ∨ (w + 15 ≤ q ∧ q < w + 33 ∧ q ≠ w + 26 ∧ (q < w + 27 ∨ w + 31 ≤ q))) → HE.1 q = some e → Z q = some e := fun q e hq he => by
    rw [hZd]; dsimp only
    rw [if_pos ((hP q).mpr hq)]
    exact he
  have g3 : zG3 w τ Z HE := fun q e he => by
    rw [hZd] at he
    dsimp only at he
    by_cases cc : P q = true
    · rw [if_pos cc] at he
      refine ⟨he, ?_⟩
      rw [KE]
      rcases (hP q).mp cc with x | ⟨x1, x2, x3, x4⟩
      · exact Or.inl x
      · refine Or.inr ⟨?_, by omega, by omega, by omega⟩
        rw [hτ]; dsimp only
        rw [if_neg (by omega), if_neg (by omega)]
        rcases x4 with x4 | x4
        · rw [if_pos (by omega)]
        · rw [if_neg (by omega), if_neg (by omega), if_neg (by omega), if_pos (by omega)]
    · rw [if_neg cc] at he
      cases he
  have nZ : ∀ q e, (q < H5.2.2.2.2 0 ∨ (w + 15 ≤ q ∧ q < H5.2.1 ∧ q ≠ A 11)) → H5.1 q = some e → Z q = some e := fun q e hq he => by
    rw [K5, s5, hA11] at hq
    rcases hq with hq | ⟨x1, x2, x3⟩
    · refine hZ q e (Or.inl hq) ?_
      rw [hE q (by omega), c6 q (by omega) (by omega), o6 q (by omega)]
      exact he
    · refine hZ q e (Or.inr ⟨by omega, by omega, x3, Or.inl (by omega)⟩) ?_
      rw [hE q (by omega), c6 q (by omega) (by omega), o6 q (by omega)]
      exact he
  have hK' : zKok (zkL w (w + 11) (A 0) A (fun _ => 2) (fun _ => 0) (fun _ => 0) none) := by
    refine ⟨Or.inl rfl, Or.inl hA11, Or.inr ?_⟩
    show w + 11 + 4 ≤ A 11
    omega
  have hz : ∀ {q : Nat} {t : Nat}, τ q = t → w ≤ q → q < w + 40 → zOw w τ HE q t := fun h1 h2 h3 => ⟨h1, h2, Or.inl h3, by omega⟩
  have tg : ∀ i, i < 40 → zFx i → τ (w + i) = 6 := fun i i1 i2 => by
    rw [hτ]; dsimp only
    rcases i2 with i2 | i2 | i2
    · rw [if_pos (by omega)]
    · rw [if_neg (by omega), if_neg (by omega), if_neg (by omega), if_neg (by omega), if_pos (by omega)]
    · rw [if_neg (by omega), if_neg (by omega), if_neg (by omega), if_neg (by omega), if_neg (by omega), if_neg (by omega), if_neg (by omega)]
  have shc : ∀ i, i < 4 → HE.1 (w + 11 + i) = zS4 (w + 11) x' (w + 11 + i) := fun i hi => by
    rw [hE _ (by omega), c6 _ (by omega) (by omega)]
    exact g6.s4 i hi
  refine ⟨zkL w (w + 11) (A 0) A (fun _ => 2) (fun _ => 0) (fun _ => 0) none, fun b => if b = true then x' else ((none, 0, 0), fun _ => 0, fun _ => 0, fun _ => 0), gF, (0, 0, fun _ => 0, fun _ => 0, w + 31, w + 33), Z, τ, ⟨hN, rfl, hK', ⟨by rw [KE]; exact hK, sE⟩, ?_, ?_, tg, fun i hi => ?_, ?_⟩, zG2.of g5 ⟨rfl, rfl, rfl, rfl⟩ hLm zDok_0.1 nZ, ⟨fun _ => 0, ?_⟩, g3, ?_, ?_, ⟨fun _ => none, ?_, fun j hj => Or.inl ⟨rfl, rfl⟩⟩, ?_⟩
  · refine cH_mk hK' (fun i hi => ?_) (fun i hi => ?_) (fun q hq => ?_)
    · exact shc i hi
    · show HE.1 (w + 27 + i) = zS4 (w + 27) ((none, 0, 0), fun _ => 0, fun _ => 0, fun _ => 0) (w + 27 + i)
      rw [hE _ (by omega)]
      exact g27.s4 i hi
    · have hq : q = w ∨ q = w + 36 ∨ q = w + 37 ∨ q = w + 38 ∨ q = A 11 := hq
      show HE.1 q = if q = w then some (.inl (0, [.ref (w + 1), .ref (w + 11), .ref (w + 27), .ref (w + 31), .ref (w + 33), .ref (w + 35), .ref (w + 36), .long 0, .ref (w + 39)])) else if q = w + 36 then some (.inl (6, [.ref (w + 37), .ref (w + 38), .int 0, .ref w])) else if q = w + 37 then some (.inr (0, 6, .inl fun _ => 0)) else if q = w + 38 then some (.inr (0, 6, .inl fun _ => 0)) else if q = A 11 then some (.inr (0, 4, .inl gF)) else none
      rcases hq with z | z | z | z | z
      · rw [z, if_pos rfl, hE _ (by omega)]; exact w19
      · rw [z, if_neg (by omega), if_pos rfl, hE _ (by omega)]; exact g36
      · rw [z, if_neg (by omega), if_neg (by omega), if_pos rfl, hE _ (by omega)]; exact g37
      · rw [z, if_neg (by omega), if_neg (by omega), if_neg (by omega), if_pos rfl, hE _ (by omega)]; exact g38
      · rw [z, if_neg (by omega), if_neg (by omega), if_neg (by omega), if_neg (by omega), if_pos rfl, hE _ (by omega), c6 _ (by omega) (by omega), o6 _ (by omega)]; exact hgF
  · refine zSm.bg (k := zkL w (w + 11) (A 0) A (fun _ => 2) (fun _ => 0) (fun _ => 0) none) zDok_0.1 ?_ (fun q hq => absurd hq (Nat.not_lt_zero q)) y3
    show x'.1 = (some (A 0), 0, 0)
    rw [y1, hA0]
  · refine hz ?_ ?_ ?_
    · show τ (w + 11 + i) = 1
      rw [hτ]; dsimp only; rw [if_neg (by omega), if_pos (by omega)]
    · show w ≤ w + 11 + i
      omega
    · show w + 11 + i < w + 40
      omega
  · refine hz ?_ ?_ ?_
    · show τ (A 11) = 2
      rw [hA11, hτ]; dsimp only; rw [if_neg (by omega), if_neg (by omega), if_neg (by omega), if_pos (by omega)]
    · show w ≤ A 11
      omega
    · show A 11 < w + 40
      omega
  · obtain ⟨⟨mc5, x1⟩, x2, -⟩ := g31
    show zLis Z (w + 31) (0, fun _ => (0, 0, 0, 0)) (fun _ => 0)
    exact ⟨⟨.int mc5, w + 31 + 1, 2, fun _ => none, hZ _ _ (Or.inr ⟨by omega, by omega, by omega, Or.inr (by omega)⟩) ((hE _ (by omega)).trans x1), hZ _ _ (Or.inr ⟨by omega, by omega, by omega, Or.inr (by omega)⟩) ((hE _ (by omega)).trans x2), Nat.zero_le _, by decide, fun i hi => absurd hi (Nat.not_lt_zero i)⟩, fun i hi => absurd hi (Nat.not_lt_zero i)⟩
  · show zG4 w τ Z (0, fun _ => (0, 0, 0, false)) (w + 33) HE
    have tt : ∀ q, w + 33 ≤ q → q < w + 35 → τ q = 3 := fun q h1 h2 => by
      rw [hτ]; dsimp only
      rw [if_neg (by omega), if_neg (by omega), if_neg (by omega), if_neg (by omega), if_neg (by omega), if_neg (by omega), if_pos (by omega)]
    exact ⟨w + 33 + 1, 2, _, fun _ => 0, g33.up (hE _ (by omega)) (hE _ (by omega)) lE, hz (tt _ (by omega) (by omega)) (by omega) (by omega), hz (tt _ (by omega) (by omega)) (by omega) (by omega), ⟨by decide, by decide⟩, fun i hi => absurd hi (Nat.not_lt_zero i)⟩
  · exact ⟨h0.2.2.2.2 52, 0, f52, fun _ => 0, fun _ => ((none, 0, 0), fun _ => 0, fun _ => 0, fun _ => 0), g35.up (hE _ (by omega)) (hE _ (by omega)) lE, fun c => absurd c (Nat.lt_irrefl 0), by decide, fun j hj => absurd hj (Nat.not_lt_zero j), fun i j hi hj => absurd hj (Nat.not_lt_zero j)⟩
  · rw [hE _ (by omega)]; exact g39
  · have cell : ∀ j, 1 ≤ j → j < 10 → zQr h0.2.2.2.2 j (HE.1 (w + 1 + j)) := fun j j1 j2 => by
      rw [hE _ (by omega), c6 _ (by omega) (by omega)]
      exact q6 j j1 j2
    have rc : HE.1 (w + 1) = some (zRc w .null 0 0 0) := by
      rw [hE _ (by omega), c6 _ (by omega) (by omega), r6]
    refine ⟨⟨.null, 0, 0, hc.fr (fun q hq => hEo q (by omega)) KE, rc, ⟨_, cell 6 (by decide) (by decide), fun k hk => absurd hk (Nat.not_lt_zero k)⟩, ⟨Nat.zero_le _, fun k hk => absurd hk (Nat.not_lt_zero k)⟩, by rw [KE]; exact hK, by omega⟩, ?_, _, _, _, cell 7 (by decide) (by decide), cell 8 (by decide) (by decide), cell 9 (by decide) (by decide)⟩
    unfold zRa
    rw [KE]
    exact ⟨cell 1 (by decide) (by decide), cell 2 (by decide) (by decide), cell 3 (by decide) (by decide), cell 4 (by decide) (by decide), cell 5 (by decide) (by decide)⟩
theorem zRG_00 (hN : 3000 ≤ N) (a : Nat) : zRG N a zG00 (fun _ => 0) (fun _ _ => 0) (fun _ _ => 0) := by
  have n0 : ∀ k : Nat, ¬ k < 0 := Nat.not_lt_zero
  refine ⟨⟨hN, zDok_0.1, zSok_00 zDok_0.1, ⟨rfl, rfl, rfl, fun k hk => absurd hk (n0 k), fun k hk => absurd hk (n0 k), fun k hk => absurd hk (n0 k)⟩, ⟨rfl, fun k hk => ⟨?_, rfl⟩, fun q hq => rfl⟩, rfl⟩, ⟨by decide, by decide, rfl, fun k hk => absurd hk (n0 k)⟩, ⟨by decide, by decide, rfl, fun k hk => absurd hk (n0 k)⟩, ⟨zTok0_0 _, rfl, fun k hk => absurd hk (n0 k)⟩, ⟨rfl, fun k hk => absurd hk (n0 k)⟩, ⟨⟨rfl, fun k hk => absurd hk (n0 k)⟩, fun q _ => Or.inl rfl⟩, ⟨rfl, fun k hk => absurd hk (n0 k)⟩, fun j hj => ⟨rfl, fun x hx => by cases hx⟩⟩
  have e : zTh zG00.1.2 k = 0 := zT0_00 zD0.1 k hk (Nat.zero_le _)
  rw [e]
  rfl
theorem zHok_00 : zHok 0 zG00 := by
  have n0 : ∀ k : Nat, ¬ k < 0 := Nat.not_lt_zero
  unfold zG00
  rw [zHok_mk]
  exact ⟨zDok_0.1, ⟨⟨zSok_00 zDok_0.1, Nat.zero_le _⟩, zT0_00 _⟩, zTok0_0 _, ⟨Nat.zero_le _, fun k hk => absurd hk (n0 k)⟩, ⟨Nat.zero_le _, fun k hk => absurd hk (n0 k)⟩, ⟨Nat.zero_le _, fun j hj => absurd hj (n0 j)⟩, fun j hj x hx => by cases hx⟩
end
