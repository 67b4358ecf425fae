/-! PURE 98: what is kept stays good -/
set_option maxRecDepth 100000
def zHs (B : zLB) (c : Nat) (S : zMS) : Prop := zSw B c S ∧ zT0 B S
/-- it is good (after c calls at most) -/
def zHok (c : Nat) (G : zGS) : Prop := zGok c G ∧ zT0 G.1.1 G.1.2 ∧ (∀ j, j < G.2.2.2.2.2.1.1 → zT0 G.1.1 (G.2.2.2.2.2.1.2 j)) ∧ ∀ j, j < 4 → ∀ x, G.2.2.2.2.2.2 j = some x → zT0 G.1.1 x.1
section
variable {c : Nat} {B : zLB} {S : zMS} {nm : (Nat → Nat) × (Nat → Nat)} {T : (Nat → Nat) × Nat} {Y : zYy} {E : zEy} {U : zUy} {Mk : Nat → Option (zMS × zYy × zEy)}
theorem zHok_mk : zHok c ((B, S), nm, T, Y, E, U, Mk) ↔ zLok B ∧ zHs B c S ∧ zTok0 T ∧ zYok (zS B) (zT B) Y ∧ zEok B E ∧ (U.1 ≤ 16 ∧ ∀ j, j < U.1 → zHs B c (U.2 j)) ∧ ∀ j, j < 4 → ∀ x, Mk j = some x → zHs B c x.1 ∧ zYok (zS B) (zT B) x.2.1 ∧ zEok B x.2.2 := by
  constructor
  · rintro ⟨⟨h1, h2, h3, h4, h5, ⟨h6, h7⟩, h8⟩, g1, g2, g3⟩
    exact ⟨h1, ⟨h2, g1⟩, h3, h4, h5, ⟨h6, fun j hj => ⟨h7 j hj, g2 j hj⟩⟩, fun j hj x hx => ⟨⟨(h8 j hj x hx).1, g3 j hj x hx⟩, (h8 j hj x hx).2⟩⟩
  · rintro ⟨h1, ⟨h2, g1⟩, h3, h4, h5, ⟨h6, h7⟩, h8⟩
    exact ⟨⟨h1, h2, h3, h4, h5, ⟨h6, fun j hj => (h7 j hj).1⟩, fun j hj x hx => ⟨(h8 j hj x hx).1.1, (h8 j hj x hx).2⟩⟩, g1, fun j hj => (h7 j hj).2, fun j hj x hx => (h8 j hj x hx).1.2⟩
theorem zHs.mo (h : zHs B c S) : zHs B (c + 1) S := ⟨⟨h.1.1, by have := h.1.2; omega⟩, h.2⟩
theorem zHok.mo (h : zHok c ((B, S), nm, T, Y, E, U, Mk)) : zHok (c + 1) ((B, S), nm, T, Y, E, U, Mk) := by
  rw [zHok_mk] at h ⊢
  obtain ⟨h1, h2, h3, h4, h5, ⟨h6, h7⟩, h8⟩ := h
  exact ⟨h1, h2.mo, h3, h4, h5, ⟨h6, fun j hj => (h7 j hj).mo⟩, fun j hj x hx => ⟨(h8 j hj x hx).1.mo, (h8 j hj x hx).2⟩⟩
theorem zUk_all {P : zMS → Prop} (hU : U.1 ≤ 16) (hS : P S) (h : ∀ j, j < U.1 → P (U.2 j)) : ∀ j, j < (zUk U S).1 → P ((zUk U S).2 j) := by
  unfold zUk
  by_cases e : U.1 = 16
  · rw [if_pos e]
    intro j hj
    have hj : j < 16 := hj
    dsimp only
    by_cases d : j = 15
    · rw [if_pos d]; exact hS
    · rw [if_neg d]; exact h (j + 1) (by omega)
  · rw [if_neg e]
    intro j hj
    have hj : j < U.1 + 1 := hj
    dsimp only
    by_cases d : j = U.1
    · rw [if_pos d]; exact hS
    · rw [if_neg d]; exact h j (by omega)
/-- a new shelf, the old one kept behind -/
theorem zHok.kp {S' : zMS} (h : zHok c ((B, S), nm, T, Y, E, U, Mk)) (hS : zHs B (c + 1) S') : zHok (c + 1) ((B, S'), nm, T, Y, E, zUk U S, Mk) := by
  rw [zHok_mk] at h ⊢
  obtain ⟨h1, h2, h3, h4, h5, ⟨h6, h7⟩, h8⟩ := h
  exact ⟨h1, hS, h3, h4, h5, ⟨(zUk_le h6 S).1, zUk_all h6 h2.mo (fun j hj => (h7 j hj).mo)⟩, fun j hj x hx => ⟨(h8 j hj x hx).1.mo, (h8 j hj x hx).2⟩⟩
theorem zWk_wr (B : zLB) (S : zMS) (t k l : Nat) : zWk (zWr B S t k l) = zWk S := by
  unfold zWr
  rw [zWi_wk]
theorem zLib_ok {u : zTau} {n m0 : Nat} (hu : zUn u n) (hn : n ≤ 1000) (hm : n < m0) : ∀ (m i : Nat) (D D2 : zDr), i ≤ n → zDok D → zLib u m0 m i D = .inr D2 → zDok D2
  | 0, i, D, D2, hi, hD, e => by rw [zLib] at e; cases e
  | m + 1, i, D, D2, hi, hD, e => by
    rw [zLib] at e
    by_cases c : u.1 i = 0
    · rw [if_pos c] at e
      cases e
      exact hD
    · rw [if_neg c] at e
      have hg := zStm_sg hu hn hm hi hD
      cases hs : zStm u m0 i D with
      | inl x => rw [hs] at e; cases e
      | inr x =>
        rw [hs] at e hg
        obtain ⟨h1, h2, h3⟩ := hg
        exact zLib_ok hu hn hm m x.1 x.2 D2 h2 h3 e
theorem zYrs_ok {u : zTau} {n cS cT : Nat} {nS nT : Nat → Nat} (hu : zUn u n) : ∀ (m i : Nat) (Y Y2 : zYy), i ≤ n → zYok cS cT Y → zYrs u nS cS nT cT m i Y = .inr Y2 → zYok cS cT Y2
  | 0, i, Y, Y2, hi, hY, e => by rw [zYrs] at e; cases e
  | m + 1, i, Y, Y2, hi, hY, e => by
    rw [zYrs] at e
    by_cases c : u.1 i = 0
    · rw [if_pos c] at e
      cases e
      exact hY
    · rw [if_neg c] at e
      rcases zYst_g (nS := nS) (nT := nT) hu hi hY with ⟨x, h1, -⟩ | ⟨x, h1, h2, h3, h4⟩
      · rw [h1] at e; cases e
      · rw [h1] at e
        exact zYrs_ok hu m x.1 x.2 Y2 h3 h4 e
theorem zHok_write (h : zHok c ((B, S), nm, T, Y, E, U, Mk)) (x y z : Int32) : zHok (c + 1) ((B, (zSw_write B S U (zO_write B S x y z)).1), nm, T, Y, E, (zSw_write B S U (zO_write B S x y z)).2, Mk) := by
  have hB := (zHok_mk.mp h).1
  have hS := (zHok_mk.mp h).2.1
  have no : zHok (c + 1) ((B, (zSw_write B S U none).1), nm, T, Y, E, (zSw_write B S U none).2, Mk) := h.mo
  unfold zO_write
  have hT6 := hB.2.1
  rcases zix_cases x (n := zT B) (by omega) with ⟨h3, -⟩ | ⟨t, h3, h4, rfl⟩
  · rw [h3]; exact no
  · rw [h4]
    dsimp only
    rcases zil_cases hB y z with h5 | ⟨s, l, h5, h6, h7, h8, rfl, rfl, h9⟩
    · rw [h5]; exact no
    · rw [h9]
      dsimp only
      cases hw : zCw B S t s l with
      | false => rw [if_neg zff]; exact no
      | true =>
        rw [if_pos rfl]
        exact h.kp ⟨⟨zSok_wr hB hS.1.1 h3 h5 hw, by show zWk (zWr B S t s l) ≤ c + 1; rw [zWk_wr]; have := hS.1.2; omega⟩, zT0_wr hS.2 _ _ _⟩
theorem zHok_scr (h : zHok c ((B, S), nm, T, Y, E, U, Mk)) (w : Nat) (x : Int32) : zHok (c + 1) ((B, (zSw_scr B S U w (zO_scr B S w x)).1), nm, T, Y, E, (zSw_scr B S U w (zO_scr B S w x)).2, Mk) := by
  have hB := (zHok_mk.mp h).1
  have hS := (zHok_mk.mp h).2.1
  have no : zHok (c + 1) ((B, (zSw_scr B S U w none).1), nm, T, Y, E, (zSw_scr B S U w none).2, Mk) := h.mo
  unfold zO_scr
  have hS3 := hB.1
  rcases zix_cases x (n := zS B) (by omega) with ⟨h3, -⟩ | ⟨s, h3, h4, rfl⟩
  · rw [h3]; exact no
  · rw [h4]
    dsimp only
    by_cases c0 : zSb B S s w = 0
    · rw [if_pos c0]; exact no
    · rw [if_neg c0]
      exact h.kp ⟨⟨zSok_sc hS.1.1 (by omega), by show zWk (zSc B S s w) ≤ c + 1; rw [zWk_sc]; have := hS.1.2; omega⟩, zT0_sc hS.2 _ _⟩
theorem zHok_week (hc : c < 1000) (h : zHok c ((B, S), nm, T, Y, E, U, Mk)) : zHok (c + 1) ((B, zNx S), nm, T, Y, E, zUk U S, Mk) := by
  have hS := (zHok_mk.mp h).2.1
  have := hS.1.2
  exact h.kp ⟨⟨zSok_nx hS.1.1 (by omega), by show S.1 + 1 ≤ c + 1; have : S.1 ≤ c := this; omega⟩, zT0_nx hS.2⟩
theorem zHok_undo (h : zHok c ((B, S), nm, T, Y, E, U, Mk)) : zHok (c + 1) ((B, if U.1 = 0 then S else U.2 (U.1 - 1)), nm, T, Y, E, (U.1 - 1, U.2), Mk) := by
  have h := h.mo
  rw [zHok_mk] at h ⊢
  obtain ⟨h1, h2, h3, h4, h5, ⟨h6, h7⟩, h8⟩ := h
  refine ⟨h1, ?_, h3, h4, h5, ⟨by show U.1 - 1 ≤ 16; omega, fun j hj => h7 j (by have hj : j < U.1 - 1 := hj; omega)⟩, h8⟩
  by_cases e : U.1 = 0
  · rw [if_pos e]; exact h2
  · rw [if_neg e]; exact h7 _ (by omega)
theorem zHok_see (h : zHok c ((B, S), nm, T, Y, E, U, Mk)) (x y z : Int32) (b : Bool) : zHok (c + 1) ((B, S), nm, T, Y, zSw_see E b (zO_see B E x y z), U, Mk) := by
  have h := h.mo
  rw [zHok_mk] at h ⊢
  obtain ⟨h1, h2, h3, h4, h5, h6, h8⟩ := h
  refine ⟨h1, h2, h3, h4, ?_, h6, h8⟩
  have hS3 := h1.1
  unfold zO_see
  rcases zix_cases x (n := zS B) (by omega) with ⟨q3, -⟩ | ⟨s, q3, q4, rfl⟩
  · rw [q3]; exact h5
  · rw [q4]
    dsimp only
    rcases zir_cases y (lo := 1) (n := 9) (by decide) (by decide) with ⟨q5, q6⟩ | ⟨d, q5, q6, q7, rfl, q8⟩
    · rw [q5]; exact h5
    · rw [q7]
      dsimp only
      rcases zir_cases z (lo := 0) (n := 9) (by decide) (by decide) with ⟨q9, q10⟩ | ⟨m, q9, q10, q11, rfl, q12⟩
      · rw [q9]; exact h5
      · rw [q11]
        dsimp only
        by_cases c8 : E.1 = 8
        · rw [if_pos c8]; exact h5
        · rw [if_neg c8]
          obtain ⟨e1, e2⟩ := h5
          refine ⟨by show E.1 + 1 ≤ 8; omega, fun k hk => ?_⟩
          have hk : k < E.1 + 1 := hk
          show (if k = E.1 then (s, d, m, b) else E.2 k).1 < zS B ∧ ((if k = E.1 then (s, d, m, b) else E.2 k).2.1 ≤ 9 ∧ (if k = E.1 then (s, d, m, b) else E.2 k).2.2.1 ≤ 9)
          by_cases e : k = E.1
          · rw [if_pos e]; exact ⟨q3, q6, q10⟩
          · rw [if_neg e]; exact e2 k (by omega)
theorem zHok_mark (h : zHok c ((B, S), nm, T, Y, E, U, Mk)) (x : Int32) (b : Bool) : zHok (c + 1) (zG_mark ((B, S), nm, T, Y, E, U, Mk) b (zO_mark Mk x b)) := by
  have h := h.mo
  unfold zO_mark
  rcases zir_cases x (lo := 0) (n := 3) (by decide) (by decide) with ⟨h9, h10⟩ | ⟨m, h9, h10, h11, rfl, h12⟩
  · rw [h9]; exact h
  · rw [h11]
    dsimp only
    cases b with
    | false =>
      show zHok (c + 1) ((B, S), nm, T, Y, E, U, zMkS Mk m (S, Y, E))
      rw [zHok_mk] at h ⊢
      obtain ⟨h1, h2, h3, h4, h5, h6, h8⟩ := h
      refine ⟨h1, h2, h3, h4, h5, h6, fun j hj x hx => ?_⟩
      unfold zMkS at hx
      by_cases e : j = m
      · rw [if_pos e] at hx
        cases hx
        exact ⟨h2, h4, h5⟩
      · rw [if_neg e] at hx
        exact h8 j hj x hx
    | true =>
      cases hm : Mk m with
      | none =>
        exact h
      | some x =>
        have eG : zG_mark ((B, S), nm, T, Y, E, U, Mk) true (some m) = ((B, x.1), nm, T, x.2.1, x.2.2, (0, U.2), Mk) := by
          unfold zG_mark
          dsimp only
          rw [if_pos rfl, hm]
        show zHok (c + 1) (zG_mark ((B, S), nm, T, Y, E, U, Mk) true (some m))
        rw [eG]
        rw [zHok_mk] at h ⊢
        obtain ⟨h1, h2, h3, h4, h5, ⟨h6, h7⟩, h8⟩ := h
        obtain ⟨k1, k2, k3⟩ := h8 m (by omega) x hm
        exact ⟨h1, k1, h3, k2, k3, ⟨Nat.zero_le _, fun j hj => absurd hj (Nat.not_lt_zero j)⟩, h8⟩
theorem zHok_feed (h : zHok c ((B, S), nm, T, Y, E, U, Mk)) (x y z : Int64) : zHok (c + 1) ((B, S), nm, zFed x y z T, Y, E, U, Mk) := by
  have h := h.mo
  rw [zHok_mk] at h ⊢
  obtain ⟨h1, h2, h3, h4, h5, h6, h8⟩ := h
  exact ⟨h1, h2, zFed_ok h3, h4, h5, h6, h8⟩
theorem zHok_year (h : zHok c ((B, S), nm, T, Y, E, U, Mk)) : zHok (c + 1) (zO_year ((B, S), nm, T, Y, E, U, Mk)).2 := by
  have h := h.mo
  unfold zO_year
  dsimp only
  cases e : zYrs (zOfT T.1 T.2) nm.1 (zS B) nm.2 (zT B) 1001 0 (0, fun _ => (0, 0, 0, 0)) with
  | inl x =>
    show zHok (c + 1) ((B, S), nm, (T.1, 0), Y, E, U, Mk)
    rw [zHok_mk] at h ⊢
    obtain ⟨h1, h2, h3, h4, h5, h6, h8⟩ := h
    exact ⟨h1, h2, zTok0_0 _, h4, h5, h6, h8⟩
  | inr Y' =>
    show zHok (c + 1) ((B, S), nm, (T.1, 0), Y', E, U, Mk)
    rw [zHok_mk] at h ⊢
    obtain ⟨h1, h2, h3, h4, h5, h6, h8⟩ := h
    exact ⟨h1, h2, zTok0_0 _, zYrs_ok (zOfT_un _ _) _ _ _ _ (Nat.zero_le _) ⟨Nat.zero_le _, fun k hk => absurd hk (Nat.not_lt_zero k)⟩ e, h5, h6, h8⟩
theorem zT0_00 (B : zLB) : zT0 B (z00 B) := fun k h1 h2 => by
  show (if k < zS B then zTh0 B k else 0) = 0
  exact if_neg (by omega)
theorem zHok_lib (h : zHok c ((B, S), nm, T, Y, E, U, Mk)) : zHok (c + 1) (zO_lib ((B, S), nm, T, Y, E, U, Mk)).2 := by
  have h := h.mo
  have hT := (zHok_mk.mp h).2.2.1.1
  unfold zO_lib
  dsimp only
  cases e : zLib (zOfT T.1 T.2) 1001 1001 0 zD0 with
  | inl x =>
    show zHok (c + 1) ((B, S), nm, (T.1, 0), Y, E, U, Mk)
    rw [zHok_mk] at h ⊢
    obtain ⟨h1, h2, h3, h4, h5, h6, h8⟩ := h
    exact ⟨h1, h2, zTok0_0 _, h4, h5, h6, h8⟩
  | inr D =>
    have hD := zLib_ok (zOfT_un T.1 T.2) hT (by omega) _ _ _ _ (Nat.zero_le _) zDok_0 e
    show zHok (c + 1) ((D.1, z00 D.1), (D.2.1, D.2.2.1), (T.1, 0), (0, Y.2), (0, E.2), (0, U.2), fun _ => none)
    rw [zHok_mk]
    exact ⟨hD.1, ⟨⟨zSok_00 hD.1, Nat.zero_le _⟩, zT0_00 _⟩, zTok0_0 _, ⟨Nat.zero_le _, fun k hk => absurd hk (Nat.not_lt_zero k)⟩, ⟨Nat.zero_le _, fun k hk => absurd hk (Nat.not_lt_zero k)⟩, ⟨Nat.zero_le _, fun j hj => absurd hj (Nat.not_lt_zero j)⟩, fun j hj x hx => by cases hx⟩
end
