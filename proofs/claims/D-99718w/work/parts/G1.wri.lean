/-! PURE 85: write, scrape, third, week: the component -/
set_option maxRecDepth 100000
/-- the shelf goes from S to S' -/
def zCV {α : Type} (N : Nat) (k : zKA) (B : zLB) (S : zMS) (m : jM α) (v : α) (S' : zMS) : Prop := ∀ (h : jH) (X : Bool → zSS) (f : Nat → Int32) (R : zCR), zCX N h k true B S X → ∃ X' f', zCX N h k true B S' X' ∧ m.1 (cH h k (X, f, R)) = some (v, cH h k (X', f', R))
section
variable {α β : Type} {N w : Nat} {k : zKA} {X : Bool → zSS} {f : Nat → Int32} {R : zCR} {τ τ1 : Nat → Nat} {Z Z1 : Nat → Option jC} {B : zLB} {S S' S1 : zMS} {H H1 : jH} {nm : (Nat → Nat) × (Nat → Nat)} {T : (Nat → Nat) × Nat} {Y : zYy} {E : zEy} {U : zUy} {Mk : Nat → Option (zMS × zYy × zEy)}
theorem zCO.v {m : jM α} {v : α} (h1 : zCO N k B S m v) : zCV N k B S m v S := fun h X f R hX => by
  obtain ⟨f', e⟩ := h1 h X f R hX
  exact ⟨X, f', hX, e⟩
theorem zCV.bind {m : jM α} {K : α → jM β} {v : α} {u : β} (h1 : zCV N k B S m v S1) (h2 : zCV N k B S1 (K v) u S') : zCV N k B S (jB m K) u S' := fun h X f R hX => by
  obtain ⟨X1, f1, a1, e1⟩ := h1 h X f R hX
  obtain ⟨X2, f2, a2, e2⟩ := h2 h X1 f1 R a1
  exact ⟨X2, f2, a2, by rw [jB_eq e1, e2]⟩
theorem zCV.bo {m : jM α} {K : α → jM β} {v : α} {u : β} (h1 : zCO N k B S m v) (h2 : zCV N k B S (K v) u S') : zCV N k B S (jB m K) u S' := zCV.bind h1.v h2
theorem zCV.writes {t s l : Nat} (ht : t < zT B) (hs : s < zS B) (hw : zCw B S t s l = true) : zCV N k B S (fX3_writes N (zka k true) (nI t) (nI s) (nI l)) () (zWr B S t s l) := fun h X f R hX => by
  obtain ⟨X', a1, -, e⟩ := zs_writes (f := f) (R := R) hX ht hs hw
  exact ⟨X', f, a1, e⟩
theorem zCV.scrapes {s : Nat} (hs : s < zS B) (d : Bool) (hm : ¬ zOp S s &&& zw d = 0) : zCV N k B S (fX3_scrapes N (zka k true) (nI s) (zb d)) () (zSc B S s (zw d)) := fun h X f R hX => by
  obtain ⟨X', a1, -, e⟩ := zs_scrapes (f := f) (R := R) hX hs d hm
  exact ⟨X', f, a1, e⟩
theorem zCV.week (hw : zWk S + 1 < 1000000) : zCV N k B S (jpI [2] 1 (some (zka k true)) (nI (zWk S) + 1)) () (zNx S) := fun h X f R hX => by
  obtain ⟨a1, a2, a3, a4, a5, a6, ⟨b1, b2, b3, b4, b5⟩, a8⟩ := hX
  refine ⟨zX X true (((X true).1.1, nI (zWk S) + 1, (X true).1.2.2), (X true).2), f, ⟨a1, a2, a3, zSok_nx a4 hw, a5, a6, ?_, a8⟩, ?_⟩
  · rw [zX_eq]
    refine ⟨b1, ?_, b3, b4, b5⟩
    show nI (zWk S) + 1 = nI (zWk S + 1)
    exact zc1_da _
  · have := zc_p2_1 (b := true) (f := f) (R := R) (X := X) a2 a8 (nI (zWk S) + 1) (fun _ => jR ())
    rw [zBu] at this
    exact this
/-! calls -/
theorem zCal.bind {m : jM α} {K : α → jM β} {v : α} {u : β} {G1 G2 : zGS} {c s c' s' : Nat} (h1 : zCal N w G1 m v c s H) (h2 : ∀ H', zCG N w G1 H' → zCal N w G2 (K v) u c' s' H') : zCal N w G2 (jB m K) u (c + c') (s + s') H := by
  obtain ⟨H1, e1, g1, f1, c1, s1⟩ := h1
  obtain ⟨H2, e2, g2, f2, c2, s2⟩ := h2 H1 g1
  exact ⟨H2, by rw [jB_eq e1, e2], g2, f1.tr f2 (fun _ _ h => h), by omega, by omega⟩
theorem zCal.mo {m : jM α} {v : α} {G1 : zGS} {c s c' s' : Nat} (h1 : zCal N w G1 m v c s H) (hc : c ≤ c') (hs : s ≤ s') : zCal N w G1 m v c' s' H := by
  obtain ⟨H1, e1, g1, f1, c1, s1⟩ := h1
  exact ⟨H1, e1, g1, f1, by omega, by omega⟩
theorem zCal.ret {v : α} {G1 : zGS} (h : zCG N w G1 H) : zCal N w G1 (jR v) v 0 0 H := ⟨H, rfl, h, zFm.rf _ _, Nat.le_refl _, Nat.le_refl _⟩
theorem zCG.cv {m : jM α} {v : α} (hS : zSok B S) (hG : zCG N w ((B, S), nm, T, Y, E, U, Mk) H) (hW : ∀ k : zKA, k.1 0 = w → zCV N k B S m v S') : zCal N w ((B, S'), nm, T, Y, E, U, Mk) m v 0 0 H := by
  obtain ⟨k, X, f, R, Z, τ, h1, h2, hY, h3, h4, h5, h6, h7⟩ := hG
  have hX := h1.cx h2 h3 hS
  obtain ⟨X', f', e1, e3⟩ := hW k h1.2.1 H X f R hX
  have eH := h1.2.2.2.2.1
  rw [← eH] at e3
  have hle := m.2 _ _ _ e3
  obtain ⟨g1, g2⟩ := zCG.co h1 h2 hY h3 h4 h5 h6 h7 (X' := X') (f' := f') (R' := R) e1.2.2.2.2.2.2.1 rfl hle
  exact ⟨_, e3, g1, g2, Nat.le_refl _, Nat.le_refl _⟩
theorem zCG.bo {m : jM α} {K : α → jM β} {v : α} {u : β} {G2 : zGS} {c s : Nat} (hS : zSok B S) (hG : zCG N w ((B, S), nm, T, Y, E, U, Mk) H) (hW : ∀ k : zKA, k.1 0 = w → zCO N k B S m v) (h2 : ∀ H', zCG N w ((B, S), nm, T, Y, E, U, Mk) H' → zCal N w G2 (K v) u c s H') : zCal N w G2 (jB m K) u c s H := ((hG.cv hS (fun k hk => (hW k hk).v)).bind h2).mo (by omega) (by omega)
theorem zCG_write (hS : zSok B S) (hB : zLok B) (hU : U.1 ≤ 16) (hG : zCG N w ((B, S), nm, T, Y, E, U, Mk) H) (x y z : Int32) : zCal N w ((B, (zSw_write B S U (zO_write B S x y z)).1), nm, T, Y, E, (zSw_write B S U (zO_write B S x y z)).2, Mk) (fX1_write N w x y z) (zb (zO_write B S x y z).isSome) 5 85 H := by
  have hT6 := hB.2.1
  unfold fX1_write fX1_write_30 zO_write
  refine hG.bo hS (fun k hk => by rw [← hk]; exact zC_isText x) (fun H hG => ?_)
  rcases zix_cases x (n := zT B) (by omega) with ⟨h3, -⟩ | ⟨t, h3, h4, rfl⟩
  · rw [h3, if_pos (show zb (none : Option Nat).isSome = 0 from rfl)]
    exact (zCal.ret hG).mo (by omega) (by omega)
  · rw [h4, if_neg (show ¬ zb (some t).isSome = 0 from zb1n)]
    refine hG.bo hS (fun k hk => by rw [← hk]; exact zC_isLine y z) (fun H hG => ?_)
    rcases zil_cases hB y z with h5 | ⟨s, l, h5, h6, h7, h8, rfl, rfl, h9⟩
    · rw [h5, if_pos (show zb (none : Option (Nat × Nat)).isSome = 0 from rfl)]
      exact (zCal.ret hG).mo (by omega) (by omega)
    · rw [h9, if_neg (show ¬ zb (some (s, l)).isSome = 0 from zb1n)]
      dsimp only
      cases hw : zCw B S t s l with
      | false =>
        rw [if_neg zff]
        refine (hG.cv (S' := S) hS (fun k hk => ?_)).mo (by omega) (by omega)
        rw [← hk]
        refine zCV.bo zC_w1 (zCV.bo (zC_r2 true) (zCV.bo (zC_may h3 h5 h7) ?_))
        rw [hw, if_pos zb_f]
        exact zCO.rn0.v
      | true =>
        rw [if_pos rfl]
        have e : ∀ K : Int32 → jM Int32, zCal N w ((B, (zSw_write B S U (some (t, s, l))).1), nm, T, Y, E, (zSw_write B S U (some (t, s, l))).2, Mk) (K 1) 1 5 85 H → zCal N w ((B, (zSw_write B S U (some (t, s, l))).1), nm, T, Y, E, (zSw_write B S U (some (t, s, l))).2, Mk) (jB (jgR [0] 1 (some w)) fun y3 => jB (jrc 2 y3) fun b5 => jB (fX3_mayWrite N b5 (nI t) (nI s) (nI l)) K) 1 5 85 H := fun K hK => by
          obtain ⟨k, X, f, R, Z, τ, h1, h2, hY, h3', h4', h5', h6', h7'⟩ := id hG
          have hX := h1.cx h2 h3' hS
          have eH := h1.2.2.2.2.1
          have r1 : (jB (jgR [0] 1 (some w)) fun y3 => jB (jrc 2 y3) fun b5 => jB (fX3_mayWrite N b5 (nI t) (nI s) (nI l)) K).1 H = (K 1).1 H := by
            conv => lhs; rw [eH]
            conv => rhs; rw [eH]
            rw [← h1.2.1, zc_g0_1 hX.2.1, zc_r2 hX.2.1, jB_eq (zs_mayWrite hX h3 h5 h7), hw]
            rfl
          unfold zCal
          rw [r1]
          exact hK
        refine e _ ?_
        rw [if_neg z10n]
        refine ((zCG_keep hU hG).bind (G2 := ((B, zWr B S t s l), nm, T, Y, E, zUk U S, Mk)) (c' := 0) (s' := 0) (fun H hG => hG.cv hS (fun k hk => ?_))).mo (by omega) (by omega)
        rw [← hk]
        exact zCV.bo zC_w1 (zCV.bo (zC_r2 true) (zCV.bind (zCV.writes h3 h5 hw) zCO.rn1.v))
theorem zCG_scr (hS : zSok B S) (hB : zLok B) (hU : U.1 ≤ 16) (hG : zCG N w ((B, S), nm, T, Y, E, U, Mk) H) (x : Int32) (d : Bool) : zCal N w ((B, (zSw_scr B S U (zw d) (zO_scr B S (zw d) x)).1), nm, T, Y, E, (zSw_scr B S U (zw d) (zO_scr B S (zw d) x)).2, Mk) (fX1_scrapes N w x (zb d)) (zV_scr B S (zw d) (zO_scr B S (zw d) x)) 5 85 H := by
  have hS3 := hB.1
  unfold fX1_scrapes fX1_scrapes_20 zO_scr
  refine hG.bo hS (fun k hk => by rw [← hk]; exact zC_isSkin x) (fun H hG => ?_)
  rcases zix_cases x (n := zS B) (by omega) with ⟨h3, -⟩ | ⟨s, h3, h4, rfl⟩
  · rw [h3, if_pos (show zb (none : Option Nat).isSome = 0 from rfl)]
    exact (zCal.ret hG).mo (by omega) (by omega)
  · rw [h4, if_neg (show ¬ zb (some s).isSome = 0 from zb1n)]
    dsimp only
    have h0 : zSb B S s (zw d) = 0 ↔ zOp S s &&& zw d = 0 := by
      unfold zSb
      by_cases c : zOp S s &&& zw d = 0
      · rw [if_pos c]; exact ⟨fun _ => c, fun _ => rfl⟩
      · rw [if_neg c]; exact ⟨fun h => by omega, fun h => absurd h c⟩
    by_cases c : zOp S s &&& zw d = 0
    · rw [if_pos (h0.mpr c)]
      refine (hG.cv (S' := S) hS (fun k hk => ?_)).mo (by omega) (by omega)
      rw [← hk]
      refine zCV.bo zC_w1 (zCV.bo (zC_r2 true) (zCV.bo (zC_mayS (by omega) d) ?_))
      rw [decide_eq_true c, if_pos (show zb (!true) = 0 from rfl)]
      exact (zCO.ret _).v
    · rw [if_neg (fun q => c (h0.mp q))]
      have e : ∀ K : Int32 → jM Int32, zCal N w ((B, (zSw_scr B S U (zw d) (some s)).1), nm, T, Y, E, (zSw_scr B S U (zw d) (some s)).2, Mk) (K 1) (zV_scr B S (zw d) (some s)) 5 85 H → zCal N w ((B, (zSw_scr B S U (zw d) (some s)).1), nm, T, Y, E, (zSw_scr B S U (zw d) (some s)).2, Mk) (jB (jgR [0] 1 (some w)) fun y3 => jB (jrc 2 y3) fun b5 => jB (fX3_mayScrape b5 (nI s) (zb d)) K) (zV_scr B S (zw d) (some s)) 5 85 H := fun K hK => by
        obtain ⟨k, X, f, R, Z, τ, h1, h2, hY, h3', h4', h5', h6', h7'⟩ := id hG
        have hX := h1.cx h2 h3' hS
        have eH := h1.2.2.2.2.1
        have r1 : (jB (jgR [0] 1 (some w)) fun y3 => jB (jrc 2 y3) fun b5 => jB (fX3_mayScrape b5 (nI s) (zb d)) K).1 H = (K 1).1 H := by
          conv => lhs; rw [eH]
          conv => rhs; rw [eH]
          rw [← h1.2.1, zc_g0_1 hX.2.1, zc_r2 hX.2.1, jB_eq (zs_mayScrape hX (by omega) d), decide_eq_false c]
          rfl
        unfold zCal
        rw [r1]
        exact hK
      refine e _ ?_
      rw [if_neg z10n]
      refine ((zCG_keep hU hG).bind (G2 := ((B, zSc B S s (zw d)), nm, T, Y, E, zUk U S, Mk)) (c' := 0) (s' := 0) (fun H hG => hG.cv hS (fun k hk => ?_))).mo (by omega) (by omega)
      rw [← hk]
      exact zCV.bo zC_w1 (zCV.bo (zC_r2 true) (zCV.bind (zCV.scrapes h3 d c) (zCV.bo zC_w1 (zCV.bo (zC_s3 true) (zCV.bo (zC_th h3) (zCO.ret _).v)))))
theorem zCG_scrape (hS : zSok B S) (hB : zLok B) (hU : U.1 ≤ 16) (hG : zCG N w ((B, S), nm, T, Y, E, U, Mk) H) (x : Int32) : zCal N w ((B, (zSw_scr B S U 63 (zO_scr B S 63 x)).1), nm, T, Y, E, (zSw_scr B S U 63 (zO_scr B S 63 x)).2, Mk) (fX1_scrape N w x) (zV_scr B S 63 (zO_scr B S 63 x)) 5 85 H := ((zCG_scr hS hB hU hG x false).bind (fun H hG => zCal.ret hG)).mo (by omega) (by omega)
theorem zCG_third (hS : zSok B S) (hB : zLok B) (hU : U.1 ≤ 16) (hG : zCG N w ((B, S), nm, T, Y, E, U, Mk) H) (x : Int32) : zCal N w ((B, (zSw_scr B S U 9 (zO_scr B S 9 x)).1), nm, T, Y, E, (zSw_scr B S U 9 (zO_scr B S 9 x)).2, Mk) (fX1_third N w x) (zV_scr B S 9 (zO_scr B S 9 x)) 5 85 H := ((zCG_scr hS hB hU hG x true).bind (fun H hG => zCal.ret hG)).mo (by omega) (by omega)
theorem zCG_week (hS : zSok B S) (hU : U.1 ≤ 16) (hw : zWk S + 1 < 1000000) (hG : zCG N w ((B, S), nm, T, Y, E, U, Mk) H) : zCal N w ((B, zNx S), nm, T, Y, E, zUk U S, Mk) (fX1_week w) (nI (zWk S + 1)) 5 85 H := by
  unfold fX1_week
  refine ((zCG_keep hU hG).bind (G2 := ((B, zNx S), nm, T, Y, E, zUk U S, Mk)) (c' := 0) (s' := 0) (fun H hG => hG.cv hS (fun k hk => ?_))).mo (by omega) (by omega)
  rw [← hk]
  exact zCV.bo zC_w1 (zCV.bo zC_wk (zCV.bind (zCV.week hw) (zCV.bo zC_w1 (zCV.bo zC_wk (zCO.ret _).v))))
end
