/-! PURE 80: the component reads a year -/
set_option maxRecDepth 100000
section
variable {N w c i d lb pn po cnt cS cT : Nat} {u : zTau} {n : Int32} {H : jH} {what name nS nT : Nat → Nat}
/-- an object of three numbers -/
theorem zy_o3 (hb : H.2.2.2.2 0 ≤ w) {q : Nat} (hq : H.1 q = some (.inl (30, [.int 0, .int 0, .int 0]))) (hw : w ≤ q) (x y z : Int32) : ∃ H', (fX30_init q x y z).1 H = some ((), H') ∧ H'.1 q = some (.inl (30, [.int x, .int y, .int z])) ∧ (∀ r, r ≠ q → H'.1 r = H.1 r) ∧ H'.2 = H.2 ∧ jLe H H' := by
  refine ⟨jset (jset (jset H q (.inl (30, [.int x, .int 0, .int 0]))) q (.inl (30, [.int x, .int y, .int 0]))) q (.inl (30, [.int x, .int y, .int z])), ?_, zse_e _ _ _, fun r hr => (zse_n _ _ hr).trans ((zse_n _ _ hr).trans (zse_n _ _ hr)), rfl, jLe.tr (jsetO_le hq) (jLe.tr (jsetO_le (zse_e _ _ _)) (jsetO_le (zse_e _ _ _)))⟩
  unfold fX30_init fX27_init jpI
  rw [zR, zpV hq (by decide) (by omega) (by show 0 < 3; decide)]
  have h1 : (jset H q (.inl (30, [.int x, .int 0, .int 0]))).1 q = some (.inl (30, [.int x, .int 0, .int 0])) := zse_e _ _ _
  have h2 : (jset (jset H q (.inl (30, [.int x, .int 0, .int 0]))) q (.inl (30, [.int x, .int y, .int 0]))).1 q = some (.inl (30, [.int x, .int y, .int 0])) := zse_e _ _ _
  refine (zpV h1 (by decide) (by show H.2.2.2.2 0 ≤ q; omega) (by show 1 < 3; decide) _).trans ?_
  refine (zpV h2 (by decide) (by show H.2.2.2.2 0 ≤ q; omega) (by show 2 < 3; decide) _).trans ?_
  rfl
theorem zy_o2 (hb : H.2.2.2.2 0 ≤ w) {q : Nat} (hq : H.1 q = some (.inl (29, [.int 0, .int 0]))) (hw : w ≤ q) (x : Int32) (b : Bool) : ∃ H', (fX29_init q x (zb b)).1 H = some ((), H') ∧ H'.1 q = some (.inl (29, [.int x, .int (zb b)])) ∧ (∀ r, r ≠ q → H'.1 r = H.1 r) ∧ H'.2 = H.2 ∧ jLe H H' := by
  refine ⟨jset (jset H q (.inl (29, [.int x, .int 0]))) q (.inl (29, [.int x, .int (zb b)])), ?_, zse_e _ _ _, fun r hr => (zse_n _ _ hr).trans (zse_n _ _ hr), rfl, jLe.tr (jsetO_le hq) (jsetO_le (zse_e _ _ _))⟩
  have hz : zb b = 0 ∨ zb b = 1 := by cases b <;> simp [zb]
  unfold fX29_init fX27_init jpI jpZ
  rw [zR, zpV hq (by decide) (by omega) (by show 0 < 2; decide), if_pos hz]
  have h1 : (jset H q (.inl (29, [.int x, .int 0]))).1 q = some (.inl (29, [.int x, .int 0])) := zse_e _ _ _
  refine (zpV h1 (by decide) (by show H.2.2.2.2 0 ≤ q; omega) (by show 1 < 2; decide) _).trans ?_
  rfl
/-- a line: what is wrong, or one that is made -/
theorem zy_line (hu : zUg u c) (hN : 3000 ≤ N) (hR : zRdS w u c (.ref lb) n (i + 1) d H) (hl : ∀ H', zFm (fun q => q = w + 1) H H' → zNl H' lb pn po cnt what name) (ho : zNo cS cT nS nT cnt what name) {wh : Nat} (hwh : wh ≤ 3) (Y : zYy) :
    (∃ e, zYln u nS cS nT cT i Y wh = .inl e ∧ e.2 ≤ c ∧ i + 1 ≤ e.2 ∧ zBd w u n e H 2 10 ((fX2_line N (w + 1) (nI wh)).1 H)) ∨ ∃ x j q H', zYln u nS cS nT cT i Y wh = zYcl u j (zYad Y x) ∧ i + 1 ≤ j ∧ (fX2_line N (w + 1) (nI wh)).1 H = some (.inl (some q), H') ∧ zRdS w u c (.ref lb) n j d H' ∧ zFm (fun y => y = w + 1) H H' ∧ H'.1 q = some (.inl (zLo1 x)) ∧ (H.2.1 ≤ q ∧ q < H'.2.1) ∧ H'.2.1 ≤ H.2.1 + 1 ∧ H'.2.2.2.1 ≤ H.2.2.2.1 + 3 ∧ jLe H H' := by
  have hb := hR.2.2.2.2.2.1
  have hw := hR.2.2.2.2.2.2
  have hi1 := hR.2.2.2.2.1
  have hS3 := ho.1.1
  unfold fX2_line zYln
  rw [zI]
  by_cases c3 : wh = 3
  · rw [if_pos c3, if_pos (show nI wh = 3 by rw [c3]; rfl), znwB]
    unfold fX28_init fX27_init
    rw [zA, zR, zR]
    have f1 : zFm (fun _ => False) H (jnew H (.inl (28, [])) 0) := (zFm.rf _ _).nw
    exact Or.inr ⟨(3, 0, 0, 0), i + 1, H.2.1, _, rfl, Nat.le_refl _, rfl, hR.same f1, f1.mo (fun q _ hq => hq.elim), znw_e _ _ _, ⟨Nat.le_refl _, Nat.lt_succ_self _⟩, Nat.le_refl _, by show H.2.2.2.1 + 0 ≤ _; omega, jnew_le _ _ _⟩
  · rw [if_neg c3, if_neg (show ¬ nI wh = 3 from fun q => c3 ((nI_eq (b := 3) (by omega) (by decide)).mp q)), zI]
    by_cases c0 : wh = 0
    · rw [if_pos c0, if_pos (show nI wh ≤ 0 by rw [c0]; decide)]
      unfold zYnm
      rcases zrs_tt hu hN hR (hl H (zFm.rf _ _)) ho with ⟨e1, e2⟩ | ⟨e1, e2, e3⟩ | ⟨e1, s, e2, e3, H1, e4, e5, e6, e7, e8⟩
      · rw [if_neg (by rw [e1]; exact zff)]
        exact Or.inl ⟨_, rfl, hi1, Nat.le_refl _, (e2.bt _).pre (zFm.rf _ _) (by omega) (by omega)⟩
      · rw [if_pos e1, e2]
        exact Or.inl ⟨_, rfl, hi1, Nat.le_refl _, (e3.bt _).pre (zFm.rf _ _) (by omega) (by omega)⟩
      · rw [if_pos e1, e3, zBTl e4]
        dsimp only
        rw [show i + 1 + 1 = i + 2 from rfl] at e5
        have hi2 := e5.2.2.2.2.1
        have s1 : H1.2.1 = H.2.1 := by rw [e7]
        have s12 : H1.2.2.2.1 = H.2.2.2.1 := by rw [e7]
        rcases zrs_ts hu hN e5 (hl H1 e6) ho with ⟨g1, g2⟩ | ⟨g1, g2, g3⟩ | ⟨g1, b, g2, g3, H2, g4, g5, g6, g7, g8⟩
        · rw [if_neg (by rw [g1]; exact zff)]
          exact Or.inl ⟨_, rfl, hi2, Nat.le_succ _, (g2.bt _).pre e6 (by omega) (by omega)⟩
        · rw [if_pos g1, g2]
          exact Or.inl ⟨_, rfl, hi2, Nat.le_succ _, (g3.bt _).pre e6 (by omega) (by omega)⟩
        · rw [if_pos g1, g3, zBTl g4, znwB]
          dsimp only
          rw [show i + 2 + 1 = i + 3 from rfl] at g5
          have hi3 := g5.2.2.2.2.1
          have s2 : H2.2.1 = H.2.1 := by rw [g7, s1]
          have s22 : H2.2.2.2.1 = H.2.2.2.1 := by rw [g7, s12]
          have f02 := e6.tr g6 (fun q _ hq => hq)
          obtain ⟨H3, hH3⟩ : ∃ H3, H3 = jnew H2 (.inl (30, [.int 0, .int 0, .int 0])) 3 := ⟨_, rfl⟩
          rw [← hH3]
          have f3 : zFm (fun _ => False) H2 H3 := by rw [hH3]; exact (zFm.rf _ _).nw
          have q3 : H3.1 H2.2.1 = some (.inl (30, [.int 0, .int 0, .int 0])) := by rw [hH3]; exact znw_e _ _ _
          have s3 : H3.2.1 = H.2.1 + 1 := by rw [hH3]; show H2.2.1 + 1 = _; omega
          have s32 : H3.2.2.2.1 = H.2.2.2.1 + 3 := by rw [hH3]; show H2.2.2.2.1 + 3 = _; omega
          have l3 : jLe H2 H3 := by rw [hH3]; exact jnew_le _ _ _
          have f03 := f02.tr f3 (fun q _ hq => hq.elim)
          rw [show fX2_number_2 (w + 1) 0 5 = fX2_number_2 (w + 1) (nI 0) (nI 5) from rfl]
          rcases zrs_nu hu (g5.same f3) (lo := 0) (hi := 5) (by decide) (by decide) with ⟨x, j1, j2, j3⟩ | ⟨j0, j1, H4, j2, j3, j4, j5, j6⟩
          · rw [j1]
            exact Or.inl ⟨_, rfl, hi3, by show i + 1 ≤ i + 3; omega, (j3.bt _).pre f03 (by omega) (by omega)⟩
          · rw [j1, zBTl j2]
            dsimp only
            have q4 : H4.1 H2.2.1 = some (.inl (30, [.int 0, .int 0, .int 0])) := j4.at q3 (by omega) (by omega)
            have k4 : H4.2.2.2.2 = H.2.2.2.2 := (f03.tr j4 (fun q _ hq => hq)).2.2.2.2
            obtain ⟨H5, v1, v2, v3, v4, v5⟩ := zy_o3 (w := w) (by rw [k4]; exact hb) q4 (by omega) (nI s) (nI b) (nI (u.2.2.1 (i + 3)))
            have f5 : zFm (fun y => H.2.1 ≤ y) H4 H5 := ⟨fun y _ hy => v3 y (fun e => hy (by show H.2.1 ≤ y; omega)), by rw [v4]; exact Nat.le_refl _, by rw [v4], by rw [v4]; exact Nat.le_refl _, by rw [v4]⟩
            refine Or.inr ⟨(0, s, b, u.2.2.1 (i + 3)), i + 4, H2.2.1, H5, rfl, by omega, ?_, j3.hi hw f5, (f03.tr j4 (fun q _ hq => hq)).tr f5 (fun q hq hh => by omega), v2, ⟨by omega, by rw [v4, j5]; omega⟩, by rw [v4, j5]; omega, by rw [v4, j5]; omega, jLe.tr e8 (jLe.tr g8 (jLe.tr l3 (jLe.tr j6 v5)))⟩
            rw [jB_eq v1]
            rfl
    · rw [if_neg c0, if_neg (show ¬ nI wh ≤ 0 from fun q => by have := (zc0_ge (by omega)).mp q; omega), znwB]
      obtain ⟨H1, hH1⟩ : ∃ H1, H1 = jnew H (.inl (29, [.int 0, .int 0])) 2 := ⟨_, rfl⟩
      rw [← hH1]
      have f1 : zFm (fun _ => False) H H1 := by rw [hH1]; exact (zFm.rf _ _).nw
      have q1 : H1.1 H.2.1 = some (.inl (29, [.int 0, .int 0])) := by rw [hH1]; exact znw_e _ _ _
      have s1 : H1.2.1 = H.2.1 + 1 := by rw [hH1]; rfl
      have s12 : H1.2.2.2.1 = H.2.2.2.1 + 2 := by rw [hH1]; rfl
      have l1 : jLe H H1 := by rw [hH1]; exact jnew_le _ _ _
      have f01 : zFm (fun q => q = w + 1) H H1 := f1.mo (fun q _ hq => hq.elim)
      unfold zYnm
      rcases zrs_ts hu hN (hR.same f1) (hl H1 f01) ho with ⟨g1, g2⟩ | ⟨g1, g2, g3⟩ | ⟨g1, b, g2, g3, H2, g4, g5, g6, g7, g8⟩
      · rw [if_neg (by rw [g1]; exact zff)]
        exact Or.inl ⟨_, rfl, hi1, Nat.le_refl _, (g2.bt _).pre f01 (by omega) (by omega)⟩
      · rw [if_pos g1, g2]
        exact Or.inl ⟨_, rfl, hi1, Nat.le_refl _, (g3.bt _).pre f01 (by omega) (by omega)⟩
      · rw [if_pos g1, g3, zBTl g4]
        dsimp only
        have q2 : H2.1 H.2.1 = some (.inl (29, [.int 0, .int 0])) := g6.at q1 (by omega) (by omega)
        have f02 := f01.tr g6 (fun q _ hq => hq)
        have k2 : H2.2.2.2.2 = H.2.2.2.2 := f02.2.2.2.2
        obtain ⟨H3, v1, v2, v3, v4, v5⟩ := zy_o2 (w := w) (by rw [k2]; exact hb) q2 (by omega) (nI b) (decide (wh = 2))
        have f3 : zFm (fun y => H.2.1 ≤ y) H2 H3 := ⟨fun y _ hy => v3 y (fun e => hy (by show H.2.1 ≤ y; omega)), by rw [v4]; exact Nat.le_refl _, by rw [v4], by rw [v4]; exact Nat.le_refl _, by rw [v4]⟩
        refine Or.inr ⟨(wh, 0, b, 0), i + 2, H.2.1, H3, rfl, by omega, ?_, g5.hi hw f3, f02.tr f3 (fun q hq hh => by omega), ?_, ⟨Nat.le_refl _, by rw [v4, g7]; omega⟩, by rw [v4, g7]; omega, by rw [v4, g7]; omega, jLe.tr l1 (jLe.tr g8 v5)⟩
        · unfold fX2_line_36
          rw [zI]
          by_cases c2 : wh = 2
          · rw [decide_eq_true c2] at v1
            rw [if_pos (show nI wh = 2 by rw [c2]; rfl), znn, jB_eq (show (fX29_init H.2.1 (nI b) 1).1 H2 = some ((), H3) from v1)]
            rfl
          · rw [decide_eq_false c2] at v1
            rw [if_neg (show ¬ nI wh = 2 from fun q => c2 ((nI_eq (b := 2) (by omega) (by decide)).mp q)), znn, jB_eq (show (fX29_init H.2.1 (nI b) 0).1 H2 = some ((), H3) from v1)]
            rfl
        · rw [v2]
          unfold zLo1
          rw [if_neg c3, if_neg c0]
end
/-- the reader at token i, with the lines so far -/
def zYD (w : Nat) (u : zTau) (c : Nat) (n : Int32) (H0 : jH) (lb p i : Nat) (Y : zYy) (H : jH) : Prop := (∃ d, zRdS w u c (.ref lb) n i d H) ∧ zFm (fun q => q = w + 1) H0 H ∧ w + 11 ≤ H0.2.1 ∧ (H.2.1 ≤ H0.2.1 + 60 + 40 * i ∧ H.2.2.2.1 ≤ H0.2.2.2.1 + 600 + 400 * i) ∧ ∃ (arr cap : Nat) (f : Nat → Option Nat) (l : Nat → Nat), zAL H p arr cap Y.1 f ∧ (H0.2.1 ≤ p ∧ H0.2.1 ≤ arr) ∧ (1 ≤ cap ∧ cap ≤ 100) ∧ ∀ j, j < Y.1 → f j = some (l j) ∧ (H0.2.1 ≤ l j ∧ l j < H.2.1 ∧ l j ≠ p ∧ l j ≠ arr) ∧ H.1 (l j) = some (.inl (zLo1 (Y.2 j)))
section
variable {N w c lb pn po cnt cS cT p : Nat} {u : zTau} {n : Int32} {H0 : jH} {what name nS nT : Nat → Nat}
theorem zy_loop (hu : zUg u c) (hN : 3000 ≤ N) {nt : Nat} (hun : zUn u nt) (hcn : c ≤ nt) (hl : ∀ H', zFm (fun q => q = w + 1) H0 H' → zNl H' lb pn po cnt what name) (ho : zNo cS cT nS nT cnt what name) : ∀ (m f i : Nat) (Y : zYy) (H : jH), c < m + i → c < f + i → zYok cS cT Y → zYD w u c n H0 lb p i Y H →
    (∃ e, zYrs u nS cS nT cT m i Y = .inl e ∧ e.2 ≤ c ∧ zBd w u n e H0 (100 + 40 * (e.2 + 1)) (1000 + 400 * (e.2 + 1)) ((fX2_year_18 N (w + 1) f (some p)).1 H)) ∨ ∃ Y' j H', zYrs u nS cS nT cT m i Y = .inr Y' ∧ (fX2_year_18 N (w + 1) f (some p)).1 H = some (.inl (some p), H') ∧ zYok cS cT Y' ∧ zYD w u c n H0 lb p j Y' H'
  | 0, f, i, Y, H, hm, hf, hok, hD => by
    obtain ⟨d, hR⟩ := hD.1
    have := hR.2.2.2.2.1
    omega
  | m + 1, 0, i, Y, H, hm, hf, hok, hD => by
    obtain ⟨d, hR⟩ := hD.1
    have := hR.2.2.2.2.1
    omega
  | m + 1, f + 1, i, Y, H, hm, hf, hok, hD => by
    obtain ⟨⟨d, hR⟩, hF, hw, ⟨c1, c2⟩, arr, cap, ff, l, hA, hlo, hcap, hY⟩ := id hD
    have hi := hR.2.2.2.2.1
    have hb := hR.2.2.2.2.2.1
    obtain ⟨u1, u2, u3, u4, u5⟩ := hu.2.2.2 i hi
    have h40 := hok.1
    rw [zYrs, fX2_year_18, zrs_8 hR, zrs_11 hR, zrs_so hu hR hi, zI]
    by_cases c0 : u.1 i = 0
    · rw [if_pos c0, if_pos (show nI (u.1 i) = 0 by rw [c0]; rfl)]
      exact Or.inr ⟨Y, i, H, rfl, rfl, hok, hD⟩
    · have hi1 := zne_lt hu hi c0
      have sg := zYst_g hun (nS := nS) (nT := nT) (cS := cS) (cT := cT) (i := i) (by omega) hok
      obtain ⟨⟨mc, l1⟩, -⟩ := id hA
      rw [if_neg c0, if_neg (show ¬ nI (u.1 i) = 0 from fun q => c0 ((nI_eq (b := 0) (by omega) (by decide)).mp q)), zgRs hR.2.2.2.1 (by decide) rfl, zrs_ac hu hN hR, zI]
      have er : ∀ (k : Nat), k < 16 → zBd w u n (k, i) H0 (100 + 40 * (i + 1)) (1000 + 400 * (i + 1)) ((jB (fX2_wrong (w + 1) (nI k)) fun y1 => jB (jnn0 y1) fun b2 => (jR (.inr b2) : jM (Option Nat ⊕ Nat))).1 H) := fun k hk => (zbd_thr hu hR hk).pre hF (by omega) (by omega)
      unfold zYst at sg ⊢
      cases hact : zAct u i with
      | none =>
        rw [if_pos (show zo none = -1 from rfl)]
        exact Or.inl ⟨(1, i), rfl, hi, er 1 (by decide)⟩
      | some wh =>
        have hwh := (zAct_lt hun hact).1
        rw [hact] at sg
        rw [if_neg (show ¬ zo (some wh) = -1 from zneg1 (by omega)), zrc (c := 4) (by unfold jcd; rw [l1]; rfl), zal_size l1, zI]
        dsimp only at sg ⊢
        by_cases c40 : Y.1 = 40
        · rw [if_pos c40, if_pos (show nI Y.1 = 40 by rw [c40]; rfl)]
          exact Or.inl ⟨(5, i), rfl, hi, er 5 (by decide)⟩
        · rw [if_neg c40] at sg ⊢
          rw [if_neg (show ¬ nI Y.1 = 40 from fun q => c40 ((nI_eq (b := 40) (by omega) (by decide)).mp q))]
          obtain ⟨a1, a2, a3⟩ := zrs_to (α := Option Nat ⊕ Nat) hR (i + 1) hi1
          have l1' := zrs_le hR (.ref lb) n (nI (i + 1)) (nI d)
          rw [zrs_11 hR, zc1_da, a2]
          obtain ⟨H1, hH1⟩ : ∃ H1, H1 = jset H (w + 1) (zRc w (.ref lb) n (nI (i + 1)) (nI d)) := ⟨_, rfl⟩
          rw [← hH1] at a1 a3 l1' ⊢
          have s1 : H1.2 = H.2 := by rw [hH1]; rfl
          have s11 : H1.2.1 = H.2.1 := by rw [s1]
          have s12 : H1.2.2.2.1 = H.2.2.2.1 := by rw [s1]
          have f1 := hF.tr a3 (fun q _ hq => hq)
          rcases zy_line hu hN a1 (fun H' hf' => hl H' (f1.tr hf' (fun q _ hq => hq))) ho hwh Y with ⟨e, e1, e2, e2', e3⟩ | ⟨x, j, q, H2, e1, ej, e2, e3, e4, e5, e6, e7, e8, e9⟩
          · rw [e1]
            exact Or.inl ⟨e, rfl, e2, (e3.bt _).pre f1 (by omega) (by omega)⟩
          · rw [e1] at sg ⊢
            have hj := e3.2.2.2.2.1
            have hp := hA.2.2.2.2.2.1
            have at2 : ∀ y, H0.2.1 ≤ y → y < H.2.1 → H2.1 y = H.1 y := fun y y1 y2 => (e4.1 y (by omega) (by omega)).trans (a3.1 y y2 (by omega))
            have hA2 := hA.up (at2 p hlo.1 hp.1) (at2 arr hlo.2 hp.2) (jLe.tr l1' e9)
            have hcl : jcd H2 q = some (zLo1 x).1 := by unfold jcd; rw [e5]; rfl
            have hmem : (zLo1 x).1 ∈ okl_java_lang_Object := by
              unfold zLo1
              split
              · show 28 ∈ okl_java_lang_Object; decide
              · split
                · show 30 ∈ okl_java_lang_Object; decide
                · show 29 ∈ okl_java_lang_Object; decide
            obtain ⟨H3, arr', cap', f', g1, g2, g3, g4, g5, g6⟩ := zAL_add hA2 (x := q) ⟨q, _, rfl, e6.2, hcl, hmem⟩ (by omega)
            have l3 : jLe H2 H3 := (fJ2_add p (some q)).2 _ _ _ g1
            have harr : (arr' = arr ∧ cap' = cap ∧ H3.2 = H2.2) ∨ (arr' = H2.2.1 ∧ cap' = zNc cap ∧ Y.1 = cap ∧ H3.2.1 = H2.2.1 + 1 ∧ H3.2.2.2.1 = H2.2.2.2.1 + cap') := by
              rcases g6 with ⟨x1, x2, -, x3⟩ | ⟨x0, x1, x2, x3, x4⟩
              · exact Or.inl ⟨x1, x2, x3⟩
              · rw [if_neg (by omega)] at x3
                exact Or.inr ⟨x1, x3, x0, x2, x4⟩
            have hz : zNc cap = cap + max 1 (cap / 2) := rfl
            have hc3 : (H0.2.1 ≤ arr' ∧ 1 ≤ cap' ∧ cap' ≤ 100) ∧ H3.2.1 ≤ H2.2.1 + 1 ∧ H3.2.2.2.1 ≤ H2.2.2.2.1 + 100 := by
              rcases harr with ⟨x1, x2, x3⟩ | ⟨x1, x2, x3, x4, x5⟩
              · exact ⟨⟨by omega, by omega, by omega⟩, by rw [x3]; omega, by rw [x3]; omega⟩
              · exact ⟨⟨by omega, by omega, by omega⟩, by omega, by omega⟩
            have f3 : zFm (fun y => H0.2.1 ≤ y) H2 H3 := g5.mo (fun y _ hy => by rcases hy with hy | hy; rw [hy]; exact hlo.1; rw [hy.1]; exact hlo.2)
            have at3 : ∀ y, y < H2.2.1 → y ≠ p → y ≠ arr → H3.1 y = H2.1 y := fun y y1 y2 y3 => g5.1 y y1 (fun z => by rcases z with z | z; exact y2 z; exact y3 z.1)
            have r3 := e3.hi hw f3
            have sz : H1.2.1 ≤ H2.2.1 := e4.2.1
            have sz3 : H2.2.1 ≤ H3.2.1 := l3.1
            have f03 : zFm (fun y => y = w + 1) H0 H3 := (f1.tr e4 (fun y _ hy => hy)).tr f3 (fun y hy hh => by omega)
            rw [show zo (some wh) = nI wh from rfl, zBTl e2, zrc (c := 4) (by obtain ⟨⟨mc2, m2⟩, -⟩ := hA2; unfold jcd; rw [m2]; rfl), jB_eq g1, show (59 : Int32) = nI 59 from rfl]
            unfold zYcl at sg ⊢
            have hYD : ∀ y, y < (zYad Y x).1 → f' y = some ((fun y => if y = Y.1 then q else l y) y) ∧ (H0.2.1 ≤ (fun y => if y = Y.1 then q else l y) y ∧ (fun y => if y = Y.1 then q else l y) y < H3.2.1 ∧ (fun y => if y = Y.1 then q else l y) y ≠ p ∧ (fun y => if y = Y.1 then q else l y) y ≠ arr') ∧ H3.1 ((fun y => if y = Y.1 then q else l y) y) = some (.inl (zLo1 ((zYad Y x).2 y))) := by
              intro y hy
              have hy : y < Y.1 + 1 := hy
              show f' y = some (if y = Y.1 then q else l y) ∧ (H0.2.1 ≤ (if y = Y.1 then q else l y) ∧ (if y = Y.1 then q else l y) < H3.2.1 ∧ (if y = Y.1 then q else l y) ≠ p ∧ (if y = Y.1 then q else l y) ≠ arr') ∧ H3.1 (if y = Y.1 then q else l y) = some (.inl (zLo1 (if y = Y.1 then x else Y.2 y)))
              by_cases ey : y = Y.1
              · rw [if_pos ey, if_pos ey, ey]
                refine ⟨g4, ⟨by omega, by omega, by omega, ?_⟩, (at3 q e6.2 (by omega) (by omega)).trans e5⟩
                rcases harr with ⟨x1, -⟩ | ⟨x1, -⟩ <;> omega
              · rw [if_neg ey, if_neg ey]
                obtain ⟨b1, b2, b3⟩ := hY y (by omega)
                refine ⟨(g3 y (by omega)).trans b1, ⟨b2.1, by omega, b2.2.2.1, ?_⟩, (at3 _ (by omega) b2.2.2.1 b2.2.2.2).trans ((at2 _ b2.1 b2.2.1).trans b3)⟩
                rcases harr with ⟨x1, -⟩ | ⟨x1, -⟩ <;> omega
            rcases zrs_sg hu r3 (x := 59) (by decide) with ⟨k1, k2⟩ | ⟨k1, H4, k2, k3, k4, k5, k6⟩
            · rw [if_neg (by rw [k1]; exact zff)]
              exact Or.inl ⟨(1, j), rfl, hj, (k2.bt _).pre f03 (by show H3.2.1 + 1 ≤ H0.2.1 + (100 + 40 * (j + 1)); omega) (by show H3.2.2.2.1 + 7 ≤ H0.2.2.2.1 + (1000 + 400 * (j + 1)); omega)⟩
            · rw [if_pos k1] at sg ⊢
              rw [zBTl k2]
              have hyok : zYok cS cT (zYad Y x) := by
                rcases sg with ⟨e', z1, -⟩ | ⟨x', z1, -, -, z4⟩
                · cases z1
                · cases z1; exact z4
              refine zy_loop hu hN hun hcn hl ho m f (j + 1) (zYad Y x) H4 (by omega) (by omega) hyok ⟨⟨d, k3⟩, f03.tr k4 (fun y _ hy => hy), hw, ⟨by rw [k5]; omega, by rw [k5]; omega⟩, arr', cap', f', (fun y => if y = Y.1 then q else l y), g2.up (k4.1 _ (by have := g2.2.2.2.2.2.1.1; omega) (by omega)) (k4.1 _ (by have := g2.2.2.2.2.2.1.2; omega) (by omega)) k6, ⟨hlo.1, hc3.1.1⟩, hc3.1.2, fun y hy => ?_⟩
              obtain ⟨b1, b2, b3⟩ := hYD y hy
              exact ⟨b1, by rw [k5]; exact b2, (k4.1 _ b2.2.1 (by have := b2.1; omega)).trans b3⟩
end
section
variable {N w n lb pn po cnt cS cT : Nat} {t what name nS nT : Nat → Nat} {dr : Value} {at_ : Int32} {d : Nat} {H : jH} {so pl : Nat → Int32} {va : Nat → Int64}
/-- a year is read: what is wrong, or lines -/
theorem zy_read (hN : 3000 ≤ N) (hR : zRt w t n dr (nI n) at_ (nI d) H) (hA : zRa w H) (hS : H.1 (w + 8) = some (.inr (0, 1001, .inl so)) ∧ H.1 (w + 9) = some (.inr (1, 1001, .inr (.inl va))) ∧ H.1 (w + 10) = some (.inr (0, 1001, .inl pl))) (hl : ∀ H', zFm (fun x => x = w + 1 ∨ (w + 8 ≤ x ∧ x ≤ w + 10)) H H' → zNl H' lb pn po cnt what name) (ho : zNo cS cT nS nT cnt what name) {m0 : Nat} (hm0 : n < m0) (hm2 : m0 ≤ N) :
    (∃ e, zYrs (zOfT t n) nS cS nT cT m0 0 (0, fun _ => (0, 0, 0, 0)) = .inl e ∧ ∃ H' q fs, (fX2_year N (w + 1) (some lb)).1 H = some (.inr q, H') ∧ zFm (fun x => x = w + 1 ∨ (w + 8 ≤ x ∧ x ≤ w + 10)) H H' ∧ (∃ dr i d, H'.1 (w + 1) = some (zRc w dr 0 i d)) ∧ H'.1 q = some (.inl (9, fs)) ∧ fs[6]? = some (.int (nI (e.1 + 16 * zBg t n e.2))) ∧ H'.2.1 ≤ H.2.1 + 100 + 40 * (n + 1) ∧ H'.2.2.2.1 ≤ H.2.2.2.1 + 1000 + 400 * (n + 1) ∧ zTv w H') ∨
    ∃ Y c j H' H0, zYrs (zOfT t n) nS cS nT cT m0 0 (0, fun _ => (0, 0, 0, 0)) = .inr Y ∧ (fX2_year N (w + 1) (some lb)).1 H = some (.inl (some H.2.1), H') ∧ zFm (fun x => x = w + 1 ∨ (w + 8 ≤ x ∧ x ≤ w + 10)) H H' ∧ H0.2 = H.2 ∧ c ≤ n ∧ j ≤ c ∧ zYok cS cT Y ∧ zYD w (zOfT t n) c 0 H0 lb H.2.1 j Y H' := by
  obtain ⟨c, d', H1, e1, hu, hc, hR1, f1, s1⟩ := zk_cut hN hR hA hS ⟨d, rfl⟩
  have hb := hR1.2.2.2.2.2.1
  have hw := hR1.2.2.2.2.2.2
  have s11 : H1.2.1 = H.2.1 := by rw [s1]
  have s12 : H1.2.2.2.1 = H.2.2.2.1 := by rw [s1]
  obtain ⟨H2, hH2⟩ : ∃ H2, H2 = jset H1 (w + 1) (zRc w (.ref lb) 0 (nI 0) (nI d')) := ⟨_, rfl⟩
  have f2 : zFm (fun q => q = w + 1) H1 H2 := by rw [hH2]; exact (zFm.rf _ _).set (Or.inr rfl)
  have s2 : H2.2 = H1.2 := by rw [hH2]; rfl
  have r2 : zRdS w (zOfT t n) c (.ref lb) 0 0 d' H2 := hR1.fm f2 (by rw [hH2]; exact zse_e _ _ _) (Nat.zero_le _)
  have s21 : H2.2.1 = H.2.1 := by rw [s2, s11]
  obtain ⟨H3, g1, g2, g3, g4, g5, g6⟩ := zal_mk (H := H2) (m := 2) (by have := r2.2.2.2.2.2.1; have := r2.2.2.2.2.2.2; omega) (by decide) (by decide)
  have r3 := r2.same g3
  have f13 : zFm (fun q => q = w + 1) H1 H3 := f2.tr g3 (fun q _ hq => hq.elim)
  have run : (fX2_year N (w + 1) (some lb)).1 H = (fX2_year_18 N (w + 1) N (some H.2.1)).1 H3 := by
    unfold fX2_year
    rw [jB_eq e1]
    unfold jpR
    rw [zpV hR1.2.2.2.1 (by decide) (by omega) (by show 5 < 13; decide)]
    have := g1 (fun q2 => fX2_year_18 N (w + 1) N (some q2))
    rw [s21, hH2] at this
    exact this
  rw [s21] at g2
  have hD : zYD w (zOfT t n) c 0 H1 lb H.2.1 0 (0, fun _ => (0, 0, 0, 0)) H3 := ⟨⟨d', r3⟩, f13, hw, ⟨by rw [g4, s21]; omega, by rw [g5, s2]; omega⟩, _, _, _, fun _ => 0, g2, ⟨by omega, by omega⟩, ⟨by decide, by decide⟩, fun j hj => absurd hj (Nat.not_lt_zero j)⟩
  rcases zy_loop hu hN (zOfT_un t n) hc (fun H' hf' => hl H' (f1.tr hf' (fun q _ hq => Or.inl hq))) ho m0 N 0 _ H3 (by omega) (by omega) ⟨by decide, fun k hk => absurd hk (Nat.not_lt_zero k)⟩ hD with ⟨e, p1, p2, H', q, fs, p3, p4, p5, p6, p7, p8, p9⟩ | ⟨Y, j, H', p1, p2, p3, p4⟩
  · exact Or.inl ⟨e, p1, H', q, fs, run.trans p3, f1.tr p4 (fun x _ hx => Or.inl hx), p5, p6, p7, by omega, by omega, zTv.of hR1.2.2.1 hw p4⟩
  · have hj : j ≤ c := by
      obtain ⟨d9, hR9⟩ := p4.1
      exact hR9.2.2.2.2.1
    exact Or.inr ⟨Y, c, j, H', H1, p1, run.trans p2, f1.tr p4.2.1 (fun x _ hx => Or.inl hx), s1, hc, hj, p3, p4⟩
end
