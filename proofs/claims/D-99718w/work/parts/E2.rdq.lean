/-! PURE 65: the component's reader: words, signs, numbers; what is wrong -/
set_option maxRecDepth 100000
/-- it threw: what, at which token; by how much the heap grew -/
def zBd {α : Type} (w : Nat) (u : zTau) (n : Int32) (e : Nat × Nat) (H : jH) (cc ss : Nat) (r : Option ((α ⊕ Nat) × jH)) : Prop := ∃ H' q fs, r = some (.inr q, H') ∧ zFm (fun x => x = w + 1) H H' ∧ (∃ dr i d, H'.1 (w + 1) = some (zRc w dr n i d)) ∧ H'.1 q = some (.inl (9, fs)) ∧ fs[6]? = some (.int (nI (e.1 + 16 * u.2.2.2.2 e.2))) ∧ H'.2.1 ≤ H.2.1 + cc ∧ H'.2.2.2.1 ≤ H.2.2.2.1 + ss
theorem zBd.pre {α : Type} {w cc ss cc' ss' : Nat} {u : zTau} {n : Int32} {e : Nat × Nat} {H H1 : jH} {r : Option ((α ⊕ Nat) × jH)} (hf : zFm (fun x => x = w + 1) H H1) (h : zBd w u n e H1 cc ss r) (h1 : H1.2.1 + cc ≤ H.2.1 + cc') (h2 : H1.2.2.2.1 + ss ≤ H.2.2.2.1 + ss') : zBd w u n e H cc' ss' r := by
  obtain ⟨H', q, fs, a1, a2, a0, a3, a4, a5, a6⟩ := h
  exact ⟨H', q, fs, a1, hf.tr a2 (fun x _ hx => hx), a0, a3, a4, by omega, by omega⟩
theorem zBd.bt {α β : Type} {w cc ss : Nat} {u : zTau} {n : Int32} {e : Nat × Nat} {H : jH} {m : jM (α ⊕ Nat)} (h : zBd w u n e H cc ss (m.1 H)) (K : α → jM (β ⊕ Nat)) : zBd w u n e H cc ss ((jBT m K).1 H) := by
  obtain ⟨H', q, fs, a1, a2⟩ := h
  exact ⟨H', q, fs, zBTr a1, a2⟩
theorem zKp_ex (x : Nat) : zKp x = true ↔ ∃ k, k < 20 ∧ x = zWd (4 + k) := by
  constructor
  · intro h
    have h2 : x ∈ [382253, 6564799, 10792937, 168728, 397973, 79828, 10266418, 12584543, 274579016, 10793335, 456500, 138846, 385337, 1277953191, 8878099, 261003578, 296522, 10631, 1111, 423] := by
      unfold zKp at h
      exact List.contains_iff_mem.mp h
    clear h
    revert x
    decide
  · rintro ⟨k, hk, rfl⟩
    revert hk k
    decide
theorem zfs_n {p : Nat → Bool} : ∀ {j i : Nat}, zFs p j i = none ↔ ∀ q, i ≤ q → q < i + j → p q = false
  | 0, i => ⟨fun _ q h1 h2 => by omega, fun _ => rfl⟩
  | j + 1, i => by
    rw [zFs]
    cases hp : p i with
    | true => rw [if_pos rfl]; exact ⟨fun h => (by cases h), fun h => by have := h i (Nat.le_refl _) (by omega); rw [hp] at this; cases this⟩
    | false =>
      rw [if_neg zff, zfs_n]
      constructor
      · intro h q h1 h2
        by_cases e : q = i
        · rw [e]; exact hp
        · exact h q (by omega) (by omega)
      · intro h q h1 h2
        exact h q (by omega) (by omega)
section
variable {α : Type} {N w c i d : Nat} {u : zTau} {dr : Value} {n : Int32} {H H1 : jH}
theorem zrs_wr (hu : zUg u c) (h : zRdS w u c dr n i d H) {k : Nat} (hk : k < 16) : ∃ H', (fX2_wrong (w + 1) (nI k)).1 H = some (some H.2.1, H') ∧ zFm (fun _ => False) H H' ∧ (∃ fs, H'.1 H.2.1 = some (.inl (9, fs)) ∧ fs[6]? = some (.int (nI (k + 16 * u.2.2.2.2 i)))) ∧ H'.2.1 = H.2.1 + 1 ∧ H'.2.2.2.1 = H.2.2.2.1 + 7 := by
  have hi := h.2.2.2.2.1
  have hb := h.2.2.2.2.2.1
  have hw := h.2.2.2.2.2.2
  have f1 : zFm (fun _ => False) H (jnew H (.inl (9, [.null, .null, .null, .null, .null, .int 0, .int 0])) 7) := (zFm.rf _ _).nw
  have h1 := h.same f1
  have e1 : (jnew H (.inl (9, [.null, .null, .null, .null, .null, .int 0, .int 0])) 7).1 H.2.1 = some (.inl (9, [.null, .null, .null, .null, .null, .int 0, .int 0])) := znw_e _ _ _
  obtain ⟨H1, hH1⟩ : ∃ H1, H1 = jnew H (.inl (9, [.null, .null, .null, .null, .null, .int 0, .int 0])) 7 := ⟨_, rfl⟩
  rw [← hH1] at f1 h1 e1
  have s1 : H1.2.2.2.2 = H.2.2.2.2 := f1.2.2.2.2
  have e2 : jthG 9 (some H.2.1) H1 = some (jset H1 H.2.1 (.inl (9, [.ref H.2.1, va_rf (jopt (H1.2.2.2.2 569)), va_rf (jopt (H1.2.2.2.2 570)), .null, .null, .int 0, .int 0]))) := by
    unfold jthG
    simp only [e1]
    rw [if_pos ⟨⟨trivial, by rw [s1]; omega⟩, by decide, rfl⟩]
    rfl
  refine ⟨jset (jset H1 H.2.1 (.inl (9, [.ref H.2.1, va_rf (jopt (H1.2.2.2.2 569)), va_rf (jopt (H1.2.2.2.2 570)), .null, .null, .int 0, .int 0]))) H.2.1 (.inl (9, [.ref H.2.1, va_rf (jopt (H1.2.2.2.2 569)), va_rf (jopt (H1.2.2.2.2 570)), .null, .null, .int 0, .int (nI (k + 16 * u.2.2.2.2 i))])), ?_, (f1.set (Or.inl (Nat.le_refl _))).set (Or.inl (Nat.le_refl _)), ⟨_, zse_e _ _ _, rfl⟩, ?_, ?_⟩
  · unfold fX2_wrong fX8_init
    rw [znwB, ← hH1, zrs_10 h1, zrs_11 h1, zrs_pl hu h1 hi, zc16_mu, nI_add, zA]
    unfold jth
    rw [zBW e2, zA]
    unfold jpI
    rw [zpV (zse_e _ _ _) (by decide) (by show H1.2.2.2.2 0 ≤ H.2.1; rw [s1]; omega) (by show 6 < 7; decide)]
    rfl
  · rw [hH1]; rfl
  · rw [hH1]; rfl
theorem zbd_thr (hu : zUg u c) (h : zRdS w u c dr n i d H) {k : Nat} (hk : k < 16) : zBd (α := α) w u n (k, i) H 1 7 ((jB (fX2_wrong (w + 1) (nI k)) fun y => jB (jnn0 y) fun b => jR (.inr b)).1 H) := by
  obtain ⟨H', e1, e2, ⟨fs, e3, e4⟩, e5, e6⟩ := zrs_wr hu h hk
  refine ⟨H', H.2.1, fs, ?_, e2.mo (fun q _ hq => hq.elim), ⟨dr, nI i, nI d, (h.same e2).2.2.2.1⟩, e3, e4, by omega, by omega⟩
  rw [jB_eq e1]
  rfl
theorem zrs_wh2 (hu : zUg u c) (hN : 3000 ≤ N) (h : zRdS w u c dr n i d H) {A m : Nat} {g : Nat → Option Nat} {s : Nat → Nat} (hA : H.1 A = some (.inr (5, m, zRf g))) (hm : m < 100) (hg : ∀ k, k < m → g k = some (H.2.2.2.2 (1 + s k)) ∧ s k < 24) : ∀ (j f k : Nat), k + j = m → j < f → (fX2_which_2 N (w + 1) f (some A) (nI k)).1 H = some (zo (zFs (fun k => zisw u i (zWd (s k))) j k), H)
  | 0, f + 1, k, hk, hf => by
    rw [fX2_which_2, zln hA, zI, if_pos (nI_le (by omega) (by omega))]
    rfl
  | j + 1, f + 1, k, hk, hf => by
    have ih := zrs_wh2 hu hN h hA hm hg j f (k + 1) (by omega) (by omega)
    obtain ⟨g1, g2⟩ := hg k (by omega)
    rw [fX2_which_2, zln hA, zI, if_neg (nI_ge (by omega) (by omega)), zaR hA (by omega) (by omega), g1, zrs_isW hu hN h g2, zI, zc1_da, zFs]
    cases hz : zisw u i (zWd (s k)) with
    | true => rw [if_neg zb1n, if_pos rfl]; rfl
    | false => rw [if_pos zb_f, if_neg zff]; exact ih
theorem zrs_wh (hu : zUg u c) (hN : 3000 ≤ N) (h : zRdS w u c dr n i d H) {A m : Nat} {g : Nat → Option Nat} {s : Nat → Nat} (hA : H.1 A = some (.inr (5, m, zRf g))) (hm : m < 100) (hg : ∀ k, k < m → g k = some (H.2.2.2.2 (1 + s k)) ∧ s k < 24) (K : Int32 → jM α) : (jB (fX2_which N (w + 1) (some A)) K).1 H = (K (zo (zFs (fun k => zisw u i (zWd (s k))) m 0))).1 H := jB_eq (zrs_wh2 hu hN h hA hm hg m N 0 (by omega) (by omega))
theorem zisw_u {u : zTau} {i x y : Nat} (h : zisw u i x = true) (hne : x ≠ y) : zisw u i y = false := by
  unfold zisw at h ⊢
  simp only [Bool.and_eq_true, decide_eq_true_eq] at h
  rw [h.2, decide_eq_false hne, Bool.and_false]
theorem zrs_fa (hu : zUg u c) (hN : 3000 ≤ N) (h : zRdS w u c dr n i d H) (K : Int32 → jM α) : (jB (fX2_which N (w + 1) (some (w + 2))) K).1 H = (K (zo (zfa u i))).1 H := by
  obtain ⟨g, e1, e2⟩ := h.2.1.1
  exact zrs_wh (s := fun k => k) hu hN h e1 (by decide) (fun k hk => ⟨e2 k hk, by omega⟩) K
theorem zrs_kd (hu : zUg u c) (hN : 3000 ≤ N) (h : zRdS w u c dr n i d H) (K : Int32 → jM α) : (jB (fX2_which N (w + 1) (some (w + 3))) K).1 H = (K (zo (zKd u i))).1 H := by
  obtain ⟨g, e1, e2⟩ := h.2.1.2.1
  exact zrs_wh (s := fun k => 4 + k) hu hN h e1 (by decide) (fun k hk => ⟨e2 k hk, by omega⟩) K
theorem zrs_ik (hu : zUg u c) (hN : 3000 ≤ N) (h : zRdS w u c dr n i d H) (K : Int32 → jM α) : (jB (fX2_which N (w + 1) (some (w + 5))) K).1 H = (K (zo (zIk u i))).1 H := by
  obtain ⟨g, e1, e2⟩ := h.2.1.2.2.2.1
  rw [zrs_wh (s := fun k => 20 - k) hu hN h e1 (by decide) (fun k hk => ⟨e2 k hk, by omega⟩) K]
  have e : zFs (fun k => zisw u i (zWd (20 - k))) 2 0 = zIk u i := by
    show (if zisw u i 385337 = true then some 0 else if zisw u i 138846 = true then some 1 else none) = _
    unfold zIk
    by_cases c1 : zisw u i 385337 = true
    · rw [if_pos c1, if_pos c1, if_neg (by rw [zisw_u c1 (by decide)]; exact zff)]
    · rw [if_neg c1, if_neg c1]
  rw [e]
theorem zrs_ac (hu : zUg u c) (hN : 3000 ≤ N) (h : zRdS w u c dr n i d H) (K : Int32 → jM α) : (jB (fX2_which N (w + 1) (some (w + 6))) K).1 H = (K (zo (zAct u i))).1 H := by
  obtain ⟨g, e1, e2⟩ := h.2.1.2.2.2.2
  exact zrs_wh (s := fun k => 15 + k) hu hN h e1 (by decide) (fun k hk => ⟨e2 k hk, by omega⟩) K
theorem zFs_31 {p : Nat → Bool} : ∀ {j i q : Nat}, zFs p j i = some q → i ≤ q ∧ q < i + j ∧ p q = true
  | 0, i, q, h => by cases h
  | j + 1, i, q, h => by
    rw [zFs] at h
    cases hp : p i with
    | true => rw [hp, if_pos rfl] at h; cases h; exact ⟨Nat.le_refl _, by omega, hp⟩
    | false =>
      rw [hp, if_neg zff] at h
      obtain ⟨a1, a2, a3⟩ := zFs_31 h
      exact ⟨by omega, by omega, a3⟩
theorem zrs_nm (hu : zUg u c) (hN : 3000 ≤ N) (h : zRdS w u c dr n i d H) (K : Int32 → jM α) : (jB (fX2_isName N (w + 1)) K).1 H = (K (zb (zNm u i))).1 H := by
  have hi := h.2.2.2.2.1
  obtain ⟨u1, u2, u3, u4, u5⟩ := hu.2.2.2 i hi
  refine jB_eq ?_
  unfold fX2_isName fX2_isName_41 fX2_isName_42
  rw [zrs_8 h, zrs_11 h, zrs_so hu h hi, zI]
  unfold zNm
  by_cases c1 : u.1 i = 1
  · rw [if_pos (show nI (u.1 i) = 1 by rw [c1]; rfl), decide_eq_true c1, Bool.true_and, zgRs h.2.2.2.1 (by decide) rfl]
    obtain ⟨g, e1, e2⟩ := h.2.1.2.2.1
    rw [zrs_wh (s := fun k => 8 + k) hu hN h e1 (by decide) (fun k hk => ⟨e2 k hk, by omega⟩), zI]
    have hz : ∀ x, zisw u i x = decide (u.2.1 i = x) := fun x => by unfold zisw; rw [decide_eq_true c1, Bool.true_and]
    cases hf : zFs (fun k => zisw u i (zWd (8 + k))) 16 0 with
    | some q =>
      obtain ⟨q1, q2, q3⟩ := zFs_31 hf
      have : zKp (u.2.1 i) = true := (zKp_ex _).mpr ⟨4 + q, by omega, by
        rw [hz] at q3
        rw [of_decide_eq_true q3, show 8 + q = 4 + (4 + q) by omega]⟩
      rw [if_neg (show ¬ zo (some q) = -1 from zneg1 (by omega)), this]
      rfl
    | none =>
      rw [if_pos (show zo none = -1 from rfl), zgRs h.2.2.2.1 (by decide) rfl]
      obtain ⟨g', e3, e4⟩ := h.2.1.2.1
      rw [zrs_wh (s := fun k => 4 + k) hu hN h e3 (by decide) (fun k hk => ⟨e4 k hk, by omega⟩), zI]
      cases hf2 : zFs (fun k => zisw u i (zWd (4 + k))) 4 0 with
      | some q =>
        obtain ⟨q1, q2, q3⟩ := zFs_31 hf2
        have : zKp (u.2.1 i) = true := (zKp_ex _).mpr ⟨q, by omega, by
          rw [hz] at q3
          exact of_decide_eq_true q3⟩
        rw [if_neg (show ¬ zo (some q) = -1 from zneg1 (by omega)), this]
        rfl
      | none =>
        have : zKp (u.2.1 i) = false := by
          rw [Bool.eq_false_iff]
          intro hk
          obtain ⟨k, k1, k2⟩ := (zKp_ex _).mp hk
          by_cases k4 : k < 4
          · have := zfs_n.mp hf2 k (Nat.zero_le _) (by omega)
            rw [hz, decide_eq_true k2] at this
            cases this
          · have := zfs_n.mp hf (k - 4) (Nat.zero_le _) (by omega)
            rw [hz, show 8 + (k - 4) = 4 + k by omega, decide_eq_true k2] at this
            cases this
        rw [if_pos (show zo none = -1 from rfl), this]
        rfl
  · rw [if_neg (show ¬ nI (u.1 i) = 1 from fun q => c1 ((nI_eq (b := 1) (by omega) (by decide)).mp q)), decide_eq_false c1, Bool.false_and]; rfl
theorem zne_lt (hu : zUg u c) (hi : i ≤ c) (h : u.1 i ≠ 0) : i + 1 ≤ c := by
  have : i ≠ c := fun e => h (by rw [e]; exact hu.2.2.1)
  omega
theorem zisw_n0 {x : Nat} (h : zisw u i x = true) : u.1 i ≠ 0 := by
  unfold zisw at h
  simp only [Bool.and_eq_true, decide_eq_true_eq] at h
  omega
theorem ziss_n0 {x : Nat} (h : ziss u i x = true) : u.1 i ≠ 0 := by
  unfold ziss at h
  simp only [Bool.and_eq_true, decide_eq_true_eq] at h
  omega
theorem zNm_ne (h : zNm u i = true) : u.1 i ≠ 0 := by
  unfold zNm at h
  simp only [Bool.and_eq_true, decide_eq_true_eq] at h
  omega
/-- a sign that is there is gone past -/
theorem zrs_hs (hu : zUg u c) (h : zRdS w u c dr n i d H) {x : Nat} (hx : x < 128) : (ziss u i x = false ∧ ∀ K : Int32 → jM α, (jB (fX2_hasSign (w + 1) (nI x)) K).1 H = (K 0).1 H) ∨ (ziss u i x = true ∧ ∃ H', (∀ K : Int32 → jM α, (jB (fX2_hasSign (w + 1) (nI x)) K).1 H = (K 1).1 H') ∧ zRdS w u c dr n (i + 1) d H' ∧ zFm (fun q => q = w + 1) H H' ∧ H'.2 = H.2 ∧ jLe H H') := by
  cases hz : ziss u i x with
  | false =>
    refine Or.inl ⟨rfl, fun K => ?_⟩
    unfold fX2_hasSign fX2_hasSign_20
    rw [zA, zrs_isS hu h hx, hz, zIB, if_pos zb_f]
    rfl
  | true =>
    have hi := zne_lt hu h.2.2.2.2.1 (ziss_n0 hz)
    obtain ⟨a1, a2, a3⟩ := zrs_to (α := α) h (i + 1) hi
    refine Or.inr ⟨rfl, _, fun K => ?_, a1, a3, rfl, zrs_le h _ _ _ _⟩
    unfold fX2_hasSign fX2_hasSign_20
    rw [zA, zrs_isS hu h hx, hz, zIB, if_neg zb1n, zA, zrs_11 h, zc1_da, zA, a2]
    rfl
theorem zrs_hw (hu : zUg u c) (hN : 3000 ≤ N) (h : zRdS w u c dr n i d H) {j : Nat} (hj : j < 24) : (zisw u i (zWd j) = false ∧ ∀ K : Int32 → jM α, (jB (fX2_hasWord N (w + 1) (some (H.2.2.2.2 (1 + j)))) K).1 H = (K 0).1 H) ∨ (zisw u i (zWd j) = true ∧ ∃ H', (∀ K : Int32 → jM α, (jB (fX2_hasWord N (w + 1) (some (H.2.2.2.2 (1 + j)))) K).1 H = (K 1).1 H') ∧ zRdS w u c dr n (i + 1) d H' ∧ zFm (fun q => q = w + 1) H H' ∧ H'.2 = H.2 ∧ jLe H H') := by
  cases hz : zisw u i (zWd j) with
  | false =>
    refine Or.inl ⟨rfl, fun K => ?_⟩
    unfold fX2_hasWord fX2_hasWord_20
    rw [zA, zrs_isW hu hN h hj, hz, zIB, if_pos zb_f]
    rfl
  | true =>
    have hi := zne_lt hu h.2.2.2.2.1 (zisw_n0 hz)
    obtain ⟨a1, a2, a3⟩ := zrs_to (α := α) h (i + 1) hi
    refine Or.inr ⟨rfl, _, fun K => ?_, a1, a3, rfl, zrs_le h _ _ _ _⟩
    unfold fX2_hasWord fX2_hasWord_20
    rw [zA, zrs_isW hu hN h hj, hz, zIB, if_neg zb1n, zA, zrs_11 h, zc1_da, zA, a2]
    rfl
/-- a sign must stand there -/
theorem zrs_sg (hu : zUg u c) (h : zRdS w u c dr n i d H) {x : Nat} (hx : x < 128) : (ziss u i x = false ∧ zBd w u n (1, i) H 1 7 ((fX2_sign (w + 1) (nI x)).1 H)) ∨ (ziss u i x = true ∧ ∃ H', (fX2_sign (w + 1) (nI x)).1 H = some (.inl (), H') ∧ zRdS w u c dr n (i + 1) d H' ∧ zFm (fun q => q = w + 1) H H' ∧ H'.2 = H.2 ∧ jLe H H') := by
  unfold fX2_sign
  rcases zrs_hs (α := Unit ⊕ Nat) hu h hx with ⟨e1, e2⟩ | ⟨e1, H', e2, e3, e4, e5⟩
  · refine Or.inl ⟨e1, ?_⟩
    rw [e2, zI, if_pos z00p]
    exact zbd_thr hu h (k := 1) (by decide)
  · refine Or.inr ⟨e1, H', ?_, e3, e4, e5⟩
    rw [e2, zI, if_neg z10n]
    rfl
theorem zrs_tw (hu : zUg u c) (hN : 3000 ≤ N) (h : zRdS w u c dr n i d H) {j : Nat} (hj : j < 24) : (zisw u i (zWd j) = false ∧ zBd w u n (1, i) H 1 7 ((fX2_takeWord N (w + 1) (some (H.2.2.2.2 (1 + j)))).1 H)) ∨ (zisw u i (zWd j) = true ∧ ∃ H', (fX2_takeWord N (w + 1) (some (H.2.2.2.2 (1 + j)))).1 H = some (.inl (), H') ∧ zRdS w u c dr n (i + 1) d H' ∧ zFm (fun q => q = w + 1) H H' ∧ H'.2 = H.2 ∧ jLe H H') := by
  unfold fX2_takeWord
  rcases zrs_hw (α := Unit ⊕ Nat) hu hN h hj with ⟨e1, e2⟩ | ⟨e1, H', e2, e3, e4, e5⟩
  · refine Or.inl ⟨e1, ?_⟩
    rw [e2, zI, if_pos z00p]
    exact zbd_thr hu h (k := 1) (by decide)
  · refine Or.inr ⟨e1, H', ?_, e3, e4, e5⟩
    rw [e2, zI, if_neg z10n]
    rfl
/-- a number must stand there -/
theorem zrs_nu (hu : zUg u c) (h : zRdS w u c dr n i d H) {lo hi : Nat} (hlo : lo < 2 ^ 30) (hhi : hi < 2 ^ 30) : (∃ e, zNu u i lo hi = .inl e ∧ e < 16 ∧ zBd w u n (e, i) H 1 7 ((fX2_number_2 (w + 1) (nI lo) (nI hi)).1 H)) ∨ (u.1 i = 2 ∧ zNu u i lo hi = .inr (u.2.2.1 i) ∧ ∃ H', (fX2_number_2 (w + 1) (nI lo) (nI hi)).1 H = some (.inl (nI (u.2.2.1 i)), H') ∧ zRdS w u c dr n (i + 1) d H' ∧ zFm (fun q => q = w + 1) H H' ∧ H'.2 = H.2 ∧ jLe H H') := by
  have hi' := h.2.2.2.2.1
  obtain ⟨u1, u2, u3, u4, u5⟩ := hu.2.2.2 i hi'
  unfold fX2_number_2 fX2_number_2_49 zNu
  rw [zrs_8 h, zrs_11 h, zrs_so hu h hi', zI]
  by_cases c2 : u.1 i = 2
  · rw [if_pos c2, if_pos (show nI (u.1 i) = 2 by rw [c2]; rfl), zrs_9 h, zrs_11 h, zrs_vn hu h hi' c2, nL_i2l (by omega), zI]
    by_cases c3 : u.2.2.1 i < lo
    · rw [if_pos ((nL_cl (by omega) (by omega)).mpr c3), if_neg (by omega)]
      exact Or.inl ⟨4, rfl, by decide, zbd_thr hu h (k := 4) (by decide)⟩
    · rw [if_neg (fun q => c3 ((nL_cl (by omega) (by omega)).mp q)), zrs_9 h, zrs_11 h, zrs_vn hu h hi' c2, nL_i2l (by omega), zI]
      by_cases c4 : u.2.2.1 i ≤ hi
      · have hi2 := zne_lt hu hi' (by omega : u.1 i ≠ 0)
        obtain ⟨a1, a2, a3⟩ := zrs_to (α := Int32 ⊕ Nat) h (i + 1) hi2
        rw [if_pos ((nL_ce (by omega) (by omega)).mpr c4), if_pos ⟨by omega, c4⟩]
        refine Or.inr ⟨c2, rfl, _, ?_, a1, a3, rfl, zrs_le h _ _ _ _⟩
        rw [zrs_11 h, zc1_da, a2, zrs_9 a1, zrs_11 a1, zc1_sb (by omega), Nat.add_sub_cancel, zrs_vn hu a1 hi' c2, nL_l2i (by omega)]
        rfl
      · rw [if_neg (fun q => c4 ((nL_ce (by omega) (by omega)).mp q)), if_neg (fun q => c4 q.2)]
        exact Or.inl ⟨4, rfl, by decide, zbd_thr hu h (k := 4) (by decide)⟩
  · rw [if_neg c2, if_neg (show ¬ nI (u.1 i) = 2 from fun q => c2 ((nI_eq (b := 2) (by omega) (by decide)).mp q))]
    exact Or.inl ⟨1, rfl, by decide, zbd_thr hu h (k := 1) (by decide)⟩
end
