/-! PURE 14: calls that only look, one by one -/
set_option maxRecDepth 100000
theorem zil_cases {B : zLB} (hB : zLok B) (x y : Int32) : zil B x y = none ∨ ∃ s l, s < zS B ∧ l < zLi B s ∧ l < 6 ∧ s < 3 ∧ x = nI s ∧ y = nI l ∧ zil B x y = some (s, l) := by
  have hs := hB.1
  unfold zil
  rcases zix_cases x (n := zS B) (by omega) with ⟨h1, -⟩ | ⟨s, h1, h2, rfl⟩
  · rw [h1]; exact Or.inl rfl
  · have hl := (hB.2.2.2.1 s h1).1.2
    rw [h2]
    show (match zix y (zLi B s) with
      | none => none
      | some l => some (s, l)) = none ∨ _
    rcases zix_cases y (n := zLi B s) (by omega) with ⟨h3, -⟩ | ⟨l, h3, h4, rfl⟩
    · rw [h3]; exact Or.inl rfl
    · refine Or.inr ⟨s, l, h1, h3, by omega, by omega, rfl, rfl, ?_⟩
      show (match zix (nI l) (zLi B s) with
        | none => none
        | some l => some (s, l)) = _
      rw [h4]
theorem zix_in (x : Int32) {n : Nat} (hn : n < 2 ^ 29) : (!decide (x < 0) && !decide (nI n < x)) = (zix x (n + 1)).isSome := by
  have := zix_w x (n := n + 1) (by omega)
  rw [nI_pred] at this
  exact this
theorem zWl_tb {B : zLB} {S : zMS} {t : Nat} (ht : t < zT B) (d : Int32) : (zWl B S d).testBit t = zWh B S t d := by
  unfold zWl
  rw [zMk_tb, decide_eq_true ht, Bool.true_and]
theorem zWl_lt {B : zLB} (hB : zLok B) (S : zMS) (d : Int32) : zWl B S d < 64 := Nat.lt_of_lt_of_le (zMk_lt _ _) (show 2 ^ zT B ≤ 2 ^ 6 from Nat.pow_le_pow_right (by decide) hB.2.1)
theorem zsplit : ∀ {r : List Nat} {i : Nat}, i < r.length → ∃ p t s, r = p ++ t :: s ∧ s.length = i
  | [], i, h => by cases h
  | u :: r, i, h => by
    by_cases e : i = r.length
    · exact ⟨[], u, r, rfl, e.symm⟩
    · obtain ⟨p, t, s, h1, h2⟩ := zsplit (r := r) (i := i) (by simp only [List.length_cons] at h; omega)
      exact ⟨u :: p, t, s, by rw [h1]; rfl, h2⟩
/-- the i-th from below -/
def zAt (r : List Nat) (i : Nat) : Nat := r.getD (r.length - 1 - i) 0
theorem zAt_of (p : List Nat) (t : Nat) (s : List Nat) : zAt (p ++ t :: s) s.length = t := by
  unfold zAt
  have e : (p ++ t :: s).length - 1 - s.length = p.length := by simp
  rw [e, List.getD_eq_getElem?_getD, List.getElem?_append_right (Nat.le_refl _)]
  simp
theorem zd_deep {N : Nat} {H : jH} : ∀ (r : List Nat) (n d : Nat), (∀ t ∈ r, t < 6) → r.length ≤ 9 → r.length < n → (fX7_deepOf_4 N n (nI d) (nI (z7 r))).1 H = some (nI (d + r.length), H)
  | [], n + 1, d, _, _, _ => by
    rw [fX7_deepOf_4, if_pos (by decide)]
    rfl
  | t :: r, n + 1, d, h6, hl, hn => by
    have hp : z7 (t :: r) < 2 ^ 31 := Nat.lt_trans (z7_big h6 hl) (by decide)
    simp only [List.length_cons] at hl hn
    rw [fX7_deepOf_4, if_neg (z7_p hp), znz7, zc1_da, z7_d (h6 t List.mem_cons_self) hp, zd_deep r n (d + 1) (fun x hx => h6 x (List.mem_cons_of_mem _ hx)) (by omega) (by omega)]
    simp only [List.length_cons]
    rw [show d + 1 + r.length = d + (r.length + 1) by omega]
theorem zd_layer {N : Nat} {H : jH} (t : Nat) (s : List Nat) : ∀ (p : List Nat) (n : Nat), (∀ x ∈ p ++ t :: s, x < 6) → (p ++ t :: s).length ≤ 9 → p.length < n → (fX7_layerOf_9 N n (nI s.length) (nI (z7 (p ++ t :: s))) (nI (p.length + s.length))).1 H = some (nI t, H)
  | [], n + 1, h6, hl, hn => by
    have hp : z7 (t :: s) < 2 ^ 31 := Nat.lt_trans (z7_big h6 hl) (by decide)
    simp only [List.nil_append, List.length_cons] at hl
    rw [fX7_layerOf_9, if_pos (nI_le (by simp) (by omega))]
    unfold fX7_layerOf_25
    rw [znz7, List.nil_append, z7_m (h6 t List.mem_cons_self) hp]
    rfl
  | u :: p, n + 1, h6, hl, hn => by
    have hp : z7 (u :: (p ++ t :: s)) < 2 ^ 31 := Nat.lt_trans (z7_big h6 hl) (by decide)
    simp only [List.cons_append, List.length_cons, List.length_append] at hl hn ⊢
    rw [fX7_layerOf_9, if_neg (nI_ge (by omega) (by omega)), znz7, z7_d (h6 u List.mem_cons_self) hp]
    have e : nI (p.length + 1 + s.length) + (-1) = nI (p.length + s.length) := by
      rw [show p.length + 1 + s.length = (p.length + s.length) + 1 by omega, pk_m1]
    rw [e]
    exact zd_layer t s p n (fun x hx => h6 x (List.mem_cons_of_mem _ hx)) (by simp only [List.length_append, List.length_cons]; omega) (by omega)
section
variable {N a : Nat} {B : zLB} {S : zMS} {k : zKA}
theorem zR_deep (hB : zLok B) (hS : zSok B S) (hN : 3000 ≤ N) {q : Nat} (hq : q < 18) : zRO N a B S (fX7_deepOf N (nI (z7 (zPl S q)))) (nI (zPl S q).length) := by
  have hp := zPl_ok hB hS hq
  refine zRO.of fun h F L A M _ _ => ?_
  have := zd_deep (N := N) (H := rH h a (F, L, A, M)) (zPl S q) N 0 hp.2.2.1 hp.1 (by omega)
  rw [Nat.zero_add] at this
  exact this
/-! read -/
def zO_read (B : zLB) (S : zMS) (x y : Int32) : Int32 := match zil B x y with
  | none => -1
  | some p => zo (zRd B S p.1 p.2 (nI (zDp B (zWk S))))
theorem zR_op_read (x y : Int32) : zRW N a B S (fX7_read N a x y) (zO_read B S x y) := by
  refine zRW.have_ fun _ hB hS => ?_
  have hw := hS.1
  unfold zO_read
  refine zRW.thr (zRO.bind (zR_isLine x y) ?_)
  rcases zil_cases hB x y with h1 | ⟨s, l, hs, hl, hl6, hs3, rfl, rfl, h1⟩
  · rw [h1]; exact zRO.ifp rfl (zRO.ret _)
  · rw [h1]; exact zRO.ifn zb1n (zRO.bind zR_o48 (zRO.bind zR_wk (zRO.bind (zR_damp (by omega)) (zRO.bind (zR_read hs3 hl6 _) (zRO.ret _)))))
theorem zC_op_read (x y : Int32) : zCO N k B S (fX1_read N (k.1 0) x y) (zO_read B S x y) := by
  refine zCO.have_ fun _ hB hS => ?_
  unfold zO_read
  refine zCO.bind (zC_isLine x y) ?_
  rcases zil_cases hB x y with h1 | ⟨s, l, hs, hl, hl6, hs3, rfl, rfl, h1⟩
  · rw [h1]; exact zCO.ifp rfl (zCO.ret _)
  · rw [h1]; exact zCO.ifn zb1n (zCO.bind zC_w1 (zCO.bind zC_w1 (zCO.bind (zC_r2 true) (zCO.bind zC_damp (zCO.bind (zC_r2 true) (zCO.bind (zC_read hs hl6 _) (zCO.ret _)))))))
/-! layers -/
def zO_layers (B : zLB) (S : zMS) (x y : Int32) : Int32 := match zil B x y with
  | none => -1
  | some p => nI (zPl S (6 * p.1 + p.2)).length
theorem zR_op_layers (x y : Int32) : zRW N a B S (fX7_layers N a x y) (zO_layers B S x y) := by
  refine zRW.have_ fun hN hB hS => ?_
  unfold zO_layers
  refine zRW.thr (zRO.bind (zR_isLine x y) ?_)
  rcases zil_cases hB x y with h1 | ⟨s, l, hs, hl, hl6, hs3, rfl, rfl, h1⟩
  · rw [h1]; exact zRO.ifp rfl (zRO.ret _)
  · rw [h1]; exact zRO.ifn zb1n (zRO.bind zR_o48 (zRO.bind (zR_pl hs3 hl6) (zRO.bind (zR_deep hB hS hN (by omega)) (zRO.ret _))))
theorem zC_manyq {s l : Nat} (hs : s < 3) (hl : l < 6) : zCO N k B S (jaI 0 (some (zka k true + 3)) ((6 * nI s) + nI l)) (nI (zPl S (6 * s + l)).length) := by
  rw [zc6_mu, nI_add]
  exact zC_many (by omega)
theorem zC_op_layers (x y : Int32) : zCO N k B S (fX1_layers (k.1 0) x y) (zO_layers B S x y) := by
  refine zCO.have_ fun _ hB hS => ?_
  unfold zO_layers
  refine zCO.bind (zC_isLine x y) ?_
  rcases zil_cases hB x y with h1 | ⟨s, l, hs, hl, hl6, hs3, rfl, rfl, h1⟩
  · rw [h1]; exact zCO.ifp rfl (zCO.ret _)
  · rw [h1]; exact zCO.ifn zb1n (zCO.bind zC_w1 (zCO.bind (zC_s5 true) (zCO.bind (zC_manyq hs3 hl6) (zCO.ret _))))
theorem zil_nI {s l : Nat} (hs : s < zS B) (hl : l < zLi B s) (hB : zLok B) : zil B (nI s) (nI l) = some (s, l) := by
  have h3 := hB.1
  have h6 := (hB.2.2.2.1 s hs).1.2
  rcases zil_cases hB (nI s) (nI l) with h1 | ⟨s', l', hs', hl', hl6, hs3, e1, e2, h1⟩
  · unfold zil at h1
    rcases zix_cases (nI s) (n := zS B) (by omega) with ⟨_, h2 | ⟨h2, h3⟩⟩ | ⟨j, h3, h4, h5⟩
    · exact absurd h2 (nI_pos (by omega))
    · exact absurd h3 (nI_ge hs (by omega))
    · have : s = j := (nI_eq (by omega) (by omega)).mp h5
      subst this
      rw [h4] at h1
      have h1 : (match zix (nI l) (zLi B s) with
        | none => none
        | some l => some (s, l)) = none := h1
      rcases zix_cases (nI l) (n := zLi B s) (by omega) with ⟨_, h2 | ⟨h2, h3⟩⟩ | ⟨j, h3, h4, h5⟩
      · exact absurd h2 (nI_pos (by omega))
      · exact absurd h3 (nI_ge hl (by omega))
      · rw [h4] at h1; cases h1
  · have a1 : s = s' := (nI_eq (by omega) (by omega)).mp e1
    have a2 : l = l' := (nI_eq (by omega) (by omega)).mp e2
    subst a1 a2
    exact h1
theorem zC_layersq {s l : Nat} (hs : s < zS B) (hl : l < zLi B s) : zCO N k B S (fX1_layers (k.1 0) (nI s) (nI l)) (nI (zPl S (6 * s + l)).length) := by
  refine zCO.have_ fun _ hB hS => ?_
  have := zC_op_layers (N := N) (k := k) (S := S) (B := B) (nI s) (nI l)
  unfold zO_layers at this
  rw [zil_nI hs hl hB] at this
  exact this
/-! layer -/
def zO_layer (B : zLB) (S : zMS) (x y i : Int32) : Int32 := match zil B x y with
  | none => -1
  | some p => match zix i (zPl S (6 * p.1 + p.2)).length with
    | none => -1
    | some j => nI (zAt (zPl S (6 * p.1 + p.2)) j)
theorem zR_op_layer (x y i : Int32) : zRW N a B S (fX7_layer N a x y i) (zO_layer B S x y i) := by
  refine zRW.have_ fun hN hB hS => ?_
  unfold zO_layer
  refine zRW.thr (zRO.bind (zR_isLine x y) ?_)
  rcases zil_cases hB x y with h1 | ⟨s, l, hs, hl, hl6, hs3, rfl, rfl, h1⟩
  · rw [h1]; exact zRO.ifp rfl (zRO.ret _)
  · rw [h1]
    have hp := zPl_ok hB hS (q := 6 * s + l) (by omega)
    refine zRO.ifn zb1n ?_
    show zRO N a B S _ (match zix i (zPl S (6 * s + l)).length with
      | none => -1
      | some j => nI (zAt (zPl S (6 * s + l)) j))
    rcases zix_cases i (n := (zPl S (6 * s + l)).length) (by omega) with ⟨h3, h4 | ⟨h4, h5⟩⟩ | ⟨j, h3, h4, rfl⟩
    · rw [h3]; exact zRO.ifp h4 (zRO.ret _)
    · rw [h3]
      exact zRO.ifn h4 (zRO.bind zR_o48 (zRO.bind (zR_pl hs3 hl6) (zRO.bind (zR_deep hB hS hN (by omega)) (zRO.ifn (Int32.not_lt.mpr h5) (zRO.ret _)))))
    · rw [h4]
      obtain ⟨p, t, u, e1, e2⟩ := zsplit h3
      refine zRO.ifn (nI_pos (by omega)) (zRO.bind zR_o48 (zRO.bind (zR_pl hs3 hl6) (zRO.bind (zR_deep hB hS hN (by omega)) (zRO.ifp (nI_lt h3 (by omega)) (zRO.bind zR_o48 (zRO.bind (zR_pl hs3 hl6) (zRO.bind (v := nI (zAt (zPl S (6 * s + l)) j)) ?_ (zRO.ret _))))))))
      refine zRO.bind (zR_deep hB hS hN (by omega)) ?_
      refine zRO.of fun h F L A M _ _ => ?_
      subst e2
      have := zd_layer (N := N) (H := rH h a (F, L, A, M)) t u p N (by rw [← e1]; exact hp.2.2.1) (by rw [← e1]; exact hp.1) (by
        have := hp.1
        rw [e1, List.length_append, List.length_cons] at this
        omega)
      rw [e1, zAt_of]
      have e3 : nI (p ++ t :: u).length - 1 = nI (p.length + u.length) := by
        rw [List.length_append, List.length_cons, ← Nat.add_assoc]
        exact nI_pred _
      rw [e3]
      exact this
theorem zC_op_layer (x y i : Int32) : zCO N k B S (fX1_layer (k.1 0) x y i) (zO_layer B S x y i) := by
  refine zCO.have_ fun _ hB hS => ?_
  unfold zO_layer
  refine zCO.bind (zC_isLine x y) ?_
  rcases zil_cases hB x y with h1 | ⟨s, l, hs, hl, hl6, hs3, rfl, rfl, h1⟩
  · rw [h1]; exact zCO.ifp rfl (zCO.ret _)
  · rw [h1]
    have hp := zPl_ok hB hS (q := 6 * s + l) (by omega)
    refine zCO.ifn zb1n (zCO.bind (zC_layersq hs hl) (zCO.bind (zC_within _ _ _) ?_))
    show zCO N k B S _ (match zix i (zPl S (6 * s + l)).length with
      | none => -1
      | some j => nI (zAt (zPl S (6 * s + l)) j))
    rw [zix_w i (by omega)]
    rcases zix_cases i (n := (zPl S (6 * s + l)).length) (by omega) with ⟨h3, -⟩ | ⟨j, h3, h4, rfl⟩
    · rw [h3]; exact zCO.ifp rfl (zCO.ret _)
    · rw [h4]
      obtain ⟨p, t, u, e1, e2⟩ := zsplit h3
      refine zCO.ifn zb1n (zCO.bind zC_w1 (zCO.bind (zC_r2 true) (zCO.bind (v := nI (zAt (zPl S (6 * s + l)) j)) ?_ (zCO.ret _))))
      rw [zc6_mu, nI_add]
      subst e2
      have e3 : zAt (zPl S (6 * s + l)) u.length = t := by rw [e1, zAt_of]
      rw [e3]
      exact zCO.of fun h X f R hX => zs_layer hX (by omega) e1
/-! later -/
def zO_later (B : zLB) (S : zMS) (x y w : Int32) : Int32 := match zil B x y with
  | none => -1
  | some p => match zix w 41 with
    | none => -1
    | some n => zo (zRd B S p.1 p.2 (nI (zDp B (zWk S + n))))
theorem zR_op_later (x y w : Int32) : zRW N a B S (fX7_later N a x y w) (zO_later B S x y w) := by
  refine zRW.have_ fun hN hB hS => ?_
  have hw := hS.1
  unfold zO_later
  refine zRW.thr (zRO.bind (zR_isLine x y) ?_)
  rcases zil_cases hB x y with h1 | ⟨s, l, hs, hl, hl6, hs3, rfl, rfl, h1⟩
  · rw [h1]; exact zRO.ifp rfl (zRO.ret _)
  · rw [h1]
    refine zRO.ifn zb1n (zRO.bind (zR_within _ _ _) ?_)
    rw [show (40 : Int32) = nI 40 from rfl, zix_in w (by decide)]
    rcases zix_cases w (n := 41) (by decide) with ⟨h3, -⟩ | ⟨n, h3, h4, rfl⟩
    · rw [h3]; exact zRO.ifp rfl (zRO.ret _)
    · rw [h4]
      refine zRO.ifn zb1n (zRO.bind zR_o48 (zRO.bind zR_wk ?_))
      rw [nI_add]
      exact zRO.bind (zR_damp (by omega)) (zRO.bind (zR_read hs3 hl6 _) (zRO.ret _))
theorem zC_op_later (x y w : Int32) : zCO N k B S (fX1_later N (k.1 0) x y w) (zO_later B S x y w) := by
  refine zCO.have_ fun hN hB hS => ?_
  have hw := hS.1
  unfold zO_later
  refine zCO.bind (zC_isLine x y) ?_
  rcases zil_cases hB x y with h1 | ⟨s, l, hs, hl, hl6, hs3, rfl, rfl, h1⟩
  · rw [h1]; exact zCO.ifp rfl (zCO.ret _)
  · rw [h1]
    refine zCO.ifn zb1n (zCO.bind (zC_within _ _ _) ?_)
    rw [show (40 : Int32) = nI 40 from rfl, zix_in w (by decide)]
    rcases zix_cases w (n := 41) (by decide) with ⟨h3, -⟩ | ⟨n, h3, h4, rfl⟩
    · rw [h3]; exact zCO.ifp rfl (zCO.ret _)
    · rw [h4]
      refine zCO.ifn zb1n (zCO.bind zC_w1 (zCO.bind zC_now (zCO.bind zC_w1 (zCO.bind zC_wk (zCO.bind zC_r3 ?_)))))
      rw [nI_add]
      exact zCO.bind (zC_ldamp (by omega)) (zCO.bind (zC_r2 true) (zCO.bind (zC_read hs hl6 _) (zCO.ret _)))
/-! when -/
def zO_when (B : zLB) (S : zMS) (x : Int32) : Int32 := match zix x (zT B) with
  | none => -1
  | some t => zo (zFs (fun n => zWh B S t (nI (zDp B (zWk S + n)))) 41 0)
theorem zR_when17 (hB : zLok B) (hS : zSok B S) {t : Nat} (ht : t < zT B) : ∀ (j n i : Nat), i + j = 41 → j < n → zRO N a B S (fX7_when_17 N a n (nI t) (nI i)) (zo (zFs (fun n => zWh B S t (nI (zDp B (zWk S + n)))) j i))
  | 0, n + 1, i, hi, hn => by
    rw [fX7_when_17]
    exact zRO.ifp ((zc40_gt (by omega)).mpr (by omega)) (zRO.ret _)
  | j + 1, n + 1, i, hi, hn => by
    have hw := hS.1
    have hT := hB.2.1
    rw [fX7_when_17, zFs]
    refine zRO.ifn (fun q => by have := (zc40_gt (by omega)).mp q; omega) (zRO.bind zR_o48 (zRO.bind zR_wk ?_))
    rw [nI_add, zc1_da]
    refine zRO.bind (zR_damp (by omega)) (zRO.bind (zR_whole _) ?_)
    have hlt := zWl_lt hB S (nI (zDp B (zWk S + i)))
    have etb := zWl_tb (S := S) ht (nI (zDp B (zWk S + i)))
    cases hc : zWh B S t (nI (zDp B (zWk S + i))) with
    | true => exact zRO.ifp ((zbit1 (by omega) (by omega)).mpr (etb.trans hc)) (zRO.ret _)
    | false =>
      refine zRO.ifn (fun q => ?_) (zR_when17 hB hS ht j n (i + 1) (by omega) (by omega))
      have := (zbit1 (by omega) (by omega)).mp q
      rw [etb, hc] at this
      cases this
theorem zR_op_when (x : Int32) : zRW N a B S (fX7_when N a x) (zO_when B S x) := by
  refine zRW.have_ fun hN hB hS => ?_
  have hT := hB.2.1
  unfold zO_when
  refine zRW.thr (zRO.bind (zR_isText x) ?_)
  rcases zix_cases x (n := zT B) (by omega) with ⟨h3, -⟩ | ⟨t, h3, h4, rfl⟩
  · rw [h3]; exact zRO.ifp rfl (zRO.ret _)
  · rw [h4]; exact zRO.ifn zb1n (zR_when17 hB hS h3 41 N 0 rfl (by omega))
theorem zC_when12 (hB : zLok B) (hS : zSok B S) {t : Nat} (ht : t < zT B) : ∀ (j n i : Nat), i + j = 41 → j < n → zCO N k B S (fX1_when_12 N (k.1 0) n (nI t) (nI i)) (zo (zFs (fun n => zWh B S t (nI (zDp B (zWk S + n)))) j i))
  | 0, n + 1, i, hi, hn => by
    rw [fX1_when_12]
    exact zCO.ifp ((zc40_gt (by omega)).mpr (by omega)) (zCO.ret _)
  | j + 1, n + 1, i, hi, hn => by
    have hw := hS.1
    rw [fX1_when_12, zFs]
    refine zCO.ifn (fun q => by have := (zc40_gt (by omega)).mp q; omega) (zCO.bind zC_w1 (zCO.bind zC_now (zCO.bind zC_w1 (zCO.bind zC_wk (zCO.bind zC_r3 ?_)))))
    rw [nI_add, zc1_da]
    refine zCO.bind (zC_ldamp (by omega)) (zCO.bind (zC_r2 true) (zCO.bind (zC_isWhole ht _) ?_))
    cases hc : zWh B S t (nI (zDp B (zWk S + i))) with
    | true => exact zCO.ifn zb1n (zCO.ret _)
    | false => exact zCO.ifp rfl (zC_when12 hB hS ht j n (i + 1) (by omega) (by omega))
theorem zC_op_when (x : Int32) : zCO N k B S (fX1_when N (k.1 0) x) (zO_when B S x) := by
  refine zCO.have_ fun hN hB hS => ?_
  have hT := hB.2.1
  unfold zO_when
  refine zCO.bind (zC_isText x) ?_
  rcases zix_cases x (n := zT B) (by omega) with ⟨h3, -⟩ | ⟨t, h3, h4, rfl⟩
  · rw [h3]; exact zCO.ifp rfl (zCO.ret _)
  · rw [h4]; exact zCO.ifn zb1n (zC_when12 hB hS h3 41 N 0 rfl (by omega))
/-! need, psalter -/
def zO_need (B : zLB) (S : zMS) (x : Int32) : Int32 := match zix x (zT B) with
  | none => -1
  | some t => zo (zFs (fun d => zWh B S t (nI d)) 10 0)
def zO_psalter (B : zLB) (S : zMS) (x : Int32) : Int32 := match zix x (zT B) with
  | none => -1
  | some t => nI (zCt (fun d => zWh B S t (nI d)) 10)
theorem zR_need17 (hB : zLok B) {t : Nat} (ht : t < zT B) : ∀ (j n i : Nat), i + j = 10 → j < n → zRO N a B S (fX7_need_17 N a n (nI t) (nI i)) (zo (zFs (fun d => zWh B S t (nI d)) j i))
  | 0, n + 1, i, hi, hn => by
    rw [fX7_need_17]
    exact zRO.ifp ((zc10_le (by omega)).mpr (by omega)) (zRO.ret _)
  | j + 1, n + 1, i, hi, hn => by
    have hT := hB.2.1
    rw [fX7_need_17, zFs, zc1_da]
    refine zRO.ifn (fun q => by have := (zc10_le (by omega)).mp q; omega) (zRO.bind (zR_whole _) ?_)
    have hlt := zWl_lt hB S (nI i)
    have etb := zWl_tb (S := S) ht (nI i)
    cases hc : zWh B S t (nI i) with
    | true => exact zRO.ifp ((zbit1 (by omega) (by omega)).mpr (etb.trans hc)) (zRO.ret _)
    | false =>
      refine zRO.ifn (fun q => ?_) (zR_need17 hB ht j n (i + 1) (by omega) (by omega))
      have := (zbit1 (by omega) (by omega)).mp q
      rw [etb, hc] at this
      cases this
theorem zR_op_need (x : Int32) : zRW N a B S (fX7_need N a x) (zO_need B S x) := by
  refine zRW.have_ fun hN hB hS => ?_
  have hT := hB.2.1
  unfold zO_need
  refine zRW.thr (zRO.bind (zR_isText x) ?_)
  rcases zix_cases x (n := zT B) (by omega) with ⟨h3, -⟩ | ⟨t, h3, h4, rfl⟩
  · rw [h3]; exact zRO.ifp rfl (zRO.ret _)
  · rw [h4]; exact zRO.ifn zb1n (zR_need17 hB h3 10 N 0 rfl (by omega))
theorem zC_need12 {t : Nat} (ht : t < zT B) : ∀ (j n i : Nat), i + j = 10 → j < n → zCO N k B S (fX1_need_12 N (k.1 0) n (nI t) (nI i)) (zo (zFs (fun d => zWh B S t (nI d)) j i))
  | 0, n + 1, i, hi, hn => by
    rw [fX1_need_12]
    exact zCO.ifp ((zc9_gt (by omega)).mpr (by omega)) (zCO.ret _)
  | j + 1, n + 1, i, hi, hn => by
    rw [fX1_need_12, zFs, zc1_da]
    refine zCO.ifn (fun q => by have := (zc9_gt (by omega)).mp q; omega) (zCO.bind zC_w1 (zCO.bind (zC_r2 true) (zCO.bind (zC_isWhole ht _) ?_)))
    cases hc : zWh B S t (nI i) with
    | true => exact zCO.ifn zb1n (zCO.ret _)
    | false => exact zCO.ifp rfl (zC_need12 ht j n (i + 1) (by omega) (by omega))
theorem zC_op_need (x : Int32) : zCO N k B S (fX1_need N (k.1 0) x) (zO_need B S x) := by
  refine zCO.have_ fun hN hB hS => ?_
  have hT := hB.2.1
  unfold zO_need
  refine zCO.bind (zC_isText x) ?_
  rcases zix_cases x (n := zT B) (by omega) with ⟨h3, -⟩ | ⟨t, h3, h4, rfl⟩
  · rw [h3]; exact zCO.ifp rfl (zCO.ret _)
  · rw [h4]; exact zCO.ifn zb1n (zC_need12 h3 10 N 0 rfl (by omega))
theorem zR_psalter19 (hB : zLok B) {t : Nat} (ht : t < zT B) : ∀ (j n i : Nat), i + j = 10 → j < n → zRO N a B S (fX7_psalter_19 N a n (nI t) (nI (zCt (fun d => zWh B S t (nI d)) i)) (nI i)) (nI (zCt (fun d => zWh B S t (nI d)) 10))
  | 0, n + 1, i, hi, hn => by
    have e : i = 10 := by omega
    subst e
    rw [fX7_psalter_19]
    exact zRO.ifp (by decide) (zRO.ret _)
  | j + 1, n + 1, i, hi, hn => by
    have hT := hB.2.1
    rw [fX7_psalter_19, zc1_da]
    refine zRO.ifn (fun q => by have := (zc10_le (by omega)).mp q; omega) (zRO.bind (zR_whole _) ?_)
    have hlt := zWl_lt hB S (nI i)
    rw [zbit (by omega) (by omega), nI_add, zWl_tb ht]
    exact zR_psalter19 hB ht j n (i + 1) (by omega) (by omega)
theorem zR_op_psalter (x : Int32) : zRW N a B S (fX7_psalter N a x) (zO_psalter B S x) := by
  refine zRW.have_ fun hN hB hS => ?_
  have hT := hB.2.1
  unfold zO_psalter
  refine zRW.thr (zRO.bind (zR_isText x) ?_)
  rcases zix_cases x (n := zT B) (by omega) with ⟨h3, -⟩ | ⟨t, h3, h4, rfl⟩
  · rw [h3]; exact zRO.ifp rfl (zRO.ret _)
  · rw [h4]; exact zRO.ifn zb1n (zR_psalter19 hB h3 10 N 0 rfl (by omega))
theorem zC_psalter14 {t : Nat} (ht : t < zT B) : ∀ (j n i : Nat), i + j = 10 → j < n → zCO N k B S (fX1_psalter_14 N (k.1 0) n (nI t) (nI (zCt (fun d => zWh B S t (nI d)) i)) (nI i)) (nI (zCt (fun d => zWh B S t (nI d)) 10))
  | 0, n + 1, i, hi, hn => by
    have e : i = 10 := by omega
    subst e
    rw [fX1_psalter_14]
    exact zCO.ifp (by decide) (zCO.ret _)
  | j + 1, n + 1, i, hi, hn => by
    rw [fX1_psalter_14]
    refine zCO.ifn (fun q => by have := (zc9_gt (by omega)).mp q; omega) (zCO.bind zC_w1 (zCO.bind (zC_r2 true) (zCO.bind (zC_isWhole ht _) ?_)))
    have ih := zC_psalter14 ht j n (i + 1) (by omega) (by omega)
    rw [zCt] at ih
    unfold fX1_psalter_35
    rw [zc1_da, zc1_da]
    cases hc : zWh B S t (nI i) with
    | true =>
      rw [hc, if_pos rfl] at ih
      exact zCO.ifn zb1n ih
    | false =>
      rw [hc, if_neg (by decide)] at ih
      exact zCO.ifp rfl ih
theorem zC_op_psalter (x : Int32) : zCO N k B S (fX1_psalter N (k.1 0) x) (zO_psalter B S x) := by
  refine zCO.have_ fun hN hB hS => ?_
  have hT := hB.2.1
  unfold zO_psalter
  refine zCO.bind (zC_isText x) ?_
  rcases zix_cases x (n := zT B) (by omega) with ⟨h3, -⟩ | ⟨t, h3, h4, rfl⟩
  · rw [h3]; exact zCO.ifp rfl (zCO.ret _)
  · rw [h4]; exact zCO.ifn zb1n (zC_psalter14 h3 10 N 0 rfl (by omega))
/-! place -/
def zO_place (B : zLB) (S : zMS) (x y : Int32) : Int32 := match zix x (zT B) with
  | none => -1
  | some t => match zix y (zS B) with
    | none => -1
    | some s => zo (zPc B S t s)
theorem zR_op_place (x y : Int32) : zRW N a B S (fX7_place N a x y) (zO_place B S x y) := by
  refine zRW.have_ fun hN hB hS => ?_
  have hT := hB.2.1
  have hs := hB.1
  unfold zO_place
  refine zRW.thr (zRO.bind (zR_isText x) ?_)
  rcases zix_cases x (n := zT B) (by omega) with ⟨h3, -⟩ | ⟨t, h3, h4, rfl⟩
  · rw [h3]; exact zRO.ifp rfl (zRO.ret _)
  · rw [h4]
    refine zRO.ifn zb1n (zRO.bind (zR_isSkin y) ?_)
    rcases zix_cases y (n := zS B) (by omega) with ⟨h5, -⟩ | ⟨s, h5, h6, rfl⟩
    · rw [h5]; exact zRO.ifp rfl (zRO.ret _)
    · rw [h6]; exact zRO.ifn zb1n (zRO.bind (zR_place h3 h5) (zRO.ret _))
theorem zC_op_place (x y : Int32) : zCO N k B S (fX1_place N (k.1 0) x y) (zO_place B S x y) := by
  refine zCO.have_ fun hN hB hS => ?_
  have hT := hB.2.1
  have hs := hB.1
  unfold zO_place
  refine zCO.bind (zC_isText x) ?_
  rcases zix_cases x (n := zT B) (by omega) with ⟨h3, -⟩ | ⟨t, h3, h4, rfl⟩
  · rw [h3]; exact zCO.ifp rfl (zCO.ret _)
  · rw [h4]
    refine zCO.ifn zb1n (zCO.bind (zC_isSkin y) ?_)
    rcases zix_cases y (n := zS B) (by omega) with ⟨h5, -⟩ | ⟨s, h5, h6, rfl⟩
    · rw [h5]; exact zCO.ifp rfl (zCO.ret _)
    · rw [h6]; exact zCO.ifn zb1n (zCO.bind zC_w1 (zCO.bind (zC_r2 true) (zCO.bind (zC_place h3 h5) (zCO.ret _))))
end
