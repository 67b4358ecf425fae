/-! PURE 10: the component's shelf: reading -/
set_option maxRecDepth 100000
theorem zh_has {a l : Nat} (ha : a < 2 ^ 31) (hl : l < 32) (H : jH) : (fX1_has (nI a) (nI l)).1 H = some (zb (a.testBit l), H) := by
  unfold fX1_has
  rw [zI]
  by_cases hb : a.testBit l = true
  · rw [if_pos ((zbit1 ha hl).mpr hb), hb]; rfl
  · rw [if_neg (fun q => hb ((zbit1 ha hl).mp q)), Bool.eq_false_iff.mpr hb]; rfl
theorem z8_suf : ∀ (p : List Nat) (t : Nat) (s : List Nat), (∀ x ∈ p ++ t :: s, x < 6) → z8 (p ++ t :: s) / 8 ^ s.length % 8 = t
  | [], t, s, h => z8_top h
  | u :: p, t, s, h => by
    rw [List.cons_append, z8_low (by simp; omega)]
    exact z8_suf p t s (fun x hx => h x (List.mem_cons_of_mem _ hx))
theorem zand7 {a : Nat} (ha : a < 2 ^ 32) : nI a &&& 7 = nI (a % 8) := pk_andN (m := 7) ha 3 (by decide)
theorem zand63 {a : Nat} (ha : a < 2 ^ 32) : nI a &&& 63 = nI (a % 64) := pk_andN (m := 63) ha 6 (by decide)
theorem zlay {z i : Nat} (hz : z < 2 ^ 31) (hi : i < 10) : (nI z >>> ((3 * nI i) &&& 31)) &&& 7 = nI (z / 8 ^ i % 8) := by
  rw [zc3_mu, zshr hz (by omega), zand7 (Nat.lt_of_le_of_lt (Nat.div_le_self _ _) (by omega)), z8_p]
theorem zsubm1 (x : Int32) : x + (-1) = x - 1 := by rw [Int32.sub_eq_add_neg]
section
variable {α : Type} {N : Nat} {h : jH} {k : zKA} {c : zCS} {B : zLB} {S : zMS} {X : Bool → zSS} {f : Nat → Int32} {R : zCR} {b : Bool}
theorem zs_isOpen (hX : zCX N h k b B S X) {q : Nat} (hq : q < 18) : (fX3_isOpen (zka k b) (nI q)).1 (cH h k (X, f, R)) = some (zb ((zOf S).testBit q), cH h k (X, f, R)) := by
  have hk := hX.2.1
  have e1 := hX.2.2.2.2.2.2.1.2.2.1
  have ho := zOf_lt S
  unfold fX3_isOpen
  rw [zc_g2_2 hk, e1, jB_eq (zh_has (by omega) (by omega) _)]
  exact zRnb _ _
theorem zs_layer (hX : zCX N h k b B S X) {q t : Nat} {p s : List Nat} (hq : q < 18) (hr : zPl S q = p ++ t :: s) : (fX3_layer (zka k b) (nI q) (nI s.length)).1 (cH h k (X, f, R)) = some (nI t, cH h k (X, f, R)) := by
  have hk := hX.2.1
  have e1 := (hX.2.2.2.2.2.2.1.2.2.2.2 q hq).1
  have hp := zPl_ok hX.2.2.1 hX.2.2.2.1 hq
  have hl : s.length < 10 := by
    have := hp.1
    rw [hr, List.length_append, List.length_cons] at this
    omega
  unfold fX3_layer
  rw [zc_g2_4 hk, zc_a2 hk hq, e1, zlay (Nat.lt_trans hp.2.2.2.2 (by decide)) hl, hr, z8_suf p t s (by rw [← hr]; exact hp.2.2.1)]
  rfl
theorem zs_top (hX : zCX N h k b B S X) {q t : Nat} {r : List Nat} (hq : q < 18) (hr : zPl S q = t :: r) : (fX3_top (zka k b) (nI q)).1 (cH h k (X, f, R)) = some (nI t, cH h k (X, f, R)) := by
  have hk := hX.2.1
  have e1 := (hX.2.2.2.2.2.2.1.2.2.2.2 q hq).2
  unfold fX3_top
  rw [zc_g2_5 hk, zc_a3 hk hq, e1, hr, List.length_cons, nI_pred, jB_eq (zs_layer (p := []) hX hq hr)]
  rfl
theorem zs_read35 (hX : zCX N h k b B S X) {s q : Nat} (hs : s < zS B) (hq : q < 18) (damp : Int32) : ∀ (u p : List Nat) (n : Nat) (f : Nat → Int32), zPl S q = p ++ u → u.length < n →
    ∃ f', (fX3_read_35 N (zka k b) n (nI s) damp (nI q) (nI u.length - 1)).1 (cH h k (X, f, R)) = some (zo (zRdL B damp (nI (zTh S s)) (p.length + 1) u), cH h k (X, f', R))
  | [], p, n + 1, f, hp, hn => by
    refine ⟨f, ?_⟩
    have e0 : nI ([] : List Nat).length - 1 < 0 := by decide
    rw [fX3_read_35, if_pos e0]
    rfl
  | t :: u, p, n + 1, f, hp, hn => by
    have hk := hX.2.1
    have hC := hX.2.2.2.2.1
    have hlib := hX.2.2.2.2.2.2.1.1
    have hs3 := hX.2.2.1.1
    have hT := hX.2.2.1.2.1
    have e3 := hX.2.2.2.2.2.2.1.2.2.2.1 s hs
    have e4 := (hX.2.2.2.2.2.2.1.2.2.2.2 q hq).2
    have hpl := zPl_ok hX.2.2.1 hX.2.2.2.1 hq
    have ht : t < zT B := hpl.2.1 t (by rw [hp]; exact List.mem_append_right _ List.mem_cons_self)
    have el : (zPl S q).length = p.length + (u.length + 1) := by rw [hp, List.length_append, List.length_cons]
    have hl9 := hpl.1
    have e0 : ¬ nI u.length < 0 := nI_pos (by omega)
    have ex : nI (t :: u).length - 1 = nI u.length := by rw [List.length_cons]; exact nI_pred _
    have ed : nI (zPl S q).length - nI u.length = nI (p.length + 1) := by
      rw [pk_sub (by omega), el]
      congr 1
      omega
    obtain ⟨f1, es⟩ := zs_shows (R := R) hX ht (nI (p.length + 1)) damp (nI (zTh S s)) f
    have ey := zs_layer (f := f) (R := R) hX hq hp
    have ey1 := zs_layer (f := f1) (R := R) hX hq hp
    have e5 : (fX3_read_35 N (zka k b) (n + 1) (nI s) damp (nI q) (nI (t :: u).length - 1)).1 (cH h k (X, f, R)) = (if zb (zShow B t (nI (p.length + 1)) damp (nI (zTh S s))) = 0 then (fX3_read_35 N (zka k b) n (nI s) damp (nI q) (nI u.length - 1)).1 (cH h k (X, f1, R)) else some (nI t, cH h k (X, f1, R))) := by
      rw [ex, fX3_read_35, if_neg e0, zc_g2_0 hk, hlib, jB_eq ey, zs_text hk hC hlib ht, zc_g2_5 hk, zc_a3 hk hq, zc_g2_3 hk, zc_a1 hk (show s < 3 by omega), e3, e4, ed, zl_r3 hC, jB_eq es, zI, zsubm1]
      by_cases hz : zb (zShow B t (nI (p.length + 1)) damp (nI (zTh S s))) = 0
      · rw [if_pos hz, if_pos hz]
      · rw [if_neg hz, if_neg hz]
        unfold fX3_read_79
        rw [jB_eq ey1]
        rfl
    rw [e5]
    cases hs2 : zShow B t (nI (p.length + 1)) damp (nI (zTh S s)) with
    | true =>
      refine ⟨f1, ?_⟩
      rw [zRdL, hs2]
      rfl
    | false =>
      obtain ⟨f2, e6⟩ := zs_read35 hX hs hq damp u (p ++ [t]) n f1 (by rw [hp, List.append_assoc]; rfl) (by simp only [List.length_cons] at hn; omega)
      refine ⟨f2, ?_⟩
      rw [if_pos zb_f, e6, zRdL, hs2, List.length_append]
      rfl
theorem zs_read (hX : zCX N h k b B S X) {s l : Nat} (hs : s < zS B) (hl : l < 6) (damp : Int32) (f : Nat → Int32) : ∃ f', (fX3_read N (zka k b) (nI s) (nI l) damp).1 (cH h k (X, f, R)) = some (zo (zRd B S s l damp), cH h k (X, f', R)) := by
  have hN := hX.1
  have hk := hX.2.1
  have hs3 := hX.2.2.1.1
  have hq : 6 * s + l < 18 := by omega
  have eo := zs_isOpen (f := f) (R := R) hX hq
  rw [zOf_tb S (by omega) hl] at eo
  have e4 := (hX.2.2.2.2.2.2.1.2.2.2.2 _ hq).2
  have hpl := zPl_ok hX.2.2.1 hX.2.2.2.1 hq
  unfold fX3_read zRd
  simp only [zc6_mu, nI_add]
  rw [jB_eq eo, zI]
  by_cases hb : (zOp S s).testBit l = true
  · refine ⟨f, ?_⟩
    have hne := hX.2.2.2.1.2.2.2.1 s l (by omega) hl hb
    rw [hb, if_neg (by decide), if_pos rfl]
    cases hr : zPl S (6 * s + l) with
    | nil => exact absurd hr hne
    | cons t r =>
      rw [jB_eq (zs_top hX hq hr)]
      rfl
  · obtain ⟨f', e5⟩ := zs_read35 (R := R) hX hs hq damp (zPl S (6 * s + l)) [] N f rfl (by omega)
    refine ⟨f', ?_⟩
    rw [Bool.eq_false_iff.mpr hb, if_pos zb_f, zc_g2_5 hk, zc_a3 hk hq, e4, e5]
    rfl
theorem zs_damp (hX : zCX N h k b B S X) : (fX3_damp (zka k b)).1 (cH h k (X, f, R)) = some (nI (zDp B (zWk S)), cH h k (X, f, R)) := by
  have hk := hX.2.1
  have hC := hX.2.2.2.2.1
  have hlib := hX.2.2.2.2.2.2.1.1
  have e1 := hX.2.2.2.2.2.2.1.2.1
  have hw := hX.2.2.2.1.1
  unfold fX3_damp
  rw [zc_g2_0 hk, hlib, zc_g2_1 hk, e1, zl_r3 hC, jB_eq (zl_damp hC (by omega))]
  rfl
theorem zs_wh16 (hX : zCX N h k b B S X) {t s : Nat} (ht : t < zT B) (hs : s < zS B) (damp : Int32) (k2 : Int32 → Int32 → Int32 → jM Int32) : ∀ (j n l : Nat) (f : Nat → Int32), l + j = 6 → j < n → zRun (fun l => zRd B S s l damp) t l < zLo B t → (∀ q, q < l → ¬ zLo B t ≤ zRun (fun l => zRd B S s l damp) t (q + 1)) →
    ∃ f', (fX3_isWhole_16 N k2 (zka k b) n (nI t) damp (nI s) (nI (zRun (fun l => zRd B S s l damp) t l)) (nI l)).1 (cH h k (X, f, R)) = if zAny (fun q => decide (zLo B t ≤ zRun (fun l => zRd B S s l damp) t (q + 1))) 6 = true then some (1, cH h k (X, f', R)) else (k2 (nI t) damp (nI (s + 1))).1 (cH h k (X, f', R))
  | 0, n + 1, l, f, hj, hn, hr, hq => by
    have e : l = 6 := by omega
    subst e
    refine ⟨f, ?_⟩
    have hz : ¬ zAny (fun q => decide (zLo B t ≤ zRun (fun l => zRd B S s l damp) t (q + 1))) 6 = true := by
      rw [zAny_t]
      rintro ⟨i, h1, h2⟩
      exact hq i h1 (of_decide_eq_true h2)
    rw [if_neg hz]
    rw [fX3_isWhole_16, if_pos (by decide)]
    unfold fX3_isWhole_66
    rw [zc1_da]
  | j + 1, n + 1, l, f, hj, hn, hr, hq => by
    have hk := hX.2.1
    have hC := hX.2.2.2.2.1
    have hlib := hX.2.2.2.2.2.2.1.1
    have hlo := (hX.2.2.1.2.2.2.2.1 t ht).2.2
    have hT := hX.2.2.1.2.1
    have hs3 := hX.2.2.1.1
    have e : ¬ (6 : Int32) ≤ nI l := by rw [zc6_le (by omega)]; omega
    obtain ⟨f1, er⟩ := zs_read (R := R) hX hs (show l < 6 by omega) damp f
    have hr31 : ∀ u, zRd B S s l damp = some u → u < 2 ^ 31 := fun u hu => by
      have := zRd_lt hX.2.2.2.1 (show s < 3 by omega) (show l < 6 by omega) hu
      omega
    have hle := zRun_le (fun l => zRd B S s l damp) t (l + 1)
    have e5 : (fX3_isWhole_16 N k2 (zka k b) (n + 1) (nI t) damp (nI s) (nI (zRun (fun l => zRd B S s l damp) t l)) (nI l)).1 (cH h k (X, f, R)) = if nI (zRun (fun l => zRd B S s l damp) t (l + 1)) = nI (zLo B t) then some (1, cH h k (X, f1, R)) else (fX3_isWhole_16 N k2 (zka k b) n (nI t) damp (nI s) (nI (zRun (fun l => zRd B S s l damp) t (l + 1))) (nI (l + 1))).1 (cH h k (X, f1, R)) := by
      rw [fX3_isWhole_16, if_neg e, jB_eq er, zI, zRun]
      by_cases hc : zRd B S s l damp = some t
      · rw [if_pos ((zo_nI hr31 (by omega)).mpr hc), if_pos hc]
        unfold fX3_isWhole_43
        rw [zs_text hk hC hlib ht, zl_g13_1 hC ht, zI, zc1_da, zc1_da]
        rfl
      · rw [if_neg (fun q => hc ((zo_nI hr31 (by omega)).mp q)), if_neg hc]
        unfold fX3_isWhole_43
        rw [zs_text hk hC hlib ht, zl_g13_1 hC ht, zI, zc1_da]
        rfl
    rw [e5]
    by_cases hc : zRun (fun l => zRd B S s l damp) t (l + 1) = zLo B t
    · refine ⟨f1, ?_⟩
      rw [if_pos (by rw [hc]), if_pos]
      exact zAny_t.mpr ⟨l, by omega, decide_eq_true (by omega)⟩
    · have hlt : zRun (fun l => zRd B S s l damp) t (l + 1) < zLo B t := by
        have : zRun (fun l => zRd B S s l damp) t (l + 1) ≤ zRun (fun l => zRd B S s l damp) t l + 1 := by
          rw [zRun]
          split <;> omega
        omega
      obtain ⟨f2, e6⟩ := zs_wh16 hX ht hs damp k2 j n (l + 1) f1 (by omega) (by omega) hlt (fun q h1 => by
        by_cases hql : q = l
        · subst hql; omega
        · exact hq q (by omega))
      refine ⟨f2, ?_⟩
      rw [if_neg (fun q => hc ((nI_eq (by omega) (by omega)).mp q)), e6]
theorem zs_wh2 (hX : zCX N h k b B S X) {t : Nat} (ht : t < zT B) (damp : Int32) : ∀ (j n s : Nat) (f : Nat → Int32), s + j = zS B → j < n → (∀ q, q < s → zAny (fun l => decide (zLo B t ≤ zRun (fun l => zRd B S q l damp) t (l + 1))) 6 = false) →
    ∃ f', (fX3_isWhole_2 N (zka k b) n (nI t) damp (nI s)).1 (cH h k (X, f, R)) = some (zb (zWh B S t damp), cH h k (X, f', R))
  | 0, n + 1, s, f, hj, hn, hq => by
    have hk := hX.2.1
    have hC := hX.2.2.2.2.1
    have hlib := hX.2.2.2.2.2.2.1.1
    have hs3 := hX.2.2.1.1
    have e : nI (zS B) ≤ nI s := nI_le (by omega) (by omega)
    have ez : zWh B S t damp = false := zAny_f.mpr (fun i hi => hq i (by omega))
    refine ⟨f, ?_⟩
    rw [ez]
    unfold fX3_isWhole_2
    rw [zs_skins hk hC hlib, if_pos e]
    rfl
  | j + 1, n + 1, s, f, hj, hn, hq => by
    have hN := hX.1
    have hk := hX.2.1
    have hC := hX.2.2.2.2.1
    have hlib := hX.2.2.2.2.2.2.1.1
    have hs3 := hX.2.2.1.1
    have hlo := (hX.2.2.1.2.2.2.2.1 t ht).2.2
    have e : ¬ nI (zS B) ≤ nI s := nI_ge (by omega) (by omega)
    obtain ⟨f1, e1⟩ := zs_wh16 (R := R) hX ht (show s < zS B by omega) damp (fX3_isWhole_2 N (zka k b) n) 6 N 0 f (by omega) (by omega) (by show 0 < _; omega) (fun q h1 => by omega)
    have e2 : (fX3_isWhole_2 N (zka k b) (n + 1) (nI t) damp (nI s)).1 (cH h k (X, f, R)) = (fX3_isWhole_16 N (fX3_isWhole_2 N (zka k b) n) (zka k b) N (nI t) damp (nI s) 0 0).1 (cH h k (X, f, R)) := by
      rw [fX3_isWhole_2, zs_skins hk hC hlib, if_neg e]
    rw [e2]
    by_cases hc : zAny (fun q => decide (zLo B t ≤ zRun (fun l => zRd B S s l damp) t (q + 1))) 6 = true
    · rw [if_pos hc] at e1
      have ez : zWh B S t damp = true := zAny_t.mpr ⟨s, by omega, hc⟩
      rw [ez]
      exact ⟨f1, e1⟩
    · rw [if_neg hc] at e1
      obtain ⟨f2, e3⟩ := zs_wh2 hX ht damp j n (s + 1) f1 (by omega) (by omega) (fun q h1 => by
        by_cases hql : q = s
        · subst hql; exact Bool.eq_false_iff.mpr hc
        · exact hq q (by omega))
      exact ⟨f2, e1.trans e3⟩
theorem zs_isWhole (hX : zCX N h k b B S X) {t : Nat} (ht : t < zT B) (damp : Int32) (f : Nat → Int32) : ∃ f', (fX3_isWhole N (zka k b) (nI t) damp).1 (cH h k (X, f, R)) = some (zb (zWh B S t damp), cH h k (X, f', R)) := by
  have hN := hX.1
  have hs3 := hX.2.2.1.1
  exact zs_wh2 hX ht damp (zS B) N 0 f (by omega) (by omega) (fun q h1 => by omega)
theorem zs_whole4 (hX : zCX N h k b B S X) (damp : Int32) : ∀ (j n t : Nat) (f : Nat → Int32), t + j = zT B → j < n →
    ∃ f', (fX3_whole_4 N (zka k b) n damp (nI (zMk (fun t => zWh B S t damp) t)) (nI t)).1 (cH h k (X, f, R)) = some (nI (zWl B S damp), cH h k (X, f', R))
  | 0, n + 1, t, f, hj, hn => by
    have hk := hX.2.1
    have hC := hX.2.2.2.2.1
    have hlib := hX.2.2.2.2.2.2.1.1
    have hT := hX.2.2.1.2.1
    have e : nI (zT B) ≤ nI t := nI_le (by omega) (by omega)
    refine ⟨f, ?_⟩
    rw [fX3_whole_4, zs_texts hk hC hlib, if_pos e]
    have e2 : t = zT B := by omega
    rw [e2]
    rfl
  | j + 1, n + 1, t, f, hj, hn => by
    have hk := hX.2.1
    have hC := hX.2.2.2.2.1
    have hlib := hX.2.2.2.2.2.2.1.1
    have hT := hX.2.2.1.2.1
    have e : ¬ nI (zT B) ≤ nI t := nI_ge (by omega) (by omega)
    obtain ⟨f1, e1⟩ := zs_isWhole (R := R) hX (show t < zT B by omega) damp f
    obtain ⟨f2, e2⟩ := zs_whole4 hX damp j n (t + 1) f1 (by omega) (by omega)
    refine ⟨f2, ?_⟩
    rw [fX3_whole_4, zs_texts hk hC hlib, if_neg e, jB_eq e1, zI, ← e2, zMk_s]
    cases hw : zWh B S t damp with
    | true =>
      rw [if_neg (by decide), if_pos rfl]
      unfold fX3_whole_27
      rw [zshl (by omega), zor, zc1_da]
    | false =>
      rw [if_pos zb_f, if_neg (by decide)]
      unfold fX3_whole_27
      rw [zc1_da]
theorem zs_whole (hX : zCX N h k b B S X) (damp : Int32) (f : Nat → Int32) : ∃ f', (fX3_whole N (zka k b) damp).1 (cH h k (X, f, R)) = some (nI (zWl B S damp), cH h k (X, f', R)) := by
  have hN := hX.1
  have hT := hX.2.2.1.2.1
  exact zs_whole4 hX damp (zT B) N 0 f (by omega) (by omega)
end
