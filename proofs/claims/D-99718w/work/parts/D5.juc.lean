/-! PURE 62: years judged: the component -/
set_option maxRecDepth 100000
/-- a line as an object -/
def zLo1 (x : zLine) : Nat × List Value := if x.1 = 3 then (28, []) else if x.1 = 0 then (30, [.int (nI x.2.1), .int (nI x.2.2.1), .int (nI x.2.2.2)]) else (29, [.int (nI x.2.2.1), .int (zb (decide (x.1 = 2)))])
/-- lines of a year -/
def zLis (g : Nat → Option jC) (p : Nat) (Y : zYy) (l : Nat → Nat) : Prop := zLg g p Y.1 l ∧ ∀ i, i < Y.1 → g (l i) = some (.inl (zLo1 (Y.2 i)))
/-- the trial goes from St to St', where some cells are known -/
def zCU {α : Type} (Q : jH → zCR → Prop) (N : Nat) (k : zKA) (B : zLB) (S St : zMS) (m : jM α) (v : α) (St' : zMS) : Prop := ∀ (h : jH) (X : Bool → zSS) (f : Nat → Int32) (R : zCR), zCX N h k true B S X → zCX N h k false B St X → Q h R →
  ∃ X' f', X' true = X true ∧ zCX N h k false B St' X' ∧ m.1 (cH h k (X, f, R)) = some (v, cH h k (X', f', R))
/-- a whole call, where some cells are known -/
def zCWp {α : Type} (Q : jH → zCR → Prop) (N : Nat) (k : zKA) (B : zLB) (S : zMS) (m : jM α) (v : α) : Prop := ∀ (h : jH) (X : Bool → zSS) (f : Nat → Int32) (R : zCR), zCX N h k true B S X → Q h R →
  ∃ X' f', X' true = X true ∧ m.1 (cH h k (X, f, R)) = some (v, cH h k (X', f', R))
section
variable {α β : Type} {N : Nat} {k : zKA} {B : zLB} {S St St1 St2 : zMS} {Q : jH → zCR → Prop}
theorem zCT.u {m : jM α} {v : α} (h1 : ∀ g, zCT N k B S St g m v St1 g) : zCU Q N k B S St m v St1 := fun h X f R hX hY hQ => by
  obtain ⟨X', f', R', a1, a2, a3, a4, a5⟩ := h1 R.1 h X f R hX hY rfl
  have e : R' = R := Prod.ext a3 a4
  rw [e] at a5
  exact ⟨X', f', a1, a2, a5⟩
theorem zCU.ret (v : α) : zCU Q N k B S St (jR v) v St := zCT.u fun g => zCT.ret v
theorem zCP.u {m : jM α} {v : α} (h1 : zCP Q N k B S m v) : zCU Q N k B S St m v St := fun h X f R hX hY hQ => by
  obtain ⟨f', e⟩ := h1 h X f R hX hQ
  exact ⟨X, f', rfl, hY, e⟩
theorem zCU.bind {m : jM α} {K : α → jM β} {v : α} {w : β} (h1 : zCU Q N k B S St m v St1) (h2 : zCU Q N k B S St1 (K v) w St2) : zCU Q N k B S St (jB m K) w St2 := by
  intro h X f R hX hY hQ
  obtain ⟨X1, f1, a1, b1, e1⟩ := h1 h X f R hX hY hQ
  obtain ⟨X2, f2, a2, b2, e2⟩ := h2 h X1 f1 R (hX.sh a1) b1 hQ
  exact ⟨X2, f2, a2.trans a1, b2, by rw [jB_eq e1, e2]⟩
theorem zCU.bp {m : jM α} {K : α → jM β} {v : α} {w : β} (h1 : zCP Q N k B S m v) (h2 : zCU Q N k B S St (K v) w St2) : zCU Q N k B S St (jB m K) w St2 := zCU.bind h1.u h2
theorem zCU.bo {m : jM α} {K : α → jM β} {v : α} {w : β} (h1 : zCO N k B S m v) (h2 : zCU Q N k B S St (K v) w St2) : zCU Q N k B S St (jB m K) w St2 := zCU.bp h1.p h2
theorem zCU.bt {m : jM α} {K : α → jM β} {v : α} {w : β} (h1 : ∀ g, zCT N k B S St g m v St1 g) (h2 : zCU Q N k B S St1 (K v) w St2) : zCU Q N k B S St (jB m K) w St2 := zCU.bind (zCT.u h1) h2
theorem zCU.ifp {c : Prop} {d : Decidable c} {A1 A2 : jM α} {v : α} (hc : c) (h1 : zCU Q N k B S St A1 v St2) : zCU Q N k B S St (@ite _ c d A1 A2) v St2 := by rw [if_pos hc]; exact h1
theorem zCU.ifn {c : Prop} {d : Decidable c} {A1 A2 : jM α} {v : α} (hc : ¬ c) (h1 : zCU Q N k B S St A2 v St2) : zCU Q N k B S St (@ite _ c d A1 A2) v St2 := by rw [if_neg hc]; exact h1
end
section
variable {N : Nat} {k : zKA} {B : zLB} {S St : zMS} {Y : zYy} {p n q3 q4 : Nat} {l : Nat → Nat} {g : Nat → Option jC}
theorem zc_gI {q c kf : Nat} {cs : List Nat} {fs : List Value} {x : Int32} (hg : g q = some (.inl (c, fs))) (hc : c ∈ cs) (hx : fs[kf]? = some (.int x)) : zCP (zQv k g q3 q4) N k B S (jgI cs kf (some q)) x := zCP.ofB fun h X f R hX hQ => by
  obtain ⟨a1, a2⟩ := hQ.2.2 _ _ hg
  exact zgI ((cH_fr a2).trans a1) hc hx _
theorem zc_cl {q c : Nat} {fs : List Value} (hg : g q = some (.inl (c, fs))) : zCP (zQv k g q3 q4) N k B S (jcls (some q)) c := zCP.ofB fun h X f R hX hQ => by
  obtain ⟨a1, a2⟩ := hQ.2.2 _ _ hg
  exact zcl (cH_cd ((cH_fr a2).trans a1)) _
theorem zc_ck {q c : Nat} {ok : List Nat} {fs : List Value} (hg : g q = some (.inl (c, fs))) (hc : c ∈ ok) : zCP (zQv k g q3 q4) N k B S (jck ok (some q)) () := zCP.ofB fun h X f R hX hQ => by
  obtain ⟨a1, a2⟩ := hQ.2.2 _ _ hg
  exact zck (cH_cd ((cH_fr a2).trans a1)) hc _
theorem zu_done (hB : zLok B) (hY : zYok (zS B) (zT B) Y) (hL : zLis g p Y l) {i : Nat} (hi : i < Y.1) (hw : zWk St + 1 < 1000000) : zCU (zQv k g q3 q4) N k B S St (d_Line_isDone N (l i) (some (zka k false))) (zb (zGs B St (Y.2 i)).1) (zGs B St (Y.2 i)).2 := by
  have hs3 := hB.1
  obtain ⟨y1, y2, y3⟩ := hY.2 i hi
  have hg := hL.2 i hi
  unfold d_Line_isDone
  unfold zLo1 at hg
  unfold zGs
  by_cases c3 : (Y.2 i).1 = 3
  · rw [if_pos c3] at hg ⊢
    unfold fX28_isDone
    exact zCU.bp (zc_cl hg) (zCU.ifp rfl (zCU.bt (fun g => zV_wk) (zCU.bt (fun g => zV_week hw) (zCO.rnb true).p.u)))
  · rw [if_neg c3] at hg ⊢
    have hs := y3 c3
    by_cases c0 : (Y.2 i).1 = 0
    · obtain ⟨ht, hln⟩ := y2 c0
      rw [if_pos c0] at hg ⊢
      refine zCU.bp (zc_cl hg) (zCU.ifn (by decide) (zCU.ifn (by decide) (zCU.ifp rfl ?_)))
      unfold fX30_isDone
      refine zCU.bp (zc_gI hg (by decide) rfl) (zCU.bp (zc_gI hg (by decide) rfl) (zCU.bp (zc_gI hg (by decide) rfl) (zCU.bo (zC_r2 false) (zCU.bt (fun g => zV_may ht hs (show (Y.2 i).2.2.2 < 6 by omega)) ?_))))
      cases hc : zCw B St (Y.2 i).2.1 (Y.2 i).2.2.1 (Y.2 i).2.2.2 with
      | false =>
        rw [if_neg zff]
        exact zCU.ifp zb_f (zCO.rnb false).p.u
      | true =>
        rw [if_pos rfl]
        exact zCU.ifn zb1n (zCU.bp (zc_gI hg (by decide) rfl) (zCU.bp (zc_gI hg (by decide) rfl) (zCU.bp (zc_gI hg (by decide) rfl) (zCU.bo (zC_r2 false) (zCU.bt (fun g => zV_writes ht hs hc) (zCO.rnb true).p.u)))))
    · rw [if_neg c0] at hg ⊢
      refine zCU.bp (zc_cl hg) (zCU.ifn (by decide) (zCU.ifp rfl ?_))
      unfold fX29_isDone
      refine zCU.bp (zc_gI hg (by decide) rfl) (zCU.bp (zc_gI hg (by decide) rfl) (zCU.bo (zC_r2 false) (zCU.bt (fun g => zV_mayS (by omega) _) ?_)))
      by_cases c : zOp St (Y.2 i).2.2.1 &&& zw (decide ((Y.2 i).1 = 2)) = 0
      · rw [if_pos c, decide_eq_true c]
        exact zCU.ifp rfl (zCO.rnb false).p.u
      · rw [if_neg c, decide_eq_false c]
        exact zCU.ifn zb1n (zCU.bp (zc_gI hg (by decide) rfl) (zCU.bp (zc_gI hg (by decide) rfl) (zCU.bo (zC_r2 false) (zCU.bt (fun g => zV_scrapes hs _ c) (zCO.rnb true).p.u))))
theorem zu_j31 (hN : 3000 ≤ N) (hB : zLok B) (hY : zYok (zS B) (zT B) Y) (hL : zLis g p Y l) {x : Nat} (hx : x < 3) : ∀ (j n i : Nat) (St : zMS) (b d : Option Nat), i + j = Y.1 → j < n → zWk St ≤ i → (∀ q, b = some q → q < 40) → (∀ q, d = some q → q < 40) →
    ∃ St', zCU (zQv k g p q4) N k B S St (fX1_judged_31 N (k.1 0) n (nI x) (zo b) (zo d) (nI i)) (zJv B (zJg B Y j i St b d) x) St'
  | 0, n + 1, i, St, b, d, hi, hn, hw, hb40, hd40 => by
    have h40 := hY.1
    refine ⟨St, ?_⟩
    rw [fX1_judged_31]
    refine zCU.bp zc_e3f (zCU.bp (zc_lr hL.1) (zCU.bp (zc_ls hL.1) (zCU.ifp (nI_le (by omega) (by omega)) ?_)))
    unfold fX1_judged_97 fX1_judged_131 zJg
    have : x = 0 ∨ x = 1 ∨ x = 2 := by omega
    rcases this with e | e | e
    · rw [e]; exact zCU.ifp rfl (zCU.ret _)
    · rw [e]; exact zCU.ifn (by decide) (zCU.ifp rfl (zCU.ret _))
    · rw [e]
      have hlt := zWl_lt hB St (nI (zDp B (zWk St)))
      exact zCU.ifn (by decide) (zCU.ifn (by decide) (zCU.bo zC_w2 (zCU.bo zC_w2 (zCU.bo (zC_r2 false) (zCU.bt (fun g => zV_damp) (zCU.bo (zC_r2 false) (zCU.bt (fun g => zV_whole _) (zCU.bo (zC_bits hN hlt) (zCU.ret _)))))))))
  | j + 1, n + 1, i, St, b, d, hi, hn, hw, hb40, hd40 => by
    have h40 := hY.1
    have hi' : i < Y.1 := by omega
    have hlt2 := zGo_lt hB (zGs B St (Y.2 i)).2
    have hwk := zWk_gs B St (Y.2 i)
    have ih := fun b d b40 d40 => zu_j31 hN hB hY hL hx j n (i + 1) (zGs B St (Y.2 i)).2 b d (by omega) (by omega) (by omega) b40 d40
    have hcls : (zLo1 (Y.2 i)).1 ∈ [28, 29, 30] := by
      unfold zLo1
      split
      · decide
      · split
        · show 30 ∈ [28, 29, 30]; decide
        · show 29 ∈ [28, 29, 30]; decide
    have key : ∀ b' : Option Nat, (∀ q, b' = some q → q < 40) → ∃ St', zCU (zQv k g p q4) N k B S (zGs B St (Y.2 i)).2 (fX1_judged_73 N (fX1_judged_31 N (k.1 0) n) (k.1 0) (nI x) (zo b') (zo d) (nI i)) (zJv B (zJg B Y j (i + 1) (zGs B St (Y.2 i)).2 b' (zJb i d (!decide (zGo B (zGs B St (Y.2 i)).2 = 0)))) x) St' := by
      intro b' hb'
      unfold fX1_judged_73 fX1_judged_91
      rw [zc1_da]
      cases d with
      | none =>
        by_cases c : zGo B (zGs B St (Y.2 i)).2 = 0
        · obtain ⟨St', e⟩ := ih b' none hb' (fun q hq => by cases hq)
          refine ⟨St', zCU.ifp rfl (zCU.bo zC_w2 (zCU.bo (zC_r2 false) (zCU.bt (fun g => zV_gone) ?_)))⟩
          rw [decide_eq_true c]
          exact zCU.ifp (by rw [c]; rfl) e
        · obtain ⟨St', e⟩ := ih b' (some i) hb' (fun q hq => by cases hq; omega)
          refine ⟨St', zCU.ifp rfl (zCU.bo zC_w2 (zCU.bo (zC_r2 false) (zCU.bt (fun g => zV_gone) ?_)))⟩
          rw [decide_eq_false c]
          exact zCU.ifn (nI_ne0 (by omega) (by omega)) e
      | some q =>
        have hq := hd40 q rfl
        obtain ⟨St', e⟩ := ih b' (some q) hb' hd40
        have e0 : zJb i (some q) (!decide (zGo B (zGs B St (Y.2 i)).2 = 0)) = some q := if_neg (fun c => by cases c.1)
        rw [e0]
        exact ⟨St', zCU.ifn (zneg1 (by omega)) e⟩
    have pre : ∀ {v : Int32} {St' : zMS}, zCU (zQv k g p q4) N k B S (zGs B St (Y.2 i)).2 (if zb (zGs B St (Y.2 i)).1 = 0 then (if zo b = (-1) then (fX1_judged_73 N (fX1_judged_31 N (k.1 0) n) (k.1 0) (nI x) (nI i) (zo d) (nI i)) else (fX1_judged_73 N (fX1_judged_31 N (k.1 0) n) (k.1 0) (nI x) (zo b) (zo d) (nI i))) else (fX1_judged_73 N (fX1_judged_31 N (k.1 0) n) (k.1 0) (nI x) (zo b) (zo d) (nI i))) v St' → zCU (zQv k g p q4) N k B S St (fX1_judged_31 N (k.1 0) (n + 1) (nI x) (zo b) (zo d) (nI i)) v St' := fun {v St'} hh => by
      rw [fX1_judged_31]
      exact zCU.bp zc_e3f (zCU.bp (zc_lr hL.1) (zCU.bp (zc_ls hL.1) (zCU.ifn (nI_ge (by omega) (by omega)) (zCU.bp zc_e3f (zCU.bp (zc_lr hL.1) (zCU.bp (zc_lg hL.1 hi') (zCU.bp (zc_ck (hL.2 i hi') hcls) (zCU.bo zC_w2 (zCU.bo (zCO.nn _) (zCU.bind (zu_done hB hY hL hi' (by omega)) hh))))))))))
    rw [zJg]
    cases hc : (zGs B St (Y.2 i)).1 with
    | true =>
      obtain ⟨St', e⟩ := key b hb40
      refine ⟨St', pre ?_⟩
      rw [hc, show zJb i b (!true) = b from if_neg (fun c => by cases c.2)]
      exact zCU.ifn zb1n e
    | false =>
      cases b with
      | none =>
        obtain ⟨St', e⟩ := key (some i) (fun q hq => by cases hq; omega)
        refine ⟨St', pre ?_⟩
        rw [hc]
        exact zCU.ifp zb_f (zCU.ifp rfl e)
      | some q =>
        have hq := hb40 q rfl
        obtain ⟨St', e⟩ := key (some q) hb40
        refine ⟨St', pre ?_⟩
        rw [hc, show zJb i (some q) (!false) = some q from if_neg (fun c => by cases c.1)]
        exact zCU.ifp zb_f (zCU.ifn (zneg1 (by omega)) e)
theorem zC_op_judged (hY : zYok (zS B) (zT B) Y) (hL : zLis g p Y l) (x : Int32) : zCWp (zQv k g p q4) N k B S (fX1_judged N (k.1 0) x) (zO_judged B Y x) := by
  intro h X f R hX hQ
  have hN := hX.1
  have hB := hX.2.2.1
  have h40 := hY.1
  obtain ⟨f1, e1⟩ := zC_within x 0 2 h X f R hX
  unfold fX1_judged zO_judged
  rw [jB_eq e1, zI, show (2 : Int32) = nI 2 from rfl, zix_in x (by decide)]
  rcases zix_cases x (n := 3) (by decide) with ⟨h3, -⟩ | ⟨j, h3, h4, rfl⟩
  · rw [h3, if_pos (show zb (none : Option Nat).isSome = 0 from rfl)]
    exact ⟨X, f1, rfl, rfl⟩
  · rw [h4, if_neg (show ¬ zb (some j).isSome = 0 from zb1n)]
    obtain ⟨f2, e2⟩ := zC_w2 h X f1 R hX
    obtain ⟨f3, e3⟩ := zC_now h X f2 R hX
    obtain ⟨f4, e4⟩ := zC_r2 false h X f3 R hX
    obtain ⟨X5, a1, a2, e5⟩ := zs_begins (b := false) (f := f4) (R := R) hN hX.2.1 hX.2.2.2.2.1 hX.2.2.2.2.2.1 hX.2.2.2.2.2.2.2 X
    obtain ⟨St', hU⟩ := zu_j31 (S := S) (q4 := q4) (k := k) hN hB hY hL h3 Y.1 N 0 (z00 B) none none (by omega) (by omega) (Nat.le_refl _) (fun q hq => by cases hq) (fun q hq => by cases hq)
    obtain ⟨X6, f6, b1, b2, e6⟩ := hU h X5 f4 R (hX.sh (a2 true (by decide))) a1 hQ
    refine ⟨X6, f6, b1.trans (a2 true (by decide)), ?_⟩
    rw [jB_eq e2, jB_eq e3, jB_eq e4, jB_eq e5]
    exact e6
end
