/-! PURE 34: the reference works out what the plain parser says -/
set_option maxRecDepth 100000
def zvl (v : zVV) (A : Nat → Nat → Int32) : Int32 := v (A 35 1) (A 35 2) (A 35 3) (A 35 4)
def zWq (d : Nat) (A A' : Nat → Nat → Int32) : Prop := (∀ k, k < 26 ∨ 34 < k → A' k = A k) ∧ ∀ k q, q < d → A' k q = A k q
theorem zWq.rf (d : Nat) (A : Nat → Nat → Int32) : zWq d A A := ⟨fun _ _ => rfl, fun _ _ _ => rfl⟩
theorem zWq.tr {d : Nat} {A A' A'' : Nat → Nat → Int32} (h1 : zWq d A A') (h2 : zWq d A' A'') : zWq d A A'' := ⟨fun k hk => (h2.1 k hk).trans (h1.1 k hk), fun k q hq => (h2.2 k q hq).trans (h1.2 k q hq)⟩
theorem zWq.dn {d d' : Nat} {A A' : Nat → Nat → Int32} (h1 : zWq d A A') (h : d' ≤ d) : zWq d' A A' := ⟨h1.1, fun k q hq => h1.2 k q (by omega)⟩
theorem zWq.st {d : Nat} {A A' : Nat → Nat → Int32} (h1 : zWq d A A') {j q : Nat} (x : Int32) (h26 : 26 ≤ j) (h34 : j ≤ 34) (hq : d ≤ q) : zWq d A (zst A' j q x) := ⟨fun k hk => (zst_j _ _ (by omega)).trans (h1.1 k hk), fun k p hp => (zst_q _ _ (by omega)).trans (h1.2 k p hp)⟩
theorem zWq.sum {d : Nat} {A A' : Nat → Nat → Int32} (h1 : zWq d A A') {q : Nat} (hq : d ≤ q) : zWq d A (zSum1 A' q) := (h1.st _ (by omega) (by omega) hq).st _ (by omega) (by omega) hq
theorem zWq.tes {d : Nat} {A A' : Nat → Nat → Int32} (h1 : zWq d A A') {q : Nat} (hq : d ≤ q) : zWq d A (zTes1 A' q) := ((((h1.sum hq).st _ (by omega) (by omega) hq).st _ (by omega) (by omega) hq).st _ (by omega) (by omega) hq).st _ (by omega) (by omega) hq
theorem zWq.ter {d : Nat} {A A' : Nat → Nat → Int32} (h1 : zWq d A A') {p : Nat × Int32} (hq : d ≤ p.1) : zWq d A (zTer1 A' p) := h1.st _ (by omega) (by omega) hq
theorem zWq.opn {d : Nat} {A A' : Nat → Nat → Int32} (h1 : zWq d A A') {q : Nat} (b : Int32) (hq : d ≤ q) : zWq d A (zOpn1 A' q b) := (((((h1.st _ (by omega) (by omega) hq).st _ (by omega) (by omega) hq).st _ (by omega) (by omega) hq).st _ (by omega) (by omega) hq).st _ (by omega) (by omega) hq).st _ (by omega) (by omega) hq
theorem zWq.vl {d : Nat} {A A' : Nat → Nat → Int32} (h1 : zWq d A A') (v : zVV) : zvl v A' = zvl v A := by
  unfold zvl
  rw [h1.1 35 (by omega)]
section
variable {N : Nat} {h : jH} {a : Nat} {F : Nat → Int32} {L : Nat → Int64} {M : Nat → Nat → Int64}
/-- codes lie there, the end is behind them -/
def zHy (E : Nat) (A : Nat → Nat → Int32) (k : Nat) (cs : List Nat) : Prop := zHc (A 22) k cs ∧ k + cs.length ≤ E ∧ A 21 0 = nI E
theorem zHy.to {E d : Nat} {A A' : Nat → Nat → Int32} {k : Nat} {cs : List Nat} (h1 : zHy E A k cs) (hq : zWq d A A') : zHy E A' k cs := ⟨by rw [hq.1 22 (by omega)]; exact h1.1, h1.2.1, by rw [hq.1 21 (by omega)]; exact h1.2.2⟩
theorem zHy.ap {E : Nat} {A : Nat → Nat → Int32} {k : Nat} {cs ds : List Nat} {c : Nat} (h1 : zHy E A k (cs ++ c :: ds)) : zHy E A k cs ∧ (A 22 (k + cs.length) = nI c ∧ k + cs.length < E) ∧ zHy E A (k + cs.length + 1) ds := by
  obtain ⟨a1, a2, a3⟩ := h1
  obtain ⟨b1, b2, b3⟩ := zHc_app a1
  rw [List.length_append, List.length_cons] at a2
  exact ⟨⟨b1, by omega, a3⟩, ⟨b2, by omega⟩, b3, by omega, a3⟩
variable (N h a F L M) in
/-- a run over some codes -/
def zRun2 (E d : Nat) (keep : Nat → Prop) (pre : (Nat → Nat → Int32) → Prop) (post : (Nat → Nat → Int32) → Int32) (v : zVV) (cs : List Nat) : Prop := ∀ A k, zHy E A k cs → (∀ x, zPw0 (A 34) d x = (d, x)) → pre A → ∃ A', zWq d A A' ∧ (∀ j, keep j → A' j d = A j d) ∧ post A' = zvl v A ∧ ∀ m, zWW N h a F L M (m + cs.length) d k A = zWW N h a F L M m d (k + cs.length) A'
variable (N h a F L M) in
/-- a part -/
def zPQ (E d : Nat) (v : zVV) (cs : List Nat) : Prop := ∀ A k, zHy E A k cs → ∃ A', zWq (d + 1) A A' ∧ ∀ m, zWW N h a F L M (m + cs.length) d k A = zWW N h a F L M m (zPw0 (A 34) d (zvl v A)).1 (k + cs.length) (zTer1 A' (zPw0 (A 34) d (zvl v A)))
def zTL (Q : zVV → List Nat → Prop) (sub : Nat → zPR) : Prop := ∀ i x, sub i = .inr x → Q x.2.1 x.2.2
/-- a chain of runs -/
theorem zTL_seq {Q R : zVV → List Nat → Prop} {sub : Nat → zPR} {op : Nat → Option zOp2} {m0 : Nat} (h1 : ∀ v cs, Q v cs → R v cs) (hs : zTL Q sub) (hst : ∀ i g v cs w ds, op i = some g → R v cs → Q w ds → R (zv2 g.2 v w) (cs ++ g.1 :: ds)) : zTL R (zSeq sub op m0) := by
  intro i x hx
  unfold zSeq at hx
  cases hsi : sub i with
  | inl e => rw [hsi] at hx; cases hx
  | inr y =>
    rw [hsi] at hx
    have hck := zChn_ok (sub := sub) (op := op) (P := fun _ v cs => R v cs) (fun j v cs g z hP hop hz => hst j g v cs z.2.1 z.2.2 hop hP (hs _ _ hz)) m0 y.1 y.2.1 y.2.2 (h1 _ _ (hs _ _ hsi))
    dsimp only at hx
    rw [hx] at hck
    exact hck.1
abbrev zK1 (j : Nat) : Prop := j ≠ 32 ∧ j ≠ 33
abbrev zK2 (j : Nat) : Prop := j ≠ 30 ∧ j ≠ 31 ∧ j ≠ 32 ∧ j ≠ 33
abbrev zK3 (j : Nat) : Prop := j < 28 ∨ 33 < j
abbrev zK4 (j : Nat) : Prop := j < 26 ∨ 33 < j
abbrev zE1 (d : Nat) (A : Nat → Nat → Int32) : Prop := A 33 d = 0
abbrev zE2 (d : Nat) (A : Nat → Nat → Int32) : Prop := A 30 d = 0 ∧ A 31 d = 20 ∧ A 33 d = 0
abbrev zE3 (d : Nat) (A : Nat → Nat → Int32) : Prop := A 29 d = 0 ∧ A 30 d = 0 ∧ A 31 d = 20 ∧ A 33 d = 0
abbrev zE4 (d : Nat) (A : Nat → Nat → Int32) : Prop := A 27 d = 0 ∧ A 29 d = 0 ∧ A 30 d = 0 ∧ A 31 d = 20 ∧ A 33 d = 0
theorem zPw_d {o o' : Nat → Int32} {d : Nat} (h1 : ∀ x, zPw0 o d x = (d, x)) (h2 : o' d = o d) (x : Int32) : zPw0 o' d x = (d, x) := by
  cases d with
  | zero => rfl
  | succ d =>
    have h1 := h1 x
    rw [zPw0] at h1 ⊢
    rw [h2]
    by_cases c : o (d + 1) = 1
    · rw [if_pos c] at h1
      have h3 := zPw0_le o d (if x = 0 then 1 else 0)
      rw [h1] at h3
      have h3 : d + 1 ≤ d := h3
      omega
    · rw [if_neg c]
/-- terms -/
theorem zTL_term (hb : h.2.2.2.2 0 ≤ a) {E d : Nat} (hE : E ≤ 2000) (hd : d < 7) {u : zTau} {m0 : Nat} {part : Nat → zPR} (hs : zTL (zPQ N h a F L M E d) part) : zTL (zRun2 N h a F L M E d zK1 (zE1 d) (fun A => A 32 d)) (zTerm u m0 part) := by
  refine zTL_seq (fun v cs hq => ?_) hs (fun i g v cs w ds hop hv hw => ?_)
  · intro A k hy hp hpre
    obtain ⟨A', q1, run⟩ := hq A k hy
    rw [hp] at run
    refine ⟨zTer1 A' (d, zvl v A), ((q1.dn (by omega)).ter (Nat.le_refl _)), fun j hj => ?_, ?_, run⟩
    · unfold zTer1
      rw [zst_j _ _ hj.1]
      exact q1.2 j d (by omega)
    · show zTer1 A' (d, zvl v A) 32 d = _
      unfold zTer1
      rw [zst_e]
      show (if A' 33 d = 0 then _ else _) = _
      rw [if_pos ((q1.2 33 d (by omega)).trans hpre)]
  · have hg : g = (22, fun x y => x * y) := by
      unfold zoT at hop
      by_cases c : ziss u i 42 = true
      · rw [if_pos c] at hop; cases hop; rfl
      · rw [if_neg c] at hop; cases hop
    subst hg
    intro A k hy hp hpre
    obtain ⟨y1, ⟨y2, y3⟩, y4⟩ := hy.ap
    obtain ⟨A', q1, q2, q3, run⟩ := hv A k y1 hp hpre
    have q4 : zWq d A (zst A' 33 d 22) := q1.st _ (by omega) (by omega) (Nat.le_refl _)
    obtain ⟨A3, r1, run2⟩ := hw (zst A' 33 d 22) _ (y4.to q4)
    have hp2 : ∀ x, zPw0 ((zst A' 33 d 22) 34) d x = (d, x) := fun x => zPw_d hp (by rw [zst_j _ _ (by decide), q2 34 (by decide)]) x
    rw [hp2, q4.vl] at run2
    refine ⟨zTer1 A3 (d, zvl w A), (q4.tr (r1.dn (by omega))).ter (Nat.le_refl _), fun j hj => ?_, ?_, fun m => ?_⟩
    · unfold zTer1
      rw [zst_j _ _ hj.1, r1.2 j d (by omega), zst_j _ _ hj.2, q2 j hj]
    · show zTer1 A3 (d, zvl w A) 32 d = _
      unfold zTer1
      rw [zst_e]
      show (if A3 33 d = 0 then _ else A3 32 d * zvl w A) = _
      rw [r1.2 33 d (by omega), zst_e, if_neg (by decide), r1.2 32 d (by omega), zst_j _ _ (by decide)]
      have q3 : A' 32 d = zvl v A := q3
      rw [q3]
      rfl
    · rw [List.length_append, List.length_cons, show m + (cs.length + (ds.length + 1)) = (m + ds.length + 1) + cs.length by omega, run, zWk_mul hb (by rw [q1.1 21 (by omega)]; exact hy.2.2) hE y3 (by rw [q1.1 22 (by omega)]; exact y2) hd, run2]
      rw [show k + cs.length + 1 + ds.length = k + (cs.length + (ds.length + 1)) by omega]
/-- sums -/
theorem zTL_sum (hb : h.2.2.2.2 0 ≤ a) {E d : Nat} (hE : E ≤ 2000) (hd : d < 7) {u : zTau} {m0 : Nat} {sub : Nat → zPR} (hs : zTL (zRun2 N h a F L M E d zK1 (zE1 d) (fun A => A 32 d)) sub) : zTL (zRun2 N h a F L M E d zK2 (zE2 d) (fun A => zW1s A d)) (zSeq sub (zoS u) m0) := by
  refine zTL_seq (fun v cs hq => ?_) hs (fun i g v cs w ds hop hv hw => ?_)
  · intro A k hy hp hpre
    obtain ⟨A', q1, q2, q3, run⟩ := hq A k hy hp hpre.2.2
    have q3 : A' 32 d = zvl v A := q3
    refine ⟨A', q1, fun j hj => q2 j ⟨hj.2.2.1, hj.2.2.2⟩, ?_, run⟩
    show zW1s A' d = _
    unfold zW1s
    rw [q2 31 (by decide), hpre.2.1, if_neg (by decide), q2 30 (by decide), hpre.1, q3, Int32.zero_add]
  · have hg : (g.1 = 20 ∧ g.2 = fun x y => x + y) ∨ (g.1 = 21 ∧ g.2 = fun x y => x - y) := by
      unfold zoS at hop
      by_cases c : ziss u i 43 = true
      · rw [if_pos c] at hop; cases hop; exact Or.inl ⟨rfl, rfl⟩
      · rw [if_neg c] at hop
        by_cases c : ziss u i 45 = true
        · rw [if_pos c] at hop; cases hop; exact Or.inr ⟨rfl, rfl⟩
        · rw [if_neg c] at hop; cases hop
    intro A k hy hp hpre
    obtain ⟨y1, ⟨y2, y3⟩, y4⟩ := hy.ap
    obtain ⟨A', q1, q2, q3, run⟩ := hv A k y1 hp hpre
    have q3 : zW1s A' d = zvl v A := q3
    have q4 : zWq d A (zst (zSum1 A' d) 31 d (nI g.1)) := (q1.sum (Nat.le_refl _)).st _ (by omega) (by omega) (Nat.le_refl _)
    have ek : ∀ j, zK2 j → zst (zSum1 A' d) 31 d (nI g.1) j d = A j d := by
      intro j hj
      unfold zSum1
      rw [zst_j _ _ hj.2.1, zst_j _ _ hj.2.2.2, zst_j _ _ hj.1, q2 j hj]
    have hp2 : ∀ x, zPw0 ((zst (zSum1 A' d) 31 d (nI g.1)) 34) d x = (d, x) := fun x => zPw_d hp (ek 34 (by decide)) x
    obtain ⟨A3, r1, r2, r3, run2⟩ := hw _ _ (y4.to q4) hp2 (by
      show zst (zSum1 A' d) 31 d (nI g.1) 33 d = 0
      unfold zSum1
      rw [zst_j _ _ (by decide), zst_e])
    have r3 : A3 32 d = zvl w (zst (zSum1 A' d) 31 d (nI g.1)) := r3
    rw [q4.vl] at r3
    refine ⟨A3, q4.tr r1, fun j hj => ?_, ?_, fun m => ?_⟩
    · rw [r2 j ⟨hj.2.2.1, hj.2.2.2⟩, ek j hj]
    · show zW1s A3 d = g.2 (zvl v A) (zvl w A)
      unfold zW1s
      have e31 : A3 31 d = nI g.1 := by rw [r2 31 (by decide), zst_e]
      have e30 : A3 30 d = zvl v A := by
        rw [r2 30 (by decide), zst_j _ _ (by decide)]
        unfold zSum1
        rw [zst_j _ _ (by decide), zst_e, q3]
      rw [e31, e30, r3]
      rcases hg with ⟨g1, g2⟩ | ⟨g1, g2⟩
      · rw [g1, g2, if_neg (by decide)]
      · rw [g1, g2, if_pos (by decide)]
    · rw [List.length_append, List.length_cons, show m + (cs.length + (ds.length + 1)) = (m + ds.length + 1) + cs.length by omega, run, zWk_pm hb (by rw [q1.1 21 (by omega)]; exact hy.2.2) hE y3 (by rw [q1.1 22 (by omega)]; exact y2) (by omega) hd, run2]
      rw [show k + cs.length + 1 + ds.length = k + (cs.length + (ds.length + 1)) by omega]
/-- a test -/
theorem zTL_test (hb : h.2.2.2.2 0 ≤ a) {E d : Nat} (hE : E ≤ 2000) (hd : d < 7) {u : zTau} {sub : Nat → zPR} (hs : zTL (zRun2 N h a F L M E d zK2 (zE2 d) (fun A => zW1s A d)) sub) : zTL (zRun2 N h a F L M E d zK3 (zE3 d) (fun A => zW2 A d)) (zTes sub (zoC u)) := by
  have h1 : ∀ v cs, zRun2 N h a F L M E d zK2 (zE2 d) (fun A => zW1s A d) v cs → zRun2 N h a F L M E d zK3 (zE3 d) (fun A => zW2 A d) v cs := by
    intro v cs hq A k hy hp hpre
    obtain ⟨A', q1, q2, q3, run⟩ := hq A k hy hp hpre.2
    have q3 : zW1s A' d = zvl v A := q3
    refine ⟨A', q1, fun j hj => q2 j (by omega), ?_, run⟩
    show zW2 A' d = _
    unfold zW2
    rw [q2 29 (by decide), hpre.1, if_neg (by decide), if_neg (by decide), q3]
  intro i x hx
  unfold zTes at hx
  cases hsi : sub i with
  | inl e => rw [hsi] at hx; cases hx
  | inr y =>
    rw [hsi] at hx
    dsimp only at hx
    cases hop : zoC u y.1 with
    | none => rw [hop] at hx; cases hx; exact h1 _ _ (hs _ _ hsi)
    | some g =>
      rw [hop] at hx
      dsimp only at hx
      cases hsj : sub (y.1 + 1) with
      | inl e => rw [hsj] at hx; cases hx
      | inr z =>
        rw [hsj] at hx
        cases hx
        have hg : (g.1 = 24 ∧ g.2 = fun x y => if x < y then 1 else 0) ∨ (g.1 = 25 ∧ g.2 = fun x y => if x = y then 1 else 0) := by
          unfold zoC at hop
          by_cases c : ziss u y.1 60 = true
          · rw [if_pos c] at hop; cases hop; exact Or.inl ⟨rfl, rfl⟩
          · rw [if_neg c] at hop
            by_cases c : ziss u y.1 61 = true
            · rw [if_pos c] at hop; cases hop; exact Or.inr ⟨rfl, rfl⟩
            · rw [if_neg c] at hop; cases hop
        intro A k hy hp hpre
        obtain ⟨y1, ⟨y2, y3⟩, y4⟩ := hy.ap
        obtain ⟨A', q1, q2, q3, run⟩ := hs _ _ hsi A k y1 hp hpre.2
        have q3 : zW1s A' d = zvl y.2.1 A := q3
        have q4 : zWq d A (zst (zst (zst (zst (zSum1 A' d) 28 d (zW1s A' d)) 29 d (nI g.1)) 30 d 0) 31 d 20) := ((((q1.sum (Nat.le_refl _)).st _ (by omega) (by omega) (Nat.le_refl _)).st _ (by omega) (by omega) (Nat.le_refl _)).st _ (by omega) (by omega) (Nat.le_refl _)).st _ (by omega) (by omega) (Nat.le_refl _)
        have ek : ∀ j, zK3 j → (zst (zst (zst (zst (zSum1 A' d) 28 d (zW1s A' d)) 29 d (nI g.1)) 30 d 0) 31 d 20) j d = A j d := by
          intro j hj
          unfold zSum1
          rw [zst_j _ _ (by omega), zst_j _ _ (by omega), zst_j _ _ (by omega), zst_j _ _ (by omega), zst_j _ _ (by omega), zst_j _ _ (by omega), q2 j (by omega)]
        have hp2 : ∀ x, zPw0 ((zst (zst (zst (zst (zSum1 A' d) 28 d (zW1s A' d)) 29 d (nI g.1)) 30 d 0) 31 d 20) 34) d x = (d, x) := fun x => zPw_d hp (ek 34 (by decide)) x
        obtain ⟨A3, r1, r2, r3, run2⟩ := hs _ _ hsj _ _ (y4.to q4) hp2 (by
          refine ⟨?_, ?_, ?_⟩
          · rw [zst_j _ _ (by decide), zst_e]
          · rw [zst_e]
          · unfold zSum1
            rw [zst_j _ _ (by decide), zst_j _ _ (by decide), zst_j _ _ (by decide), zst_j _ _ (by decide), zst_e])
        have r3 : zW1s A3 d = zvl z.2.1 (zst (zst (zst (zst (zSum1 A' d) 28 d (zW1s A' d)) 29 d (nI g.1)) 30 d 0) 31 d 20) := r3
        rw [q4.vl] at r3
        refine ⟨A3, q4.tr r1, fun j hj => ?_, ?_, fun m => ?_⟩
        · rw [r2 j (by omega), ek j hj]
        · show zW2 A3 d = g.2 (zvl y.2.1 A) (zvl z.2.1 A)
          unfold zW2
          have e29 : A3 29 d = nI g.1 := by rw [r2 29 (by decide), zst_j _ _ (by decide), zst_j _ _ (by decide), zst_e]
          have e28 : A3 28 d = zvl y.2.1 A := by rw [r2 28 (by decide), zst_j _ _ (by decide), zst_j _ _ (by decide), zst_j _ _ (by decide), zst_e, q3]
          rw [e29, e28, r3]
          rcases hg with ⟨g1, g2⟩ | ⟨g1, g2⟩
          · rw [g1, g2, if_pos (by decide)]
          · rw [g1, g2, if_neg (by decide), if_pos (by decide)]
        · show zWW N h a F L M (m + (y.2.2 ++ g.1 :: z.2.2).length) d k A = zWW N h a F L M m d (k + (y.2.2 ++ g.1 :: z.2.2).length) A3
          rw [List.length_append, List.length_cons, show m + (y.2.2.length + (z.2.2.length + 1)) = (m + z.2.2.length + 1) + y.2.2.length by omega, run, zWk_cmp hb (by rw [q1.1 21 (by omega)]; exact hy.2.2) hE y3 (by rw [q1.1 22 (by omega)]; exact y2) (by omega) hd, run2]
          rw [show k + y.2.2.length + 1 + z.2.2.length = k + (y.2.2.length + (z.2.2.length + 1)) by omega]
/-- tests -/
theorem zTL_all (hb : h.2.2.2.2 0 ≤ a) {E d : Nat} (hE : E ≤ 2000) (hd : d < 7) {u : zTau} {m0 : Nat} {sub : Nat → zPR} (hs : zTL (zRun2 N h a F L M E d zK3 (zE3 d) (fun A => zW2 A d)) sub) : zTL (zRun2 N h a F L M E d zK4 (zE4 d) (fun A => zW3 A d)) (zSeq sub (zoA u) m0) := by
  refine zTL_seq (fun v cs hq => ?_) hs (fun i g v cs w ds hop hv hw => ?_)
  · intro A k hy hp hpre
    obtain ⟨A', q1, q2, q3, run⟩ := hq A k hy hp hpre.2
    have q3 : zW2 A' d = zvl v A := q3
    refine ⟨A', q1, fun j hj => q2 j (by omega), ?_, run⟩
    show zW3 A' d = _
    unfold zW3
    rw [q2 27 (by decide), hpre.1, if_neg (by decide), if_neg (by decide), q3]
  · have hg : (g.1 = 26 ∧ g.2 = fun x y => if ¬ x = 0 ∧ ¬ y = 0 then 1 else 0) ∨ (g.1 = 27 ∧ g.2 = fun x y => if ¬ x = 0 ∨ ¬ y = 0 then 1 else 0) := by
      unfold zoA at hop
      by_cases c : zisw u i 1111 = true
      · rw [if_pos c] at hop; cases hop; exact Or.inl ⟨rfl, rfl⟩
      · rw [if_neg c] at hop
        by_cases c : zisw u i 423 = true
        · rw [if_pos c] at hop; cases hop; exact Or.inr ⟨rfl, rfl⟩
        · rw [if_neg c] at hop; cases hop
    intro A k hy hp hpre
    obtain ⟨y1, ⟨y2, y3⟩, y4⟩ := hy.ap
    obtain ⟨A', q1, q2, q3, run⟩ := hv A k y1 hp hpre
    have q3 : zW3 A' d = zvl v A := q3
    have q4 : zWq d A (zst (zTes1 A' d) 27 d (nI g.1)) := (q1.tes (Nat.le_refl _)).st _ (by omega) (by omega) (Nat.le_refl _)
    have ek : ∀ j, zK4 j → zst (zTes1 A' d) 27 d (nI g.1) j d = A j d := by
      intro j hj
      unfold zTes1 zSum1
      rw [zst_j _ _ (by omega), zst_j _ _ (by omega), zst_j _ _ (by omega), zst_j _ _ (by omega), zst_j _ _ (by omega), zst_j _ _ (by omega), zst_j _ _ (by omega), q2 j hj]
    have hp2 : ∀ x, zPw0 ((zst (zTes1 A' d) 27 d (nI g.1)) 34) d x = (d, x) := fun x => zPw_d hp (ek 34 (by decide)) x
    obtain ⟨A3, r1, r2, r3, run2⟩ := hw _ _ (y4.to q4) hp2 (by
      refine ⟨?_, ?_, ?_, ?_⟩
      · unfold zTes1
        rw [zst_j _ _ (by decide), zst_j _ _ (by decide), zst_j _ _ (by decide), zst_e]
      · unfold zTes1
        rw [zst_j _ _ (by decide), zst_j _ _ (by decide), zst_e]
      · unfold zTes1
        rw [zst_j _ _ (by decide), zst_e]
      · unfold zTes1 zSum1
        rw [zst_j _ _ (by decide), zst_j _ _ (by decide), zst_j _ _ (by decide), zst_j _ _ (by decide), zst_j _ _ (by decide), zst_e])
    have r3 : zW2 A3 d = zvl w (zst (zTes1 A' d) 27 d (nI g.1)) := r3
    rw [q4.vl] at r3
    refine ⟨A3, q4.tr r1, fun j hj => ?_, ?_, fun m => ?_⟩
    · rw [r2 j (by omega), ek j hj]
    · show zW3 A3 d = g.2 (zvl v A) (zvl w A)
      unfold zW3
      have e27 : A3 27 d = nI g.1 := by rw [r2 27 (by decide), zst_e]
      have e26 : A3 26 d = zvl v A := by
        rw [r2 26 (by decide), zst_j _ _ (by decide)]
        unfold zTes1
        rw [zst_j _ _ (by decide), zst_j _ _ (by decide), zst_j _ _ (by decide), zst_e, q3]
      rw [e27, e26, r3]
      rcases hg with ⟨g1, g2⟩ | ⟨g1, g2⟩
      · rw [g1, g2, if_pos (by decide)]
      · rw [g1, g2, if_neg (by decide), if_pos (by decide)]
    · rw [List.length_append, List.length_cons, show m + (cs.length + (ds.length + 1)) = (m + ds.length + 1) + cs.length by omega, run, zWk_ao hb (by rw [q1.1 21 (by omega)]; exact hy.2.2) hE y3 (by rw [q1.1 22 (by omega)]; exact y2) (by omega) hd, run2]
      rw [show k + cs.length + 1 + ds.length = k + (cs.length + (ds.length + 1)) by omega]
end
