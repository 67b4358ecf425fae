/-! PURE 30: the reference reads an expression as the plain parser does -/
set_option maxRecDepth 100000
section
variable (N : Nat) (h : jH) (a : Nat) (L : Nat → Int64) (M : Nat → Nat → Int64) (t : Nat → Nat) (n : Nat)
/-- it failed: what is wrong is kept; lines, shelves are as they were -/
def zREr (F : Nat → Int32) (A : Nat → Nat → Int32) (e : Nat × Nat) (out : Option (Int32 × jH)) : Prop := ∃ F' A', out = some (0, zQ h a t n F' L A' M e.2) ∧ F' 9 = nI (e.1 + 16 * zBg t n e.2) ∧ (∀ k, k ≠ 9 → k ≠ 23 → F' k = F k) ∧ (∀ k, k ≠ 22 → k ≠ 24 → k ≠ 25 → A' k = A k) ∧ ∀ q, q < 1000 → A' 22 q = A 22 q
def zLr (d : Nat) (Ex : Nat → Prop) (i : Nat) (F : Nat → Int32) (A : Nat → Nat → Int32) (c : Nat) (r : zPR) : Prop := match r with
  | .inr x => ∃ A', zAr d A A' c x.2.2 ∧ A' 25 d = A 25 d ∧ Ex x.1 ∧ ∀ m, zRR N h a L M t n (m + (x.1 - i)) d 1 F A i = zRR N h a L M t n m (zPopN (A 24) d) 0 (upd F 23 (nI (c + x.2.2.length))) A' x.1
  | .inl e => ∀ m, zREr h a L M t n F A e (zRR N h a L M t n (m + (e.2 - i) + 1) d 1 F A i)
def zLv (d : Nat) (Ex : Nat → Prop) (sub : Nat → zPR) : Prop := ∀ i F A c, i ≤ n → zTp F A t n → F 23 = nI c → (1000 ≤ c ∧ c + (n - i) ≤ 2000) → zLr N h a L M t n d Ex i F A c (sub i)
def zLw (d : Nat) (Ex : Nat → Prop) (sub : Nat → zPR) : Prop := ∀ i F A c, i ≤ n → zTp F A t n → F 23 = nI c → (1000 ≤ c ∧ c + (n - i) ≤ 2000) → zPopN (A 24) d = d → zLr N h a L M t n d Ex i F A c (sub i)
/-- whether two were held against each other is told -/
def zLq (d : Nat) (Ex : Nat → Prop) (i : Nat) (F : Nat → Int32) (A : Nat → Nat → Int32) (c : Nat) (r : zPR) : Prop := match r with
  | .inr x => ∃ A', zAr d A A' c x.2.2 ∧ (zoC (zOfT t n) x.1 = none ∨ A' 25 d ≠ 0) ∧ Ex x.1 ∧ ∀ m, zRR N h a L M t n (m + (x.1 - i)) d 1 F A i = zRR N h a L M t n m d 0 (upd F 23 (nI (c + x.2.2.length))) A' x.1
  | .inl e => ∀ m, zREr h a L M t n F A e (zRR N h a L M t n (m + (e.2 - i) + 1) d 1 F A i)
def zLx (d : Nat) (Ex : Nat → Prop) (sub : Nat → zPR) : Prop := ∀ i F A c, i ≤ n → zTp F A t n → F 23 = nI c → (1000 ≤ c ∧ c + (n - i) ≤ 2000) → zPopN (A 24) d = d → A 25 d = 0 → zLq N h a L M t n d Ex i F A c (sub i)
end
section
variable {N : Nat} {h : jH} {a : Nat} {L : Nat → Int64} {M : Nat → Nat → Int64} {t : Nat → Nat} {n : Nat}
theorem zREr.mo {F F1 : Nat → Int32} {A A1 : Nat → Nat → Int32} {e : Nat × Nat} {o o1 : Option (Int32 × jH)} (h1 : zREr h a L M t n F1 A1 e o1) (ho : o = o1) (hF : ∀ k, k ≠ 9 → k ≠ 23 → F1 k = F k) (hA : ∀ k, k ≠ 22 → k ≠ 24 → k ≠ 25 → A1 k = A k) (hC : ∀ q, q < 1000 → A1 22 q = A 22 q) : zREr h a L M t n F A e o := by
  obtain ⟨F', A', a1, a2, a3, a4, a5⟩ := h1
  exact ⟨F', A', ho.trans a1, a2, fun k x y => (a3 k x y).trans (hF k x y), fun k x y z => (a4 k x y z).trans (hA k x y z), fun q hq => (a5 q hq).trans (hC q hq)⟩
theorem zu23 {F : Nat → Int32} {x : Int32} (k : Nat) (h2 : k ≠ 23) : upd F 23 x k = F k := if_neg h2
theorem zRR_c {m m' d : Nat} {w : Int32} {F F' : Nat → Int32} {A : Nat → Nat → Int32} {i : Nat} (hm : m = m') (hF : F = F') : zRR N h a L M t n m d w F A i = zRR N h a L M t n m' d w F' A i := by rw [hm, hF]
/-- terms, sums -/
theorem zLw_seq {d : Nat} {Ex : Nat → Prop} {sub : Nat → zPR} {op : Nat → Option zOp2} {m0 : Nat} (hg : zGd n sub) (ho : ∀ i, op i ≠ none → i < n) (hm0 : n < m0) (hs : zLw N h a L M t n d Ex sub) (hst : ∀ (F : Nat → Int32) (A : Nat → Nat → Int32) (c m i : Nat) (g : zOp2), zTp F A t n → F 23 = nI c → c < 2000 → op i = some g → zRR N h a L M t n (m + 1) d 0 F A i = zRR N h a L M t n m d 1 (upd F 23 (nI (c + 1))) (zuA A 22 (upd (A 22) c (nI g.1))) (i + 1)) : zLw N h a L M t n d (fun j => Ex j ∧ op j = none) (zSeq sub op m0) := by
  intro i F A c hi hT hF hc hp
  have h0 := hs i F A c hi hT hF hc hp
  have hgi := hg i hi
  have hgs := zSeq_gd hg ho hm0 i hi
  unfold zSeq at hgs ⊢
  cases hsi : sub i with
  | inl e => rw [hsi] at h0; exact h0
  | inr x =>
    rw [hsi] at h0 hgi hgs
    obtain ⟨A1, r1, e25, ex, run⟩ := h0
    obtain ⟨g1, g2, g3⟩ := hgi
    rw [hp] at run
    dsimp only at hgs ⊢
    have hck := zChn_ok (sub := sub) (op := op) (P := fun j v cs => i < j ∧ j ≤ n ∧ cs.length + i = j ∧ Ex j ∧ ∃ A', zAr d A A' c cs ∧ A' 25 d = A 25 d ∧ ∀ m, zRR N h a L M t n (m + (j - i)) d 1 F A i = zRR N h a L M t n m d 0 (upd F 23 (nI (c + cs.length))) A' j) (fun j v cs g y hP hop hy => by
        obtain ⟨p1, p2, p3, p4, A2, q1, q2, q3⟩ := hP
        have hjn := ho j (by rw [hop]; exact fun q => (by cases q))
        have hgy := hg (j + 1) (by omega)
        rw [hy] at hgy
        obtain ⟨b1, b2, b3⟩ := hgy
        have hT2 : zTp (upd F 23 (nI (c + cs.length))) A2 t n := q1.tp hT _
        have q4 := q1.tr (zAr.put d A2 (c + cs.length) g.1)
        have hT3 : zTp (upd F 23 (nI (c + cs.length + 1))) (zuA A2 22 (upd (A2 22) (c + cs.length) (nI g.1))) t n := q4.tp hT _
        have hL := hs (j + 1) _ _ (c + cs.length + 1) (by omega) hT3 (zu_eq _ _ _) (by omega) ((zPopN_eq (fun q hq => q4.2.2.1 q hq)).trans hp)
        rw [hy] at hL
        obtain ⟨A3, s1, s2, s3, s4⟩ := hL
        have hpe : zPopN ((zuA A2 22 (upd (A2 22) (c + cs.length) (nI g.1))) 24) d = d := (zPopN_eq (fun q hq => q4.2.2.1 q hq)).trans hp
        rw [hpe] at s4
        have hl : (cs ++ g.1 :: y.2.2).length = cs.length + (y.2.2.length + 1) := by rw [List.length_append, List.length_cons]
        refine ⟨by omega, b2, by omega, s3, A3, ?_, ?_, fun m => ?_⟩
        · have := q4.tr (cs := cs ++ [g.1]) (ds := y.2.2) (by rw [List.length_append, List.length_singleton, ← Nat.add_assoc]; exact s1)
          rw [List.append_assoc] at this
          exact this
        · rw [s2, zuA_ne _ _ (show 25 ≠ 22 by decide), q2]
        · rw [show m + (y.1 - i) = (m + (y.1 - (j + 1)) + 1) + (j - i) by omega, q3, hst _ _ (c + cs.length) _ _ g hT2 (zu_eq _ _ _) (by omega) hop, zuu, s4, zuu]
          exact zRR_c rfl (by rw [hl]; congr 2; omega)) m0 x.1 x.2.1 x.2.2 ⟨g1, g2, g3, ex, A1, r1, e25, run⟩
    cases hz : zChn sub op m0 x.1 x.2.1 x.2.2 with
    | inr y =>
      rw [hz] at hck
      obtain ⟨⟨p1, p2, p3, p4, A2, q1, q2, q3⟩, hn⟩ := hck
      exact ⟨A2, q1, q2, ⟨p4, hn⟩, fun m => by rw [hp]; exact q3 m⟩
    | inl e =>
      rw [hz] at hck hgs
      rcases hck with e0 | ⟨j, v', cs, g, ⟨p1, p2, p3, p4, A2, q1, q2, q3⟩, hop, hse⟩
      · exact absurd (congrArg Prod.fst e0) hgs.1
      · intro m
        have hjn := ho j (by rw [hop]; exact fun q => (by cases q))
        have hge := hg (j + 1) (by omega)
        rw [hse] at hge
        have hge1 := hge.2.1
        have hT2 : zTp (upd F 23 (nI (c + cs.length))) A2 t n := q1.tp hT _
        have q4 := q1.tr (zAr.put d A2 (c + cs.length) g.1)
        have hT3 : zTp (upd F 23 (nI (c + cs.length + 1))) (zuA A2 22 (upd (A2 22) (c + cs.length) (nI g.1))) t n := q4.tp hT _
        have hL := hs (j + 1) _ _ (c + cs.length + 1) (by omega) hT3 (zu_eq _ _ _) (by omega) ((zPopN_eq (fun q hq => q4.2.2.1 q hq)).trans hp)
        rw [hse] at hL
        refine (hL m).mo ?_ (fun k k1 k2 => zu23 k k2) (fun k k1 k2 k3 => q4.2.1 k k1 k2 k3) (fun q hq => by rw [q4.1]; exact zcd_lo _ _ _ _ (by omega))
        rw [show m + (e.2 - i) + 1 = ((m + (e.2 - (j + 1)) + 1) + 1) + (j - i) by omega, q3, hst _ _ (c + cs.length) _ _ g hT2 (zu_eq _ _ _) (by omega) hop, zuu]
/-- a test -/
theorem zLx_tes (hb : h.2.2.2.2 0 ≤ a) (hN : 3000 ≤ N) {d : Nat} (hd : d < 7) {Ex : Nat → Prop} {sub : Nat → zPR} (hg : zGd n sub) (hs : zLw N h a L M t n d Ex sub) : zLx N h a L M t n d Ex (zTes sub (zoC (zOfT t n))) := by
  have ho := zoC_lt (zOfT_un t n)
  intro i F A c hi hT hF hc hp h25
  have h0 := hs i F A c hi hT hF hc hp
  have hgi := hg i hi
  unfold zTes
  cases hsi : sub i with
  | inl e => rw [hsi] at h0; exact h0
  | inr x =>
    rw [hsi] at h0 hgi
    obtain ⟨A1, r1, e25, ex, run⟩ := h0
    obtain ⟨g1, g2, g3⟩ := hgi
    rw [hp] at run
    dsimp only
    cases hop : zoC (zOfT t n) x.1 with
    | none => exact ⟨A1, r1, Or.inl hop, ex, run⟩
    | some g =>
      dsimp only
      have hjn := ho x.1 (by rw [hop]; exact fun q => (by cases q))
      have hgy := hg (x.1 + 1) (by omega)
      have hT2 : zTp (upd F 23 (nI (c + x.2.2.length))) A1 t n := r1.tp hT _
      have q4 : zAr d A (zuA (zuA A1 22 (upd (A1 22) (c + x.2.2.length) (nI g.1))) 25 (upd (A1 25) d 1)) c (x.2.2 ++ [g.1]) := (r1.tr (zAr.put d A1 (c + x.2.2.length) g.1)).set (fun q hq => by rw [zu_ne _ _ (by omega), zuA_ne _ _ (by decide)])
      have hT3 : zTp (upd F 23 (nI (c + x.2.2.length + 1))) (zuA (zuA A1 22 (upd (A1 22) (c + x.2.2.length) (nI g.1))) 25 (upd (A1 25) d 1)) t n := q4.tp hT _
      have hL := hs (x.1 + 1) _ _ (c + x.2.2.length + 1) (by omega) hT3 (zu_eq _ _ _) (by omega) ((zPopN_eq (fun q hq => q4.2.2.1 q hq)).trans hp)
      have hpe : zPopN ((zuA (zuA A1 22 (upd (A1 22) (c + x.2.2.length) (nI g.1))) 25 (upd (A1 25) d 1)) 24) d = d := (zPopN_eq (fun q hq => q4.2.2.1 q hq)).trans hp
      have hstp := fun m => zRw_C (L := L) (M := M) (m := m) (i := x.1) (d := d) hb hN hT2 (zu_eq _ _ _) (show c + x.2.2.length < 2000 by omega) hd (e25.trans h25) hop
      cases hy : sub (x.1 + 1) with
      | inl e =>
        rw [hy] at hL hgy
        have hge1 := hgy.2.1
        intro m
        refine (hL m).mo ?_ (fun k k1 k2 => zu23 k k2) (fun k k1 k2 k3 => q4.2.1 k k1 k2 k3) (fun q hq => by rw [q4.1]; exact zcd_lo _ _ _ _ (by omega))
        rw [show m + (e.2 - i) + 1 = ((m + (e.2 - (x.1 + 1)) + 1) + 1) + (x.1 - i) by omega, run, hstp, zuu]
      | inr y =>
        rw [hy] at hL hgy
        obtain ⟨b1, b2, b3⟩ := hgy
        obtain ⟨A3, s1, s2, s3, s4⟩ := hL
        rw [hpe] at s4
        have hl : (x.2.2 ++ g.1 :: y.2.2).length = x.2.2.length + (y.2.2.length + 1) := by rw [List.length_append, List.length_cons]
        refine ⟨A3, ?_, Or.inr ?_, s3, fun m => ?_⟩
        · have := q4.tr (cs := x.2.2 ++ [g.1]) (ds := y.2.2) (by rw [List.length_append, List.length_singleton, ← Nat.add_assoc]; exact s1)
          rw [List.append_assoc] at this
          exact this
        · rw [s2, zuA_eq, zu_eq]; decide
        · show zRR N h a L M t n (m + (y.1 - i)) d 1 F A i = zRR N h a L M t n m d 0 (upd F 23 (nI (c + (x.2.2 ++ g.1 :: y.2.2).length))) A3 y.1
          rw [show m + (y.1 - i) = (m + (y.1 - (x.1 + 1)) + 1) + (x.1 - i) by omega, run, hstp, zuu, s4, zuu]
          exact zRR_c rfl (by rw [hl]; congr 2; omega)
/-- tests -/
theorem zLx_seq (hb : h.2.2.2.2 0 ≤ a) (hN : 3000 ≤ N) {d : Nat} (hd : d < 7) {Ex : Nat → Prop} {sub : Nat → zPR} {m0 : Nat} (hg : zGd n sub) (hm0 : n < m0) (hs : zLx N h a L M t n d Ex sub) : zLx N h a L M t n d (fun j => Ex j ∧ zoA (zOfT t n) j = none) (zSeq sub (zoA (zOfT t n)) m0) := by
  have ho := zoA_lt (zOfT_un t n)
  intro i F A c hi hT hF hc hp h25
  have h0 := hs i F A c hi hT hF hc hp h25
  have hgi := hg i hi
  have hgs := zSeq_gd hg ho hm0 i hi
  unfold zSeq at hgs ⊢
  cases hsi : sub i with
  | inl e => rw [hsi] at h0; exact h0
  | inr x =>
    rw [hsi] at h0 hgi hgs
    obtain ⟨A1, r1, e25, ex, run⟩ := h0
    obtain ⟨g1, g2, g3⟩ := hgi
    dsimp only at hgs ⊢
    have stp : ∀ (j : Nat) (cs : List Nat) (g : zOp2) (A2 : Nat → Nat → Int32), i < j → cs.length + i = j → zAr d A A2 c cs → zoA (zOfT t n) j = some g → zAr d A (zuA (zuA A2 22 (upd (A2 22) (c + cs.length) (nI g.1))) 25 (upd (A2 25) d 0)) c (cs ++ [g.1]) ∧ zLq N h a L M t n d Ex (j + 1) (upd F 23 (nI (c + cs.length + 1))) (zuA (zuA A2 22 (upd (A2 22) (c + cs.length) (nI g.1))) 25 (upd (A2 25) d 0)) (c + cs.length + 1) (sub (j + 1)) ∧ ∀ m, zRR N h a L M t n (m + 1) d 0 (upd F 23 (nI (c + cs.length))) A2 j = zRR N h a L M t n m d 1 (upd F 23 (nI (c + cs.length + 1))) (zuA (zuA A2 22 (upd (A2 22) (c + cs.length) (nI g.1))) 25 (upd (A2 25) d 0)) (j + 1) := by
      intro j cs g A2 p1 p3 q1 hop
      have hjn := ho j (by rw [hop]; exact fun q => (by cases q))
      have hT2 : zTp (upd F 23 (nI (c + cs.length))) A2 t n := q1.tp hT _
      have q4 : zAr d A (zuA (zuA A2 22 (upd (A2 22) (c + cs.length) (nI g.1))) 25 (upd (A2 25) d 0)) c (cs ++ [g.1]) := (q1.tr (zAr.put d A2 (c + cs.length) g.1)).set (fun q hq => by rw [zu_ne _ _ (by omega), zuA_ne _ _ (by decide)])
      have hT3 : zTp (upd F 23 (nI (c + cs.length + 1))) (zuA (zuA A2 22 (upd (A2 22) (c + cs.length) (nI g.1))) 25 (upd (A2 25) d 0)) t n := q4.tp hT _
      refine ⟨q4, hs (j + 1) _ _ (c + cs.length + 1) (by omega) hT3 (zu_eq _ _ _) (by omega) ((zPopN_eq (fun q hq => q4.2.2.1 q hq)).trans hp) (by rw [zuA_eq, zu_eq]), fun m => ?_⟩
      rw [zRw_A hb hN hT2 (zu_eq _ _ _) (show c + cs.length < 2000 by omega) hd hop, zuu]
    have hck := zChn_ok (sub := sub) (op := zoA (zOfT t n)) (P := fun j v cs => i < j ∧ j ≤ n ∧ cs.length + i = j ∧ Ex j ∧ ∃ A', zAr d A A' c cs ∧ (zoC (zOfT t n) j = none ∨ A' 25 d ≠ 0) ∧ ∀ m, zRR N h a L M t n (m + (j - i)) d 1 F A i = zRR N h a L M t n m d 0 (upd F 23 (nI (c + cs.length))) A' j) (fun j v cs g y hP hop hy => by
        obtain ⟨p1, p2, p3, p4, A2, q1, q2, q3⟩ := hP
        have hjn := ho j (by rw [hop]; exact fun q => (by cases q))
        have hgy := hg (j + 1) (by omega)
        rw [hy] at hgy
        obtain ⟨b1, b2, b3⟩ := hgy
        obtain ⟨q4, hL, hstp⟩ := stp j cs g A2 p1 p3 q1 hop
        rw [hy] at hL
        obtain ⟨A3, s1, s2, s3, s4⟩ := hL
        have hl : (cs ++ g.1 :: y.2.2).length = cs.length + (y.2.2.length + 1) := by rw [List.length_append, List.length_cons]
        refine ⟨by omega, b2, by omega, s3, A3, ?_, s2, fun m => ?_⟩
        · have := q4.tr (cs := cs ++ [g.1]) (ds := y.2.2) (by rw [List.length_append, List.length_singleton, ← Nat.add_assoc]; exact s1)
          rw [List.append_assoc] at this
          exact this
        · rw [show m + (y.1 - i) = (m + (y.1 - (j + 1)) + 1) + (j - i) by omega, q3, hstp, s4, zuu]
          exact zRR_c rfl (by rw [hl]; congr 2; omega)) m0 x.1 x.2.1 x.2.2 ⟨g1, g2, g3, ex, A1, r1, e25, run⟩
    cases hz : zChn sub (zoA (zOfT t n)) m0 x.1 x.2.1 x.2.2 with
    | inr y =>
      rw [hz] at hck
      obtain ⟨⟨p1, p2, p3, p4, A2, q1, q2, q3⟩, hn⟩ := hck
      exact ⟨A2, q1, q2, ⟨p4, hn⟩, q3⟩
    | inl e =>
      rw [hz] at hck hgs
      rcases hck with e0 | ⟨j, v', cs, g, ⟨p1, p2, p3, p4, A2, q1, q2, q3⟩, hop, hse⟩
      · exact absurd (congrArg Prod.fst e0) hgs.1
      · intro m
        have hjn := ho j (by rw [hop]; exact fun q => (by cases q))
        have hge := hg (j + 1) (by omega)
        rw [hse] at hge
        have hge1 := hge.2.1
        obtain ⟨q4, hL, hstp⟩ := stp j cs g A2 p1 p3 q1 hop
        rw [hse] at hL
        refine (hL m).mo ?_ (fun k k1 k2 => zu23 k k2) (fun k k1 k2 k3 => q4.2.1 k k1 k2 k3) (fun q hq => by rw [q4.1]; exact zcd_lo _ _ _ _ (by omega))
        rw [show m + (e.2 - i) + 1 = ((m + (e.2 - (j + 1)) + 1) + 1) + (j - i) by omega, q3, hstp]
/-- an expression in a depth -/
def zEx4 (t : Nat → Nat) (n j : Nat) : Prop := ((zoT (zOfT t n) j = none) ∧ zoS (zOfT t n) j = none) ∧ zoA (zOfT t n) j = none
theorem zLx_all (hb : h.2.2.2.2 0 ≤ a) (hN : 3000 ≤ N) {d : Nat} (hd : d < 7) {part : Nat → zPR} {m0 : Nat} (hm0 : n < m0) (hg : zGd n part) (hs : zLw N h a L M t n d (fun _ => True) part) : zLx N h a L M t n d (fun j => (((True ∧ zoT (zOfT t n) j = none) ∧ zoS (zOfT t n) j = none) ∧ zoA (zOfT t n) j = none)) (zAll (zOfT t n) m0 part) := by
  have hu := zOfT_un t n
  have g1 : zGd n (zTerm (zOfT t n) m0 part) := zSeq_gd hg (zoT_lt hu) hm0
  have g2 : zGd n (zSum (zOfT t n) m0 part) := zSeq_gd g1 (zoS_lt hu) hm0
  have g3 : zGd n (zTest (zOfT t n) m0 part) := zTes_gd g2 (zoC_lt hu)
  have l1 := zLw_seq hg (zoT_lt hu) hm0 hs (fun F A c m i g h1 h2 h3 h4 => zRw_T hb hN h1 h2 h3 h4)
  have l2 := zLw_seq g1 (zoS_lt hu) hm0 l1 (fun F A c m i g h1 h2 h3 h4 => zRw_S hb hN h1 h2 h3 h4)
  have l3 := zLx_tes hb hN hd g2 l2
  exact zLx_seq hb hN hd g3 hm0 l3
end
