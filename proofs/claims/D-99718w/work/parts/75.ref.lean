/-! PURE 2 (printed by ref.py): the reference's cells as one state -/
set_option maxRecDepth 100000
/-- int fields; long fields; int and boolean arrays; long arrays: by the field's number -/
abbrev zRS : Type := (Nat → Int32) × (Nat → Int64) × (Nat → Nat → Int32) × (Nat → Nat → Int64)
def zrF (a : Nat) (st : zRS) : List Value := [.int (st.1 0), .int (st.1 1), .ref (a + 1), .int (st.1 3), .int (st.1 4), .int (st.1 5), .int (st.1 6), .long (st.2.1 7), .int (st.1 8), .int (st.1 9), .ref (a + 2), .ref (a + 3), .ref (a + 4), .ref (a + 5), .ref (a + 6), .ref (a + 7), .ref (a + 8), .ref (a + 9), .ref (a + 10), .ref (a + 11), .ref (a + 12), .ref (a + 13), .ref (a + 14), .int (st.1 23), .ref (a + 15), .ref (a + 16), .ref (a + 17), .ref (a + 18), .ref (a + 19), .ref (a + 20), .ref (a + 21), .ref (a + 22), .ref (a + 23), .ref (a + 24), .ref (a + 25), .ref (a + 26), .int (st.1 36), .long (st.2.1 37), .ref (a + 27), .ref (a + 28), .ref (a + 29), .ref (a + 30), .ref (a + 31), .ref (a + 32), .ref (a + 33), .ref (a + 34), .ref (a + 35), .ref (a + 36), .ref (a + 37), .ref (a + 38), .ref (a + 39), .ref (a + 40), .ref (a + 41), .ref (a + 42), .int (st.1 54), .ref (a + 43), .ref (a + 44), .int (st.1 57), .long (st.2.1 58)]
/-- of a cell behind the object: field, kind, length -/
def zrk (j : Nat) : Nat × Nat × Nat := match j with
  | 0 => (1000, 0, 0)
  | 1 => (2, 0, 1000)
  | 2 => (10, 0, 6)
  | 3 => (11, 1, 6)
  | 4 => (12, 1, 12)
  | 5 => (13, 0, 6)
  | 6 => (14, 0, 6)
  | 7 => (15, 0, 6)
  | 8 => (16, 0, 12)
  | 9 => (17, 0, 12)
  | 10 => (18, 0, 12)
  | 11 => (19, 0, 24)
  | 12 => (20, 0, 2)
  | 13 => (21, 0, 2)
  | 14 => (22, 0, 2000)
  | 15 => (24, 0, 7)
  | 16 => (25, 2, 7)
  | 17 => (26, 0, 7)
  | 18 => (27, 0, 7)
  | 19 => (28, 0, 7)
  | 20 => (29, 0, 7)
  | 21 => (30, 0, 7)
  | 22 => (31, 0, 7)
  | 23 => (32, 0, 7)
  | 24 => (33, 0, 7)
  | 25 => (34, 0, 7)
  | 26 => (35, 0, 20)
  | 27 => (38, 0, 6)
  | 28 => (39, 0, 240)
  | 29 => (40, 0, 240)
  | 30 => (41, 0, 240)
  | 31 => (42, 0, 240)
  | 32 => (43, 0, 5)
  | 33 => (44, 0, 40)
  | 34 => (45, 0, 40)
  | 35 => (46, 0, 40)
  | 36 => (47, 2, 40)
  | 37 => (48, 0, 25)
  | 38 => (49, 0, 25)
  | 39 => (50, 0, 25)
  | 40 => (51, 0, 100)
  | 41 => (52, 0, 400)
  | 42 => (53, 2, 4)
  | 43 => (55, 0, 6)
  | 44 => (56, 0, 6)
  | _ => (1001, 0, 0)
def zrC (a : Nat) (st : zRS) (j : Nat) : Option jC := if j = 0 then some (.inl (7, zrF a st)) else some (.inr ((zrk j).2.1, (zrk j).2.2, if (zrk j).2.1 = 1 then .inr (.inl (st.2.2.2 (zrk j).1)) else .inl (st.2.2.1 (zrk j).1)))
def rH (h : jH) (a : Nat) (st : zRS) : jH := (fun q => if a ≤ q ∧ q < a + 45 then zrC a st (q - a) else h.1 q, h.2)
def zuA {α : Type} (A : Nat → Nat → α) (k : Nat) (f : Nat → α) : Nat → Nat → α := fun j => if j = k then f else A j
theorem rH_at {h : jH} {a : Nat} {st : zRS} (j : Nat) (hj : j < 45) : (rH h a st).1 (a + j) = zrC a st j := by
  show (if a ≤ a + j ∧ a + j < a + 45 then zrC a st (a + j - a) else h.1 (a + j)) = _
  rw [if_pos ⟨by omega, by omega⟩, Nat.add_sub_cancel_left]
theorem rH_at0 {h : jH} {a : Nat} {st : zRS} : (rH h a st).1 a = some (.inl (7, zrF a st)) := rH_at (j := 0) (by decide)
theorem rH_out {h : jH} {a : Nat} {st : zRS} {q : Nat} (hq : q < a ∨ a + 45 ≤ q) : (rH h a st).1 q = h.1 q := by
  show (if a ≤ q ∧ q < a + 45 then zrC a st (q - a) else h.1 q) = _
  rw [if_neg (by omega)]
theorem rH_set {h : jH} {a : Nat} {st st' : zRS} {e : jC} (j : Nat) (hj : j < 45) (he : zrC a st' j = some e) (ho : ∀ i, i < 45 → i ≠ j → zrC a st' i = zrC a st i) : jset (rH h a st) (a + j) e = rH h a st' := by
  unfold jset rH
  refine Prod.ext (funext fun q => ?_) rfl
  show (if q = a + j then some e else if a ≤ q ∧ q < a + 45 then zrC a st (q - a) else h.1 q) = if a ≤ q ∧ q < a + 45 then zrC a st' (q - a) else h.1 q
  by_cases hq : q = a + j
  · rw [if_pos hq, if_pos ⟨by omega, by omega⟩, hq, Nat.add_sub_cancel_left, he]
  · rw [if_neg hq]
    by_cases hr : a ≤ q ∧ q < a + 45
    · rw [if_pos hr, if_pos hr, ho (q - a) (by omega) (by omega)]
    · rw [if_neg hr, if_neg hr]
theorem rH_of {h : jH} {a : Nat} {st : zRS} (hc : ∀ j, j < 45 → h.1 (a + j) = zrC a st j) : h = rH h a st := by
  refine Prod.ext (funext fun q => ?_) rfl
  show h.1 q = if a ≤ q ∧ q < a + 45 then zrC a st (q - a) else h.1 q
  by_cases hr : a ≤ q ∧ q < a + 45
  · rw [if_pos hr, ← hc (q - a) (by omega), Nat.add_sub_cancel' hr.1]
  · rw [if_neg hr]
theorem rH_rH (h : jH) (a : Nat) (st st' : zRS) : rH (rH h a st) a st' = rH h a st' := by
  refine Prod.ext (funext fun q => ?_) rfl
  show (if a ≤ q ∧ q < a + 45 then zrC a st' (q - a) else (if a ≤ q ∧ q < a + 45 then zrC a st (q - a) else h.1 q)) = _
  by_cases hr : a ≤ q ∧ q < a + 45
  · rw [if_pos hr]; exact (if_pos hr).symm
  · rw [if_neg hr, if_neg hr]; exact (if_neg hr).symm
theorem rH_K {h : jH} {a : Nat} {st : zRS} : (rH h a st).2 = h.2 := rfl
theorem zr_o {a : Nat} {st st' : zRS} (h2 : st'.2.2 = st.2.2) : ∀ i, i < 45 → i ≠ 0 → zrC a st' i = zrC a st i := by
  intro i _ hi
  unfold zrC
  rw [if_neg hi, if_neg hi, h2]
theorem zr_oA {a : Nat} {F : Nat → Int32} {L : Nat → Int64} {A : Nat → Nat → Int32} {B : Nat → Nat → Int64} {k : Nat} {f : Nat → Int32} (j : Nat) (hj : j ≠ 0) (hd : ∀ i, i < 45 → i ≠ j → (zrk i).1 ≠ k) : ∀ i, i < 45 → i ≠ j → zrC a (F, L, zuA A k f, B) i = zrC a (F, L, A, B) i := by
  intro i h1 h2
  have e : zuA A k f (zrk i).1 = A (zrk i).1 := if_neg (hd i h1 h2)
  simp only [zrC, zrF, e]
theorem zr_oB {a : Nat} {F : Nat → Int32} {L : Nat → Int64} {A : Nat → Nat → Int32} {B : Nat → Nat → Int64} {k : Nat} {f : Nat → Int64} (j : Nat) (hj : j ≠ 0) (hd : ∀ i, i < 45 → i ≠ j → (zrk i).1 ≠ k) : ∀ i, i < 45 → i ≠ j → zrC a (F, L, A, zuA B k f) i = zrC a (F, L, A, B) i := by
  intro i h1 h2
  have e : zuA B k f (zrk i).1 = B (zrk i).1 := if_neg (hd i h1 h2)
  simp only [zrC, zrF, e]
section
variable {α : Type} {h : jH} {a : Nat} {F : Nat → Int32} {L : Nat → Int64} {A : Nat → Nat → Int32} {B : Nat → Nat → Int64}
theorem zr_g0 (K : Int32 → jM α) : (jB (jgI [7] 0 (some a)) K).1 (rH h a (F, L, A, B)) = (K (F 0)).1 (rH h a (F, L, A, B)) := zgI rH_at0 (by decide) rfl K
theorem zr_p0 (hb : h.2.2.2.2 0 ≤ a) (x : Int32) (K : Unit → jM α) : (jB (jpI [7] 0 (some a) x) K).1 (rH h a (F, L, A, B)) = (K ()).1 (rH h a (upd F 0 x, L, A, B)) := by
  refine (zpV rH_at0 (by decide) hb (show 0 < 59 by decide) K).trans ?_
  rw [show jset (rH h a (F, L, A, B)) a (.inl (7, (zrF a (F, L, A, B)).set 0 (.int x))) = rH h a (upd F 0 x, L, A, B) from rH_set (j := 0) (by decide) rfl (zr_o rfl)]
theorem zr_g1 (K : Int32 → jM α) : (jB (jgI [7] 1 (some a)) K).1 (rH h a (F, L, A, B)) = (K (F 1)).1 (rH h a (F, L, A, B)) := zgI rH_at0 (by decide) rfl K
theorem zr_p1 (hb : h.2.2.2.2 0 ≤ a) (x : Int32) (K : Unit → jM α) : (jB (jpI [7] 1 (some a) x) K).1 (rH h a (F, L, A, B)) = (K ()).1 (rH h a (upd F 1 x, L, A, B)) := by
  refine (zpV rH_at0 (by decide) hb (show 1 < 59 by decide) K).trans ?_
  rw [show jset (rH h a (F, L, A, B)) a (.inl (7, (zrF a (F, L, A, B)).set 1 (.int x))) = rH h a (upd F 1 x, L, A, B) from rH_set (j := 0) (by decide) rfl (zr_o rfl)]
theorem zr_g3 (K : Int32 → jM α) : (jB (jgI [7] 3 (some a)) K).1 (rH h a (F, L, A, B)) = (K (F 3)).1 (rH h a (F, L, A, B)) := zgI rH_at0 (by decide) rfl K
theorem zr_p3 (hb : h.2.2.2.2 0 ≤ a) (x : Int32) (K : Unit → jM α) : (jB (jpI [7] 3 (some a) x) K).1 (rH h a (F, L, A, B)) = (K ()).1 (rH h a (upd F 3 x, L, A, B)) := by
  refine (zpV rH_at0 (by decide) hb (show 3 < 59 by decide) K).trans ?_
  rw [show jset (rH h a (F, L, A, B)) a (.inl (7, (zrF a (F, L, A, B)).set 3 (.int x))) = rH h a (upd F 3 x, L, A, B) from rH_set (j := 0) (by decide) rfl (zr_o rfl)]
theorem zr_g4 (K : Int32 → jM α) : (jB (jgI [7] 4 (some a)) K).1 (rH h a (F, L, A, B)) = (K (F 4)).1 (rH h a (F, L, A, B)) := zgI rH_at0 (by decide) rfl K
theorem zr_p4 (hb : h.2.2.2.2 0 ≤ a) (x : Int32) (K : Unit → jM α) : (jB (jpI [7] 4 (some a) x) K).1 (rH h a (F, L, A, B)) = (K ()).1 (rH h a (upd F 4 x, L, A, B)) := by
  refine (zpV rH_at0 (by decide) hb (show 4 < 59 by decide) K).trans ?_
  rw [show jset (rH h a (F, L, A, B)) a (.inl (7, (zrF a (F, L, A, B)).set 4 (.int x))) = rH h a (upd F 4 x, L, A, B) from rH_set (j := 0) (by decide) rfl (zr_o rfl)]
theorem zr_g5 (K : Int32 → jM α) : (jB (jgI [7] 5 (some a)) K).1 (rH h a (F, L, A, B)) = (K (F 5)).1 (rH h a (F, L, A, B)) := zgI rH_at0 (by decide) rfl K
theorem zr_p5 (hb : h.2.2.2.2 0 ≤ a) (x : Int32) (K : Unit → jM α) : (jB (jpI [7] 5 (some a) x) K).1 (rH h a (F, L, A, B)) = (K ()).1 (rH h a (upd F 5 x, L, A, B)) := by
  refine (zpV rH_at0 (by decide) hb (show 5 < 59 by decide) K).trans ?_
  rw [show jset (rH h a (F, L, A, B)) a (.inl (7, (zrF a (F, L, A, B)).set 5 (.int x))) = rH h a (upd F 5 x, L, A, B) from rH_set (j := 0) (by decide) rfl (zr_o rfl)]
theorem zr_g6 (K : Int32 → jM α) : (jB (jgI [7] 6 (some a)) K).1 (rH h a (F, L, A, B)) = (K (F 6)).1 (rH h a (F, L, A, B)) := zgI rH_at0 (by decide) rfl K
theorem zr_p6 (hb : h.2.2.2.2 0 ≤ a) (x : Int32) (K : Unit → jM α) : (jB (jpI [7] 6 (some a) x) K).1 (rH h a (F, L, A, B)) = (K ()).1 (rH h a (upd F 6 x, L, A, B)) := by
  refine (zpV rH_at0 (by decide) hb (show 6 < 59 by decide) K).trans ?_
  rw [show jset (rH h a (F, L, A, B)) a (.inl (7, (zrF a (F, L, A, B)).set 6 (.int x))) = rH h a (upd F 6 x, L, A, B) from rH_set (j := 0) (by decide) rfl (zr_o rfl)]
theorem zr_g8 (K : Int32 → jM α) : (jB (jgI [7] 8 (some a)) K).1 (rH h a (F, L, A, B)) = (K (F 8)).1 (rH h a (F, L, A, B)) := zgI rH_at0 (by decide) rfl K
theorem zr_p8 (hb : h.2.2.2.2 0 ≤ a) (x : Int32) (K : Unit → jM α) : (jB (jpI [7] 8 (some a) x) K).1 (rH h a (F, L, A, B)) = (K ()).1 (rH h a (upd F 8 x, L, A, B)) := by
  refine (zpV rH_at0 (by decide) hb (show 8 < 59 by decide) K).trans ?_
  rw [show jset (rH h a (F, L, A, B)) a (.inl (7, (zrF a (F, L, A, B)).set 8 (.int x))) = rH h a (upd F 8 x, L, A, B) from rH_set (j := 0) (by decide) rfl (zr_o rfl)]
theorem zr_g9 (K : Int32 → jM α) : (jB (jgI [7] 9 (some a)) K).1 (rH h a (F, L, A, B)) = (K (F 9)).1 (rH h a (F, L, A, B)) := zgI rH_at0 (by decide) rfl K
theorem zr_p9 (hb : h.2.2.2.2 0 ≤ a) (x : Int32) (K : Unit → jM α) : (jB (jpI [7] 9 (some a) x) K).1 (rH h a (F, L, A, B)) = (K ()).1 (rH h a (upd F 9 x, L, A, B)) := by
  refine (zpV rH_at0 (by decide) hb (show 9 < 59 by decide) K).trans ?_
  rw [show jset (rH h a (F, L, A, B)) a (.inl (7, (zrF a (F, L, A, B)).set 9 (.int x))) = rH h a (upd F 9 x, L, A, B) from rH_set (j := 0) (by decide) rfl (zr_o rfl)]
theorem zr_g23 (K : Int32 → jM α) : (jB (jgI [7] 23 (some a)) K).1 (rH h a (F, L, A, B)) = (K (F 23)).1 (rH h a (F, L, A, B)) := zgI rH_at0 (by decide) rfl K
theorem zr_p23 (hb : h.2.2.2.2 0 ≤ a) (x : Int32) (K : Unit → jM α) : (jB (jpI [7] 23 (some a) x) K).1 (rH h a (F, L, A, B)) = (K ()).1 (rH h a (upd F 23 x, L, A, B)) := by
  refine (zpV rH_at0 (by decide) hb (show 23 < 59 by decide) K).trans ?_
  rw [show jset (rH h a (F, L, A, B)) a (.inl (7, (zrF a (F, L, A, B)).set 23 (.int x))) = rH h a (upd F 23 x, L, A, B) from rH_set (j := 0) (by decide) rfl (zr_o rfl)]
theorem zr_g36 (K : Int32 → jM α) : (jB (jgI [7] 36 (some a)) K).1 (rH h a (F, L, A, B)) = (K (F 36)).1 (rH h a (F, L, A, B)) := zgI rH_at0 (by decide) rfl K
theorem zr_p36 (hb : h.2.2.2.2 0 ≤ a) (x : Int32) (K : Unit → jM α) : (jB (jpI [7] 36 (some a) x) K).1 (rH h a (F, L, A, B)) = (K ()).1 (rH h a (upd F 36 x, L, A, B)) := by
  refine (zpV rH_at0 (by decide) hb (show 36 < 59 by decide) K).trans ?_
  rw [show jset (rH h a (F, L, A, B)) a (.inl (7, (zrF a (F, L, A, B)).set 36 (.int x))) = rH h a (upd F 36 x, L, A, B) from rH_set (j := 0) (by decide) rfl (zr_o rfl)]
theorem zr_g54 (K : Int32 → jM α) : (jB (jgI [7] 54 (some a)) K).1 (rH h a (F, L, A, B)) = (K (F 54)).1 (rH h a (F, L, A, B)) := zgI rH_at0 (by decide) rfl K
theorem zr_p54 (hb : h.2.2.2.2 0 ≤ a) (x : Int32) (K : Unit → jM α) : (jB (jpI [7] 54 (some a) x) K).1 (rH h a (F, L, A, B)) = (K ()).1 (rH h a (upd F 54 x, L, A, B)) := by
  refine (zpV rH_at0 (by decide) hb (show 54 < 59 by decide) K).trans ?_
  rw [show jset (rH h a (F, L, A, B)) a (.inl (7, (zrF a (F, L, A, B)).set 54 (.int x))) = rH h a (upd F 54 x, L, A, B) from rH_set (j := 0) (by decide) rfl (zr_o rfl)]
theorem zr_g57 (K : Int32 → jM α) : (jB (jgI [7] 57 (some a)) K).1 (rH h a (F, L, A, B)) = (K (F 57)).1 (rH h a (F, L, A, B)) := zgI rH_at0 (by decide) rfl K
theorem zr_p57 (hb : h.2.2.2.2 0 ≤ a) (x : Int32) (K : Unit → jM α) : (jB (jpI [7] 57 (some a) x) K).1 (rH h a (F, L, A, B)) = (K ()).1 (rH h a (upd F 57 x, L, A, B)) := by
  refine (zpV rH_at0 (by decide) hb (show 57 < 59 by decide) K).trans ?_
  rw [show jset (rH h a (F, L, A, B)) a (.inl (7, (zrF a (F, L, A, B)).set 57 (.int x))) = rH h a (upd F 57 x, L, A, B) from rH_set (j := 0) (by decide) rfl (zr_o rfl)]
theorem zr_g7 (K : Int64 → jM α) : (jB (jgL [7] 7 (some a)) K).1 (rH h a (F, L, A, B)) = (K (L 7)).1 (rH h a (F, L, A, B)) := zgL rH_at0 (by decide) rfl K
theorem zr_p7 (hb : h.2.2.2.2 0 ≤ a) (x : Int64) (K : Unit → jM α) : (jB (jpL [7] 7 (some a) x) K).1 (rH h a (F, L, A, B)) = (K ()).1 (rH h a (F, vp_updL L 7 x, A, B)) := by
  refine (zpV rH_at0 (by decide) hb (show 7 < 59 by decide) K).trans ?_
  rw [show jset (rH h a (F, L, A, B)) a (.inl (7, (zrF a (F, L, A, B)).set 7 (.long x))) = rH h a (F, vp_updL L 7 x, A, B) from rH_set (j := 0) (by decide) rfl (zr_o rfl)]
theorem zr_g37 (K : Int64 → jM α) : (jB (jgL [7] 37 (some a)) K).1 (rH h a (F, L, A, B)) = (K (L 37)).1 (rH h a (F, L, A, B)) := zgL rH_at0 (by decide) rfl K
theorem zr_p37 (hb : h.2.2.2.2 0 ≤ a) (x : Int64) (K : Unit → jM α) : (jB (jpL [7] 37 (some a) x) K).1 (rH h a (F, L, A, B)) = (K ()).1 (rH h a (F, vp_updL L 37 x, A, B)) := by
  refine (zpV rH_at0 (by decide) hb (show 37 < 59 by decide) K).trans ?_
  rw [show jset (rH h a (F, L, A, B)) a (.inl (7, (zrF a (F, L, A, B)).set 37 (.long x))) = rH h a (F, vp_updL L 37 x, A, B) from rH_set (j := 0) (by decide) rfl (zr_o rfl)]
theorem zr_g58 (K : Int64 → jM α) : (jB (jgL [7] 58 (some a)) K).1 (rH h a (F, L, A, B)) = (K (L 58)).1 (rH h a (F, L, A, B)) := zgL rH_at0 (by decide) rfl K
theorem zr_p58 (hb : h.2.2.2.2 0 ≤ a) (x : Int64) (K : Unit → jM α) : (jB (jpL [7] 58 (some a) x) K).1 (rH h a (F, L, A, B)) = (K ()).1 (rH h a (F, vp_updL L 58 x, A, B)) := by
  refine (zpV rH_at0 (by decide) hb (show 58 < 59 by decide) K).trans ?_
  rw [show jset (rH h a (F, L, A, B)) a (.inl (7, (zrF a (F, L, A, B)).set 58 (.long x))) = rH h a (F, vp_updL L 58 x, A, B) from rH_set (j := 0) (by decide) rfl (zr_o rfl)]
theorem zr_c2 : (rH h a (F, L, A, B)).1 (a + 1) = some (.inr (0, 1000, .inl (A 2))) := rH_at (j := 1) (by decide)
theorem zr_g2 (K : Option Nat → jM α) : (jB (jgR [7] 2 (some a)) K).1 (rH h a (F, L, A, B)) = (K (some (a + 1))).1 (rH h a (F, L, A, B)) := zgRs rH_at0 (by decide) rfl K
theorem zr_a2 {i : Nat} (hi : i < 1000) (K : Int32 → jM α) : (jB (jaI 0 (some (a + 1)) (nI i)) K).1 (rH h a (F, L, A, B)) = (K (A 2 i)).1 (rH h a (F, L, A, B)) := zaI zr_c2 hi (by decide) K
theorem zr_s2 {i : Nat} (hb : h.2.2.2.2 0 ≤ a) (hi : i < 1000) (x : Int32) (K : Unit → jM α) : (jB (jsI 0 (some (a + 1)) (nI i) x) K).1 (rH h a (F, L, A, B)) = (K ()).1 (rH h a (F, L, zuA A 2 (upd (A 2) i x), B)) := by
  refine (zsI zr_c2 (Nat.le_trans hb (Nat.le_add_right _ _)) hi (by decide) K).trans ?_
  rw [show jset (rH h a (F, L, A, B)) (a + 1) (.inr (0, 1000, .inl (upd (A 2) i x))) = rH h a (F, L, zuA A 2 (upd (A 2) i x), B) from rH_set (j := 1) (by decide) rfl (zr_oA 1 (by decide) (by decide +kernel))]
theorem zr_c10 : (rH h a (F, L, A, B)).1 (a + 2) = some (.inr (0, 6, .inl (A 10))) := rH_at (j := 2) (by decide)
theorem zr_g10 (K : Option Nat → jM α) : (jB (jgR [7] 10 (some a)) K).1 (rH h a (F, L, A, B)) = (K (some (a + 2))).1 (rH h a (F, L, A, B)) := zgRs rH_at0 (by decide) rfl K
theorem zr_a10 {i : Nat} (hi : i < 6) (K : Int32 → jM α) : (jB (jaI 0 (some (a + 2)) (nI i)) K).1 (rH h a (F, L, A, B)) = (K (A 10 i)).1 (rH h a (F, L, A, B)) := zaI zr_c10 hi (by decide) K
theorem zr_s10 {i : Nat} (hb : h.2.2.2.2 0 ≤ a) (hi : i < 6) (x : Int32) (K : Unit → jM α) : (jB (jsI 0 (some (a + 2)) (nI i) x) K).1 (rH h a (F, L, A, B)) = (K ()).1 (rH h a (F, L, zuA A 10 (upd (A 10) i x), B)) := by
  refine (zsI zr_c10 (Nat.le_trans hb (Nat.le_add_right _ _)) hi (by decide) K).trans ?_
  rw [show jset (rH h a (F, L, A, B)) (a + 2) (.inr (0, 6, .inl (upd (A 10) i x))) = rH h a (F, L, zuA A 10 (upd (A 10) i x), B) from rH_set (j := 2) (by decide) rfl (zr_oA 2 (by decide) (by decide +kernel))]
theorem zr_c11 : (rH h a (F, L, A, B)).1 (a + 3) = some (.inr (1, 6, .inr (.inl (B 11)))) := rH_at (j := 3) (by decide)
theorem zr_g11 (K : Option Nat → jM α) : (jB (jgR [7] 11 (some a)) K).1 (rH h a (F, L, A, B)) = (K (some (a + 3))).1 (rH h a (F, L, A, B)) := zgRs rH_at0 (by decide) rfl K
theorem zr_a11 {i : Nat} (hi : i < 6) (K : Int64 → jM α) : (jB (jaL 1 (some (a + 3)) (nI i)) K).1 (rH h a (F, L, A, B)) = (K (B 11 i)).1 (rH h a (F, L, A, B)) := zaL zr_c11 hi (by decide) K
theorem zr_s11 {i : Nat} (hb : h.2.2.2.2 0 ≤ a) (hi : i < 6) (x : Int64) (K : Unit → jM α) : (jB (jsL 1 (some (a + 3)) (nI i) x) K).1 (rH h a (F, L, A, B)) = (K ()).1 (rH h a (F, L, A, zuA B 11 (vp_updL (B 11) i x))) := by
  refine (zsL zr_c11 (Nat.le_trans hb (Nat.le_add_right _ _)) hi (by decide) K).trans ?_
  rw [show jset (rH h a (F, L, A, B)) (a + 3) (.inr (1, 6, .inr (.inl (vp_updL (B 11) i x)))) = rH h a (F, L, A, zuA B 11 (vp_updL (B 11) i x)) from rH_set (j := 3) (by decide) rfl (zr_oB 3 (by decide) (by decide +kernel))]
theorem zr_c12 : (rH h a (F, L, A, B)).1 (a + 4) = some (.inr (1, 12, .inr (.inl (B 12)))) := rH_at (j := 4) (by decide)
theorem zr_g12 (K : Option Nat → jM α) : (jB (jgR [7] 12 (some a)) K).1 (rH h a (F, L, A, B)) = (K (some (a + 4))).1 (rH h a (F, L, A, B)) := zgRs rH_at0 (by decide) rfl K
theorem zr_a12 {i : Nat} (hi : i < 12) (K : Int64 → jM α) : (jB (jaL 1 (some (a + 4)) (nI i)) K).1 (rH h a (F, L, A, B)) = (K (B 12 i)).1 (rH h a (F, L, A, B)) := zaL zr_c12 hi (by decide) K
theorem zr_s12 {i : Nat} (hb : h.2.2.2.2 0 ≤ a) (hi : i < 12) (x : Int64) (K : Unit → jM α) : (jB (jsL 1 (some (a + 4)) (nI i) x) K).1 (rH h a (F, L, A, B)) = (K ()).1 (rH h a (F, L, A, zuA B 12 (vp_updL (B 12) i x))) := by
  refine (zsL zr_c12 (Nat.le_trans hb (Nat.le_add_right _ _)) hi (by decide) K).trans ?_
  rw [show jset (rH h a (F, L, A, B)) (a + 4) (.inr (1, 12, .inr (.inl (vp_updL (B 12) i x)))) = rH h a (F, L, A, zuA B 12 (vp_updL (B 12) i x)) from rH_set (j := 4) (by decide) rfl (zr_oB 4 (by decide) (by decide +kernel))]
theorem zr_c13 : (rH h a (F, L, A, B)).1 (a + 5) = some (.inr (0, 6, .inl (A 13))) := rH_at (j := 5) (by decide)
theorem zr_g13 (K : Option Nat → jM α) : (jB (jgR [7] 13 (some a)) K).1 (rH h a (F, L, A, B)) = (K (some (a + 5))).1 (rH h a (F, L, A, B)) := zgRs rH_at0 (by decide) rfl K
theorem zr_a13 {i : Nat} (hi : i < 6) (K : Int32 → jM α) : (jB (jaI 0 (some (a + 5)) (nI i)) K).1 (rH h a (F, L, A, B)) = (K (A 13 i)).1 (rH h a (F, L, A, B)) := zaI zr_c13 hi (by decide) K
theorem zr_s13 {i : Nat} (hb : h.2.2.2.2 0 ≤ a) (hi : i < 6) (x : Int32) (K : Unit → jM α) : (jB (jsI 0 (some (a + 5)) (nI i) x) K).1 (rH h a (F, L, A, B)) = (K ()).1 (rH h a (F, L, zuA A 13 (upd (A 13) i x), B)) := by
  refine (zsI zr_c13 (Nat.le_trans hb (Nat.le_add_right _ _)) hi (by decide) K).trans ?_
  rw [show jset (rH h a (F, L, A, B)) (a + 5) (.inr (0, 6, .inl (upd (A 13) i x))) = rH h a (F, L, zuA A 13 (upd (A 13) i x), B) from rH_set (j := 5) (by decide) rfl (zr_oA 5 (by decide) (by decide +kernel))]
theorem zr_c14 : (rH h a (F, L, A, B)).1 (a + 6) = some (.inr (0, 6, .inl (A 14))) := rH_at (j := 6) (by decide)
theorem zr_g14 (K : Option Nat → jM α) : (jB (jgR [7] 14 (some a)) K).1 (rH h a (F, L, A, B)) = (K (some (a + 6))).1 (rH h a (F, L, A, B)) := zgRs rH_at0 (by decide) rfl K
theorem zr_a14 {i : Nat} (hi : i < 6) (K : Int32 → jM α) : (jB (jaI 0 (some (a + 6)) (nI i)) K).1 (rH h a (F, L, A, B)) = (K (A 14 i)).1 (rH h a (F, L, A, B)) := zaI zr_c14 hi (by decide) K
theorem zr_s14 {i : Nat} (hb : h.2.2.2.2 0 ≤ a) (hi : i < 6) (x : Int32) (K : Unit → jM α) : (jB (jsI 0 (some (a + 6)) (nI i) x) K).1 (rH h a (F, L, A, B)) = (K ()).1 (rH h a (F, L, zuA A 14 (upd (A 14) i x), B)) := by
  refine (zsI zr_c14 (Nat.le_trans hb (Nat.le_add_right _ _)) hi (by decide) K).trans ?_
  rw [show jset (rH h a (F, L, A, B)) (a + 6) (.inr (0, 6, .inl (upd (A 14) i x))) = rH h a (F, L, zuA A 14 (upd (A 14) i x), B) from rH_set (j := 6) (by decide) rfl (zr_oA 6 (by decide) (by decide +kernel))]
theorem zr_c15 : (rH h a (F, L, A, B)).1 (a + 7) = some (.inr (0, 6, .inl (A 15))) := rH_at (j := 7) (by decide)
theorem zr_g15 (K : Option Nat → jM α) : (jB (jgR [7] 15 (some a)) K).1 (rH h a (F, L, A, B)) = (K (some (a + 7))).1 (rH h a (F, L, A, B)) := zgRs rH_at0 (by decide) rfl K
theorem zr_a15 {i : Nat} (hi : i < 6) (K : Int32 → jM α) : (jB (jaI 0 (some (a + 7)) (nI i)) K).1 (rH h a (F, L, A, B)) = (K (A 15 i)).1 (rH h a (F, L, A, B)) := zaI zr_c15 hi (by decide) K
theorem zr_s15 {i : Nat} (hb : h.2.2.2.2 0 ≤ a) (hi : i < 6) (x : Int32) (K : Unit → jM α) : (jB (jsI 0 (some (a + 7)) (nI i) x) K).1 (rH h a (F, L, A, B)) = (K ()).1 (rH h a (F, L, zuA A 15 (upd (A 15) i x), B)) := by
  refine (zsI zr_c15 (Nat.le_trans hb (Nat.le_add_right _ _)) hi (by decide) K).trans ?_
  rw [show jset (rH h a (F, L, A, B)) (a + 7) (.inr (0, 6, .inl (upd (A 15) i x))) = rH h a (F, L, zuA A 15 (upd (A 15) i x), B) from rH_set (j := 7) (by decide) rfl (zr_oA 7 (by decide) (by decide +kernel))]
theorem zr_c16 : (rH h a (F, L, A, B)).1 (a + 8) = some (.inr (0, 12, .inl (A 16))) := rH_at (j := 8) (by decide)
theorem zr_g16 (K : Option Nat → jM α) : (jB (jgR [7] 16 (some a)) K).1 (rH h a (F, L, A, B)) = (K (some (a + 8))).1 (rH h a (F, L, A, B)) := zgRs rH_at0 (by decide) rfl K
theorem zr_a16 {i : Nat} (hi : i < 12) (K : Int32 → jM α) : (jB (jaI 0 (some (a + 8)) (nI i)) K).1 (rH h a (F, L, A, B)) = (K (A 16 i)).1 (rH h a (F, L, A, B)) := zaI zr_c16 hi (by decide) K
theorem zr_s16 {i : Nat} (hb : h.2.2.2.2 0 ≤ a) (hi : i < 12) (x : Int32) (K : Unit → jM α) : (jB (jsI 0 (some (a + 8)) (nI i) x) K).1 (rH h a (F, L, A, B)) = (K ()).1 (rH h a (F, L, zuA A 16 (upd (A 16) i x), B)) := by
  refine (zsI zr_c16 (Nat.le_trans hb (Nat.le_add_right _ _)) hi (by decide) K).trans ?_
  rw [show jset (rH h a (F, L, A, B)) (a + 8) (.inr (0, 12, .inl (upd (A 16) i x))) = rH h a (F, L, zuA A 16 (upd (A 16) i x), B) from rH_set (j := 8) (by decide) rfl (zr_oA 8 (by decide) (by decide +kernel))]
theorem zr_c17 : (rH h a (F, L, A, B)).1 (a + 9) = some (.inr (0, 12, .inl (A 17))) := rH_at (j := 9) (by decide)
theorem zr_g17 (K : Option Nat → jM α) : (jB (jgR [7] 17 (some a)) K).1 (rH h a (F, L, A, B)) = (K (some (a + 9))).1 (rH h a (F, L, A, B)) := zgRs rH_at0 (by decide) rfl K
theorem zr_a17 {i : Nat} (hi : i < 12) (K : Int32 → jM α) : (jB (jaI 0 (some (a + 9)) (nI i)) K).1 (rH h a (F, L, A, B)) = (K (A 17 i)).1 (rH h a (F, L, A, B)) := zaI zr_c17 hi (by decide) K
theorem zr_s17 {i : Nat} (hb : h.2.2.2.2 0 ≤ a) (hi : i < 12) (x : Int32) (K : Unit → jM α) : (jB (jsI 0 (some (a + 9)) (nI i) x) K).1 (rH h a (F, L, A, B)) = (K ()).1 (rH h a (F, L, zuA A 17 (upd (A 17) i x), B)) := by
  refine (zsI zr_c17 (Nat.le_trans hb (Nat.le_add_right _ _)) hi (by decide) K).trans ?_
  rw [show jset (rH h a (F, L, A, B)) (a + 9) (.inr (0, 12, .inl (upd (A 17) i x))) = rH h a (F, L, zuA A 17 (upd (A 17) i x), B) from rH_set (j := 9) (by decide) rfl (zr_oA 9 (by decide) (by decide +kernel))]
theorem zr_c18 : (rH h a (F, L, A, B)).1 (a + 10) = some (.inr (0, 12, .inl (A 18))) := rH_at (j := 10) (by decide)
theorem zr_g18 (K : Option Nat → jM α) : (jB (jgR [7] 18 (some a)) K).1 (rH h a (F, L, A, B)) = (K (some (a + 10))).1 (rH h a (F, L, A, B)) := zgRs rH_at0 (by decide) rfl K
theorem zr_a18 {i : Nat} (hi : i < 12) (K : Int32 → jM α) : (jB (jaI 0 (some (a + 10)) (nI i)) K).1 (rH h a (F, L, A, B)) = (K (A 18 i)).1 (rH h a (F, L, A, B)) := zaI zr_c18 hi (by decide) K
theorem zr_s18 {i : Nat} (hb : h.2.2.2.2 0 ≤ a) (hi : i < 12) (x : Int32) (K : Unit → jM α) : (jB (jsI 0 (some (a + 10)) (nI i) x) K).1 (rH h a (F, L, A, B)) = (K ()).1 (rH h a (F, L, zuA A 18 (upd (A 18) i x), B)) := by
  refine (zsI zr_c18 (Nat.le_trans hb (Nat.le_add_right _ _)) hi (by decide) K).trans ?_
  rw [show jset (rH h a (F, L, A, B)) (a + 10) (.inr (0, 12, .inl (upd (A 18) i x))) = rH h a (F, L, zuA A 18 (upd (A 18) i x), B) from rH_set (j := 10) (by decide) rfl (zr_oA 10 (by decide) (by decide +kernel))]
theorem zr_c19 : (rH h a (F, L, A, B)).1 (a + 11) = some (.inr (0, 24, .inl (A 19))) := rH_at (j := 11) (by decide)
theorem zr_g19 (K : Option Nat → jM α) : (jB (jgR [7] 19 (some a)) K).1 (rH h a (F, L, A, B)) = (K (some (a + 11))).1 (rH h a (F, L, A, B)) := zgRs rH_at0 (by decide) rfl K
theorem zr_a19 {i : Nat} (hi : i < 24) (K : Int32 → jM α) : (jB (jaI 0 (some (a + 11)) (nI i)) K).1 (rH h a (F, L, A, B)) = (K (A 19 i)).1 (rH h a (F, L, A, B)) := zaI zr_c19 hi (by decide) K
theorem zr_s19 {i : Nat} (hb : h.2.2.2.2 0 ≤ a) (hi : i < 24) (x : Int32) (K : Unit → jM α) : (jB (jsI 0 (some (a + 11)) (nI i) x) K).1 (rH h a (F, L, A, B)) = (K ()).1 (rH h a (F, L, zuA A 19 (upd (A 19) i x), B)) := by
  refine (zsI zr_c19 (Nat.le_trans hb (Nat.le_add_right _ _)) hi (by decide) K).trans ?_
  rw [show jset (rH h a (F, L, A, B)) (a + 11) (.inr (0, 24, .inl (upd (A 19) i x))) = rH h a (F, L, zuA A 19 (upd (A 19) i x), B) from rH_set (j := 11) (by decide) rfl (zr_oA 11 (by decide) (by decide +kernel))]
theorem zr_c20 : (rH h a (F, L, A, B)).1 (a + 12) = some (.inr (0, 2, .inl (A 20))) := rH_at (j := 12) (by decide)
theorem zr_g20 (K : Option Nat → jM α) : (jB (jgR [7] 20 (some a)) K).1 (rH h a (F, L, A, B)) = (K (some (a + 12))).1 (rH h a (F, L, A, B)) := zgRs rH_at0 (by decide) rfl K
theorem zr_a20 {i : Nat} (hi : i < 2) (K : Int32 → jM α) : (jB (jaI 0 (some (a + 12)) (nI i)) K).1 (rH h a (F, L, A, B)) = (K (A 20 i)).1 (rH h a (F, L, A, B)) := zaI zr_c20 hi (by decide) K
theorem zr_s20 {i : Nat} (hb : h.2.2.2.2 0 ≤ a) (hi : i < 2) (x : Int32) (K : Unit → jM α) : (jB (jsI 0 (some (a + 12)) (nI i) x) K).1 (rH h a (F, L, A, B)) = (K ()).1 (rH h a (F, L, zuA A 20 (upd (A 20) i x), B)) := by
  refine (zsI zr_c20 (Nat.le_trans hb (Nat.le_add_right _ _)) hi (by decide) K).trans ?_
  rw [show jset (rH h a (F, L, A, B)) (a + 12) (.inr (0, 2, .inl (upd (A 20) i x))) = rH h a (F, L, zuA A 20 (upd (A 20) i x), B) from rH_set (j := 12) (by decide) rfl (zr_oA 12 (by decide) (by decide +kernel))]
theorem zr_c21 : (rH h a (F, L, A, B)).1 (a + 13) = some (.inr (0, 2, .inl (A 21))) := rH_at (j := 13) (by decide)
theorem zr_g21 (K : Option Nat → jM α) : (jB (jgR [7] 21 (some a)) K).1 (rH h a (F, L, A, B)) = (K (some (a + 13))).1 (rH h a (F, L, A, B)) := zgRs rH_at0 (by decide) rfl K
theorem zr_a21 {i : Nat} (hi : i < 2) (K : Int32 → jM α) : (jB (jaI 0 (some (a + 13)) (nI i)) K).1 (rH h a (F, L, A, B)) = (K (A 21 i)).1 (rH h a (F, L, A, B)) := zaI zr_c21 hi (by decide) K
theorem zr_s21 {i : Nat} (hb : h.2.2.2.2 0 ≤ a) (hi : i < 2) (x : Int32) (K : Unit → jM α) : (jB (jsI 0 (some (a + 13)) (nI i) x) K).1 (rH h a (F, L, A, B)) = (K ()).1 (rH h a (F, L, zuA A 21 (upd (A 21) i x), B)) := by
  refine (zsI zr_c21 (Nat.le_trans hb (Nat.le_add_right _ _)) hi (by decide) K).trans ?_
  rw [show jset (rH h a (F, L, A, B)) (a + 13) (.inr (0, 2, .inl (upd (A 21) i x))) = rH h a (F, L, zuA A 21 (upd (A 21) i x), B) from rH_set (j := 13) (by decide) rfl (zr_oA 13 (by decide) (by decide +kernel))]
theorem zr_c22 : (rH h a (F, L, A, B)).1 (a + 14) = some (.inr (0, 2000, .inl (A 22))) := rH_at (j := 14) (by decide)
theorem zr_g22 (K : Option Nat → jM α) : (jB (jgR [7] 22 (some a)) K).1 (rH h a (F, L, A, B)) = (K (some (a + 14))).1 (rH h a (F, L, A, B)) := zgRs rH_at0 (by decide) rfl K
theorem zr_a22 {i : Nat} (hi : i < 2000) (K : Int32 → jM α) : (jB (jaI 0 (some (a + 14)) (nI i)) K).1 (rH h a (F, L, A, B)) = (K (A 22 i)).1 (rH h a (F, L, A, B)) := zaI zr_c22 hi (by decide) K
theorem zr_s22 {i : Nat} (hb : h.2.2.2.2 0 ≤ a) (hi : i < 2000) (x : Int32) (K : Unit → jM α) : (jB (jsI 0 (some (a + 14)) (nI i) x) K).1 (rH h a (F, L, A, B)) = (K ()).1 (rH h a (F, L, zuA A 22 (upd (A 22) i x), B)) := by
  refine (zsI zr_c22 (Nat.le_trans hb (Nat.le_add_right _ _)) hi (by decide) K).trans ?_
  rw [show jset (rH h a (F, L, A, B)) (a + 14) (.inr (0, 2000, .inl (upd (A 22) i x))) = rH h a (F, L, zuA A 22 (upd (A 22) i x), B) from rH_set (j := 14) (by decide) rfl (zr_oA 14 (by decide) (by decide +kernel))]
theorem zr_c24 : (rH h a (F, L, A, B)).1 (a + 15) = some (.inr (0, 7, .inl (A 24))) := rH_at (j := 15) (by decide)
theorem zr_g24 (K : Option Nat → jM α) : (jB (jgR [7] 24 (some a)) K).1 (rH h a (F, L, A, B)) = (K (some (a + 15))).1 (rH h a (F, L, A, B)) := zgRs rH_at0 (by decide) rfl K
theorem zr_a24 {i : Nat} (hi : i < 7) (K : Int32 → jM α) : (jB (jaI 0 (some (a + 15)) (nI i)) K).1 (rH h a (F, L, A, B)) = (K (A 24 i)).1 (rH h a (F, L, A, B)) := zaI zr_c24 hi (by decide) K
theorem zr_s24 {i : Nat} (hb : h.2.2.2.2 0 ≤ a) (hi : i < 7) (x : Int32) (K : Unit → jM α) : (jB (jsI 0 (some (a + 15)) (nI i) x) K).1 (rH h a (F, L, A, B)) = (K ()).1 (rH h a (F, L, zuA A 24 (upd (A 24) i x), B)) := by
  refine (zsI zr_c24 (Nat.le_trans hb (Nat.le_add_right _ _)) hi (by decide) K).trans ?_
  rw [show jset (rH h a (F, L, A, B)) (a + 15) (.inr (0, 7, .inl (upd (A 24) i x))) = rH h a (F, L, zuA A 24 (upd (A 24) i x), B) from rH_set (j := 15) (by decide) rfl (zr_oA 15 (by decide) (by decide +kernel))]
theorem zr_c25 : (rH h a (F, L, A, B)).1 (a + 16) = some (.inr (2, 7, .inl (A 25))) := rH_at (j := 16) (by decide)
theorem zr_g25 (K : Option Nat → jM α) : (jB (jgR [7] 25 (some a)) K).1 (rH h a (F, L, A, B)) = (K (some (a + 16))).1 (rH h a (F, L, A, B)) := zgRs rH_at0 (by decide) rfl K
theorem zr_a25 {i : Nat} (hi : i < 7) (K : Int32 → jM α) : (jB (jaI 2 (some (a + 16)) (nI i)) K).1 (rH h a (F, L, A, B)) = (K (A 25 i)).1 (rH h a (F, L, A, B)) := zaI zr_c25 hi (by decide) K
theorem zr_s25 {i : Nat} (hb : h.2.2.2.2 0 ≤ a) (hi : i < 7) (x : Int32) (K : Unit → jM α) : (jB (jsI 2 (some (a + 16)) (nI i) x) K).1 (rH h a (F, L, A, B)) = (K ()).1 (rH h a (F, L, zuA A 25 (upd (A 25) i x), B)) := by
  refine (zsI zr_c25 (Nat.le_trans hb (Nat.le_add_right _ _)) hi (by decide) K).trans ?_
  rw [show jset (rH h a (F, L, A, B)) (a + 16) (.inr (2, 7, .inl (upd (A 25) i x))) = rH h a (F, L, zuA A 25 (upd (A 25) i x), B) from rH_set (j := 16) (by decide) rfl (zr_oA 16 (by decide) (by decide +kernel))]
theorem zr_c26 : (rH h a (F, L, A, B)).1 (a + 17) = some (.inr (0, 7, .inl (A 26))) := rH_at (j := 17) (by decide)
theorem zr_g26 (K : Option Nat → jM α) : (jB (jgR [7] 26 (some a)) K).1 (rH h a (F, L, A, B)) = (K (some (a + 17))).1 (rH h a (F, L, A, B)) := zgRs rH_at0 (by decide) rfl K
theorem zr_a26 {i : Nat} (hi : i < 7) (K : Int32 → jM α) : (jB (jaI 0 (some (a + 17)) (nI i)) K).1 (rH h a (F, L, A, B)) = (K (A 26 i)).1 (rH h a (F, L, A, B)) := zaI zr_c26 hi (by decide) K
theorem zr_s26 {i : Nat} (hb : h.2.2.2.2 0 ≤ a) (hi : i < 7) (x : Int32) (K : Unit → jM α) : (jB (jsI 0 (some (a + 17)) (nI i) x) K).1 (rH h a (F, L, A, B)) = (K ()).1 (rH h a (F, L, zuA A 26 (upd (A 26) i x), B)) := by
  refine (zsI zr_c26 (Nat.le_trans hb (Nat.le_add_right _ _)) hi (by decide) K).trans ?_
  rw [show jset (rH h a (F, L, A, B)) (a + 17) (.inr (0, 7, .inl (upd (A 26) i x))) = rH h a (F, L, zuA A 26 (upd (A 26) i x), B) from rH_set (j := 17) (by decide) rfl (zr_oA 17 (by decide) (by decide +kernel))]
theorem zr_c27 : (rH h a (F, L, A, B)).1 (a + 18) = some (.inr (0, 7, .inl (A 27))) := rH_at (j := 18) (by decide)
theorem zr_g27 (K : Option Nat → jM α) : (jB (jgR [7] 27 (some a)) K).1 (rH h a (F, L, A, B)) = (K (some (a + 18))).1 (rH h a (F, L, A, B)) := zgRs rH_at0 (by decide) rfl K
theorem zr_a27 {i : Nat} (hi : i < 7) (K : Int32 → jM α) : (jB (jaI 0 (some (a + 18)) (nI i)) K).1 (rH h a (F, L, A, B)) = (K (A 27 i)).1 (rH h a (F, L, A, B)) := zaI zr_c27 hi (by decide) K
theorem zr_s27 {i : Nat} (hb : h.2.2.2.2 0 ≤ a) (hi : i < 7) (x : Int32) (K : Unit → jM α) : (jB (jsI 0 (some (a + 18)) (nI i) x) K).1 (rH h a (F, L, A, B)) = (K ()).1 (rH h a (F, L, zuA A 27 (upd (A 27) i x), B)) := by
  refine (zsI zr_c27 (Nat.le_trans hb (Nat.le_add_right _ _)) hi (by decide) K).trans ?_
  rw [show jset (rH h a (F, L, A, B)) (a + 18) (.inr (0, 7, .inl (upd (A 27) i x))) = rH h a (F, L, zuA A 27 (upd (A 27) i x), B) from rH_set (j := 18) (by decide) rfl (zr_oA 18 (by decide) (by decide +kernel))]
theorem zr_c28 : (rH h a (F, L, A, B)).1 (a + 19) = some (.inr (0, 7, .inl (A 28))) := rH_at (j := 19) (by decide)
theorem zr_g28 (K : Option Nat → jM α) : (jB (jgR [7] 28 (some a)) K).1 (rH h a (F, L, A, B)) = (K (some (a + 19))).1 (rH h a (F, L, A, B)) := zgRs rH_at0 (by decide) rfl K
theorem zr_a28 {i : Nat} (hi : i < 7) (K : Int32 → jM α) : (jB (jaI 0 (some (a + 19)) (nI i)) K).1 (rH h a (F, L, A, B)) = (K (A 28 i)).1 (rH h a (F, L, A, B)) := zaI zr_c28 hi (by decide) K
theorem zr_s28 {i : Nat} (hb : h.2.2.2.2 0 ≤ a) (hi : i < 7) (x : Int32) (K : Unit → jM α) : (jB (jsI 0 (some (a + 19)) (nI i) x) K).1 (rH h a (F, L, A, B)) = (K ()).1 (rH h a (F, L, zuA A 28 (upd (A 28) i x), B)) := by
  refine (zsI zr_c28 (Nat.le_trans hb (Nat.le_add_right _ _)) hi (by decide) K).trans ?_
  rw [show jset (rH h a (F, L, A, B)) (a + 19) (.inr (0, 7, .inl (upd (A 28) i x))) = rH h a (F, L, zuA A 28 (upd (A 28) i x), B) from rH_set (j := 19) (by decide) rfl (zr_oA 19 (by decide) (by decide +kernel))]
theorem zr_c29 : (rH h a (F, L, A, B)).1 (a + 20) = some (.inr (0, 7, .inl (A 29))) := rH_at (j := 20) (by decide)
theorem zr_g29 (K : Option Nat → jM α) : (jB (jgR [7] 29 (some a)) K).1 (rH h a (F, L, A, B)) = (K (some (a + 20))).1 (rH h a (F, L, A, B)) := zgRs rH_at0 (by decide) rfl K
theorem zr_a29 {i : Nat} (hi : i < 7) (K : Int32 → jM α) : (jB (jaI 0 (some (a + 20)) (nI i)) K).1 (rH h a (F, L, A, B)) = (K (A 29 i)).1 (rH h a (F, L, A, B)) := zaI zr_c29 hi (by decide) K
theorem zr_s29 {i : Nat} (hb : h.2.2.2.2 0 ≤ a) (hi : i < 7) (x : Int32) (K : Unit → jM α) : (jB (jsI 0 (some (a + 20)) (nI i) x) K).1 (rH h a (F, L, A, B)) = (K ()).1 (rH h a (F, L, zuA A 29 (upd (A 29) i x), B)) := by
  refine (zsI zr_c29 (Nat.le_trans hb (Nat.le_add_right _ _)) hi (by decide) K).trans ?_
  rw [show jset (rH h a (F, L, A, B)) (a + 20) (.inr (0, 7, .inl (upd (A 29) i x))) = rH h a (F, L, zuA A 29 (upd (A 29) i x), B) from rH_set (j := 20) (by decide) rfl (zr_oA 20 (by decide) (by decide +kernel))]
theorem zr_c30 : (rH h a (F, L, A, B)).1 (a + 21) = some (.inr (0, 7, .inl (A 30))) := rH_at (j := 21) (by decide)
theorem zr_g30 (K : Option Nat → jM α) : (jB (jgR [7] 30 (some a)) K).1 (rH h a (F, L, A, B)) = (K (some (a + 21))).1 (rH h a (F, L, A, B)) := zgRs rH_at0 (by decide) rfl K
theorem zr_a30 {i : Nat} (hi : i < 7) (K : Int32 → jM α) : (jB (jaI 0 (some (a + 21)) (nI i)) K).1 (rH h a (F, L, A, B)) = (K (A 30 i)).1 (rH h a (F, L, A, B)) := zaI zr_c30 hi (by decide) K
theorem zr_s30 {i : Nat} (hb : h.2.2.2.2 0 ≤ a) (hi : i < 7) (x : Int32) (K : Unit → jM α) : (jB (jsI 0 (some (a + 21)) (nI i) x) K).1 (rH h a (F, L, A, B)) = (K ()).1 (rH h a (F, L, zuA A 30 (upd (A 30) i x), B)) := by
  refine (zsI zr_c30 (Nat.le_trans hb (Nat.le_add_right _ _)) hi (by decide) K).trans ?_
  rw [show jset (rH h a (F, L, A, B)) (a + 21) (.inr (0, 7, .inl (upd (A 30) i x))) = rH h a (F, L, zuA A 30 (upd (A 30) i x), B) from rH_set (j := 21) (by decide) rfl (zr_oA 21 (by decide) (by decide +kernel))]
theorem zr_c31 : (rH h a (F, L, A, B)).1 (a + 22) = some (.inr (0, 7, .inl (A 31))) := rH_at (j := 22) (by decide)
theorem zr_g31 (K : Option Nat → jM α) : (jB (jgR [7] 31 (some a)) K).1 (rH h a (F, L, A, B)) = (K (some (a + 22))).1 (rH h a (F, L, A, B)) := zgRs rH_at0 (by decide) rfl K
theorem zr_a31 {i : Nat} (hi : i < 7) (K : Int32 → jM α) : (jB (jaI 0 (some (a + 22)) (nI i)) K).1 (rH h a (F, L, A, B)) = (K (A 31 i)).1 (rH h a (F, L, A, B)) := zaI zr_c31 hi (by decide) K
theorem zr_s31 {i : Nat} (hb : h.2.2.2.2 0 ≤ a) (hi : i < 7) (x : Int32) (K : Unit → jM α) : (jB (jsI 0 (some (a + 22)) (nI i) x) K).1 (rH h a (F, L, A, B)) = (K ()).1 (rH h a (F, L, zuA A 31 (upd (A 31) i x), B)) := by
  refine (zsI zr_c31 (Nat.le_trans hb (Nat.le_add_right _ _)) hi (by decide) K).trans ?_
  rw [show jset (rH h a (F, L, A, B)) (a + 22) (.inr (0, 7, .inl (upd (A 31) i x))) = rH h a (F, L, zuA A 31 (upd (A 31) i x), B) from rH_set (j := 22) (by decide) rfl (zr_oA 22 (by decide) (by decide +kernel))]
theorem zr_c32 : (rH h a (F, L, A, B)).1 (a + 23) = some (.inr (0, 7, .inl (A 32))) := rH_at (j := 23) (by decide)
theorem zr_g32 (K : Option Nat → jM α) : (jB (jgR [7] 32 (some a)) K).1 (rH h a (F, L, A, B)) = (K (some (a + 23))).1 (rH h a (F, L, A, B)) := zgRs rH_at0 (by decide) rfl K
theorem zr_a32 {i : Nat} (hi : i < 7) (K : Int32 → jM α) : (jB (jaI 0 (some (a + 23)) (nI i)) K).1 (rH h a (F, L, A, B)) = (K (A 32 i)).1 (rH h a (F, L, A, B)) := zaI zr_c32 hi (by decide) K
theorem zr_s32 {i : Nat} (hb : h.2.2.2.2 0 ≤ a) (hi : i < 7) (x : Int32) (K : Unit → jM α) : (jB (jsI 0 (some (a + 23)) (nI i) x) K).1 (rH h a (F, L, A, B)) = (K ()).1 (rH h a (F, L, zuA A 32 (upd (A 32) i x), B)) := by
  refine (zsI zr_c32 (Nat.le_trans hb (Nat.le_add_right _ _)) hi (by decide) K).trans ?_
  rw [show jset (rH h a (F, L, A, B)) (a + 23) (.inr (0, 7, .inl (upd (A 32) i x))) = rH h a (F, L, zuA A 32 (upd (A 32) i x), B) from rH_set (j := 23) (by decide) rfl (zr_oA 23 (by decide) (by decide +kernel))]
theorem zr_c33 : (rH h a (F, L, A, B)).1 (a + 24) = some (.inr (0, 7, .inl (A 33))) := rH_at (j := 24) (by decide)
theorem zr_g33 (K : Option Nat → jM α) : (jB (jgR [7] 33 (some a)) K).1 (rH h a (F, L, A, B)) = (K (some (a + 24))).1 (rH h a (F, L, A, B)) := zgRs rH_at0 (by decide) rfl K
theorem zr_a33 {i : Nat} (hi : i < 7) (K : Int32 → jM α) : (jB (jaI 0 (some (a + 24)) (nI i)) K).1 (rH h a (F, L, A, B)) = (K (A 33 i)).1 (rH h a (F, L, A, B)) := zaI zr_c33 hi (by decide) K
theorem zr_s33 {i : Nat} (hb : h.2.2.2.2 0 ≤ a) (hi : i < 7) (x : Int32) (K : Unit → jM α) : (jB (jsI 0 (some (a + 24)) (nI i) x) K).1 (rH h a (F, L, A, B)) = (K ()).1 (rH h a (F, L, zuA A 33 (upd (A 33) i x), B)) := by
  refine (zsI zr_c33 (Nat.le_trans hb (Nat.le_add_right _ _)) hi (by decide) K).trans ?_
  rw [show jset (rH h a (F, L, A, B)) (a + 24) (.inr (0, 7, .inl (upd (A 33) i x))) = rH h a (F, L, zuA A 33 (upd (A 33) i x), B) from rH_set (j := 24) (by decide) rfl (zr_oA 24 (by decide) (by decide +kernel))]
theorem zr_c34 : (rH h a (F, L, A, B)).1 (a + 25) = some (.inr (0, 7, .inl (A 34))) := rH_at (j := 25) (by decide)
theorem zr_g34 (K : Option Nat → jM α) : (jB (jgR [7] 34 (some a)) K).1 (rH h a (F, L, A, B)) = (K (some (a + 25))).1 (rH h a (F, L, A, B)) := zgRs rH_at0 (by decide) rfl K
theorem zr_a34 {i : Nat} (hi : i < 7) (K : Int32 → jM α) : (jB (jaI 0 (some (a + 25)) (nI i)) K).1 (rH h a (F, L, A, B)) = (K (A 34 i)).1 (rH h a (F, L, A, B)) := zaI zr_c34 hi (by decide) K
theorem zr_s34 {i : Nat} (hb : h.2.2.2.2 0 ≤ a) (hi : i < 7) (x : Int32) (K : Unit → jM α) : (jB (jsI 0 (some (a + 25)) (nI i) x) K).1 (rH h a (F, L, A, B)) = (K ()).1 (rH h a (F, L, zuA A 34 (upd (A 34) i x), B)) := by
  refine (zsI zr_c34 (Nat.le_trans hb (Nat.le_add_right _ _)) hi (by decide) K).trans ?_
  rw [show jset (rH h a (F, L, A, B)) (a + 25) (.inr (0, 7, .inl (upd (A 34) i x))) = rH h a (F, L, zuA A 34 (upd (A 34) i x), B) from rH_set (j := 25) (by decide) rfl (zr_oA 25 (by decide) (by decide +kernel))]
theorem zr_c35 : (rH h a (F, L, A, B)).1 (a + 26) = some (.inr (0, 20, .inl (A 35))) := rH_at (j := 26) (by decide)
theorem zr_g35 (K : Option Nat → jM α) : (jB (jgR [7] 35 (some a)) K).1 (rH h a (F, L, A, B)) = (K (some (a + 26))).1 (rH h a (F, L, A, B)) := zgRs rH_at0 (by decide) rfl K
theorem zr_a35 {i : Nat} (hi : i < 20) (K : Int32 → jM α) : (jB (jaI 0 (some (a + 26)) (nI i)) K).1 (rH h a (F, L, A, B)) = (K (A 35 i)).1 (rH h a (F, L, A, B)) := zaI zr_c35 hi (by decide) K
theorem zr_s35 {i : Nat} (hb : h.2.2.2.2 0 ≤ a) (hi : i < 20) (x : Int32) (K : Unit → jM α) : (jB (jsI 0 (some (a + 26)) (nI i) x) K).1 (rH h a (F, L, A, B)) = (K ()).1 (rH h a (F, L, zuA A 35 (upd (A 35) i x), B)) := by
  refine (zsI zr_c35 (Nat.le_trans hb (Nat.le_add_right _ _)) hi (by decide) K).trans ?_
  rw [show jset (rH h a (F, L, A, B)) (a + 26) (.inr (0, 20, .inl (upd (A 35) i x))) = rH h a (F, L, zuA A 35 (upd (A 35) i x), B) from rH_set (j := 26) (by decide) rfl (zr_oA 26 (by decide) (by decide +kernel))]
theorem zr_c38 : (rH h a (F, L, A, B)).1 (a + 27) = some (.inr (0, 6, .inl (A 38))) := rH_at (j := 27) (by decide)
theorem zr_g38 (K : Option Nat → jM α) : (jB (jgR [7] 38 (some a)) K).1 (rH h a (F, L, A, B)) = (K (some (a + 27))).1 (rH h a (F, L, A, B)) := zgRs rH_at0 (by decide) rfl K
theorem zr_a38 {i : Nat} (hi : i < 6) (K : Int32 → jM α) : (jB (jaI 0 (some (a + 27)) (nI i)) K).1 (rH h a (F, L, A, B)) = (K (A 38 i)).1 (rH h a (F, L, A, B)) := zaI zr_c38 hi (by decide) K
theorem zr_s38 {i : Nat} (hb : h.2.2.2.2 0 ≤ a) (hi : i < 6) (x : Int32) (K : Unit → jM α) : (jB (jsI 0 (some (a + 27)) (nI i) x) K).1 (rH h a (F, L, A, B)) = (K ()).1 (rH h a (F, L, zuA A 38 (upd (A 38) i x), B)) := by
  refine (zsI zr_c38 (Nat.le_trans hb (Nat.le_add_right _ _)) hi (by decide) K).trans ?_
  rw [show jset (rH h a (F, L, A, B)) (a + 27) (.inr (0, 6, .inl (upd (A 38) i x))) = rH h a (F, L, zuA A 38 (upd (A 38) i x), B) from rH_set (j := 27) (by decide) rfl (zr_oA 27 (by decide) (by decide +kernel))]
theorem zr_c39 : (rH h a (F, L, A, B)).1 (a + 28) = some (.inr (0, 240, .inl (A 39))) := rH_at (j := 28) (by decide)
theorem zr_g39 (K : Option Nat → jM α) : (jB (jgR [7] 39 (some a)) K).1 (rH h a (F, L, A, B)) = (K (some (a + 28))).1 (rH h a (F, L, A, B)) := zgRs rH_at0 (by decide) rfl K
theorem zr_a39 {i : Nat} (hi : i < 240) (K : Int32 → jM α) : (jB (jaI 0 (some (a + 28)) (nI i)) K).1 (rH h a (F, L, A, B)) = (K (A 39 i)).1 (rH h a (F, L, A, B)) := zaI zr_c39 hi (by decide) K
theorem zr_s39 {i : Nat} (hb : h.2.2.2.2 0 ≤ a) (hi : i < 240) (x : Int32) (K : Unit → jM α) : (jB (jsI 0 (some (a + 28)) (nI i) x) K).1 (rH h a (F, L, A, B)) = (K ()).1 (rH h a (F, L, zuA A 39 (upd (A 39) i x), B)) := by
  refine (zsI zr_c39 (Nat.le_trans hb (Nat.le_add_right _ _)) hi (by decide) K).trans ?_
  rw [show jset (rH h a (F, L, A, B)) (a + 28) (.inr (0, 240, .inl (upd (A 39) i x))) = rH h a (F, L, zuA A 39 (upd (A 39) i x), B) from rH_set (j := 28) (by decide) rfl (zr_oA 28 (by decide) (by decide +kernel))]
theorem zr_c40 : (rH h a (F, L, A, B)).1 (a + 29) = some (.inr (0, 240, .inl (A 40))) := rH_at (j := 29) (by decide)
theorem zr_g40 (K : Option Nat → jM α) : (jB (jgR [7] 40 (some a)) K).1 (rH h a (F, L, A, B)) = (K (some (a + 29))).1 (rH h a (F, L, A, B)) := zgRs rH_at0 (by decide) rfl K
theorem zr_a40 {i : Nat} (hi : i < 240) (K : Int32 → jM α) : (jB (jaI 0 (some (a + 29)) (nI i)) K).1 (rH h a (F, L, A, B)) = (K (A 40 i)).1 (rH h a (F, L, A, B)) := zaI zr_c40 hi (by decide) K
theorem zr_s40 {i : Nat} (hb : h.2.2.2.2 0 ≤ a) (hi : i < 240) (x : Int32) (K : Unit → jM α) : (jB (jsI 0 (some (a + 29)) (nI i) x) K).1 (rH h a (F, L, A, B)) = (K ()).1 (rH h a (F, L, zuA A 40 (upd (A 40) i x), B)) := by
  refine (zsI zr_c40 (Nat.le_trans hb (Nat.le_add_right _ _)) hi (by decide) K).trans ?_
  rw [show jset (rH h a (F, L, A, B)) (a + 29) (.inr (0, 240, .inl (upd (A 40) i x))) = rH h a (F, L, zuA A 40 (upd (A 40) i x), B) from rH_set (j := 29) (by decide) rfl (zr_oA 29 (by decide) (by decide +kernel))]
theorem zr_c41 : (rH h a (F, L, A, B)).1 (a + 30) = some (.inr (0, 240, .inl (A 41))) := rH_at (j := 30) (by decide)
theorem zr_g41 (K : Option Nat → jM α) : (jB (jgR [7] 41 (some a)) K).1 (rH h a (F, L, A, B)) = (K (some (a + 30))).1 (rH h a (F, L, A, B)) := zgRs rH_at0 (by decide) rfl K
theorem zr_a41 {i : Nat} (hi : i < 240) (K : Int32 → jM α) : (jB (jaI 0 (some (a + 30)) (nI i)) K).1 (rH h a (F, L, A, B)) = (K (A 41 i)).1 (rH h a (F, L, A, B)) := zaI zr_c41 hi (by decide) K
theorem zr_s41 {i : Nat} (hb : h.2.2.2.2 0 ≤ a) (hi : i < 240) (x : Int32) (K : Unit → jM α) : (jB (jsI 0 (some (a + 30)) (nI i) x) K).1 (rH h a (F, L, A, B)) = (K ()).1 (rH h a (F, L, zuA A 41 (upd (A 41) i x), B)) := by
  refine (zsI zr_c41 (Nat.le_trans hb (Nat.le_add_right _ _)) hi (by decide) K).trans ?_
  rw [show jset (rH h a (F, L, A, B)) (a + 30) (.inr (0, 240, .inl (upd (A 41) i x))) = rH h a (F, L, zuA A 41 (upd (A 41) i x), B) from rH_set (j := 30) (by decide) rfl (zr_oA 30 (by decide) (by decide +kernel))]
theorem zr_c42 : (rH h a (F, L, A, B)).1 (a + 31) = some (.inr (0, 240, .inl (A 42))) := rH_at (j := 31) (by decide)
theorem zr_g42 (K : Option Nat → jM α) : (jB (jgR [7] 42 (some a)) K).1 (rH h a (F, L, A, B)) = (K (some (a + 31))).1 (rH h a (F, L, A, B)) := zgRs rH_at0 (by decide) rfl K
theorem zr_a42 {i : Nat} (hi : i < 240) (K : Int32 → jM α) : (jB (jaI 0 (some (a + 31)) (nI i)) K).1 (rH h a (F, L, A, B)) = (K (A 42 i)).1 (rH h a (F, L, A, B)) := zaI zr_c42 hi (by decide) K
theorem zr_s42 {i : Nat} (hb : h.2.2.2.2 0 ≤ a) (hi : i < 240) (x : Int32) (K : Unit → jM α) : (jB (jsI 0 (some (a + 31)) (nI i) x) K).1 (rH h a (F, L, A, B)) = (K ()).1 (rH h a (F, L, zuA A 42 (upd (A 42) i x), B)) := by
  refine (zsI zr_c42 (Nat.le_trans hb (Nat.le_add_right _ _)) hi (by decide) K).trans ?_
  rw [show jset (rH h a (F, L, A, B)) (a + 31) (.inr (0, 240, .inl (upd (A 42) i x))) = rH h a (F, L, zuA A 42 (upd (A 42) i x), B) from rH_set (j := 31) (by decide) rfl (zr_oA 31 (by decide) (by decide +kernel))]
theorem zr_c43 : (rH h a (F, L, A, B)).1 (a + 32) = some (.inr (0, 5, .inl (A 43))) := rH_at (j := 32) (by decide)
theorem zr_g43 (K : Option Nat → jM α) : (jB (jgR [7] 43 (some a)) K).1 (rH h a (F, L, A, B)) = (K (some (a + 32))).1 (rH h a (F, L, A, B)) := zgRs rH_at0 (by decide) rfl K
theorem zr_a43 {i : Nat} (hi : i < 5) (K : Int32 → jM α) : (jB (jaI 0 (some (a + 32)) (nI i)) K).1 (rH h a (F, L, A, B)) = (K (A 43 i)).1 (rH h a (F, L, A, B)) := zaI zr_c43 hi (by decide) K
theorem zr_s43 {i : Nat} (hb : h.2.2.2.2 0 ≤ a) (hi : i < 5) (x : Int32) (K : Unit → jM α) : (jB (jsI 0 (some (a + 32)) (nI i) x) K).1 (rH h a (F, L, A, B)) = (K ()).1 (rH h a (F, L, zuA A 43 (upd (A 43) i x), B)) := by
  refine (zsI zr_c43 (Nat.le_trans hb (Nat.le_add_right _ _)) hi (by decide) K).trans ?_
  rw [show jset (rH h a (F, L, A, B)) (a + 32) (.inr (0, 5, .inl (upd (A 43) i x))) = rH h a (F, L, zuA A 43 (upd (A 43) i x), B) from rH_set (j := 32) (by decide) rfl (zr_oA 32 (by decide) (by decide +kernel))]
theorem zr_c44 : (rH h a (F, L, A, B)).1 (a + 33) = some (.inr (0, 40, .inl (A 44))) := rH_at (j := 33) (by decide)
theorem zr_g44 (K : Option Nat → jM α) : (jB (jgR [7] 44 (some a)) K).1 (rH h a (F, L, A, B)) = (K (some (a + 33))).1 (rH h a (F, L, A, B)) := zgRs rH_at0 (by decide) rfl K
theorem zr_a44 {i : Nat} (hi : i < 40) (K : Int32 → jM α) : (jB (jaI 0 (some (a + 33)) (nI i)) K).1 (rH h a (F, L, A, B)) = (K (A 44 i)).1 (rH h a (F, L, A, B)) := zaI zr_c44 hi (by decide) K
theorem zr_s44 {i : Nat} (hb : h.2.2.2.2 0 ≤ a) (hi : i < 40) (x : Int32) (K : Unit → jM α) : (jB (jsI 0 (some (a + 33)) (nI i) x) K).1 (rH h a (F, L, A, B)) = (K ()).1 (rH h a (F, L, zuA A 44 (upd (A 44) i x), B)) := by
  refine (zsI zr_c44 (Nat.le_trans hb (Nat.le_add_right _ _)) hi (by decide) K).trans ?_
  rw [show jset (rH h a (F, L, A, B)) (a + 33) (.inr (0, 40, .inl (upd (A 44) i x))) = rH h a (F, L, zuA A 44 (upd (A 44) i x), B) from rH_set (j := 33) (by decide) rfl (zr_oA 33 (by decide) (by decide +kernel))]
theorem zr_c45 : (rH h a (F, L, A, B)).1 (a + 34) = some (.inr (0, 40, .inl (A 45))) := rH_at (j := 34) (by decide)
theorem zr_g45 (K : Option Nat → jM α) : (jB (jgR [7] 45 (some a)) K).1 (rH h a (F, L, A, B)) = (K (some (a + 34))).1 (rH h a (F, L, A, B)) := zgRs rH_at0 (by decide) rfl K
theorem zr_a45 {i : Nat} (hi : i < 40) (K : Int32 → jM α) : (jB (jaI 0 (some (a + 34)) (nI i)) K).1 (rH h a (F, L, A, B)) = (K (A 45 i)).1 (rH h a (F, L, A, B)) := zaI zr_c45 hi (by decide) K
theorem zr_s45 {i : Nat} (hb : h.2.2.2.2 0 ≤ a) (hi : i < 40) (x : Int32) (K : Unit → jM α) : (jB (jsI 0 (some (a + 34)) (nI i) x) K).1 (rH h a (F, L, A, B)) = (K ()).1 (rH h a (F, L, zuA A 45 (upd (A 45) i x), B)) := by
  refine (zsI zr_c45 (Nat.le_trans hb (Nat.le_add_right _ _)) hi (by decide) K).trans ?_
  rw [show jset (rH h a (F, L, A, B)) (a + 34) (.inr (0, 40, .inl (upd (A 45) i x))) = rH h a (F, L, zuA A 45 (upd (A 45) i x), B) from rH_set (j := 34) (by decide) rfl (zr_oA 34 (by decide) (by decide +kernel))]
theorem zr_c46 : (rH h a (F, L, A, B)).1 (a + 35) = some (.inr (0, 40, .inl (A 46))) := rH_at (j := 35) (by decide)
theorem zr_g46 (K : Option Nat → jM α) : (jB (jgR [7] 46 (some a)) K).1 (rH h a (F, L, A, B)) = (K (some (a + 35))).1 (rH h a (F, L, A, B)) := zgRs rH_at0 (by decide) rfl K
theorem zr_a46 {i : Nat} (hi : i < 40) (K : Int32 → jM α) : (jB (jaI 0 (some (a + 35)) (nI i)) K).1 (rH h a (F, L, A, B)) = (K (A 46 i)).1 (rH h a (F, L, A, B)) := zaI zr_c46 hi (by decide) K
theorem zr_s46 {i : Nat} (hb : h.2.2.2.2 0 ≤ a) (hi : i < 40) (x : Int32) (K : Unit → jM α) : (jB (jsI 0 (some (a + 35)) (nI i) x) K).1 (rH h a (F, L, A, B)) = (K ()).1 (rH h a (F, L, zuA A 46 (upd (A 46) i x), B)) := by
  refine (zsI zr_c46 (Nat.le_trans hb (Nat.le_add_right _ _)) hi (by decide) K).trans ?_
  rw [show jset (rH h a (F, L, A, B)) (a + 35) (.inr (0, 40, .inl (upd (A 46) i x))) = rH h a (F, L, zuA A 46 (upd (A 46) i x), B) from rH_set (j := 35) (by decide) rfl (zr_oA 35 (by decide) (by decide +kernel))]
theorem zr_c47 : (rH h a (F, L, A, B)).1 (a + 36) = some (.inr (2, 40, .inl (A 47))) := rH_at (j := 36) (by decide)
theorem zr_g47 (K : Option Nat → jM α) : (jB (jgR [7] 47 (some a)) K).1 (rH h a (F, L, A, B)) = (K (some (a + 36))).1 (rH h a (F, L, A, B)) := zgRs rH_at0 (by decide) rfl K
theorem zr_a47 {i : Nat} (hi : i < 40) (K : Int32 → jM α) : (jB (jaI 2 (some (a + 36)) (nI i)) K).1 (rH h a (F, L, A, B)) = (K (A 47 i)).1 (rH h a (F, L, A, B)) := zaI zr_c47 hi (by decide) K
theorem zr_s47 {i : Nat} (hb : h.2.2.2.2 0 ≤ a) (hi : i < 40) (x : Int32) (K : Unit → jM α) : (jB (jsI 2 (some (a + 36)) (nI i) x) K).1 (rH h a (F, L, A, B)) = (K ()).1 (rH h a (F, L, zuA A 47 (upd (A 47) i x), B)) := by
  refine (zsI zr_c47 (Nat.le_trans hb (Nat.le_add_right _ _)) hi (by decide) K).trans ?_
  rw [show jset (rH h a (F, L, A, B)) (a + 36) (.inr (2, 40, .inl (upd (A 47) i x))) = rH h a (F, L, zuA A 47 (upd (A 47) i x), B) from rH_set (j := 36) (by decide) rfl (zr_oA 36 (by decide) (by decide +kernel))]
theorem zr_c48 : (rH h a (F, L, A, B)).1 (a + 37) = some (.inr (0, 25, .inl (A 48))) := rH_at (j := 37) (by decide)
theorem zr_g48 (K : Option Nat → jM α) : (jB (jgR [7] 48 (some a)) K).1 (rH h a (F, L, A, B)) = (K (some (a + 37))).1 (rH h a (F, L, A, B)) := zgRs rH_at0 (by decide) rfl K
theorem zr_a48 {i : Nat} (hi : i < 25) (K : Int32 → jM α) : (jB (jaI 0 (some (a + 37)) (nI i)) K).1 (rH h a (F, L, A, B)) = (K (A 48 i)).1 (rH h a (F, L, A, B)) := zaI zr_c48 hi (by decide) K
theorem zr_s48 {i : Nat} (hb : h.2.2.2.2 0 ≤ a) (hi : i < 25) (x : Int32) (K : Unit → jM α) : (jB (jsI 0 (some (a + 37)) (nI i) x) K).1 (rH h a (F, L, A, B)) = (K ()).1 (rH h a (F, L, zuA A 48 (upd (A 48) i x), B)) := by
  refine (zsI zr_c48 (Nat.le_trans hb (Nat.le_add_right _ _)) hi (by decide) K).trans ?_
  rw [show jset (rH h a (F, L, A, B)) (a + 37) (.inr (0, 25, .inl (upd (A 48) i x))) = rH h a (F, L, zuA A 48 (upd (A 48) i x), B) from rH_set (j := 37) (by decide) rfl (zr_oA 37 (by decide) (by decide +kernel))]
theorem zr_c49 : (rH h a (F, L, A, B)).1 (a + 38) = some (.inr (0, 25, .inl (A 49))) := rH_at (j := 38) (by decide)
theorem zr_g49 (K : Option Nat → jM α) : (jB (jgR [7] 49 (some a)) K).1 (rH h a (F, L, A, B)) = (K (some (a + 38))).1 (rH h a (F, L, A, B)) := zgRs rH_at0 (by decide) rfl K
theorem zr_a49 {i : Nat} (hi : i < 25) (K : Int32 → jM α) : (jB (jaI 0 (some (a + 38)) (nI i)) K).1 (rH h a (F, L, A, B)) = (K (A 49 i)).1 (rH h a (F, L, A, B)) := zaI zr_c49 hi (by decide) K
theorem zr_s49 {i : Nat} (hb : h.2.2.2.2 0 ≤ a) (hi : i < 25) (x : Int32) (K : Unit → jM α) : (jB (jsI 0 (some (a + 38)) (nI i) x) K).1 (rH h a (F, L, A, B)) = (K ()).1 (rH h a (F, L, zuA A 49 (upd (A 49) i x), B)) := by
  refine (zsI zr_c49 (Nat.le_trans hb (Nat.le_add_right _ _)) hi (by decide) K).trans ?_
  rw [show jset (rH h a (F, L, A, B)) (a + 38) (.inr (0, 25, .inl (upd (A 49) i x))) = rH h a (F, L, zuA A 49 (upd (A 49) i x), B) from rH_set (j := 38) (by decide) rfl (zr_oA 38 (by decide) (by decide +kernel))]
theorem zr_c50 : (rH h a (F, L, A, B)).1 (a + 39) = some (.inr (0, 25, .inl (A 50))) := rH_at (j := 39) (by decide)
theorem zr_g50 (K : Option Nat → jM α) : (jB (jgR [7] 50 (some a)) K).1 (rH h a (F, L, A, B)) = (K (some (a + 39))).1 (rH h a (F, L, A, B)) := zgRs rH_at0 (by decide) rfl K
theorem zr_a50 {i : Nat} (hi : i < 25) (K : Int32 → jM α) : (jB (jaI 0 (some (a + 39)) (nI i)) K).1 (rH h a (F, L, A, B)) = (K (A 50 i)).1 (rH h a (F, L, A, B)) := zaI zr_c50 hi (by decide) K
theorem zr_s50 {i : Nat} (hb : h.2.2.2.2 0 ≤ a) (hi : i < 25) (x : Int32) (K : Unit → jM α) : (jB (jsI 0 (some (a + 39)) (nI i) x) K).1 (rH h a (F, L, A, B)) = (K ()).1 (rH h a (F, L, zuA A 50 (upd (A 50) i x), B)) := by
  refine (zsI zr_c50 (Nat.le_trans hb (Nat.le_add_right _ _)) hi (by decide) K).trans ?_
  rw [show jset (rH h a (F, L, A, B)) (a + 39) (.inr (0, 25, .inl (upd (A 50) i x))) = rH h a (F, L, zuA A 50 (upd (A 50) i x), B) from rH_set (j := 39) (by decide) rfl (zr_oA 39 (by decide) (by decide +kernel))]
theorem zr_c51 : (rH h a (F, L, A, B)).1 (a + 40) = some (.inr (0, 100, .inl (A 51))) := rH_at (j := 40) (by decide)
theorem zr_g51 (K : Option Nat → jM α) : (jB (jgR [7] 51 (some a)) K).1 (rH h a (F, L, A, B)) = (K (some (a + 40))).1 (rH h a (F, L, A, B)) := zgRs rH_at0 (by decide) rfl K
theorem zr_a51 {i : Nat} (hi : i < 100) (K : Int32 → jM α) : (jB (jaI 0 (some (a + 40)) (nI i)) K).1 (rH h a (F, L, A, B)) = (K (A 51 i)).1 (rH h a (F, L, A, B)) := zaI zr_c51 hi (by decide) K
theorem zr_s51 {i : Nat} (hb : h.2.2.2.2 0 ≤ a) (hi : i < 100) (x : Int32) (K : Unit → jM α) : (jB (jsI 0 (some (a + 40)) (nI i) x) K).1 (rH h a (F, L, A, B)) = (K ()).1 (rH h a (F, L, zuA A 51 (upd (A 51) i x), B)) := by
  refine (zsI zr_c51 (Nat.le_trans hb (Nat.le_add_right _ _)) hi (by decide) K).trans ?_
  rw [show jset (rH h a (F, L, A, B)) (a + 40) (.inr (0, 100, .inl (upd (A 51) i x))) = rH h a (F, L, zuA A 51 (upd (A 51) i x), B) from rH_set (j := 40) (by decide) rfl (zr_oA 40 (by decide) (by decide +kernel))]
theorem zr_c52 : (rH h a (F, L, A, B)).1 (a + 41) = some (.inr (0, 400, .inl (A 52))) := rH_at (j := 41) (by decide)
theorem zr_g52 (K : Option Nat → jM α) : (jB (jgR [7] 52 (some a)) K).1 (rH h a (F, L, A, B)) = (K (some (a + 41))).1 (rH h a (F, L, A, B)) := zgRs rH_at0 (by decide) rfl K
theorem zr_a52 {i : Nat} (hi : i < 400) (K : Int32 → jM α) : (jB (jaI 0 (some (a + 41)) (nI i)) K).1 (rH h a (F, L, A, B)) = (K (A 52 i)).1 (rH h a (F, L, A, B)) := zaI zr_c52 hi (by decide) K
theorem zr_s52 {i : Nat} (hb : h.2.2.2.2 0 ≤ a) (hi : i < 400) (x : Int32) (K : Unit → jM α) : (jB (jsI 0 (some (a + 41)) (nI i) x) K).1 (rH h a (F, L, A, B)) = (K ()).1 (rH h a (F, L, zuA A 52 (upd (A 52) i x), B)) := by
  refine (zsI zr_c52 (Nat.le_trans hb (Nat.le_add_right _ _)) hi (by decide) K).trans ?_
  rw [show jset (rH h a (F, L, A, B)) (a + 41) (.inr (0, 400, .inl (upd (A 52) i x))) = rH h a (F, L, zuA A 52 (upd (A 52) i x), B) from rH_set (j := 41) (by decide) rfl (zr_oA 41 (by decide) (by decide +kernel))]
theorem zr_c53 : (rH h a (F, L, A, B)).1 (a + 42) = some (.inr (2, 4, .inl (A 53))) := rH_at (j := 42) (by decide)
theorem zr_g53 (K : Option Nat → jM α) : (jB (jgR [7] 53 (some a)) K).1 (rH h a (F, L, A, B)) = (K (some (a + 42))).1 (rH h a (F, L, A, B)) := zgRs rH_at0 (by decide) rfl K
theorem zr_a53 {i : Nat} (hi : i < 4) (K : Int32 → jM α) : (jB (jaI 2 (some (a + 42)) (nI i)) K).1 (rH h a (F, L, A, B)) = (K (A 53 i)).1 (rH h a (F, L, A, B)) := zaI zr_c53 hi (by decide) K
theorem zr_s53 {i : Nat} (hb : h.2.2.2.2 0 ≤ a) (hi : i < 4) (x : Int32) (K : Unit → jM α) : (jB (jsI 2 (some (a + 42)) (nI i) x) K).1 (rH h a (F, L, A, B)) = (K ()).1 (rH h a (F, L, zuA A 53 (upd (A 53) i x), B)) := by
  refine (zsI zr_c53 (Nat.le_trans hb (Nat.le_add_right _ _)) hi (by decide) K).trans ?_
  rw [show jset (rH h a (F, L, A, B)) (a + 42) (.inr (2, 4, .inl (upd (A 53) i x))) = rH h a (F, L, zuA A 53 (upd (A 53) i x), B) from rH_set (j := 42) (by decide) rfl (zr_oA 42 (by decide) (by decide +kernel))]
theorem zr_c55 : (rH h a (F, L, A, B)).1 (a + 43) = some (.inr (0, 6, .inl (A 55))) := rH_at (j := 43) (by decide)
theorem zr_g55 (K : Option Nat → jM α) : (jB (jgR [7] 55 (some a)) K).1 (rH h a (F, L, A, B)) = (K (some (a + 43))).1 (rH h a (F, L, A, B)) := zgRs rH_at0 (by decide) rfl K
theorem zr_a55 {i : Nat} (hi : i < 6) (K : Int32 → jM α) : (jB (jaI 0 (some (a + 43)) (nI i)) K).1 (rH h a (F, L, A, B)) = (K (A 55 i)).1 (rH h a (F, L, A, B)) := zaI zr_c55 hi (by decide) K
theorem zr_s55 {i : Nat} (hb : h.2.2.2.2 0 ≤ a) (hi : i < 6) (x : Int32) (K : Unit → jM α) : (jB (jsI 0 (some (a + 43)) (nI i) x) K).1 (rH h a (F, L, A, B)) = (K ()).1 (rH h a (F, L, zuA A 55 (upd (A 55) i x), B)) := by
  refine (zsI zr_c55 (Nat.le_trans hb (Nat.le_add_right _ _)) hi (by decide) K).trans ?_
  rw [show jset (rH h a (F, L, A, B)) (a + 43) (.inr (0, 6, .inl (upd (A 55) i x))) = rH h a (F, L, zuA A 55 (upd (A 55) i x), B) from rH_set (j := 43) (by decide) rfl (zr_oA 43 (by decide) (by decide +kernel))]
theorem zr_c56 : (rH h a (F, L, A, B)).1 (a + 44) = some (.inr (0, 6, .inl (A 56))) := rH_at (j := 44) (by decide)
theorem zr_g56 (K : Option Nat → jM α) : (jB (jgR [7] 56 (some a)) K).1 (rH h a (F, L, A, B)) = (K (some (a + 44))).1 (rH h a (F, L, A, B)) := zgRs rH_at0 (by decide) rfl K
theorem zr_a56 {i : Nat} (hi : i < 6) (K : Int32 → jM α) : (jB (jaI 0 (some (a + 44)) (nI i)) K).1 (rH h a (F, L, A, B)) = (K (A 56 i)).1 (rH h a (F, L, A, B)) := zaI zr_c56 hi (by decide) K
theorem zr_s56 {i : Nat} (hb : h.2.2.2.2 0 ≤ a) (hi : i < 6) (x : Int32) (K : Unit → jM α) : (jB (jsI 0 (some (a + 44)) (nI i) x) K).1 (rH h a (F, L, A, B)) = (K ()).1 (rH h a (F, L, zuA A 56 (upd (A 56) i x), B)) := by
  refine (zsI zr_c56 (Nat.le_trans hb (Nat.le_add_right _ _)) hi (by decide) K).trans ?_
  rw [show jset (rH h a (F, L, A, B)) (a + 44) (.inr (0, 6, .inl (upd (A 56) i x))) = rH h a (F, L, zuA A 56 (upd (A 56) i x), B) from rH_set (j := 44) (by decide) rfl (zr_oA 44 (by decide) (by decide +kernel))]
theorem zr_a10_0 (K : Int32 → jM α) : (jB (jaI 0 (some (a + 2)) 0) K).1 (rH h a (F, L, A, B)) = (K (A 10 0)).1 (rH h a (F, L, A, B)) := zr_a10 (i := 0) (by decide) K
theorem zr_a10_1 (K : Int32 → jM α) : (jB (jaI 0 (some (a + 2)) 1) K).1 (rH h a (F, L, A, B)) = (K (A 10 1)).1 (rH h a (F, L, A, B)) := zr_a10 (i := 1) (by decide) K
theorem zr_a10_2 (K : Int32 → jM α) : (jB (jaI 0 (some (a + 2)) 2) K).1 (rH h a (F, L, A, B)) = (K (A 10 2)).1 (rH h a (F, L, A, B)) := zr_a10 (i := 2) (by decide) K
theorem zr_a10_3 (K : Int32 → jM α) : (jB (jaI 0 (some (a + 2)) 3) K).1 (rH h a (F, L, A, B)) = (K (A 10 3)).1 (rH h a (F, L, A, B)) := zr_a10 (i := 3) (by decide) K
theorem zr_a10_4 (K : Int32 → jM α) : (jB (jaI 0 (some (a + 2)) 4) K).1 (rH h a (F, L, A, B)) = (K (A 10 4)).1 (rH h a (F, L, A, B)) := zr_a10 (i := 4) (by decide) K
theorem zr_a10_5 (K : Int32 → jM α) : (jB (jaI 0 (some (a + 2)) 5) K).1 (rH h a (F, L, A, B)) = (K (A 10 5)).1 (rH h a (F, L, A, B)) := zr_a10 (i := 5) (by decide) K
theorem zr_s10_3 (hb : h.2.2.2.2 0 ≤ a) (x : Int32) (K : Unit → jM α) : (jB (jsI 0 (some (a + 2)) 3 x) K).1 (rH h a (F, L, A, B)) = (K ()).1 (rH h a (F, L, zuA A 10 (upd (A 10) 3 x), B)) := zr_s10 (i := 3) hb (by decide) x K
theorem zr_s10_4 (hb : h.2.2.2.2 0 ≤ a) (x : Int32) (K : Unit → jM α) : (jB (jsI 0 (some (a + 2)) 4 x) K).1 (rH h a (F, L, A, B)) = (K ()).1 (rH h a (F, L, zuA A 10 (upd (A 10) 4 x), B)) := zr_s10 (i := 4) hb (by decide) x K
theorem zr_s10_5 (hb : h.2.2.2.2 0 ≤ a) (x : Int32) (K : Unit → jM α) : (jB (jsI 0 (some (a + 2)) 5 x) K).1 (rH h a (F, L, A, B)) = (K ()).1 (rH h a (F, L, zuA A 10 (upd (A 10) 5 x), B)) := zr_s10 (i := 5) hb (by decide) x K
theorem zr_a20_0 (K : Int32 → jM α) : (jB (jaI 0 (some (a + 12)) 0) K).1 (rH h a (F, L, A, B)) = (K (A 20 0)).1 (rH h a (F, L, A, B)) := zr_a20 (i := 0) (by decide) K
theorem zr_a20_1 (K : Int32 → jM α) : (jB (jaI 0 (some (a + 12)) 1) K).1 (rH h a (F, L, A, B)) = (K (A 20 1)).1 (rH h a (F, L, A, B)) := zr_a20 (i := 1) (by decide) K
theorem zr_s20_0 (hb : h.2.2.2.2 0 ≤ a) (x : Int32) (K : Unit → jM α) : (jB (jsI 0 (some (a + 12)) 0 x) K).1 (rH h a (F, L, A, B)) = (K ()).1 (rH h a (F, L, zuA A 20 (upd (A 20) 0 x), B)) := zr_s20 (i := 0) hb (by decide) x K
theorem zr_s20_1 (hb : h.2.2.2.2 0 ≤ a) (x : Int32) (K : Unit → jM α) : (jB (jsI 0 (some (a + 12)) 1 x) K).1 (rH h a (F, L, A, B)) = (K ()).1 (rH h a (F, L, zuA A 20 (upd (A 20) 1 x), B)) := zr_s20 (i := 1) hb (by decide) x K
theorem zr_a21_0 (K : Int32 → jM α) : (jB (jaI 0 (some (a + 13)) 0) K).1 (rH h a (F, L, A, B)) = (K (A 21 0)).1 (rH h a (F, L, A, B)) := zr_a21 (i := 0) (by decide) K
theorem zr_a21_1 (K : Int32 → jM α) : (jB (jaI 0 (some (a + 13)) 1) K).1 (rH h a (F, L, A, B)) = (K (A 21 1)).1 (rH h a (F, L, A, B)) := zr_a21 (i := 1) (by decide) K
theorem zr_s21_0 (hb : h.2.2.2.2 0 ≤ a) (x : Int32) (K : Unit → jM α) : (jB (jsI 0 (some (a + 13)) 0 x) K).1 (rH h a (F, L, A, B)) = (K ()).1 (rH h a (F, L, zuA A 21 (upd (A 21) 0 x), B)) := zr_s21 (i := 0) hb (by decide) x K
theorem zr_s21_1 (hb : h.2.2.2.2 0 ≤ a) (x : Int32) (K : Unit → jM α) : (jB (jsI 0 (some (a + 13)) 1 x) K).1 (rH h a (F, L, A, B)) = (K ()).1 (rH h a (F, L, zuA A 21 (upd (A 21) 1 x), B)) := zr_s21 (i := 1) hb (by decide) x K
theorem zr_s35_1 (hb : h.2.2.2.2 0 ≤ a) (x : Int32) (K : Unit → jM α) : (jB (jsI 0 (some (a + 26)) 1 x) K).1 (rH h a (F, L, A, B)) = (K ()).1 (rH h a (F, L, zuA A 35 (upd (A 35) 1 x), B)) := zr_s35 (i := 1) hb (by decide) x K
theorem zr_s35_2 (hb : h.2.2.2.2 0 ≤ a) (x : Int32) (K : Unit → jM α) : (jB (jsI 0 (some (a + 26)) 2 x) K).1 (rH h a (F, L, A, B)) = (K ()).1 (rH h a (F, L, zuA A 35 (upd (A 35) 2 x), B)) := zr_s35 (i := 2) hb (by decide) x K
theorem zr_s35_3 (hb : h.2.2.2.2 0 ≤ a) (x : Int32) (K : Unit → jM α) : (jB (jsI 0 (some (a + 26)) 3 x) K).1 (rH h a (F, L, A, B)) = (K ()).1 (rH h a (F, L, zuA A 35 (upd (A 35) 3 x), B)) := zr_s35 (i := 3) hb (by decide) x K
theorem zr_s35_4 (hb : h.2.2.2.2 0 ≤ a) (x : Int32) (K : Unit → jM α) : (jB (jsI 0 (some (a + 26)) 4 x) K).1 (rH h a (F, L, A, B)) = (K ()).1 (rH h a (F, L, zuA A 35 (upd (A 35) 4 x), B)) := zr_s35 (i := 4) hb (by decide) x K
theorem zr_a38_0 (K : Int32 → jM α) : (jB (jaI 0 (some (a + 27)) 0) K).1 (rH h a (F, L, A, B)) = (K (A 38 0)).1 (rH h a (F, L, A, B)) := zr_a38 (i := 0) (by decide) K
theorem zr_a38_5 (K : Int32 → jM α) : (jB (jaI 0 (some (a + 27)) 5) K).1 (rH h a (F, L, A, B)) = (K (A 38 5)).1 (rH h a (F, L, A, B)) := zr_a38 (i := 5) (by decide) K
theorem zr_s38_0 (hb : h.2.2.2.2 0 ≤ a) (x : Int32) (K : Unit → jM α) : (jB (jsI 0 (some (a + 27)) 0 x) K).1 (rH h a (F, L, A, B)) = (K ()).1 (rH h a (F, L, zuA A 38 (upd (A 38) 0 x), B)) := zr_s38 (i := 0) hb (by decide) x K
theorem zr_s38_5 (hb : h.2.2.2.2 0 ≤ a) (x : Int32) (K : Unit → jM α) : (jB (jsI 0 (some (a + 27)) 5 x) K).1 (rH h a (F, L, A, B)) = (K ()).1 (rH h a (F, L, zuA A 38 (upd (A 38) 5 x), B)) := zr_s38 (i := 5) hb (by decide) x K
theorem zr_a43_0 (K : Int32 → jM α) : (jB (jaI 0 (some (a + 32)) 0) K).1 (rH h a (F, L, A, B)) = (K (A 43 0)).1 (rH h a (F, L, A, B)) := zr_a43 (i := 0) (by decide) K
theorem zr_s43_0 (hb : h.2.2.2.2 0 ≤ a) (x : Int32) (K : Unit → jM α) : (jB (jsI 0 (some (a + 32)) 0 x) K).1 (rH h a (F, L, A, B)) = (K ()).1 (rH h a (F, L, zuA A 43 (upd (A 43) 0 x), B)) := zr_s43 (i := 0) hb (by decide) x K
theorem zr_a48_0 (K : Int32 → jM α) : (jB (jaI 0 (some (a + 37)) 0) K).1 (rH h a (F, L, A, B)) = (K (A 48 0)).1 (rH h a (F, L, A, B)) := zr_a48 (i := 0) (by decide) K
theorem zr_a48_1 (K : Int32 → jM α) : (jB (jaI 0 (some (a + 37)) 1) K).1 (rH h a (F, L, A, B)) = (K (A 48 1)).1 (rH h a (F, L, A, B)) := zr_a48 (i := 1) (by decide) K
theorem zr_a48_2 (K : Int32 → jM α) : (jB (jaI 0 (some (a + 37)) 2) K).1 (rH h a (F, L, A, B)) = (K (A 48 2)).1 (rH h a (F, L, A, B)) := zr_a48 (i := 2) (by decide) K
theorem zr_a48_3 (K : Int32 → jM α) : (jB (jaI 0 (some (a + 37)) 3) K).1 (rH h a (F, L, A, B)) = (K (A 48 3)).1 (rH h a (F, L, A, B)) := zr_a48 (i := 3) (by decide) K
theorem zr_s48_0 (hb : h.2.2.2.2 0 ≤ a) (x : Int32) (K : Unit → jM α) : (jB (jsI 0 (some (a + 37)) 0 x) K).1 (rH h a (F, L, A, B)) = (K ()).1 (rH h a (F, L, zuA A 48 (upd (A 48) 0 x), B)) := zr_s48 (i := 0) hb (by decide) x K
end
