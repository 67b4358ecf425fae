/-! PURE 71: a lectern at rest, on both sides; what is counted -/
set_option maxRecDepth 100000
def zgt (l r w : Int32) (m h : Nat) : Int32 := if m = 1 then (if h = 1 then -l else r) else (if h = 1 then w else 0)
def zrr (l r w : Int32) (k : Nat) : Bool := !decide (zgt l r w (k / 2) (k % 2) < zgt l r w (1 - k / 2) (k % 2)) && decide (zgt l r w (1 - k % 2) (k / 2) ≤ zgt l r w (k % 2) (k / 2))
/-- none: it is thrown -/
def zrl (l r w x : Int32) : Nat → Nat → Nat → Option Int32
  | 0, _, n => if x = -1 then some (nI n) else none
  | j + 1, k, n => if zrr l r w k = true then (if nI n = x then some (nI k) else zrl l r w x j (k + 1) (n + 1)) else zrl l r w x j (k + 1) n
def zvd (x : Int32) : Bool := !decide (x < 0) && !decide (9 < x)
def zO_rests (l r w x : Int32) : Option Int32 := if (zvd l && (zvd r && (zvd w && !decide (x < -1)))) = true then zrl l r w x 4 0 0 else none
theorem zgtR (l r w : Int32) {m h : Nat} (hm : m < 2) (hh : h < 2) (H : jH) : (fX7_getsBy l r w (nI m) (nI h)).1 H = some (zgt l r w m h, H) := by
  have h1 : m = 0 ∨ m = 1 := by omega
  have h2 : h = 0 ∨ h = 1 := by omega
  rcases h1 with e | e <;> rcases h2 with e' | e' <;> rw [e, e'] <;> rfl
theorem zgtC (l r w : Int32) {m h : Nat} (hm : m < 2) (hh : h < 2) (H : jH) : (fX1_gets (nI m) (nI h) l r w).1 H = some (zgt l r w m h, H) := by
  have h1 : m = 0 ∨ m = 1 := by omega
  have h2 : h = 0 ∨ h = 1 := by omega
  rcases h1 with e | e <;> rcases h2 with e' | e' <;> rw [e, e'] <;> rfl
theorem zisR (l r w : Int32) {k : Nat} (hk : k < 4) (H : jH) : (fX1_isRest (nI (k / 2)) (nI (k % 2)) l r w).1 H = some (zb (zrr l r w k), H) := by
  have h1 : k / 2 = 0 ∨ k / 2 = 1 := by omega
  have h2 : k % 2 = 0 ∨ k % 2 = 1 := by omega
  have e9 : (fX1_isRest (nI (k / 2)) (nI (k % 2)) l r w).1 H = (fX1_isRest_9 (nI (k / 2)) (nI (k % 2)) l r w (nI (1 - k / 2))).1 H := by
    unfold fX1_isRest
    rcases h1 with e | e <;> rw [e] <;> rfl
  have e38 : ∀ H, (if nI (k % 2) = 0 then (fX1_isRest_38 (nI (k / 2)) (nI (k % 2)) l r w 1) else (fX1_isRest_38 (nI (k / 2)) (nI (k % 2)) l r w 0)).1 H = (fX1_isRest_38 (nI (k / 2)) (nI (k % 2)) l r w (nI (1 - k % 2))).1 H := by
    intro H
    rcases h2 with e | e <;> rw [e] <;> rfl
  rw [e9]
  unfold fX1_isRest_9
  rw [jB_eq (zgtC l r w (by omega) (by omega) H), jB_eq (zgtC l r w (by omega) (by omega) H), zI, e38]
  unfold fX1_isRest_62 fX1_isRest_63 zrr
  by_cases c1 : zgt l r w (k / 2) (k % 2) < zgt l r w (1 - k / 2) (k % 2)
  · rw [if_pos c1, decide_eq_true c1]; rfl
  · rw [if_neg c1, decide_eq_false c1]
    unfold fX1_isRest_38 fX1_isRest_62 fX1_isRest_63
    rw [jB_eq (zgtC l r w (by omega) (by omega) H), jB_eq (zgtC l r w (by omega) (by omega) H), zI]
    by_cases c2 : zgt l r w (k % 2) (k / 2) < zgt l r w (1 - k % 2) (k / 2)
    · rw [if_pos c2, decide_eq_false (Int32.not_le.mpr c2)]; rfl
    · rw [if_neg c2, decide_eq_true (Int32.not_lt.mp c2)]; rfl
/-! the reference -/
section
variable {N a : Nat} {h : jH} {F : Nat → Int32} {L : Nat → Int64} {A : Nat → Nat → Int32} {M : Nat → Nat → Int64}
theorem zr_rs61 (hb : h.2.2.2.2 0 ≤ a) (l r w x : Int32) : ∀ (j n k i : Nat), k + j = 4 → j < n → F 0 = 0 → ∃ v b, (fX7_rests_61 N a n l r w x (nI i) (nI k)).1 (rH h a (F, L, A, M)) = some (v, rH h a (upd F 0 (zb b), L, A, M)) ∧ b = (zrl l r w x j k i).isNone ∧ ∀ y, zrl l r w x j k i = some y → v = y
  | 0, n + 1, k, i, hk, hn, hF => by
    rw [fX7_rests_61, zI, if_pos (by rw [show k = 4 by omega]; decide)]
    unfold fX7_rests_151 fX7_rests_163 fX7_rests_178 zrl
    by_cases c : x = -1
    · rw [if_pos c, zr_p0 hb, zI, if_pos c, if_pos c]
      exact ⟨nI i, false, rfl, rfl, fun y hy => by cases hy; rfl⟩
    · rw [if_neg c, zr_p0 hb, zI, if_neg c, if_neg c]
      exact ⟨0, true, rfl, rfl, fun y hy => by cases hy⟩
  | j + 1, n + 1, k, i, hk, hn, hF => by
    have ih := fun i => zr_rs61 hb l r w x j n (k + 1) i (by omega) (by omega) hF
    have e0 : upd F 0 (zb false) = F := funext fun q => by
      by_cases e : q = 0
      · rw [e, zu_eq, hF]; rfl
      · rw [zu_ne _ _ e]
    rw [fX7_rests_61, zI, if_neg (fun q => by have := (zc4_le (by omega)).mp q; omega), znz (by decide), znz (by decide), zc2_rm (by omega), zc2_dv (by omega), show (1 : Int32) - nI (k / 2) = nI (1 - k / 2) from pk_sub (a := 1) (by omega), show (1 : Int32) - nI (k % 2) = nI (1 - k % 2) from pk_sub (a := 1) (by omega), jB_eq (zgtR l r w (by omega) (by omega) _), jB_eq (zgtR l r w (by omega) (by omega) _), zI]
    unfold fX7_rests_145 fX7_rests_139 zrl zrr
    rw [zc1_da]
    by_cases c1 : zgt l r w (k / 2) (k % 2) < zgt l r w (1 - k / 2) (k % 2)
    · rw [if_pos c1, decide_eq_true c1, if_neg (show ¬ (!true && _) = true from zff)]
      exact ih i
    · rw [if_neg c1, decide_eq_false c1, jB_eq (zgtR l r w (by omega) (by omega) _), jB_eq (zgtR l r w (by omega) (by omega) _), zI, zI]
      by_cases c2 : zgt l r w (1 - k % 2) (k / 2) ≤ zgt l r w (k % 2) (k / 2)
      · rw [if_pos c2, decide_eq_true c2, if_pos (show (!false && true) = true from rfl)]
        by_cases c3 : nI i = x
        · rw [if_pos c3, if_pos c3]
          exact ⟨nI k, false, by rw [e0]; rfl, rfl, fun y hy => by cases hy; rfl⟩
        · rw [if_neg c3, if_neg c3, zc1_da]
          exact ih (i + 1)
      · rw [if_neg c2, decide_eq_false c2, if_neg (show ¬ (!false && false) = true from zff)]
        exact ih i
theorem zr_rests (hb : h.2.2.2.2 0 ≤ a) (hN : 3000 ≤ N) (l r w x : Int32) : ∃ v, (fX7_rests N a l r w x).1 (rH h a (F, L, A, M)) = some (v, rH h a (upd F 0 (zb (zO_rests l r w x).isNone), L, A, M)) ∧ ∀ y, zO_rests l r w x = some y → v = y := by
  have win : ∀ x : Int32, (fX7_within x 0 9).1 (rH h a (F, L, A, M)) = some (zb (zvd x), rH h a (F, L, A, M)) := fun x => zw_inR _
  have e41 : ∃ v, (fX7_rests_41 N a l r w x).1 (rH h a (F, L, A, M)) = some (v, rH h a (upd F 0 (zb (none : Option Int32).isNone), L, A, M)) := by
    unfold fX7_rests_41 fX7_rests_42
    rw [zr_p0 hb, zr_g0, zu_eq, zI, if_pos rfl]
    exact ⟨0, rfl⟩
  unfold fX7_rests zO_rests
  rw [jB_eq (win l), zI]
  cases hl : zvd l with
  | false =>
    obtain ⟨v, e⟩ := e41
    rw [if_pos zb_f, if_neg (show ¬ (false && _) = true from zff)]
    exact ⟨v, e, fun y hy => by cases hy⟩
  | true =>
    rw [if_neg zb1n, jB_eq (win r), zI]
    cases hr : zvd r with
    | false =>
      obtain ⟨v, e⟩ := e41
      rw [if_pos zb_f, if_neg (show ¬ (true && (false && _)) = true from zff)]
      exact ⟨v, e, fun y hy => by cases hy⟩
    | true =>
      rw [if_neg zb1n, jB_eq (win w), zI]
      cases hw : zvd w with
      | false =>
        obtain ⟨v, e⟩ := e41
        rw [if_pos zb_f, if_neg (show ¬ (true && (true && (false && _))) = true from zff)]
        exact ⟨v, e, fun y hy => by cases hy⟩
      | true =>
        rw [if_neg zb1n, zI]
        by_cases c : x < -1
        · obtain ⟨v, e⟩ := e41
          rw [if_pos c, decide_eq_true c, if_neg (show ¬ (true && (true && (true && !true))) = true from zff)]
          exact ⟨v, e, fun y hy => by cases hy⟩
        · rw [if_neg c, decide_eq_false c, if_pos (show (true && (true && (true && !false))) = true from rfl)]
          unfold fX7_rests_42
          rw [zr_p0 hb, zr_g0, zu_eq, zI, if_neg (by decide)]
          obtain ⟨v, b, e1, e2, e3⟩ := zr_rs61 (N := N) (F := upd F 0 0) (L := L) (A := A) (M := M) hb l r w x 4 N 0 0 rfl (by omega) (zu_eq _ _ _)
          rw [zuu, e2] at e1
          exact ⟨v, e1, e3⟩
end
section
variable {N a : Nat} {h : jH} {F : Nat → Int32} {L : Nat → Int64} {A : Nat → Nat → Int32} {M : Nat → Nat → Int64} {B : zLB} {S : zMS} {nm : (Nat → Nat) × (Nat → Nat)} {T : (Nat → Nat) × Nat} {Y : zYy} {E : zEy} {U : zUy} {Mk : Nat → Option (zMS × zYy × zEy)}
theorem zRG_rests (hb : h.2.2.2.2 0 ≤ a) (hG : zRG N a ((B, S), nm, T, Y, E, U, Mk) F A M) (l r w x : Int32) : ∃ F' v, (fX7_rests N a l r w x).1 (rH h a (F, L, A, M)) = some (v, rH h a (F', L, A, M)) ∧ zRG N a ((B, S), nm, T, Y, E, U, Mk) F' A M ∧ F' 0 = zb (zO_rests l r w x).isNone ∧ ∀ y, zO_rests l r w x = some y → v = y := by
  obtain ⟨v, e1, e2⟩ := zr_rests (F := F) (L := L) (A := A) (M := M) hb hG.1.1 l r w x
  exact ⟨_, v, e1, hG.sh hG.1 (zu_ne _ _ (by decide)) (zu_ne _ _ (by decide)) (fun _ _ _ _ _ _ _ => rfl), zu_eq _ _ _, e2⟩
def zO_count (B : zLB) (S : zMS) (y e u t : Nat) (x : Int32) : Int32 := match zix x 12 with
  | none => -1
  | some c => if c < 8 then zO_count8 B S c else if c = 8 then nI y else if c = 9 then nI e else if c = 10 then nI u else nI t
theorem zRG_count (h0 : zT0 B S) (hb : h.2.2.2.2 0 ≤ a) (hG : zRG N a ((B, S), nm, T, Y, E, U, Mk) F A M) (x : Int32) : ∃ F' L' A', (fX7_count N a x).1 (rH h a (F, L, A, M)) = some (zO_count B S Y.1 E.1 U.1 T.2 x, rH h a (F', L', A', M)) ∧ zRG N a ((B, S), nm, T, Y, E, U, Mk) F' A' M := by
  unfold zO_count
  rcases zix_cases x (n := 12) (by decide) with ⟨h3, h4⟩ | ⟨j, h3, h4, rfl⟩
  · rw [h3]
    obtain ⟨A1, e1, g1⟩ := hG.f0.ro (L := L) (zR_within x 0 11) hb
    refine ⟨_, L, A1, ?_, g1⟩
    unfold fX7_count
    rw [zr_p0 hb, jB_eq e1, zI, show (11 : Int32) = nI 11 from rfl, zix_in x (by decide), h3, if_pos (show zb (none : Option Nat).isSome = 0 from rfl)]
    rfl
  · rw [h4]
    dsimp only
    by_cases c8 : j < 8
    · rw [if_pos c8]
      exact hG.rw (L := L) (zR_count8 h0 c8) hb
    · rw [if_neg c8]
      obtain ⟨A1, e1, g1⟩ := hG.f0.ro (L := L) (zR_within (nI j) 0 11) hb
      have e38 : A1 38 0 = nI Y.1 := g1.2.2.2.2.1.1
      have e43 : A1 43 0 = nI E.1 := g1.2.2.2.2.2.1.1.1
      have e54 : upd F 0 0 54 = nI U.1 := g1.2.2.2.2.2.2.1.1
      have e1' : upd F 0 0 1 = nI T.2 := g1.2.2.2.1.2.1
      refine ⟨_, L, A1, ?_, g1⟩
      unfold fX7_count fX7_count_134 fX7_count_152
      rw [zr_p0 hb, jB_eq e1, zI, show (11 : Int32) = nI 11 from rfl, zix_in (nI j) (by decide), h4, if_neg (show ¬ zb (some j).isSome = 0 from zb1n)]
      have : j = 8 ∨ j = 9 ∨ j = 10 ∨ j = 11 := by omega
      rcases this with e | e | e | e
      · rw [e, zI, if_pos (by decide), zI, if_pos (by decide), zI, if_pos (by decide), zI, if_neg (by decide), zI, if_pos (by decide), zr_g38, zr_a38_0, e38]; rfl
      · rw [e, zI, if_pos (by decide), zI, if_pos (by decide), zI, if_pos (by decide), zI, if_neg (by decide), zI, if_neg (by decide), zr_g43, zr_a43_0, e43]; rfl
      · rw [e, zI, if_pos (by decide), zI, if_pos (by decide), zI, if_pos (by decide), zI, if_pos (by decide), zI, if_pos (by decide), zr_g54, e54]; rfl
      · rw [e, zI, if_pos (by decide), zI, if_pos (by decide), zI, if_pos (by decide), zI, if_pos (by decide), zI, if_neg (by decide), zr_g1, e1']; rfl
end
