/-! PURE 13: what only looks, on both sides -/
set_option maxRecDepth 100000
def zSc2 (A A' : Nat → Nat → Int32) : Prop := ∀ k, (k < 26 ∨ (35 < k ∧ k < 48) ∨ (50 < k ∧ k < 55) ∨ 56 < k) → A' k = A k
theorem zSc2.rf (A : Nat → Nat → Int32) : zSc2 A A := fun _ _ => rfl
theorem zSc2.tr {A A' A'' : Nat → Nat → Int32} (h1 : zSc2 A A') (h2 : zSc2 A' A'') : zSc2 A A'' := fun k hk => (h2 k hk).trans (h1 k hk)
theorem zScr.to2 {A A' : Nat → Nat → Int32} (h : zScr A A') : zSc2 A A' := fun k hk => h k (by omega)
/-- the reference, at a library and a shelf, answers v; what matters is as it was -/
def zRW {α : Type} (N a : Nat) (B : zLB) (S : zMS) (m : jM α) (v : α) : Prop := ∀ (h : jH) (F : Nat → Int32) (L : Nat → Int64) (A : Nat → Nat → Int32) (M : Nat → Nat → Int64), h.2.2.2.2 0 ≤ a → zRX N a B S A →
  ∃ F' L' A', (F' 1 = F 1 ∧ F' 54 = F 54) ∧ zSc2 A A' ∧ zRX N a B S A' ∧ m.1 (rH h a (F, L, A, M)) = some (v, rH h a (F', L', A', M))
/-- it answers v, all is as it was but what its law of what shows works with -/
def zRO {α : Type} (N a : Nat) (B : zLB) (S : zMS) (m : jM α) (v : α) : Prop := ∀ (h : jH) (F : Nat → Int32) (L : Nat → Int64) (A : Nat → Nat → Int32) (M : Nat → Nat → Int64), h.2.2.2.2 0 ≤ a → zRX N a B S A →
  ∃ A', zScr A A' ∧ m.1 (rH h a (F, L, A, M)) = some (v, rH h a (F, L, A', M))
def zCW {α : Type} (N : Nat) (k : zKA) (B : zLB) (S : zMS) (m : jM α) (v : α) : Prop := ∀ (h : jH) (X : Bool → zSS) (f : Nat → Int32) (R : zCR), zCX N h k true B S X →
  ∃ X' f' R', X' true = X true ∧ R'.2.2.2.2 = R.2.2.2.2 ∧ m.1 (cH h k (X, f, R)) = some (v, cH h k (X', f', R'))
def zCO {α : Type} (N : Nat) (k : zKA) (B : zLB) (S : zMS) (m : jM α) (v : α) : Prop := ∀ (h : jH) (X : Bool → zSS) (f : Nat → Int32) (R : zCR), zCX N h k true B S X →
  ∃ f', m.1 (cH h k (X, f, R)) = some (v, cH h k (X, f', R))
theorem zCX.sh {N : Nat} {h : jH} {k : zKA} {b : Bool} {B : zLB} {S : zMS} {X X' : Bool → zSS} (hX : zCX N h k b B S X) (e : X' b = X b) : zCX N h k b B S X' := ⟨hX.1, hX.2.1, hX.2.2.1, hX.2.2.2.1, hX.2.2.2.2.1, hX.2.2.2.2.2.1, by rw [e]; exact hX.2.2.2.2.2.2.1, hX.2.2.2.2.2.2.2⟩
theorem zb1n : ¬ zb true = 0 := by decide
theorem fa_lt_ (a b : Int32) : a < b ↔ a.toInt < b.toInt := Int32.lt_iff_toInt_lt
section
variable {α β : Type} {N a : Nat} {B : zLB} {S : zMS} {k : zKA}
theorem zRO.ret (v : α) : zRO N a B S (jR v) v := fun h F L A M _ _ => ⟨A, zScr.rf A, rfl⟩
theorem zRO.bind {m : jM α} {K : α → jM β} {v : α} {w : β} (h1 : zRO N a B S m v) (h2 : zRO N a B S (K v) w) : zRO N a B S (jB m K) w := by
  intro h F L A M hb hX
  obtain ⟨A1, s1, e1⟩ := h1 h F L A M hb hX
  obtain ⟨A2, s2, e2⟩ := h2 h F L A1 M hb (hX.scr s1)
  exact ⟨A2, s1.tr s2, by rw [jB_eq e1, e2]⟩
theorem zRO.ifp {c : Prop} {d : Decidable c} {A1 A2 : jM α} {v : α} (hc : c) (h1 : zRO N a B S A1 v) : zRO N a B S (@ite _ c d A1 A2) v := by rw [if_pos hc]; exact h1
theorem zRO.ifn {c : Prop} {d : Decidable c} {A1 A2 : jM α} {v : α} (hc : ¬ c) (h1 : zRO N a B S A2 v) : zRO N a B S (@ite _ c d A1 A2) v := by rw [if_neg hc]; exact h1
theorem zRO.rn0 : zRO N a B S (jRn .boolean 0) 0 := zRO.ret 0
theorem zRO.rn1 : zRO N a B S (jRn .boolean 1) 1 := zRO.ret 1
theorem zRO.rnb (b : Bool) : zRO N a B S (jRn .boolean (zb b)) (zb b) := by cases b <;> exact zRO.ret _
theorem zRO.nz {y : Int32} (hy : ¬ y = 0) : zRO N a B S (jnz y) () := by
  unfold jnz
  rw [if_neg hy]
  exact zRO.ret ()
theorem zRO.nzL {y : Int64} (hy : ¬ y = 0) : zRO N a B S (jnzL y) () := by
  unfold jnzL
  rw [if_neg hy]
  exact zRO.ret ()
theorem zRO.nn (b : Nat) : zRO N a B S (jnn0 (some b)) b := fun h F L A M _ _ => ⟨A, zScr.rf A, rfl⟩
/-- a run that leaves all as it is -/
theorem zRO.of {m : jM α} {v : α} (h1 : ∀ (h : jH) (F : Nat → Int32) (L : Nat → Int64) (A : Nat → Nat → Int32) (M : Nat → Nat → Int64), h.2.2.2.2 0 ≤ a → zRX N a B S A → m.1 (rH h a (F, L, A, M)) = some (v, rH h a (F, L, A, M))) : zRO N a B S m v := fun h F L A M hb hX => ⟨A, zScr.rf A, h1 h F L A M hb hX⟩
theorem zRO.ofA {m : jM α} {v : α} (h1 : ∀ (h : jH) (F : Nat → Int32) (L : Nat → Int64) (A : Nat → Nat → Int32) (M : Nat → Nat → Int64), h.2.2.2.2 0 ≤ a → zRX N a B S A → ∃ A', zScr A A' ∧ m.1 (rH h a (F, L, A, M)) = some (v, rH h a (F, L, A', M))) : zRO N a B S m v := h1
theorem zRO.w {m : jM α} {v : α} (h1 : zRO N a B S m v) : zRW N a B S m v := fun h F L A M hb hX => by
  obtain ⟨A', s, e⟩ := h1 h F L A M hb hX
  exact ⟨F, L, A', ⟨rfl, rfl⟩, s.to2, hX.scr s, e⟩
/-- facts that hold while it runs -/
theorem zRO.have_ {m : jM α} {v : α} (h1 : 3000 ≤ N → zLok B → zSok B S → zRO N a B S m v) : zRO N a B S m v := fun h F L A M hb hX => h1 hX.1 hX.2.1 hX.2.2.1 h F L A M hb hX
theorem zRO.obj (j : Nat) (m : jM (Option Nat)) (hm : ∀ (h : jH) (F : Nat → Int32) (L : Nat → Int64) (A : Nat → Nat → Int32) (M : Nat → Nat → Int64) (β : Type) (K : Option Nat → jM β), (jB m K).1 (rH h a (F, L, A, M)) = (K (some (a + j))).1 (rH h a (F, L, A, M))) : zRO N a B S m (some (a + j)) := by
  refine zRO.of fun h F L A M _ _ => ?_
  have := hm h F L A M _ jR
  rw [jB_run] at this
  cases hx : m.1 (rH h a (F, L, A, M)) with
  | none => rw [hx] at this; cases this
  | some z => rw [hx] at this; exact this
theorem zRO.int {m : jM Int32} {v : Int32} (hm : ∀ (h : jH) (F : Nat → Int32) (L : Nat → Int64) (A : Nat → Nat → Int32) (M : Nat → Nat → Int64), h.2.2.2.2 0 ≤ a → zRX N a B S A → (jB m jR).1 (rH h a (F, L, A, M)) = (jR v).1 (rH h a (F, L, A, M))) : zRO N a B S m v := by
  refine zRO.of fun h F L A M hb hX => ?_
  have := hm h F L A M hb hX
  rw [jB_run] at this
  cases hx : m.1 (rH h a (F, L, A, M)) with
  | none => rw [hx] at this; cases this
  | some z => rw [hx] at this; exact this
theorem zR_o2 : zRO N a B S (jgR [7] 2 (some a)) (some (a + 1)) := zRO.obj 1 _ fun h F L A M β K => zr_g2 K
theorem zR_o10 : zRO N a B S (jgR [7] 10 (some a)) (some (a + 2)) := zRO.obj 2 _ fun h F L A M β K => zr_g10 K
theorem zR_o11 : zRO N a B S (jgR [7] 11 (some a)) (some (a + 3)) := zRO.obj 3 _ fun h F L A M β K => zr_g11 K
theorem zR_o12 : zRO N a B S (jgR [7] 12 (some a)) (some (a + 4)) := zRO.obj 4 _ fun h F L A M β K => zr_g12 K
theorem zR_o13 : zRO N a B S (jgR [7] 13 (some a)) (some (a + 5)) := zRO.obj 5 _ fun h F L A M β K => zr_g13 K
theorem zR_o14 : zRO N a B S (jgR [7] 14 (some a)) (some (a + 6)) := zRO.obj 6 _ fun h F L A M β K => zr_g14 K
theorem zR_o15 : zRO N a B S (jgR [7] 15 (some a)) (some (a + 7)) := zRO.obj 7 _ fun h F L A M β K => zr_g15 K
theorem zR_o16 : zRO N a B S (jgR [7] 16 (some a)) (some (a + 8)) := zRO.obj 8 _ fun h F L A M β K => zr_g16 K
theorem zR_o17 : zRO N a B S (jgR [7] 17 (some a)) (some (a + 9)) := zRO.obj 9 _ fun h F L A M β K => zr_g17 K
theorem zR_o18 : zRO N a B S (jgR [7] 18 (some a)) (some (a + 10)) := zRO.obj 10 _ fun h F L A M β K => zr_g18 K
theorem zR_o19 : zRO N a B S (jgR [7] 19 (some a)) (some (a + 11)) := zRO.obj 11 _ fun h F L A M β K => zr_g19 K
theorem zR_o20 : zRO N a B S (jgR [7] 20 (some a)) (some (a + 12)) := zRO.obj 12 _ fun h F L A M β K => zr_g20 K
theorem zR_o21 : zRO N a B S (jgR [7] 21 (some a)) (some (a + 13)) := zRO.obj 13 _ fun h F L A M β K => zr_g21 K
theorem zR_o22 : zRO N a B S (jgR [7] 22 (some a)) (some (a + 14)) := zRO.obj 14 _ fun h F L A M β K => zr_g22 K
theorem zR_o24 : zRO N a B S (jgR [7] 24 (some a)) (some (a + 15)) := zRO.obj 15 _ fun h F L A M β K => zr_g24 K
theorem zR_o25 : zRO N a B S (jgR [7] 25 (some a)) (some (a + 16)) := zRO.obj 16 _ fun h F L A M β K => zr_g25 K
theorem zR_o26 : zRO N a B S (jgR [7] 26 (some a)) (some (a + 17)) := zRO.obj 17 _ fun h F L A M β K => zr_g26 K
theorem zR_o27 : zRO N a B S (jgR [7] 27 (some a)) (some (a + 18)) := zRO.obj 18 _ fun h F L A M β K => zr_g27 K
theorem zR_o28 : zRO N a B S (jgR [7] 28 (some a)) (some (a + 19)) := zRO.obj 19 _ fun h F L A M β K => zr_g28 K
theorem zR_o29 : zRO N a B S (jgR [7] 29 (some a)) (some (a + 20)) := zRO.obj 20 _ fun h F L A M β K => zr_g29 K
theorem zR_o30 : zRO N a B S (jgR [7] 30 (some a)) (some (a + 21)) := zRO.obj 21 _ fun h F L A M β K => zr_g30 K
theorem zR_o31 : zRO N a B S (jgR [7] 31 (some a)) (some (a + 22)) := zRO.obj 22 _ fun h F L A M β K => zr_g31 K
theorem zR_o32 : zRO N a B S (jgR [7] 32 (some a)) (some (a + 23)) := zRO.obj 23 _ fun h F L A M β K => zr_g32 K
theorem zR_o33 : zRO N a B S (jgR [7] 33 (some a)) (some (a + 24)) := zRO.obj 24 _ fun h F L A M β K => zr_g33 K
theorem zR_o34 : zRO N a B S (jgR [7] 34 (some a)) (some (a + 25)) := zRO.obj 25 _ fun h F L A M β K => zr_g34 K
theorem zR_o35 : zRO N a B S (jgR [7] 35 (some a)) (some (a + 26)) := zRO.obj 26 _ fun h F L A M β K => zr_g35 K
theorem zR_o38 : zRO N a B S (jgR [7] 38 (some a)) (some (a + 27)) := zRO.obj 27 _ fun h F L A M β K => zr_g38 K
theorem zR_o39 : zRO N a B S (jgR [7] 39 (some a)) (some (a + 28)) := zRO.obj 28 _ fun h F L A M β K => zr_g39 K
theorem zR_o40 : zRO N a B S (jgR [7] 40 (some a)) (some (a + 29)) := zRO.obj 29 _ fun h F L A M β K => zr_g40 K
theorem zR_o41 : zRO N a B S (jgR [7] 41 (some a)) (some (a + 30)) := zRO.obj 30 _ fun h F L A M β K => zr_g41 K
theorem zR_o42 : zRO N a B S (jgR [7] 42 (some a)) (some (a + 31)) := zRO.obj 31 _ fun h F L A M β K => zr_g42 K
theorem zR_o43 : zRO N a B S (jgR [7] 43 (some a)) (some (a + 32)) := zRO.obj 32 _ fun h F L A M β K => zr_g43 K
theorem zR_o44 : zRO N a B S (jgR [7] 44 (some a)) (some (a + 33)) := zRO.obj 33 _ fun h F L A M β K => zr_g44 K
theorem zR_o45 : zRO N a B S (jgR [7] 45 (some a)) (some (a + 34)) := zRO.obj 34 _ fun h F L A M β K => zr_g45 K
theorem zR_o46 : zRO N a B S (jgR [7] 46 (some a)) (some (a + 35)) := zRO.obj 35 _ fun h F L A M β K => zr_g46 K
theorem zR_o47 : zRO N a B S (jgR [7] 47 (some a)) (some (a + 36)) := zRO.obj 36 _ fun h F L A M β K => zr_g47 K
theorem zR_o48 : zRO N a B S (jgR [7] 48 (some a)) (some (a + 37)) := zRO.obj 37 _ fun h F L A M β K => zr_g48 K
theorem zR_o49 : zRO N a B S (jgR [7] 49 (some a)) (some (a + 38)) := zRO.obj 38 _ fun h F L A M β K => zr_g49 K
theorem zR_o50 : zRO N a B S (jgR [7] 50 (some a)) (some (a + 39)) := zRO.obj 39 _ fun h F L A M β K => zr_g50 K
theorem zR_o51 : zRO N a B S (jgR [7] 51 (some a)) (some (a + 40)) := zRO.obj 40 _ fun h F L A M β K => zr_g51 K
theorem zR_o52 : zRO N a B S (jgR [7] 52 (some a)) (some (a + 41)) := zRO.obj 41 _ fun h F L A M β K => zr_g52 K
theorem zR_o53 : zRO N a B S (jgR [7] 53 (some a)) (some (a + 42)) := zRO.obj 42 _ fun h F L A M β K => zr_g53 K
theorem zR_o55 : zRO N a B S (jgR [7] 55 (some a)) (some (a + 43)) := zRO.obj 43 _ fun h F L A M β K => zr_g55 K
theorem zR_o56 : zRO N a B S (jgR [7] 56 (some a)) (some (a + 44)) := zRO.obj 44 _ fun h F L A M β K => zr_g56 K
theorem zRW.have_ {m : jM α} {v : α} (h1 : 3000 ≤ N → zLok B → zSok B S → zRW N a B S m v) : zRW N a B S m v := fun h F L A M hb hX => h1 hX.1 hX.2.1 hX.2.2.1 h F L A M hb hX
theorem zRW.thw {x : Int32} {K : Unit → jM α} {v : α} (h1 : zRW N a B S (K ()) v) : zRW N a B S (jB (jpI [7] 0 (some a) x) K) v := by
  intro h F L A M hb hX
  obtain ⟨F', L', A', f1, s1, x1, e1⟩ := h1 h (upd F 0 x) L A M hb hX
  refine ⟨F', L', A', ⟨f1.1.trans (zu_ne _ _ (by decide)), f1.2.trans (zu_ne _ _ (by decide))⟩, s1, x1, ?_⟩
  rw [zr_p0 hb]
  exact e1
theorem zRW.thr {x : Int32} {K : Unit → jM α} {v : α} (h1 : zRO N a B S (K ()) v) : zRW N a B S (jB (jpI [7] 0 (some a) x) K) v := zRW.thw h1.w
theorem zR_S : zRO N a B S (jaI 0 (some (a + 2)) 0) (nI (zS B)) := zRO.int fun h F L A M _ hX => by rw [zr_a10_0, hX.2.2.2.1.1]
theorem zR_T : zRO N a B S (jaI 0 (some (a + 2)) 1) (nI (zT B)) := zRO.int fun h F L A M _ hX => by rw [zr_a10_1, hX.2.2.2.1.2.1]
theorem zR_D : zRO N a B S (jaI 0 (some (a + 2)) 2) (nI (zD B)) := zRO.int fun h F L A M _ hX => by rw [zr_a10_2, hX.2.2.2.1.2.2.1]
theorem zR_Li {j : Nat} (hj : j < zS B) : zRO N a B S (jaI 0 (some (a + 5)) (nI j)) (nI (zLi B j)) := zRO.int fun h F L A M _ hX => by
  have := hX.2.1.1
  rw [zr_a13 (by omega), (hX.2.2.2.1.2.2.2.1 j hj).1]
theorem zR_Th0 {j : Nat} (hj : j < zS B) : zRO N a B S (jaI 0 (some (a + 6)) (nI j)) (nI (zTh0 B j)) := zRO.int fun h F L A M _ hX => by
  have := hX.2.1.1
  rw [zr_a14 (by omega), (hX.2.2.2.1.2.2.2.1 j hj).2.1]
theorem zR_Ho {j : Nat} (hj : j < zS B) : zRO N a B S (jaI 0 (some (a + 7)) (nI j)) (nI (zHo B j)) := zRO.int fun h F L A M _ hX => by
  have := hX.2.1.1
  rw [zr_a15 (by omega), (hX.2.2.2.1.2.2.2.1 j hj).2.2]
theorem zR_Ki {j : Nat} (hj : j < zT B) : zRO N a B S (jaI 0 (some (a + 8)) (nI j)) (nI (zKi B j)) := zRO.int fun h F L A M _ hX => by
  have := hX.2.1.2.1
  rw [zr_a16 (by omega), (hX.2.2.2.1.2.2.2.2.1 j hj).1]
theorem zR_Ga {j : Nat} (hj : j < zT B) : zRO N a B S (jaI 0 (some (a + 9)) (nI j)) (nI (zGa B j)) := zRO.int fun h F L A M _ hX => by
  have := hX.2.1.2.1
  rw [zr_a17 (by omega), (hX.2.2.2.1.2.2.2.2.1 j hj).2.1]
theorem zR_Lo {j : Nat} (hj : j < zT B) : zRO N a B S (jaI 0 (some (a + 10)) (nI j)) (nI (zLo B j)) := zRO.int fun h F L A M _ hX => by
  have := hX.2.1.2.1
  rw [zr_a18 (by omega), (hX.2.2.2.1.2.2.2.2.1 j hj).2.2]
theorem zR_wk : zRO N a B S (jaI 0 (some (a + 37)) 0) (nI (zWk S)) := zRO.int fun h F L A M _ hX => by rw [zr_a48_0, hX.2.2.2.2.1.1]
theorem zR_th {j : Nat} (hj : j < 3) : zRO N a B S (jaI 0 (some (a + 37)) (1 + nI j)) (nI (zTh S j)) := zRO.int fun h F L A M _ hX => by rw [zc1_ad, zr_a48 (by omega), (hX.2.2.2.2.1.2.1 j hj).1]
theorem zR_op {j : Nat} (hj : j < 3) : zRO N a B S (jaI 0 (some (a + 37)) (4 + nI j)) (nI (zOp S j)) := zRO.int fun h F L A M _ hX => by rw [zc4_ad, zr_a48 (by omega), (hX.2.2.2.2.1.2.1 j hj).2]
theorem zR_pl {s l : Nat} (hs : s < 3) (hl : l < 6) : zRO N a B S (jaI 0 (some (a + 37)) ((7 + (6 * nI s)) + nI l)) (nI (z7 (zPl S (6 * s + l)))) := zRO.int fun h F L A M _ hX => by
  rw [zc6_mu, zc7_ad, nI_add, zr_a48 (by omega), Nat.add_assoc, hX.2.2.2.2.1.2.2 (6 * s + l) (by omega)]
theorem zR_plk {q : Nat} (hq : q < 18) : zRO N a B S (jaI 0 (some (a + 37)) (7 + nI q)) (nI (z7 (zPl S q))) := zRO.int fun h F L A M _ hX => by
  rw [zc7_ad, zr_a48 (by omega), hX.2.2.2.2.1.2.2 q hq]
theorem zR_isSkin (x : Int32) : zRO N a B S (fX7_isSkin a x) (zb (zix x (zS B)).isSome) := zRO.of fun h F L A M _ hX => zr_isSkin hX x
theorem zR_isText (x : Int32) : zRO N a B S (fX7_isText a x) (zb (zix x (zT B)).isSome) := zRO.of fun h F L A M _ hX => zr_isText hX x
theorem zR_isLine (x y : Int32) : zRO N a B S (fX7_isLine a x y) (zb (zil B x y).isSome) := zRO.of fun h F L A M _ hX => zr_isLine hX x y
theorem zR_damp {w : Nat} (hw : w < 2 ^ 31) : zRO N a B S (fX7_dampOf a (nI w)) (nI (zDp B w)) := zRO.of fun h F L A M _ hX => zr_damp hX hw
theorem zR_shows {t : Nat} (ht : t < zT B) (deep thin wet : Int32) : zRO N a B S (fX7_showsBy N a (nI t) deep thin wet) (zb (zShow B t deep wet thin)) := zRO.ofA fun h F L A M hb hX => zr_shows hX hb ht deep thin wet
theorem zR_read {s l : Nat} (hs : s < 3) (hl : l < 6) (wet : Int32) : zRO N a B S (fX7_readBy N a (nI s) (nI l) wet) (zo (zRd B S s l wet)) := zRO.ofA fun h F L A M hb hX => zr_read hX hb hs hl wet
theorem zR_whole (wet : Int32) : zRO N a B S (fX7_wholeBy N a wet) (nI (zWl B S wet)) := zRO.ofA fun h F L A M hb hX => zr_whole hX hb wet
theorem zR_can {t s l : Nat} (ht : t < zT B) (hs : s < zS B) (hl : l < 6) : zRO N a B S (fX7_canWrite N a (nI t) (nI s) (nI l)) (zb (zCw B S t s l)) := zRO.of fun h F L A M _ hX => zr_can hX ht hs hl
theorem zR_scraped {s w : Nat} (hs : s < 3) : zRO N a B S (fX7_scrapedBy N a (nI s) (nI w)) (nI (zSb B S s w)) := zRO.of fun h F L A M _ hX => zr_scraped hX hs
theorem zR_place {t s : Nat} (ht : t < zT B) (hs : s < zS B) : zRO N a B S (fX7_placeOf N a (nI t) (nI s)) (zo (zPc B S t s)) := zRO.of fun h F L A M _ hX => zr_place hX ht hs
theorem zR_wholeNow : zRO N a B S (fX7_wholeNow N a) (nI (zWl B S (nI (zDp B (zWk S))))) := by
  refine zRO.have_ fun _ _ hS => ?_
  have := hS.1
  exact zRO.bind zR_o48 (zRO.bind zR_wk (zRO.bind (zR_damp (by omega)) (zRO.bind (zR_whole _) (zRO.ret _))))
/-! the component -/
theorem zCO.ret (v : α) : zCO N k B S (jR v) v := fun h X f R _ => ⟨f, rfl⟩
theorem zCO.bind {m : jM α} {K : α → jM β} {v : α} {w : β} (h1 : zCO N k B S m v) (h2 : zCO N k B S (K v) w) : zCO N k B S (jB m K) w := by
  intro h X f R hX
  obtain ⟨f1, e1⟩ := h1 h X f R hX
  obtain ⟨f2, e2⟩ := h2 h X f1 R hX
  exact ⟨f2, by rw [jB_eq e1, e2]⟩
theorem zCO.w {m : jM α} {v : α} (h1 : zCO N k B S m v) : zCW N k B S m v := fun h X f R hX => by
  obtain ⟨f', e⟩ := h1 h X f R hX
  exact ⟨X, f', R, rfl, rfl, e⟩
theorem zCO.ifp {c : Prop} {d : Decidable c} {A1 A2 : jM α} {v : α} (hc : c) (h1 : zCO N k B S A1 v) : zCO N k B S (@ite _ c d A1 A2) v := by rw [if_pos hc]; exact h1
theorem zCO.ifn {c : Prop} {d : Decidable c} {A1 A2 : jM α} {v : α} (hc : ¬ c) (h1 : zCO N k B S A2 v) : zCO N k B S (@ite _ c d A1 A2) v := by rw [if_neg hc]; exact h1
theorem zCO.rn0 : zCO N k B S (jRn .boolean 0) 0 := zCO.ret 0
theorem zCO.rn1 : zCO N k B S (jRn .boolean 1) 1 := zCO.ret 1
theorem zCO.rnb (b : Bool) : zCO N k B S (jRn .boolean (zb b)) (zb b) := by cases b <;> exact zCO.ret _
theorem zCO.nz {y : Int32} (hy : ¬ y = 0) : zCO N k B S (jnz y) () := by
  unfold jnz
  rw [if_neg hy]
  exact zCO.ret ()
theorem zCO.nzL {y : Int64} (hy : ¬ y = 0) : zCO N k B S (jnzL y) () := by
  unfold jnzL
  rw [if_neg hy]
  exact zCO.ret ()
theorem zCO.nn (b : Nat) : zCO N k B S (jnn0 (some b)) b := fun h X f R _ => ⟨f, rfl⟩
theorem zCO.of {m : jM α} {v : α} (h1 : ∀ (h : jH) (X : Bool → zSS) (f : Nat → Int32) (R : zCR), zCX N h k true B S X → m.1 (cH h k (X, f, R)) = some (v, cH h k (X, f, R))) : zCO N k B S m v := fun h X f R hX => ⟨f, h1 h X f R hX⟩
theorem zCO.ofF {m : jM α} {v : α} (h1 : ∀ (h : jH) (X : Bool → zSS) (f : Nat → Int32) (R : zCR), zCX N h k true B S X → ∃ f', m.1 (cH h k (X, f, R)) = some (v, cH h k (X, f', R))) : zCO N k B S m v := h1
theorem zCO.ofB {m : jM α} {v : α} (h1 : ∀ (h : jH) (X : Bool → zSS) (f : Nat → Int32) (R : zCR), zCX N h k true B S X → (jB m jR).1 (cH h k (X, f, R)) = (jR v).1 (cH h k (X, f, R))) : zCO N k B S m v := by
  refine zCO.of fun h X f R hX => ?_
  have := h1 h X f R hX
  rw [jB_run] at this
  cases hx : m.1 (cH h k (X, f, R)) with
  | none => rw [hx] at this; cases this
  | some z => rw [hx] at this; exact this
theorem zCO.have_ {m : jM α} {v : α} (h1 : 3000 ≤ N → zLok B → zSok B S → zCO N k B S m v) : zCO N k B S m v := fun h X f R hX => h1 hX.1 hX.2.2.1 hX.2.2.2.1 h X f R hX
theorem zC_w1 : zCO N k B S (jgR [0] 1 (some (k.1 0))) (some (zka k true)) := zCO.ofB fun h X f R hX => zc_g0_1 hX.2.1 _
theorem zC_w2 : zCO N k B S (jgR [0] 2 (some (k.1 0))) (some (zka k false)) := zCO.ofB fun h X f R hX => zc_g0_2 hX.2.1 _
theorem zC_w5 : zCO N k B S (jgR [0] 5 (some (k.1 0))) (some (k.1 0 + 35)) := zCO.ofB fun h X f R hX => zc_g0_5 hX.2.1 _
theorem zC_w6 : zCO N k B S (jgR [0] 6 (some (k.1 0))) (some (k.1 0 + 36)) := zCO.ofB fun h X f R hX => zc_g0_6 hX.2.1 _
theorem zC_r2 (b : Bool) : zCO N k B S (jrc 2 (some (zka k b))) (zka k b) := zCO.ofB fun h X f R hX => zc_r2 hX.2.1 _
theorem zC_r3 : zCO N k B S (jrc 3 (some (k.1 3))) (k.1 3) := zCO.ofB fun h X f R hX => zl_r3 hX.2.2.2.2.1 _
theorem zC_lib : zCO N k B S (jgR [2] 0 (some (zka k true))) (some (k.1 3)) := zCO.ofB fun h X f R hX => by rw [zc_g2_0 hX.2.1, hX.2.2.2.2.2.2.1.1]
theorem zC_wk : zCO N k B S (jgI [2] 1 (some (zka k true))) (nI (zWk S)) := zCO.ofB fun h X f R hX => by rw [zc_g2_1 hX.2.1, hX.2.2.2.2.2.2.1.2.1]
theorem zC_s3 (b : Bool) : zCO N k B S (jgR [2] 3 (some (zka k b))) (some (zka k b + 1)) := zCO.ofB fun h X f R hX => zc_g2_3 hX.2.1 _
theorem zC_s4 (b : Bool) : zCO N k B S (jgR [2] 4 (some (zka k b))) (some (zka k b + 2)) := zCO.ofB fun h X f R hX => zc_g2_4 hX.2.1 _
theorem zC_s5 (b : Bool) : zCO N k B S (jgR [2] 5 (some (zka k b))) (some (zka k b + 3)) := zCO.ofB fun h X f R hX => zc_g2_5 hX.2.1 _
theorem zC_th {s : Nat} (hs : s < zS B) : zCO N k B S (jaI 0 (some (zka k true + 1)) (nI s)) (nI (zTh S s)) := zCO.ofB fun h X f R hX => by
  have := hX.2.2.1.1
  rw [zc_a1 hX.2.1 (by omega), hX.2.2.2.2.2.2.1.2.2.2.1 s hs]
theorem zC_of {q : Nat} (hq : q < 18) : zCO N k B S (jaI 0 (some (zka k true + 2)) (nI q)) (nI (z8 (zPl S q))) := zCO.ofB fun h X f R hX => by rw [zc_a2 hX.2.1 hq, (hX.2.2.2.2.2.2.1.2.2.2.2 q hq).1]
theorem zC_many {q : Nat} (hq : q < 18) : zCO N k B S (jaI 0 (some (zka k true + 3)) (nI q)) (nI (zPl S q).length) := zCO.ofB fun h X f R hX => by rw [zc_a3 hX.2.1 hq, (hX.2.2.2.2.2.2.1.2.2.2.2 q hq).2]
theorem zC_skin {s : Nat} (hs : s < zS B) : zCO N k B S (fX3_skin (zka k true) (nI s)) (some (k.2.1 s)) := zCO.ofB fun h X f R hX => zs_skin hX.2.1 hX.2.2.2.2.1 hX.2.2.2.2.2.2.1.1 hs _
theorem zC_text {t : Nat} (ht : t < zT B) : zCO N k B S (fX3_text (zka k true) (nI t)) (some (k.2.2.1 t)) := zCO.ofB fun h X f R hX => zs_text hX.2.1 hX.2.2.2.2.1 hX.2.2.2.2.2.2.1.1 ht _
theorem zC_g12_0 {s : Nat} (hs : s < zS B) : zCO N k B S (jgI [12] 0 (some (k.2.1 s))) (nI (zLi B s)) := zCO.ofB fun h X f R hX => zl_g12_0 hX.2.2.2.2.1 hs _
theorem zC_g12_2 {s : Nat} (hs : s < zS B) : zCO N k B S (jgI [12] 2 (some (k.2.1 s))) (nI (zHo B s)) := zCO.ofB fun h X f R hX => zl_g12_2 hX.2.2.2.2.1 hs _
theorem zC_g13_0 {t : Nat} (ht : t < zT B) : zCO N k B S (jgI [13, 14, 15, 16] 0 (some (k.2.2.1 t))) (nI (zGa B t)) := zCO.ofB fun h X f R hX => zl_g13_0 hX.2.2.2.2.1 ht _
theorem zC_g13_1 {t : Nat} (ht : t < zT B) : zCO N k B S (jgI [13, 14, 15, 16] 1 (some (k.2.2.1 t))) (nI (zLo B t)) := zCO.ofB fun h X f R hX => zl_g13_1 hX.2.2.2.2.1 ht _
theorem zC_kind {t : Nat} (ht : t < zT B) : zCO N k B S (d_Text_kind (k.2.2.1 t)) (nI (zKi B t)) := zCO.of fun h X f R hX => zl_kind hX.2.2.2.2.1 ht
theorem zC_has {x l : Nat} (hx : x < 2 ^ 31) (hl : l < 32) : zCO N k B S (fX1_has (nI x) (nI l)) (zb (x.testBit l)) := zCO.of fun h X f R hX => zh_has hx hl _
theorem zC_shows {t : Nat} (ht : t < zT B) (deep damp thin : Int32) : zCO N k B S (fX4_shows N (k.1 3) (some (k.2.2.1 t)) deep damp thin) (zb (zShow B t deep damp thin)) := zCO.ofF fun h X f R hX => zs_shows hX ht deep damp thin f
theorem zC_read {s l : Nat} (hs : s < zS B) (hl : l < 6) (damp : Int32) : zCO N k B S (fX3_read N (zka k true) (nI s) (nI l) damp) (zo (zRd B S s l damp)) := zCO.ofF fun h X f R hX => zs_read hX hs hl damp f
theorem zC_damp : zCO N k B S (fX3_damp (zka k true)) (nI (zDp B (zWk S))) := zCO.of fun h X f R hX => zs_damp hX
theorem zC_ldamp {w : Nat} (hw : w < 2 ^ 31) : zCO N k B S (fX4_damp (k.1 3) (nI w)) (nI (zDp B w)) := zCO.of fun h X f R hX => zl_damp hX.2.2.2.2.1 hw
theorem zC_isWhole {t : Nat} (ht : t < zT B) (damp : Int32) : zCO N k B S (fX3_isWhole N (zka k true) (nI t) damp) (zb (zWh B S t damp)) := zCO.ofF fun h X f R hX => zs_isWhole hX ht damp f
theorem zC_whole (damp : Int32) : zCO N k B S (fX3_whole N (zka k true) damp) (nI (zWl B S damp)) := zCO.ofF fun h X f R hX => zs_whole hX damp f
theorem zC_may {t s l : Nat} (ht : t < zT B) (hs : s < zS B) (hl : l < 6) : zCO N k B S (fX3_mayWrite N (zka k true) (nI t) (nI s) (nI l)) (zb (zCw B S t s l)) := zCO.of fun h X f R hX => zs_mayWrite hX ht hs hl
theorem zC_place {t s : Nat} (ht : t < zT B) (hs : s < zS B) : zCO N k B S (fX3_place N (zka k true) (nI t) (nI s)) (zo (zPc B S t s)) := zCO.of fun h X f R hX => zs_place hX ht hs
theorem zC_open {s : Nat} (hs : s < 3) : zCO N k B S (fX3_open (zka k true) (nI s)) (nI (zOp S s)) := zCO.of fun h X f R hX => zs_open hX hs
theorem zC_mayS {s : Nat} (hs : s < 3) (d : Bool) : zCO N k B S (fX3_mayScrape (zka k true) (nI s) (zb d)) (zb (!decide (zOp S s &&& zw d = 0))) := zCO.of fun h X f R hX => zs_mayScrape hX hs d
theorem zC_isGone {s : Nat} (hs : s < zS B) : zCO N k B S (fX3_isGone (zka k true) (nI s)) (zb (decide (zTh S s = 0))) := zCO.of fun h X f R hX => zs_isGone hX hs
theorem zC_now : zCO N k B S (fX1_now (k.1 0)) (some (k.1 3)) := zCO.bind zC_w1 (zCO.bind zC_lib (zCO.ret _))
theorem zC_skins : zCO N k B S (fX1_skins (k.1 0)) (nI (zS B)) := zCO.bind zC_now (zCO.ofB fun h X f R hX => by
  simp only [zA, zl_g3_2 hX.2.2.2.2.1, zl_r4 hX.2.2.2.2.1, zl_size4 hX.2.2.2.2.1, zR])
theorem zC_texts : zCO N k B S (fX1_texts (k.1 0)) (nI (zT B)) := zCO.bind zC_now (zCO.ofB fun h X f R hX => by
  simp only [zA, zl_g3_3 hX.2.2.2.2.1, zl_r7 hX.2.2.2.2.1, zl_size7 hX.2.2.2.2.1, zR])
theorem zC_sskins : zCO N k B S (fX3_skins (zka k true)) (nI (zS B)) := zCO.ofB fun h X f R hX => zs_skins hX.2.1 hX.2.2.2.2.1 hX.2.2.2.2.2.2.1.1 _
theorem zw_in {x lo hi : Int32} (H : jH) : (fX1_within x lo hi).1 H = some (zb (!decide (x < lo) && !decide (hi < x)), H) := by
  unfold fX1_within
  rw [zI]
  by_cases h1 : x < lo
  · rw [if_pos h1, decide_eq_true h1]; rfl
  · rw [if_neg h1, decide_eq_false h1, zI]
    by_cases h2 : hi < x
    · rw [if_pos h2, decide_eq_true h2]; rfl
    · rw [if_neg h2, decide_eq_false h2]; rfl
theorem zw_inR {x lo hi : Int32} (H : jH) : (fX7_within x lo hi).1 H = some (zb (!decide (x < lo) && !decide (hi < x)), H) := by
  unfold fX7_within
  rw [zI]
  by_cases h1 : x < lo
  · rw [if_pos h1, decide_eq_true h1]; rfl
  · rw [if_neg h1, decide_eq_false h1, zI]
    by_cases h2 : hi < x
    · rw [if_pos h2, decide_eq_true h2]; rfl
    · rw [if_neg h2, decide_eq_false h2]; rfl
theorem zC_within (x lo hi : Int32) : zCO N k B S (fX1_within x lo hi) (zb (!decide (x < lo) && !decide (hi < x))) := zCO.of fun h X f R hX => zw_in _
theorem zR_within (x lo hi : Int32) : zRO N a B S (fX7_within x lo hi) (zb (!decide (x < lo) && !decide (hi < x))) := zRO.of fun h F L A M _ hX => zw_inR _
theorem zix_w (x : Int32) {n : Nat} (hn : n < 2 ^ 30) : (!decide (x < 0) && !decide (nI n - 1 < x)) = (zix x n).isSome := by
  rcases zix_cases x (n := n) (by omega) with ⟨h1, h2 | ⟨h2, h3⟩⟩ | ⟨j, h1, h2, rfl⟩
  · rw [h1, decide_eq_true h2]; rfl
  · have : nI n - 1 < x := by
      rw [fa_lt_, show nI n - 1 = nI n - nI 1 from rfl, pk_sub_toInt hn (by decide)]
      rw [Int32.le_iff_toInt_le, nI_toInt (by omega)] at h3
      omega
    rw [h1, decide_eq_false h2, decide_eq_true this]; rfl
  · have e1 : ¬ nI j < 0 := nI_pos (by omega)
    have e2 : ¬ nI n - 1 < nI j := by
      rw [fa_lt_, show nI n - 1 = nI n - nI 1 from rfl, pk_sub_toInt hn (by decide), nI_toInt (by omega)]
      omega
    rw [h2, decide_eq_false e1, decide_eq_false e2]; rfl
theorem zC_isSkin (x : Int32) : zCO N k B S (fX1_isSkin (k.1 0) x) (zb (zix x (zS B)).isSome) := by
  refine zCO.have_ fun _ hB _ => ?_
  have := hB.1
  rw [← zix_w x (by omega)]
  exact zCO.bind zC_skins (zCO.bind (zC_within _ _ _) (zCO.rnb _))
theorem zC_isText (x : Int32) : zCO N k B S (fX1_isText (k.1 0) x) (zb (zix x (zT B)).isSome) := by
  refine zCO.have_ fun _ hB _ => ?_
  have := hB.2.1
  rw [← zix_w x (by omega)]
  exact zCO.bind zC_texts (zCO.bind (zC_within _ _ _) (zCO.rnb _))
theorem zC_isLine (x y : Int32) : zCO N k B S (fX1_isLine (k.1 0) x y) (zb (zil B x y).isSome) := by
  refine zCO.have_ fun _ hB _ => ?_
  have hs := hB.1
  unfold zil
  refine zCO.bind (zC_isSkin x) ?_
  rcases zix_cases x (n := zS B) (by omega) with ⟨h1, -⟩ | ⟨s, h1, h2, rfl⟩
  · rw [h1]
    exact zCO.ifp rfl zCO.rn0
  · rw [h2]
    have hl := (hB.2.2.2.1 s h1).1.2
    show zCO N k B S _ (zb (match zix y (zLi B s) with
      | none => none
      | some l => some (s, l)).isSome)
    refine zCO.ifn zb1n (zCO.bind zC_w1 (zCO.bind (zC_r2 true) (zCO.bind (zC_skin h1) (zCO.bind (zC_g12_0 h1) (zCO.bind (zC_within _ _ _) ?_)))))
    rw [zix_w y (by omega)]
    rcases zix_cases y (n := zLi B s) (by omega) with ⟨h3, -⟩ | ⟨l, h3, h4, rfl⟩
    · rw [h3]
      exact zCO.ifp rfl zCO.rn0
    · rw [h4]
      exact zCO.ifn zb1n zCO.rn1
end
