/-! PURE 60: which text it was: who(), ask(), on both sides -/
set_option maxRecDepth 100000
theorem zjm {x y : Nat} (hx : x < 2 ^ 31) (hy : y < 2 ^ 31) : jmax (nI x) (nI y) = nI (max x y) := by
  unfold jmax
  by_cases h : x < y
  · rw [if_pos (nI_lt h hy), Nat.max_eq_right (by omega)]
  · rw [if_neg (nI_nlt (by omega) hx), Nat.max_eq_left (by omega)]
theorem zCt_an (p q : Nat → Bool) : ∀ n, zCt (fun t => p t && q t) n ≤ zCt p n
  | 0 => Nat.le_refl _
  | n + 1 => by
    have ih := zCt_an p q n
    show zCt _ n + (if (p n && q n) = true then 1 else 0) ≤ zCt p n + (if p n = true then 1 else 0)
    cases p n <;> cases q n <;> simp <;> omega
theorem zCt_mo (p : Nat → Bool) : ∀ {n m : Nat}, n ≤ m → zCt p n ≤ zCt p m
  | n, 0, h => by rw [show n = 0 by omega]; exact Nat.le_refl _
  | n, m + 1, h => by
    by_cases e : n = m + 1
    · rw [e]; exact Nat.le_refl _
    · have ih := zCt_mo p (show n ≤ m by omega)
      show _ ≤ zCt p m + _
      omega
theorem zCt_su (p : Nat → Bool) (n : Nat) : zCt p (n + 1) = zCt p n + (if p n = true then 1 else 0) := rfl
/-- a text is as one that was seen -/
def zSn (B : zLB) (S : zMS) (E : zEy) (t k : Nat) : Bool := decide (zShow B t (nI (E.2 k).2.1) (nI (E.2 k).2.2.1) (nI (zTh S (E.2 k).1)) = (E.2 k).2.2.2)
def zWoo (B : zLB) (S : zMS) (E : zEy) (t : Nat) : Bool := zAl (zSn B S E t) E.1 0
def zO_who (B : zLB) (S : zMS) (E : zEy) : Nat := zMk (zWoo B S E) (zT B)
/-- whether one of a set shows where it is asked -/
def zAp (B : zLB) (S : zMS) (s m d w t : Nat) : Bool := m.testBit t && zShow B t (nI d) (nI w) (nI (zTh S s))
def zAg (B : zLB) (S : zMS) (s m i : Nat) : Nat := max (zCt (zAp B S s m (i / 10) (i % 10)) (zT B)) (zCt m.testBit 6 - zCt (zAp B S s m (i / 10) (i % 10)) (zT B))
def zAk (B : zLB) (S : zMS) (s m : Nat) : Nat → Nat → Option Nat → Nat → Option Nat
  | 0, _, b, _ => b
  | j + 1, i, b, l => if zAg B S s m i < l then zAk B S s m j (i + 1) (some i) (zAg B S s m i) else zAk B S s m j (i + 1) b l
def zO_ask (B : zLB) (S : zMS) (E : zEy) (x : Int32) : Int32 := match zix x (zS B) with
  | none => -1
  | some s => zo (zAk B S s (zO_who B S E) 90 10 none (zCt (zO_who B S E).testBit 6))
theorem zAp_le {B : zLB} (hB : zLok B) (S : zMS) (s m d w : Nat) : zCt (zAp B S s m d w) (zT B) ≤ zCt m.testBit 6 := Nat.le_trans (zCt_an _ _ _) (zCt_mo _ hB.2.1)
theorem zAg_le {B : zLB} (hB : zLok B) (S : zMS) (s m i : Nat) : zAg B S s m i ≤ 6 := by
  have h1 := zAp_le hB S s m (i / 10) (i % 10)
  have h2 := zCt_le m.testBit 6
  unfold zAg
  omega
theorem zWho_lt {B : zLB} (hB : zLok B) (S : zMS) (E : zEy) : zO_who B S E < 64 := Nat.lt_of_lt_of_le (zMk_lt _ _) (Nat.pow_le_pow_right (by decide) hB.2.1 : 2 ^ zT B ≤ 2 ^ 6)
/-- the reference: it only looks, where some of its rows are known -/
def zRP {α : Type} (P : (Nat → Nat → Int32) → Prop) (N a : Nat) (B : zLB) (S : zMS) (m : jM α) (v : α) : Prop := ∀ (h : jH) (F : Nat → Int32) (L : Nat → Int64) (A : Nat → Nat → Int32) (M : Nat → Nat → Int64), h.2.2.2.2 0 ≤ a → zRX N a B S A → P A →
  ∃ A', zScr A A' ∧ m.1 (rH h a (F, L, A, M)) = some (v, rH h a (F, L, A', M))
def zRst (P : (Nat → Nat → Int32) → Prop) : Prop := ∀ A A', zScr A A' → P A → P A'
/-- the component: it only looks, where some of its heap is known -/
def zCP {α : Type} (P : jH → zCR → Prop) (N : Nat) (k : zKA) (B : zLB) (S : zMS) (m : jM α) (v : α) : Prop := ∀ (h : jH) (X : Bool → zSS) (f : Nat → Int32) (R : zCR), zCX N h k true B S X → P h R →
  ∃ f', m.1 (cH h k (X, f, R)) = some (v, cH h k (X, f', R))
section
variable {α β : Type} {N a : Nat} {k : zKA} {B : zLB} {S : zMS} {P : (Nat → Nat → Int32) → Prop} {Q : jH → zCR → Prop}
theorem zRO.p {m : jM α} {v : α} (h : zRO N a B S m v) : zRP P N a B S m v := fun h' F L A M hb hX _ => h h' F L A M hb hX
theorem zRP.ret (v : α) : zRP P N a B S (jR v) v := fun h F L A M _ _ _ => ⟨A, zScr.rf A, rfl⟩
theorem zRP.bind (hP : zRst P) {m : jM α} {K : α → jM β} {v : α} {w : β} (h1 : zRP P N a B S m v) (h2 : zRP P N a B S (K v) w) : zRP P N a B S (jB m K) w := by
  intro h F L A M hb hX hA
  obtain ⟨A1, s1, e1⟩ := h1 h F L A M hb hX hA
  obtain ⟨A2, s2, e2⟩ := h2 h F L A1 M hb (hX.scr s1) (hP _ _ s1 hA)
  exact ⟨A2, s1.tr s2, by rw [jB_eq e1, e2]⟩
theorem zRP.bo (hP : zRst P) {m : jM α} {K : α → jM β} {v : α} {w : β} (h1 : zRO N a B S m v) (h2 : zRP P N a B S (K v) w) : zRP P N a B S (jB m K) w := zRP.bind hP h1.p h2
theorem zRP.ifp {c : Prop} {d : Decidable c} {A1 A2 : jM α} {v : α} (hc : c) (h1 : zRP P N a B S A1 v) : zRP P N a B S (@ite _ c d A1 A2) v := by rw [if_pos hc]; exact h1
theorem zRP.ifn {c : Prop} {d : Decidable c} {A1 A2 : jM α} {v : α} (hc : ¬ c) (h1 : zRP P N a B S A2 v) : zRP P N a B S (@ite _ c d A1 A2) v := by rw [if_neg hc]; exact h1
theorem zRP.int {m : jM Int32} {v : Int32} (hm : ∀ (h : jH) (F : Nat → Int32) (L : Nat → Int64) (A : Nat → Nat → Int32) (M : Nat → Nat → Int64), P A → (jB m jR).1 (rH h a (F, L, A, M)) = (jR v).1 (rH h a (F, L, A, M))) : zRP P N a B S m v := by
  intro h F L A M hb hX hA
  have := hm h F L A M hA
  rw [jB_run] at this
  cases hx : m.1 (rH h a (F, L, A, M)) with
  | none => rw [hx] at this; cases this
  | some z => rw [hx] at this; exact ⟨A, zScr.rf A, this⟩
theorem zCO.p {m : jM α} {v : α} (h : zCO N k B S m v) : zCP Q N k B S m v := fun h' X f R hX _ => h h' X f R hX
theorem zCP.ret (v : α) : zCP Q N k B S (jR v) v := fun h X f R _ _ => ⟨f, rfl⟩
theorem zCP.bind {m : jM α} {K : α → jM β} {v : α} {w : β} (h1 : zCP Q N k B S m v) (h2 : zCP Q N k B S (K v) w) : zCP Q N k B S (jB m K) w := by
  intro h X f R hX hQ
  obtain ⟨f1, e1⟩ := h1 h X f R hX hQ
  obtain ⟨f2, e2⟩ := h2 h X f1 R hX hQ
  exact ⟨f2, by rw [jB_eq e1, e2]⟩
theorem zCP.bo {m : jM α} {K : α → jM β} {v : α} {w : β} (h1 : zCO N k B S m v) (h2 : zCP Q N k B S (K v) w) : zCP Q N k B S (jB m K) w := zCP.bind h1.p h2
theorem zCP.ifp {c : Prop} {d : Decidable c} {A1 A2 : jM α} {v : α} (hc : c) (h1 : zCP Q N k B S A1 v) : zCP Q N k B S (@ite _ c d A1 A2) v := by rw [if_pos hc]; exact h1
theorem zCP.ifn {c : Prop} {d : Decidable c} {A1 A2 : jM α} {v : α} (hc : ¬ c) (h1 : zCP Q N k B S A2 v) : zCP Q N k B S (@ite _ c d A1 A2) v := by rw [if_neg hc]; exact h1
theorem zCP.ofB {m : jM α} {v : α} (hm : ∀ (h : jH) (X : Bool → zSS) (f : Nat → Int32) (R : zCR), zCX N h k true B S X → Q h R → (jB m jR).1 (cH h k (X, f, R)) = (jR v).1 (cH h k (X, f, R))) : zCP Q N k B S m v := by
  intro h X f R hX hQ
  have := hm h X f R hX hQ
  rw [jB_run] at this
  cases hx : m.1 (cH h k (X, f, R)) with
  | none => rw [hx] at this; cases this
  | some z => rw [hx] at this; exact ⟨f, this⟩
theorem zCP.have_ {m : jM α} {v : α} (h1 : 3000 ≤ N → zLok B → zSok B S → zCP Q N k B S m v) : zCP Q N k B S m v := fun h X f R hX hQ => h1 hX.1 hX.2.2.1 hX.2.2.2.1 h X f R hX hQ
end
/-! the reference -/
section
variable {N a : Nat} {B : zLB} {S : zMS} {E : zEy}
def zPe (E : zEy) (A : Nat → Nat → Int32) : Prop := zRse 0 A E
theorem zPe_st (E : zEy) : zRst (zPe E) := fun A A' hs h => zRse.eq h (fun k k1 k2 => hs k (by omega))
theorem zr_who24 (hB : zLok B) (hS : zSok B S) (hE : zEok B E) {t m : Nat} (ht : t < zT B) (k9 : Int32 → Int32 → jM Int32) (v : Int32) : ∀ (j n i : Nat) (b : Bool), i + j = E.1 → j < n → zRP (zPe E) N a B S (fX7_who_94 N k9 a (nI m) (nI t) (zb (b && zAl (zSn B S E t) j i))) v → zRP (zPe E) N a B S (fX7_who_24 N k9 a n (nI m) (nI t) (zb b) (nI i)) v
  | 0, n + 1, i, b, hi, hn, hk => by
    have h8 := hE.1
    rw [show zAl (zSn B S E t) 0 i = true from rfl, Bool.and_true] at hk
    rw [fX7_who_24]
    refine zRP.bo (zPe_st E) zR_o43 (zRP.bind (zPe_st E) (v := nI E.1) (zRP.int fun h F L A M hA => by rw [zr_a43_0, hA.1]) (zRP.ifp (nI_le (by omega) (by omega)) hk))
  | j + 1, n + 1, i, b, hi, hn, hk => by
    have h8 := hE.1
    have hs3 := hB.1
    obtain ⟨hs, -⟩ := hE.2 i (by omega)
    have ih := zr_who24 hB hS hE ht k9 v (m := m) j n (i + 1)
    rw [fX7_who_24]
    unfold fX7_who_86 fX7_who_87
    rw [zc1_da]
    refine zRP.bo (zPe_st E) zR_o43 (zRP.bind (zPe_st E) (v := nI E.1) (zRP.int fun h F L A M hA => by rw [zr_a43_0, hA.1]) (zRP.ifn (nI_ge (by omega) (by omega)) ?_))
    cases b with
    | false =>
      rw [Bool.false_and] at hk
      refine zRP.ifp zb_f ?_
      have ih := ih false (by omega) (by omega)
      rw [Bool.false_and] at ih
      exact ih hk
    | true =>
      rw [Bool.true_and, show zAl (zSn B S E t) (j + 1) i = (zSn B S E t i && zAl (zSn B S E t) j (i + 1)) from rfl] at hk
      have q : ∀ A, zPe E A → A 44 i = nI (E.2 i).1 ∧ A 45 i = nI (E.2 i).2.1 ∧ A 46 i = nI (E.2 i).2.2.1 ∧ A 47 i = zb (E.2 i).2.2.2 := fun A hA => by
        have := hA.2 i (by omega)
        rw [show 8 * 0 + i = i by omega] at this
        exact this
      refine zRP.ifn zb1n (zRP.bo (zPe_st E) zR_o45 (zRP.bind (zPe_st E) (v := nI (E.2 i).2.1) (zRP.int fun h F L A M hA => by rw [zr_a45 (by omega), (q A hA).2.1]) (zRP.bo (zPe_st E) zR_o48 (zRP.bo (zPe_st E) zR_o44 (zRP.bind (zPe_st E) (v := nI (E.2 i).1) (zRP.int fun h F L A M hA => by rw [zr_a44 (by omega), (q A hA).1]) (zRP.bo (zPe_st E) (zR_th (by omega)) (zRP.bo (zPe_st E) zR_o46 (zRP.bind (zPe_st E) (v := nI (E.2 i).2.2.1) (zRP.int fun h F L A M hA => by rw [zr_a46 (by omega), (q A hA).2.2.1]) (zRP.bo (zPe_st E) (zR_shows ht _ _ _) (zRP.bo (zPe_st E) zR_o47 (zRP.bind (zPe_st E) (v := zb (E.2 i).2.2.2) (zRP.int fun h F L A M hA => by rw [zr_a47 (by omega), (q A hA).2.2.2]) ?_)))))))))))
      have hsn : zSn B S E t i = decide (zShow B t (nI (E.2 i).2.1) (nI (E.2 i).2.2.1) (nI (zTh S (E.2 i).1)) = (E.2 i).2.2.2) := rfl
      by_cases c : zShow B t (nI (E.2 i).2.1) (nI (E.2 i).2.2.1) (nI (zTh S (E.2 i).1)) = (E.2 i).2.2.2
      · rw [hsn, decide_eq_true c, Bool.true_and] at hk
        refine zRP.ifp (by rw [c]) ?_
        have ih := ih true (by omega) (by omega)
        rw [Bool.true_and] at ih
        exact ih hk
      · rw [hsn, decide_eq_false c, Bool.false_and] at hk
        have c2 : ¬ zb (zShow B t (nI (E.2 i).2.1) (nI (E.2 i).2.2.1) (nI (zTh S (E.2 i).1))) = zb (E.2 i).2.2.2 := by
          revert c
          cases zShow B t (nI (E.2 i).2.1) (nI (E.2 i).2.2.1) (nI (zTh S (E.2 i).1)) <;> cases (E.2 i).2.2.2 <;> simp [zb]
        refine zRP.ifn c2 ?_
        have ih := ih false (by omega) (by omega)
        rw [Bool.false_and] at ih
        exact ih hk
theorem zr_who9 (hB : zLok B) (hS : zSok B S) (hN : 3000 ≤ N) (hE : zEok B E) : ∀ (j n t : Nat), t + j = zT B → j < n → zRP (zPe E) N a B S (fX7_who_9 N a n (nI (zMk (zWoo B S E) t)) (nI t)) (nI (zO_who B S E))
  | 0, n + 1, t, ht, hn => by
    have hT := hB.2.1
    rw [fX7_who_9, show t = zT B by omega]
    exact zRP.bo (zPe_st E) zR_o10 (zRP.bo (zPe_st E) zR_T (zRP.ifp (nI_le (by omega) (by omega)) (zRP.ret _)))
  | j + 1, n + 1, t, ht, hn => by
    have hT := hB.2.1
    have h8 := hE.1
    have ih := zr_who9 hB hS hN hE j n (t + 1) (by omega) (by omega)
    rw [zMk_s] at ih
    rw [fX7_who_9]
    refine zRP.bo (zPe_st E) zR_o10 (zRP.bo (zPe_st E) zR_T (zRP.ifn (nI_ge (by omega) (by omega)) (zr_who24 hB hS hE (by omega) _ _ E.1 N 0 true (by omega) (by omega) ?_)))
    rw [Bool.true_and]
    unfold fX7_who_94 fX7_who_106
    rw [zc1_da, zshl (by omega), zor, show (nI (zMk (zWoo B S E) t) ||| (0 : Int32)) = nI (zMk (zWoo B S E) t) from (zor _ 0).trans (by rw [Nat.or_zero])]
    cases hw : zWoo B S E t with
    | true =>
      rw [hw, if_pos rfl] at ih
      rw [show zAl (zSn B S E t) E.1 0 = true from hw]
      exact zRP.ifn zb1n ih
    | false =>
      rw [hw, if_neg zff] at ih
      rw [show zAl (zSn B S E t) E.1 0 = false from hw]
      exact zRP.ifp zb_f ih
theorem zr_who (hB : zLok B) (hS : zSok B S) (hN : 3000 ≤ N) (hE : zEok B E) : zRP (zPe E) N a B S (fX7_who_9 N a N 0 0) (nI (zO_who B S E)) := by
  have hT := hB.2.1
  exact zr_who9 hB hS hN hE (zT B) N 0 (by omega) (by omega)
theorem zr_ask45 (hB : zLok B) {s m d w : Nat} (hs : s < 3) (hm : m < 64) (hd : d < 10) (hw : w < 10) (x3 x4 : Int32) (k32 : Int32 → Int32 → Int32 → Int32 → Int32 → jM Int32) (v : Int32) : ∀ (j n t : Nat), t + j = zT B → j < n → zRO N a B S (fX7_ask_109 N k32 a (nI s) (nI m) x3 x4 (nI (10 * d + w)) (nI (zCt (zAp B S s m d w) (zT B)))) v → zRO N a B S (fX7_ask_45 N k32 a n (nI s) (nI m) x3 x4 (nI (10 * d + w)) (nI (zCt (zAp B S s m d w) t)) (nI t)) v
  | 0, n + 1, t, ht, hn, hk => by
    have hT := hB.2.1
    rw [fX7_ask_45, show t = zT B by omega]
    exact zRO.bind zR_o10 (zRO.bind zR_T (zRO.ifp (nI_le (by omega) (by omega)) hk))
  | j + 1, n + 1, t, ht, hn, hk => by
    have hT := hB.2.1
    have ih := zr_ask45 hB hs hm hd hw x3 x4 k32 v j n (t + 1) (by omega) (by omega) hk
    rw [zCt_su] at ih
    rw [fX7_ask_45]
    unfold fX7_ask_99 fX7_ask_100
    rw [zc1_da, zc10_rm (by omega), zc10_dv (by omega), show (10 * d + w) / 10 = d by omega, show (10 * d + w) % 10 = w by omega, show nI (zCt (zAp B S s m d w) t) + (0 : Int32) = nI (zCt (zAp B S s m d w) t) from Int32.add_zero _, zc1_da]
    refine zRO.bind zR_o10 (zRO.bind zR_T (zRO.ifn (nI_ge (by omega) (by omega)) ?_))
    have hap : zAp B S s m d w t = (m.testBit t && zShow B t (nI d) (nI w) (nI (zTh S s))) := rfl
    cases hb : m.testBit t with
    | false =>
      rw [hap, hb, Bool.false_and, if_neg zff] at ih
      exact zRO.ifn (fun q => by rw [zbit1 (by omega) (by omega), hb] at q; cases q) ih
    | true =>
      rw [hap, hb, Bool.true_and] at ih
      refine zRO.ifp ((zbit1 (by omega) (by omega)).mpr hb) (zRO.bind (zRO.nz (by decide)) (zRO.bind zR_o48 (zRO.bind (zR_th hs) (zRO.bind (zRO.nz (by decide)) (zRO.bind (zR_shows (show t < zT B by omega) _ _ _) ?_)))))
      cases hsh : zShow B t (nI d) (nI w) (nI (zTh S s)) with
      | false => rw [hsh, if_neg zff] at ih; exact zRO.ifp zb_f ih
      | true => rw [hsh, if_pos rfl] at ih; exact zRO.ifn zb1n ih
theorem zr_ask32 (hB : zLok B) (hN : 3000 ≤ N) {s m : Nat} (hs : s < 3) (hm : m < 64) : ∀ (j n i l : Nat) (b : Option Nat), i + j = 100 → 10 ≤ i → l ≤ 6 → j < n → zRO N a B S (fX7_ask_32 N a n (nI s) (nI m) (nI l) (zo b) (nI i)) (zo (zAk B S s m j i b l))
  | 0, n + 1, i, l, b, hi, h10, hl, hn => by
    rw [fX7_ask_32]
    exact zRO.ifp (by rw [show i = 100 by omega]; decide) (zRO.ret _)
  | j + 1, n + 1, i, l, b, hi, h10, hl, hn => by
    have hT := hB.2.1
    have h1 := zAp_le hB S s m (i / 10) (i % 10)
    have h2 := zCt_le m.testBit 6
    have h3 := zAg_le hB S s m i
    rw [fX7_ask_32]
    refine zRO.ifn (fun q => by have := (zc100_le (by omega)).mp q; omega) ?_
    have e0 : nI i = nI (10 * (i / 10) + i % 10) := congrArg nI (by omega)
    rw [e0]
    refine zr_ask45 hB hs hm (by omega) (by omega) _ _ _ _ (zT B) N 0 (by omega) (by omega) ?_
    rw [← e0]
    unfold fX7_ask_109 fX7_ask_139
    refine zRO.bind (zR_bits hN hm) ?_
    rw [pk_sub h1, zjm (by omega) (by omega), zc1_da]
    show zRO N a B S (if nI (zAg B S s m i) < nI l then _ else _) (zo (if zAg B S s m i < l then _ else _))
    by_cases c : zAg B S s m i < l
    · rw [if_pos c]
      exact zRO.ifp (nI_lt c (by omega)) (zr_ask32 hB hN hs hm j n (i + 1) (zAg B S s m i) (some i) (by omega) (by omega) h3 (by omega))
    · rw [if_neg c]
      exact zRO.ifn (nI_nlt (by omega) (by omega)) (zr_ask32 hB hN hs hm j n (i + 1) l b (by omega) (by omega) hl (by omega))
end
/-! the component: some cells g of the heap are known -/
def zVw (h : jH) (k : zKA) (g : Nat → Option jC) : Prop := ∀ q e, g q = some e → h.1 q = some e ∧ zcf k q
/-- a list of n, r: what lies in it -/
def zLg (g : Nat → Option jC) (p n : Nat) (r : Nat → Nat) : Prop := ∃ v arr cap f, g p = some (.inl (4, [v, .ref arr, .int (nI n)])) ∧ g arr = some (.inr (4, cap, zRf f)) ∧ n ≤ cap ∧ cap < 2 ^ 31 ∧ ∀ i, i < n → f i = some (r i)
/-- what is seen -/
def zSe (g : Nat → Option jC) (p : Nat) (E : zEy) (r : Nat → Nat) : Prop := zLg g p E.1 r ∧ ∀ i, i < E.1 → ∃ b, g (r i) = some (.inr (0, 4, .inl b)) ∧ b 0 = nI (E.2 i).1 ∧ b 1 = nI (E.2 i).2.1 ∧ b 2 = nI (E.2 i).2.2.1 ∧ b 3 = zb (E.2 i).2.2.2
/-- the component's lines and what is seen lie at p3, p4 -/
def zQv (k : zKA) (g : Nat → Option jC) (p3 p4 : Nat) (h : jH) (R : zCR) : Prop := R.2.2.2.2.1 = p3 ∧ R.2.2.2.2.2 = p4 ∧ zVw h k g
section
variable {N : Nat} {k : zKA} {B : zLB} {S : zMS} {E : zEy} {p3 p n : Nat} {r : Nat → Nat} {g : Nat → Option jC} {q3 q4 : Nat}
theorem zc_e3f : zCP (zQv k g p3 p) N k B S (jgR [0] 3 (some (k.1 0))) (some p3) := zCP.ofB fun h X f R hX hQ => by rw [zc_g0_3 hX.2.1, hQ.1]
theorem zc_e4 : zCP (zQv k g p3 p) N k B S (jgR [0] 4 (some (k.1 0))) (some p) := zCP.ofB fun h X f R hX hQ => by rw [zc_g0_4 hX.2.1, hQ.2.1]
theorem zc_lr (hL : zLg g p n r) : zCP (zQv k g q3 q4) N k B S (jrc 4 (some p)) p := zCP.ofB fun h X f R hX hQ => by
  obtain ⟨v, arr, cap, b, e1, -⟩ := hL
  obtain ⟨a1, a2⟩ := hQ.2.2 _ _ e1
  exact zrc (cH_cd ((cH_fr a2).trans a1)) _
theorem zc_ls (hL : zLg g p n r) : zCP (zQv k g q3 q4) N k B S (fJ2_size p) (nI n) := zCP.ofB fun h X f R hX hQ => by
  obtain ⟨v, arr, cap, b, e1, -⟩ := hL
  obtain ⟨a1, a2⟩ := hQ.2.2 _ _ e1
  exact zal_size ((cH_fr a2).trans a1) _
theorem zc_lg (hL : zLg g p n r) {i : Nat} (hi : i < n) : zCP (zQv k g q3 q4) N k B S (fJ2_get p (nI i)) (some (r i)) := zCP.ofB fun h X f R hX hQ => by
  obtain ⟨v, arr, cap, b, e1, e2, e3, e4, e5⟩ := hL
  obtain ⟨a1, a2⟩ := hQ.2.2 _ _ e1
  obtain ⟨a3, a4⟩ := hQ.2.2 _ _ e2
  rw [zal_get ((cH_fr a2).trans a1) ((cH_fr a4).trans a3) hi e3 e4, e5 i hi]
theorem zc_ek (hL : zSe g p E r) {i : Nat} (hi : i < E.1) : zCP (zQv k g q3 q4) N k B S (jck [1000] (some (r i))) () := zCP.ofB fun h X f R hX hQ => by
  obtain ⟨b, e1, -⟩ := hL.2 i hi
  obtain ⟨a1, a2⟩ := hQ.2.2 _ _ e1
  refine zck (c := 1000) ?_ (by decide) _
  unfold jcd
  rw [cH_fr a2, a1]
  rfl
theorem zc_ea (hL : zSe g p E r) {i : Nat} (hi : i < E.1) : (zCP (zQv k g q3 q4) N k B S (jaI 0 (some (r i)) 0) (nI (E.2 i).1) ∧ zCP (zQv k g q3 q4) N k B S (jaI 0 (some (r i)) 1) (nI (E.2 i).2.1)) ∧ zCP (zQv k g q3 q4) N k B S (jaI 0 (some (r i)) 2) (nI (E.2 i).2.2.1) ∧ zCP (zQv k g q3 q4) N k B S (jaI 0 (some (r i)) 3) (zb (E.2 i).2.2.2) := by
  obtain ⟨b, e1, e2, e3, e4, e5⟩ := hL.2 i hi
  refine ⟨⟨zCP.ofB fun h X f R hX hQ => ?_, zCP.ofB fun h X f R hX hQ => ?_⟩, zCP.ofB fun h X f R hX hQ => ?_, zCP.ofB fun h X f R hX hQ => ?_⟩
  · obtain ⟨a1, a2⟩ := hQ.2.2 _ _ e1
    rw [← e2]
    exact zaI (i := 0) ((cH_fr a2).trans a1) (by decide) (by decide) _
  · obtain ⟨a1, a2⟩ := hQ.2.2 _ _ e1
    rw [← e3]
    exact zaI (i := 1) ((cH_fr a2).trans a1) (by decide) (by decide) _
  · obtain ⟨a1, a2⟩ := hQ.2.2 _ _ e1
    rw [← e4]
    exact zaI (i := 2) ((cH_fr a2).trans a1) (by decide) (by decide) _
  · obtain ⟨a1, a2⟩ := hQ.2.2 _ _ e1
    rw [← e5]
    exact zaI (i := 3) ((cH_fr a2).trans a1) (by decide) (by decide) _
theorem zc_seen2 (hE : zEok B E) (hL : zSe g p E r) {t : Nat} (ht : t < zT B) : ∀ (j n i : Nat), i + j = E.1 → j < n → zCP (zQv k g p3 p) N k B S (fX1_isAsSeen_2 N (k.1 0) n (some (k.2.2.1 t)) (nI i)) (zb (zAl (zSn B S E t) j i))
  | 0, n + 1, i, hi, hn => by
    have h8 := hE.1
    rw [fX1_isAsSeen_2]
    exact zCP.bind zc_e4 (zCP.bind (zc_lr hL.1) (zCP.bind (zc_ls hL.1) (zCP.ifp (nI_le (by omega) (by omega)) (zCO.rnb true).p)))
  | j + 1, n + 1, i, hi, hn => by
    have h8 := hE.1
    obtain ⟨hs, -⟩ := hE.2 i (by omega)
    have hi' : i < E.1 := by omega
    have ih := zc_seen2 hE hL ht j n (i + 1) (by omega) (by omega)
    rw [fX1_isAsSeen_2, show zAl (zSn B S E t) (j + 1) i = (zSn B S E t i && zAl (zSn B S E t) j (i + 1)) from rfl]
    unfold fX1_isAsSeen_62 fX1_isAsSeen_65
    rw [zc1_da]
    refine zCP.bind zc_e4 (zCP.bind (zc_lr hL.1) (zCP.bind (zc_ls hL.1) (zCP.ifn (nI_ge (by omega) (by omega)) (zCP.bind zc_e4 (zCP.bind (zc_lr hL.1) (zCP.bind (zc_lg hL.1 hi') (zCP.bind (zc_ek hL hi') (zCP.bo zC_now (zCP.bind (zc_ea hL hi').1.2 (zCP.bind (zc_ea hL hi').2.1 (zCP.bo zC_w1 (zCP.bo (zC_s3 true) (zCP.bind (zc_ea hL hi').1.1 (zCP.bo (zC_th hs) (zCP.bo zC_r3 (zCP.bo (zC_shows ht _ _ _) (zCP.bind (zc_ea hL hi').2.2 ?_)))))))))))))))))
    have hsn : zSn B S E t i = decide (zShow B t (nI (E.2 i).2.1) (nI (E.2 i).2.2.1) (nI (zTh S (E.2 i).1)) = (E.2 i).2.2.2) := rfl
    cases hb : (E.2 i).2.2.2 with
    | true =>
      rw [hb] at hsn
      refine zCP.ifp rfl ?_
      cases hx : zShow B t (nI (E.2 i).2.1) (nI (E.2 i).2.2.1) (nI (zTh S (E.2 i).1)) with
      | true =>
        rw [hx, decide_eq_true rfl] at hsn
        rw [hsn, Bool.true_and]
        exact zCP.ifp rfl ih
      | false =>
        rw [hx, decide_eq_false zff] at hsn
        rw [hsn, Bool.false_and]
        exact zCP.ifn (show ¬ zb false = 1 by decide) (zCO.rnb false).p
    | false =>
      rw [hb] at hsn
      refine zCP.ifn (show ¬ zb false = 1 by decide) ?_
      cases hx : zShow B t (nI (E.2 i).2.1) (nI (E.2 i).2.2.1) (nI (zTh S (E.2 i).1)) with
      | true =>
        rw [hx, decide_eq_false ztf] at hsn
        rw [hsn, Bool.false_and]
        exact zCP.ifn (show ¬ zb true = 0 by decide) (zCO.rnb false).p
      | false =>
        rw [hx, decide_eq_true rfl] at hsn
        rw [hsn, Bool.true_and]
        exact zCP.ifp rfl ih
theorem zc_who4 (hB : zLok B) (hN : 3000 ≤ N) (hE : zEok B E) (hL : zSe g p E r) : ∀ (j n t : Nat), t + j = zT B → j < n → zCP (zQv k g p3 p) N k B S (fX1_who_4 N (k.1 0) n (nI (zMk (zWoo B S E) t)) (nI t)) (nI (zO_who B S E))
  | 0, n + 1, t, ht, hn => by
    have hT := hB.2.1
    rw [fX1_who_4, show t = zT B by omega]
    exact zCP.bo zC_texts (zCP.ifp (nI_le (by omega) (by omega)) (zCP.ret _))
  | j + 1, n + 1, t, ht, hn => by
    have hT := hB.2.1
    have h8 := hE.1
    have ih := zc_who4 hB hN hE hL j n (t + 1) (by omega) (by omega)
    rw [zMk_s] at ih
    rw [fX1_who_4]
    unfold fX1_who_33
    rw [zc1_da, zshl (by omega), zor]
    refine zCP.bo zC_texts (zCP.ifn (nI_ge (by omega) (by omega)) (zCP.bo zC_w1 (zCP.bo (zC_r2 true) (zCP.bo (zC_text (by omega)) (zCP.bind (zc_seen2 hE hL (by omega) E.1 N 0 (by omega) (by omega)) ?_)))))
    cases hw : zWoo B S E t with
    | true =>
      rw [hw, if_pos rfl] at ih
      rw [show zAl (zSn B S E t) E.1 0 = true from hw]
      exact zCP.ifn zb1n ih
    | false =>
      rw [hw, if_neg zff] at ih
      rw [show zAl (zSn B S E t) E.1 0 = false from hw]
      exact zCP.ifp zb_f ih
theorem zC_op_who (hE : zEok B E) (hL : zSe g p E r) : zCP (zQv k g p3 p) N k B S (fX1_who N (k.1 0)) (nI (zO_who B S E)) := by
  refine zCP.have_ fun hN hB hS => ?_
  have hT := hB.2.1
  exact zc_who4 hB hN hE hL (zT B) N 0 (by omega) (by omega)
theorem zc_ask49 (hB : zLok B) {s m d w : Nat} (hs : s < zS B) (hm : m < 64) (x3 x4 : Int32) (k36 : Int32 → Int32 → Int32 → Int32 → Int32 → Int32 → jM Int32) (v : Int32) : ∀ (j n t : Nat), t + j = zT B → j < n → zCO N k B S (fX1_ask_108 N k36 (k.1 0) (nI s) (nI m) x3 x4 (nI d) (nI w) (nI (zCt (zAp B S s m d w) (zT B)))) v → zCO N k B S (fX1_ask_49 N k36 (k.1 0) n (nI s) (nI m) x3 x4 (nI d) (nI w) (nI (zCt (zAp B S s m d w) t)) (nI t)) v
  | 0, n + 1, t, ht, hn, hk => by
    have hT := hB.2.1
    rw [fX1_ask_49, show t = zT B by omega]
    exact zCO.bind zC_texts (zCO.ifp (nI_le (by omega) (by omega)) hk)
  | j + 1, n + 1, t, ht, hn, hk => by
    have hT := hB.2.1
    have ih := zc_ask49 hB hs hm x3 x4 k36 v j n (t + 1) (by omega) (by omega) hk
    rw [zCt_su] at ih
    rw [fX1_ask_49]
    unfold fX1_ask_102
    rw [zc1_da, zc1_da]
    refine zCO.bind zC_texts (zCO.ifn (nI_ge (by omega) (by omega)) (zCO.bind (zC_has (by omega) (by omega)) ?_))
    have hap : zAp B S s m d w t = (m.testBit t && zShow B t (nI d) (nI w) (nI (zTh S s))) := rfl
    cases hb : m.testBit t with
    | false =>
      rw [hap, hb, Bool.false_and, if_neg zff] at ih
      exact zCO.ifp zb_f ih
    | true =>
      rw [hap, hb, Bool.true_and] at ih
      refine zCO.ifn zb1n (zCO.bind zC_now (zCO.bind zC_w1 (zCO.bind (zC_r2 true) (zCO.bind (zC_text (by omega)) (zCO.bind zC_w1 (zCO.bind (zC_s3 true) (zCO.bind (zC_th hs) (zCO.bind zC_r3 (zCO.bind (zC_shows (by omega) _ _ _) ?_)))))))))
      cases hsh : zShow B t (nI d) (nI w) (nI (zTh S s)) with
      | false => rw [hsh, if_neg zff] at ih; exact zCO.ifp zb_f ih
      | true => rw [hsh, if_pos rfl] at ih; exact zCO.ifn zb1n ih
theorem zc_ask36 (hB : zLok B) (hN : 3000 ≤ N) {s m d J : Nat} (hs : s < zS B) (hm : m < 64) (hd : d < 10) (k26 : Int32 → Int32 → Int32 → Int32 → Int32 → jM Int32) (hk : ∀ l b, l ≤ 6 → zCO N k B S (k26 (nI s) (nI m) (zo b) (nI l) (nI (d + 1))) (zo (zAk B S s m J (10 * d + 10) b l))) : ∀ (j n w l : Nat) (b : Option Nat), w + j = 10 → l ≤ 6 → j < n → zCO N k B S (fX1_ask_36 N k26 (k.1 0) n (nI s) (nI m) (zo b) (nI l) (nI d) (nI w)) (zo (zAk B S s m (J + j) (10 * d + w) b l))
  | 0, n + 1, w, l, b, hw, hl, hn => by
    rw [fX1_ask_36]
    unfold fX1_ask_151
    rw [zc1_da, show w = 10 by omega]
    exact zCO.ifp (by decide) (hk l b hl)
  | j + 1, n + 1, w, l, b, hw, hl, hn => by
    have hT := hB.2.1
    have h1 := zAp_le hB S s m d w
    have h2 := zCt_le m.testBit 6
    have h3 := zAg_le hB S s m (10 * d + w)
    rw [fX1_ask_36]
    refine zCO.ifn (fun q => by have := (zc9_gt (by omega)).mp q; omega) (zc_ask49 hB hs hm _ _ _ _ (zT B) N 0 (by omega) (by omega) ?_)
    unfold fX1_ask_108 fX1_ask_145
    refine zCO.bind (zC_bits hN hm) ?_
    have eg : zAg B S s m (10 * d + w) = max (zCt (zAp B S s m d w) (zT B)) (zCt m.testBit 6 - zCt (zAp B S s m d w) (zT B)) := by
      unfold zAg
      rw [show (10 * d + w) / 10 = d by omega, show (10 * d + w) % 10 = w by omega]
    rw [pk_sub h1, zjm (by omega) (by omega), zc1_da, zc10_mu, nI_add, ← eg]
    show zCO N k B S (if nI (zAg B S s m (10 * d + w)) < nI l then _ else _) (zo (if zAg B S s m (10 * d + w) < l then _ else _))
    by_cases c : zAg B S s m (10 * d + w) < l
    · rw [if_pos c]
      exact zCO.ifp (nI_lt c (by omega)) (zc_ask36 hB hN hs hm hd k26 hk j n (w + 1) (zAg B S s m (10 * d + w)) (some (10 * d + w)) (by omega) h3 (by omega))
    · rw [if_neg c]
      exact zCO.ifn (nI_nlt (by omega) (by omega)) (zc_ask36 hB hN hs hm hd k26 hk j n (w + 1) l b (by omega) hl (by omega))
theorem zc_ask26 (hB : zLok B) (hN : 3000 ≤ N) {s m : Nat} (hs : s < zS B) (hm : m < 64) : ∀ (j n d l : Nat) (b : Option Nat), d + j = 10 → l ≤ 6 → j < n → zCO N k B S (fX1_ask_26 N (k.1 0) n (nI s) (nI m) (zo b) (nI l) (nI d)) (zo (zAk B S s m (10 * j) (10 * d) b l))
  | 0, n + 1, d, l, b, hd, hl, hn => by
    rw [fX1_ask_26, show d = 10 by omega]
    exact zCO.ifp (by decide) (zCO.ret _)
  | j + 1, n + 1, d, l, b, hd, hl, hn => by
    rw [fX1_ask_26]
    refine zCO.ifn (fun q => by have := (zc9_gt (by omega)).mp q; omega) ?_
    exact zc_ask36 (J := 10 * j) hB hN hs hm (by omega) _ (fun l b hl => zc_ask26 hB hN hs hm j n (d + 1) l b (by omega) hl (by omega)) 10 N 0 l b rfl hl (by omega)
theorem zC_op_ask (hE : zEok B E) (hL : zSe g p E r) (x : Int32) : zCP (zQv k g p3 p) N k B S (fX1_ask N (k.1 0) x) (zO_ask B S E x) := by
  refine zCP.have_ fun hN hB hS => ?_
  have hS3 := hB.1
  unfold zO_ask
  refine zCP.bo (zC_isSkin x) ?_
  rcases zix_cases x (n := zS B) (by omega) with ⟨h3, -⟩ | ⟨s, h3, h4, rfl⟩
  · rw [h3]; exact zCP.ifp rfl (zCP.ret _)
  · rw [h4]
    refine zCP.ifn zb1n (zCP.bind (zC_op_who hE hL) (zCP.bo (zC_bits hN (zWho_lt hB S E)) (zc_ask26 hB hN h3 (zWho_lt hB S E) 9 N 1 _ none rfl (zCt_le _ _) (by omega)).p))
end
/-! the reference, over all that is kept -/
section
variable {N a : Nat} {h : jH} {F : Nat → Int32} {L : Nat → Int64} {A : Nat → Nat → Int32} {M : Nat → Nat → Int64} {B : zLB} {S : zMS} {nm : (Nat → Nat) × (Nat → Nat)} {T : (Nat → Nat) × Nat} {Y : zYy} {E : zEy} {U : zUy} {Mk : Nat → Option (zMS × zYy × zEy)}
theorem zRG.rp {α : Type} {m : jM α} {v : α} (hT : zRP (zPe E) N a B S m v) (hb : h.2.2.2.2 0 ≤ a) (hG : zRG N a ((B, S), nm, T, Y, E, U, Mk) F A M) : ∃ A', m.1 (rH h a (F, L, A, M)) = some (v, rH h a (F, L, A', M)) ∧ zRG N a ((B, S), nm, T, Y, E, U, Mk) F A' M := by
  obtain ⟨A', hs, e⟩ := hT h F L A M hb hG.1 hG.2.2.2.2.2.1.1
  exact ⟨A', e, hG.sh (hG.1.scr hs) rfl rfl (fun k k1 k2 _ _ _ _ => hs k k1)⟩
theorem zRG_who {c : Nat} (hb : h.2.2.2.2 0 ≤ a) (hok : zGok c ((B, S), nm, T, Y, E, U, Mk)) (hG : zRG N a ((B, S), nm, T, Y, E, U, Mk) F A M) : ∃ F' A', (fX7_who N a).1 (rH h a (F, L, A, M)) = some (nI (zO_who B S E), rH h a (F', L, A', M)) ∧ zRG N a ((B, S), nm, T, Y, E, U, Mk) F' A' M := by
  obtain ⟨A1, e1, g1⟩ := hG.f0.rp (L := L) (zr_who hok.1 hG.1.2.2.1 hG.1.1 hok.2.2.2.2.1) hb
  refine ⟨_, _, ?_, g1⟩
  unfold fX7_who
  rw [zr_p0 hb]
  exact e1
theorem zRG_ask {c : Nat} (hb : h.2.2.2.2 0 ≤ a) (hok : zGok c ((B, S), nm, T, Y, E, U, Mk)) (hG : zRG N a ((B, S), nm, T, Y, E, U, Mk) F A M) (x : Int32) : ∃ F' A', (fX7_ask N a x).1 (rH h a (F, L, A, M)) = some (zO_ask B S E x, rH h a (F', L, A', M)) ∧ zRG N a ((B, S), nm, T, Y, E, U, Mk) F' A' M := by
  have hB : zLok B := hok.1
  have hS3 := hB.1
  obtain ⟨A1, e1, g1⟩ := hG.f0.ro (L := L) (zR_isSkin x) hb
  unfold fX7_ask zO_ask
  rw [zr_p0 hb, jB_eq e1, zI]
  rcases zix_cases x (n := zS B) (by omega) with ⟨h3, -⟩ | ⟨s, h3, h4, rfl⟩
  · rw [h3, if_pos (show zb (none : Option Nat).isSome = 0 from rfl)]
    exact ⟨_, _, rfl, g1⟩
  · rw [h4, if_neg (show ¬ zb (some s).isSome = 0 from zb1n)]
    obtain ⟨F2, A2, e2, g2⟩ := zRG_who (L := L) hb hok g1
    have hW := zWho_lt hB S E
    obtain ⟨A3, e3, g3⟩ := g2.ro (L := L) (zRO.bind (K := fun y3 => fX7_ask_32 N a N (nI s) (nI (zO_who B S E)) y3 (-1) 10) (zR_bits hG.1.1 hW) (zr_ask32 hB hG.1.1 (show s < 3 by omega) hW 90 N 10 _ none rfl (by decide) (zCt_le _ _) (by have := hG.1.1; omega))) hb
    refine ⟨_, _, ?_, g3⟩
    rw [jB_eq e2]
    exact e3
end
