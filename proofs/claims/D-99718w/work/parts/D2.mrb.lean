/-! PURE 59: mark() that goes back, and whole: the reference -/
set_option maxRecDepth 100000
def zO_mark (Mk : Nat → Option (zMS × zYy × zEy)) (x : Int32) (b : Bool) : Option Nat := match zir x 0 3 with
  | none => none
  | some m => if (b && (Mk m).isNone) = true then none else some m
def zG_mark (G : zGS) (b : Bool) (o : Option Nat) : zGS := match o with
  | none => G
  | some m => if b = true then (match G.2.2.2.2.2.2 m with
    | none => G
    | some x => ((G.1.1, x.1), G.2.1, G.2.2.1, x.2.1, x.2.2, (0, G.2.2.2.2.2.1.2), G.2.2.2.2.2.2)) else (G.1, G.2.1, G.2.2.1, G.2.2.2.1, G.2.2.2.2.1, G.2.2.2.2.2.1, zMkS G.2.2.2.2.2.2 m (G.1.2, G.2.2.2.1, G.2.2.2.2.1))
section
variable {N a : Nat} {h : jH} {F : Nat → Int32} {L : Nat → Int64} {A : Nat → Nat → Int32} {M : Nat → Nat → Int64} {B : zLB} {S : zMS} {nm : (Nat → Nat) × (Nat → Nat)} {T : (Nat → Nat) × Nat} {Y : zYy} {E : zEy} {U : zUy} {Mk : Nat → Option (zMS × zYy × zEy)}
theorem zRG_mback {c : Nat} (hb : h.2.2.2.2 0 ≤ a) (hok : zGok c ((B, S), nm, T, Y, E, U, Mk)) (hG : zRG N a ((B, S), nm, T, Y, E, U, Mk) F A M) {m : Nat} (hm : m < 4) {x : zMS × zYy × zEy} (hx : Mk m = some x) {y : Int32} (hy : ¬ y = 0) : ∃ A', (fX7_mark_29 N a (nI m) y).1 (rH h a (F, L, A, M)) = some (1, rH h a (upd F 54 0, L, A', M)) ∧ zRG N a ((B, x.1), nm, T, x.2.1, x.2.2, (0, U.2), Mk) (upd F 54 0) A' M := by
  have hN := hG.1.1
  obtain ⟨g1, g2, g3, g4, g5, ⟨g6, g7⟩, ⟨g8, g9⟩, g10⟩ := hG
  obtain ⟨n1, n2⟩ := g10 m hm
  obtain ⟨c1, c2, c3⟩ := n2 x hx
  obtain ⟨⟨x1, -⟩, x2, x3⟩ := hok.2.2.2.2.2.2 m hm x hx
  obtain ⟨A3, hA3⟩ : ∃ A3, A3 = zLS (zLL (zst A 53 m 1) (1 + m) 0) (1 + m) 0 := ⟨_, rfl⟩
  have eA : ∀ k, (k < 38 ∨ 47 < k) → k ≠ 53 → A3 k = A k := fun k hk h53 => by rw [hA3, zLS_o _ _ _ (by omega), zLL_o _ _ _ (by omega), zst_j _ _ h53]
  have hB1 : zBl (zLL (zst A 53 m 1) (1 + m) 0) := fun q hq => by rw [zLL_o _ _ _ (by omega), zst_j _ _ (by decide)]; exact g7 q hq
  have hB3 : zBl A3 := by rw [hA3]; exact hB1.ls (by omega)
  have l53 : ∀ {s : Nat} {Y' : zYy}, zRln s A Y' → zRln s (zst A 53 m 1) Y' := fun hl => hl.eq (fun k a b => zst_j _ _ (by omega))
  have s53 : ∀ {s : Nat} {E' : zEy}, zRse s A E' → zRse s (zLL (zst A 53 m 1) (1 + m) 0) E' := fun hs => hs.eq (fun k a b => by rw [zLL_o _ _ _ (by omega), zst_j _ _ (by omega)])
  have lo : ∀ {s : Nat} {Y' : zYy}, zRln s (zLL (zst A 53 m 1) (1 + m) 0) Y' → zRln s A3 Y' := fun hl => hl.eq (fun k a b => by rw [hA3, zLS_o _ _ _ (by omega)])
  have eC : ∀ k, k ≠ 48 → zuA A3 48 (va_cpy (A3 51) (A3 48) (25 * m) 0 25) k = A3 k := fun k hk => zuA_ne _ _ hk
  refine ⟨zuA A3 48 (va_cpy (A3 51) (A3 48) (25 * m) 0 25), ?_, ?_⟩
  · unfold fX7_mark_29 fX7_mark_47 fX7_mark_59 fX7_mark_119
    rw [zr_g53, zsZ (Or.inr rfl), zr_s53 hb hm, zst_d, zI, if_neg hy, zI, if_neg hy, zc1_ad, zR_ll hb hN (y := 0) (g := 0) rfl rfl (by omega) (by decide) (by omega), zR_ls hb hN hB1 (y := 0) (g := 0) rfl rfl (by omega) (by decide) (by omega), ← hA3, zI, if_neg hy, zr_g51, zr_g48, zc25_mu, jB_eq (zr_cp51_48 hb hN (show 25 * m + 25 ≤ 100 by omega)), zr_p54 hb]
    rfl
  · have e53 : zuA A3 48 (va_cpy (A3 51) (A3 48) (25 * m) 0 25) 53 = zst A 53 m 1 53 := by rw [eC 53 (by omega), hA3, zLS_o _ _ _ (by omega), zLL_o _ _ _ (by omega)]
    refine ⟨g1.to (fun k k1 k2 => by rw [eC k (by omega), eA k (by omega) (by omega)]) x1 ?_, ?_, ?_, ⟨g4.1, (zu_ne _ _ (by decide)).trans g4.2.1, by rw [eC 2 (by omega), eA 2 (by omega) (by omega)]; exact g4.2.2⟩, (lo ((l53 c2).to_ x2.1)).eq (fun k a b => eC k (by omega)), ⟨?_, ?_⟩, ⟨zu_eq _ _ _, fun j hj => (by cases hj)⟩, fun j hj => ?_⟩
    · rw [zRw0_s, zuA_eq]
      have c1 : zRw0 (A3 51) (25 * m) x.1 := by rw [eA 51 (by omega) (by omega)]; exact c1
      exact c1.cp
    · unfold zNS at g2 ⊢
      rw [eC 10 (by omega), eA 10 (by omega) (by omega)]
      exact g2
    · unfold zNT at g3 ⊢
      rw [eC 10 (by omega), eA 10 (by omega) (by omega)]
      exact g3
    · have : zRse 0 A3 x.2.2 := by rw [hA3]; exact (s53 c3).to_ x3.1
      exact this.eq (fun k a b => eC k (by omega))
    · intro q hq
      rw [eC 47 (by omega)]
      exact hB3 q hq
    · obtain ⟨a1, a2⟩ := g10 j hj
      rw [e53]
      refine ⟨?_, fun z hz => ?_⟩
      · by_cases e : j = m
        · rw [e, zst_e]
          show (1 : Int32) = zb (Mk m).isSome
          rw [hx]; rfl
        · rw [zst_q _ _ e]; exact a1
      · obtain ⟨b1, b2, b3⟩ := a2 z hz
        obtain ⟨-, k2, k3⟩ := hok.2.2.2.2.2.2 j hj z hz
        refine ⟨?_, (lo ((l53 b2).ot_ k2.1 (by omega))).eq (fun k a b => eC k (by omega)), ?_⟩
        · rw [eC 51 (by omega), eA 51 (by omega) (by omega)]; exact b1
        · have : zRse (1 + j) A3 z.2.2 := by rw [hA3]; exact (s53 b3).ot_ k3.1 (by omega)
          exact this.eq (fun k a b => eC k (by omega))
theorem zRG_mark {c : Nat} (hb : h.2.2.2.2 0 ≤ a) (hok : zGok c ((B, S), nm, T, Y, E, U, Mk)) (hG : zRG N a ((B, S), nm, T, Y, E, U, Mk) F A M) (x : Int32) (b : Bool) : ∃ F' A', (fX7_mark N a x (zb b)).1 (rH h a (F, L, A, M)) = some (zb (zO_mark Mk x b).isSome, rH h a (F', L, A', M)) ∧ zRG N a (zG_mark ((B, S), nm, T, Y, E, U, Mk) b (zO_mark Mk x b)) F' A' M := by
  obtain ⟨A1, e1, g1⟩ := hG.f0.ro (L := L) (zR_within x 0 3) hb
  unfold fX7_mark fX7_mark_27 zO_mark
  rw [zr_p0 hb, jB_eq e1, zI]
  rcases zir_cases x (lo := 0) (n := 3) (by decide) (by decide) with ⟨h3, h4⟩ | ⟨m, h3, h4, h5, rfl, h6⟩
  · rw [h3, show (!decide (x < 0) && !decide (3 < x)) = false from h4, if_pos zb_f]
    exact ⟨_, _, rfl, g1⟩
  · rw [h5, show (!decide (nI m < 0) && !decide (3 < nI m)) = true from h6, if_neg zb1n, zI]
    dsimp only
    cases b with
    | false =>
      rw [if_pos (show zb false = 0 from rfl), Bool.false_and, if_neg zff]
      obtain ⟨A2, e2, g2⟩ := zRG_mset (L := L) hb hok g1 (show m < 4 by omega)
      exact ⟨_, _, e2, g2⟩
    | true =>
      have e53 : A1 53 m = zb (Mk m).isSome := (g1.2.2.2.2.2.2.2 m (by omega)).1
      rw [if_neg (show ¬ zb true = 0 from zb1n), zr_g53, zr_a53 (by omega), e53, zI]
      cases hmk : Mk m with
      | none =>
        rw [if_pos (show zb (none : Option (zMS × zYy × zEy)).isSome = 0 from rfl), if_pos (show (true && (none : Option (zMS × zYy × zEy)).isNone) = true from rfl)]
        exact ⟨_, _, rfl, g1⟩
      | some z =>
        rw [if_neg (show ¬ zb (some z).isSome = 0 from zb1n), if_neg (show ¬ (true && (some z).isNone) = true from zff)]
        obtain ⟨A2, e2, g2⟩ := zRG_mback (L := L) hb hok g1 (show m < 4 by omega) hmk (y := zb true) zb1n
        refine ⟨_, _, e2, ?_⟩
        unfold zG_mark
        dsimp only
        rw [if_pos rfl, hmk]
        exact g2
theorem zRG_scrape {c : Nat} (hb : h.2.2.2.2 0 ≤ a) (hok : zGok c ((B, S), nm, T, Y, E, U, Mk)) (hG : zRG N a ((B, S), nm, T, Y, E, U, Mk) F A M) (x : Int32) : ∃ F' L' A', (fX7_scrape N a x).1 (rH h a (F, L, A, M)) = some (zV_scr B S 63 (zO_scr B S 63 x), rH h a (F', L', A', M)) ∧ zRG N a ((B, (zSw_scr B S U 63 (zO_scr B S 63 x)).1), nm, T, Y, E, (zSw_scr B S U 63 (zO_scr B S 63 x)).2, Mk) F' A' M := by
  obtain ⟨F1, L1, A1, e1, g1⟩ := zRG_scr (L := L) hb hok hG.f0 x 63
  refine ⟨F1, L1, A1, ?_, g1⟩
  unfold fX7_scrape
  rw [zr_p0 hb, show (63 : Int32) = nI 63 from rfl, jB_eq e1]
  rfl
theorem zRG_third {c : Nat} (hb : h.2.2.2.2 0 ≤ a) (hok : zGok c ((B, S), nm, T, Y, E, U, Mk)) (hG : zRG N a ((B, S), nm, T, Y, E, U, Mk) F A M) (x : Int32) : ∃ F' L' A', (fX7_third N a x).1 (rH h a (F, L, A, M)) = some (zV_scr B S 9 (zO_scr B S 9 x), rH h a (F', L', A', M)) ∧ zRG N a ((B, (zSw_scr B S U 9 (zO_scr B S 9 x)).1), nm, T, Y, E, (zSw_scr B S U 9 (zO_scr B S 9 x)).2, Mk) F' A' M := by
  obtain ⟨F1, L1, A1, e1, g1⟩ := zRG_scr (L := L) hb hok hG.f0 x 9
  refine ⟨F1, L1, A1, ?_, g1⟩
  unfold fX7_third
  rw [zr_p0 hb, show (9 : Int32) = nI 9 from rfl, jB_eq e1]
  rfl
end
