/-! PURE 58: mark() over all that is kept: the reference -/
set_option maxRecDepth 100000
def zMkS (Mk : Nat → Option (zMS × zYy × zEy)) (m : Nat) (x : zMS × zYy × zEy) : Nat → Option (zMS × zYy × zEy) := fun j => if j = m then some x else Mk j
section
variable {N a : Nat} {h : jH} {F : Nat → Int32} {L : Nat → Int64} {A : Nat → Nat → Int32} {M : Nat → Nat → Int64} {B : zLB} {S : zMS} {nm : (Nat → Nat) × (Nat → Nat)} {T : (Nat → Nat) × Nat} {Y : zYy} {E : zEy} {U : zUy} {Mk : Nat → Option (zMS × zYy × zEy)}
/-- a mark is set -/
theorem zRG_mset {c : Nat} (hb : h.2.2.2.2 0 ≤ a) (hok : zGok c ((B, S), nm, T, Y, E, U, Mk)) (hG : zRG N a ((B, S), nm, T, Y, E, U, Mk) F A M) {m : Nat} (hm : m < 4) : ∃ A', (fX7_mark_29 N a (nI m) 0).1 (rH h a (F, L, A, M)) = some (1, rH h a (F, L, A', M)) ∧ zRG N a ((B, S), nm, T, Y, E, U, zMkS Mk m (S, Y, E)) F A' M := by
  have hN := hG.1.1
  have hY40 : Y.1 ≤ 40 := hok.2.2.2.1.1
  have hE8 : E.1 ≤ 8 := hok.2.2.2.2.1.1
  obtain ⟨g1, g2, g3, g4, g5, ⟨g6, g7⟩, ⟨g8, g9⟩, g10⟩ := hG
  obtain ⟨A3, hA3⟩ : ∃ A3, A3 = zLS (zLL (zst A 53 m 1) 0 (1 + m)) 0 (1 + m) := ⟨_, rfl⟩
  have eA : ∀ k, (k < 38 ∨ 47 < k) → k ≠ 53 → A3 k = A k := fun k hk h53 => by rw [hA3, zLS_o _ _ _ (by omega), zLL_o _ _ _ (by omega), zst_j _ _ h53]
  have hB1 : zBl (zLL (zst A 53 m 1) 0 (1 + m)) := fun q hq => by rw [zLL_o _ _ _ (by omega), zst_j _ _ (by decide)]; exact g7 q hq
  have hB3 : zBl A3 := by rw [hA3]; exact hB1.ls (by decide)
  have l53 : ∀ {s : Nat} {Y' : zYy}, zRln s A Y' → zRln s (zst A 53 m 1) Y' := fun hl => hl.eq (fun k a b => zst_j _ _ (by omega))
  have s53 : ∀ {s : Nat} {E' : zEy}, zRse s A E' → zRse s (zLL (zst A 53 m 1) 0 (1 + m)) E' := fun hs => hs.eq (fun k a b => by rw [zLL_o _ _ _ (by omega), zst_j _ _ (by omega)])
  have lo : ∀ {s : Nat} {Y' : zYy}, zRln s (zLL (zst A 53 m 1) 0 (1 + m)) Y' → zRln s A3 Y' := fun hl => hl.eq (fun k a b => by rw [hA3, zLS_o _ _ _ (by omega)])
  refine ⟨zuA A3 51 (va_cpy (A3 48) (A3 51) 0 (25 * m) 25), ?_, ?_⟩
  · unfold fX7_mark_29 fX7_mark_47 fX7_mark_59 fX7_mark_119
    rw [zr_g53, zsZ (Or.inr rfl), zr_s53 hb hm, zst_d, zI, if_pos rfl, zI, if_pos rfl, zc1_ad, zR_ll hb hN (x := 0) (f := 0) rfl rfl (by decide) (by omega) (by omega), zR_ls hb hN hB1 (x := 0) (f := 0) rfl rfl (by decide) (by omega) (by omega), ← hA3, zI, if_pos rfl, zr_g48, zr_g51, zc25_mu, jB_eq (zr_cp48_51 hb hN (show 25 * m + 25 ≤ 100 by omega))]
    rfl
  · have eC : ∀ k, k ≠ 51 → zuA A3 51 (va_cpy (A3 48) (A3 51) 0 (25 * m) 25) k = A3 k := fun k hk => zuA_ne _ _ hk
    refine ⟨g1.to (fun k k1 k2 => by rw [eC k (by omega), eA k (by omega) (by omega)]) g1.2.2.1 ?_, ?_, ?_, ⟨g4.1, g4.2.1, by rw [eC 2 (by omega), eA 2 (by omega) (by omega)]; exact g4.2.2⟩, (lo ((l53 g5).ot_ hY40 (by omega))).eq (fun k a b => eC k (by omega)), ⟨?_, ?_⟩, ⟨g8, by rw [eC 52 (by omega), eA 52 (by omega) (by omega)]; exact g9⟩, fun j hj => ?_⟩
    · have h5 : zRs S A := g1.2.2.2.2.1
      unfold zRs at h5 ⊢
      rw [eC 48 (by omega), eA 48 (by omega) (by omega)]
      exact h5
    · unfold zNS at g2 ⊢
      rw [eC 10 (by omega), eA 10 (by omega) (by omega)]
      exact g2
    · unfold zNT at g3 ⊢
      rw [eC 10 (by omega), eA 10 (by omega) (by omega)]
      exact g3
    · have : zRse 0 A3 E := by rw [hA3]; exact (s53 g6).ot_ hE8 (by omega)
      exact this.eq (fun k a b => eC k (by omega))
    · intro q hq
      rw [eC 47 (by omega)]
      exact hB3 q hq
    · have e53 : zuA A3 51 (va_cpy (A3 48) (A3 51) 0 (25 * m) 25) 53 = zst A 53 m 1 53 := by rw [eC 53 (by omega), hA3, zLS_o _ _ _ (by omega), zLL_o _ _ _ (by omega)]
      have hS0 : zRw0 (A3 48) 0 S := by rw [eA 48 (by omega) (by omega)]; exact zRw0_s.mp g1.2.2.2.2.1
      by_cases e : j = m
      · rw [e53, e, zst_e]
        refine ⟨by show (1 : Int32) = zb (zMkS Mk m (S, Y, E) m).isSome; unfold zMkS; rw [if_pos rfl]; rfl, fun x hx => ?_⟩
        have hx : zMkS Mk m (S, Y, E) m = some x := hx
        unfold zMkS at hx
        rw [if_pos rfl] at hx
        cases hx
        refine ⟨by rw [zuA_eq]; exact hS0.cp, (lo ((l53 g5).to_ hY40)).eq (fun k a b => eC k (by omega)), ?_⟩
        have : zRse (1 + m) A3 E := by rw [hA3]; exact (s53 g6).to_ hE8
        exact this.eq (fun k a b => eC k (by omega))
      · obtain ⟨a1, a2⟩ := g10 j hj
        rw [e53, zst_q _ _ e]
        refine ⟨by show A 53 j = zb (zMkS Mk m (S, Y, E) j).isSome; unfold zMkS; rw [if_neg e]; exact a1, fun x hx => ?_⟩
        have hx : zMkS Mk m (S, Y, E) j = some x := hx
        unfold zMkS at hx
        rw [if_neg e] at hx
        obtain ⟨b1, b2, b3⟩ := a2 x hx
        obtain ⟨-, k2, k3⟩ := hok.2.2.2.2.2.2 j hj x hx
        refine ⟨?_, (lo ((l53 b2).ot_ k2.1 (by omega))).eq (fun k a b => eC k (by omega)), ?_⟩
        · rw [zuA_eq]
          exact b1.ex (fun q hq => by rw [pk_cpy_out (by omega), eA 51 (by omega) (by omega)])
        · have : zRse (1 + j) A3 x.2.2 := by rw [hA3]; exact (s53 b3).ot_ k3.1 (by omega)
          exact this.eq (fun k a b => eC k (by omega))
end
