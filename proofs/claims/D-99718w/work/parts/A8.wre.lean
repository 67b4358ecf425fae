/-! PURE 35: the reference works out what the plain parser says: parts, the whole -/
set_option maxRecDepth 100000
section
variable {N : Nat} {h : jH} {a : Nat} {F : Nat → Int32} {L : Nat → Int64} {M : Nat → Nat → Int64}
theorem zTL_whole (hb : h.2.2.2.2 0 ≤ a) {E d : Nat} (hE : E ≤ 2000) (hd : d < 7) {u : zTau} {m0 : Nat} {part : Nat → zPR} (hs : zTL (zPQ N h a F L M E d) part) : zTL (zRun2 N h a F L M E d zK4 (zE4 d) (fun A => zW3 A d)) (zAll u m0 part) := zTL_all hb hE hd (zTL_test hb hE hd (zTL_sum hb hE hd (zTL_term hb hE hd hs)))
theorem zOpn_e4 (A : Nat → Nat → Int32) (d : Nat) (b : Int32) : zE4 d (zOpn1 A d b) := by
  unfold zOpn1
  refine ⟨?_, ?_, ?_, ?_, ?_⟩
  · rw [zst_j _ _ (by decide), zst_j _ _ (by decide), zst_j _ _ (by decide), zst_j _ _ (by decide), zst_e]
  · rw [zst_j _ _ (by decide), zst_j _ _ (by decide), zst_j _ _ (by decide), zst_e]
  · rw [zst_j _ _ (by decide), zst_j _ _ (by decide), zst_e]
  · rw [zst_j _ _ (by decide), zst_e]
  · rw [zst_e]
theorem zOpn_34 (A : Nat → Nat → Int32) (d : Nat) (b : Int32) : zOpn1 A d b 34 d = b := by
  unfold zOpn1
  rw [zst_j _ _ (by decide), zst_j _ _ (by decide), zst_j _ _ (by decide), zst_j _ _ (by decide), zst_j _ _ (by decide), zst_e]
theorem zfv_vl {f : Nat} (hf : f < 4) (A : Nat → Nat → Int32) : zvl (zfv f) A = A 35 (f + 1) := by
  have : f = 0 ∨ f = 1 ∨ f = 2 ∨ f = 3 := by omega
  rcases this with e | e | e | e <;> subst e <;> rfl
theorem zR_wpart (hb : h.2.2.2.2 0 ≤ a) (hN : 3000 ≤ N) {E : Nat} (hE : E ≤ 2000) {u : zTau} (hu : ∀ i, u.2.2.1 i < 10000) {m0 : Nat} : ∀ r d, d + r = 5 → zTL (zPQ N h a F L M E d) (zPart u m0 r)
  | 0, d, hd => by
    intro i x hx
    unfold zPart at hx
    split at hx <;> cases hx
  | r + 1, d, hd => by
    have ih := zR_wpart hb hN hE hu (m0 := m0) r (d + 1) (by omega)
    intro i x hx
    rw [zPart] at hx
    cases hf : zfa u i with
    | some f =>
      rw [hf] at hx
      cases hx
      intro A k hy
      obtain ⟨⟨y1, -⟩, y2, y3⟩ := hy
      have hf4 := (zfa_lt hf).1
      refine ⟨A, zWq.rf _ _, fun m => ?_⟩
      rw [zfv_vl hf4]
      exact zWk_atom hb hN y3 hE y2 y1 (by omega) (Or.inl ⟨by omega, rfl⟩)
    | none =>
      rw [hf] at hx
      dsimp only at hx
      by_cases hw : zisw u i 10631 = true
      · rw [if_pos hw] at hx
        unfold zNot at hx
        cases hp : zPart u m0 r (i + 1) with
        | inl e => rw [hp] at hx; cases hx
        | inr y =>
          rw [hp] at hx
          cases hx
          intro A k hy
          obtain ⟨⟨y1, y1'⟩, y2, y3⟩ := hy
          have y2 : k + (y.2.2.length + 1) ≤ E := y2
          have q1 : zWq (d + 1) A (zOpn1 A (d + 1) 1) := (zWq.rf _ _).opn _ (Nat.le_refl _)
          obtain ⟨A3, r1, run⟩ := ih _ _ hp (zOpn1 A (d + 1) 1) (k + 1) ⟨by rw [q1.1 22 (by omega)]; exact y1', by omega, by rw [q1.1 21 (by omega)]; exact y3⟩
          have e : ∀ v : Int32, zPw0 (zOpn1 A (d + 1) 1 34) (d + 1) v = zPw0 (A 34) d (if v = 0 then 1 else 0) := by
            intro v
            rw [zPw0, zOpn_34, if_pos rfl]
            exact zPw0_eq (fun q hq => q1.2 34 q (by omega))
          refine ⟨A3, q1.tr (r1.dn (by omega)), fun m => ?_⟩
          rw [q1.vl, e] at run
          show zWW N h a F L M (m + (y.2.2.length + 1)) d k A = zWW N h a F L M m (zPw0 (A 34) d (if zvl y.2.1 A = 0 then 1 else 0)).1 (k + (y.2.2.length + 1)) (zTer1 A3 (zPw0 (A 34) d (if zvl y.2.1 A = 0 then 1 else 0)))
          rw [← Nat.add_assoc, zWk_opn hb true y3 hE (by omega) y1 (by omega), if_pos rfl, run, Nat.add_right_comm k, Nat.add_assoc k]
      · rw [if_neg hw] at hx
        by_cases hk : u.1 i = 2
        · rw [if_pos hk] at hx
          cases hx
          intro A k hy
          obtain ⟨⟨y1, -⟩, y2, y3⟩ := hy
          have := hu i
          refine ⟨A, zWq.rf _ _, fun m => ?_⟩
          exact zWk_atom hb hN y3 hE y2 y1 (by omega) (Or.inr ⟨by omega, by omega, by rw [Nat.add_sub_cancel_left]; rfl⟩)
        · rw [if_neg hk] at hx
          by_cases ho : ziss u i 40 = true
          · rw [if_pos ho] at hx
            unfold zCls at hx
            cases hp : zAll u m0 (zPart u m0 r) (i + 1) with
            | inl e => rw [hp] at hx; cases hx
            | inr y =>
              rw [hp] at hx
              dsimp only at hx
              by_cases hc : ziss u y.1 41 = true
              · rw [if_pos hc] at hx
                cases hx
                intro A k hy
                obtain ⟨⟨y1, y1'⟩, y2, y3⟩ := hy
                obtain ⟨z1, z2, -⟩ := zHc_app y1'
                have el : (28 :: (y.2.2 ++ [29])).length = y.2.2.length + 1 + 1 := by rw [List.length_cons, List.length_append, List.length_singleton]
                dsimp only at y2
                rw [el] at y2
                have q1 : zWq (d + 1) A (zOpn1 A (d + 1) 0) := (zWq.rf _ _).opn _ (Nat.le_refl _)
                obtain ⟨A3, r1, r2, r3, run⟩ := zTL_whole hb hE (show d + 1 < 7 by omega) ih _ _ hp (zOpn1 A (d + 1) 0) (k + 1) ⟨by rw [q1.1 22 (by omega)]; exact z1, by omega, by rw [q1.1 21 (by omega)]; exact y3⟩ (fun x => by rw [zPw0, zOpn_34, if_neg (by decide)]) (zOpn_e4 _ _ _)
                have r3 : zW3 A3 (d + 1) = zvl y.2.1 (zOpn1 A (d + 1) 0) := r3
                rw [q1.vl] at r3
                have q2 := q1.tr r1
                refine ⟨zTes1 A3 (d + 1), q2.tes (Nat.le_refl _), fun m => ?_⟩
                dsimp only
                rw [el]
                have e34 : zPw0 (zTes1 A3 (d + 1) 34) d (zvl y.2.1 A) = zPw0 (A 34) d (zvl y.2.1 A) := zPw0_eq (fun q hq => (q2.tes (Nat.le_refl _)).2 34 q (by omega))
                rw [show m + (y.2.2.length + 1 + 1) = (m + 1 + y.2.2.length) + 1 by omega, zWk_opn hb false y3 hE (by omega) y1 (by omega), if_neg zff, run, zWk_cl hb hN (by rw [q2.1 21 (by omega)]; exact y3) hE (by omega) (by rw [q2.1 22 (by omega)]; exact z2) (by omega), r3, e34]
                rw [show k + 1 + y.2.2.length + 1 = k + (y.2.2.length + 1 + 1) by omega]
              · rw [if_neg hc] at hx; cases hx
          · rw [if_neg ho] at hx; cases hx
end
theorem zR_worked {N a : Nat} (hN : 3000 ≤ N) {u : zTau} (hu : ∀ i, u.2.2.1 i < 10000) {m0 i : Nat} {x : Nat × zVV × List Nat} (hx : zWhole u m0 i = .inr x) {A : Nat → Nat → Int32} {k E : Nat} (h20 : A 20 0 = nI k) (h21 : A 21 0 = nI E) (hE : E ≤ 2000) (hk : k + x.2.2.length = E) (hc : zHc (A 22) k x.2.2) (h : jH) (F : Nat → Int32) (L : Nat → Int64) (A' : Nat → Nat → Int32) (M : Nat → Nat → Int64) (hb : h.2.2.2.2 0 ≤ a) (a20 : A' 20 = A 20) (a21 : A' 21 = A 21) (a22 : A' 22 = A 22) : ∃ A'' : Nat → Nat → Int32, (∀ k, k < 26 ∨ 34 < k → A'' k = A' k) ∧ (fX7_worked N a 0).1 (rH h a (F, L, A', M)) = some (x.2.1 (A' 35 1) (A' 35 2) (A' 35 3) (A' 35 4), rH h a (F, L, A'', M)) := by
  unfold zWhole at hx
  cases hp : zAll u m0 (zPart u m0 5) i with
  | inl e => rw [hp] at hx; cases hx
  | inr y =>
    rw [hp] at hx
    dsimp only at hx
    by_cases h59 : ziss u y.1 59 = true
    · rw [if_pos h59] at hx
      cases hx
      have hT := zTL_whole (N := N) (F := F) (L := L) (M := M) hb hE (show 0 < 7 by omega) (zR_wpart hb hN hE hu (m0 := m0) 5 0 rfl) i y hp
      have q0 : zWq 0 A' (zst (zst (zst (zst (zst A' 27 0 0) 29 0 0) 30 0 0) 31 0 20) 33 0 0) := (((((zWq.rf _ _).st _ (by omega) (by omega) (Nat.le_refl _)).st _ (by omega) (by omega) (Nat.le_refl _)).st _ (by omega) (by omega) (Nat.le_refl _)).st _ (by omega) (by omega) (Nat.le_refl _)).st _ (by omega) (by omega) (Nat.le_refl _)
      obtain ⟨A3, r1, r2, r3, run⟩ := hT (zst (zst (zst (zst (zst A' 27 0 0) 29 0 0) 30 0 0) 31 0 20) 33 0 0) k ⟨by rw [q0.1 22 (by omega), a22]; exact hc, by dsimp only at hk; omega, by rw [q0.1 21 (by omega), a21]; exact h21⟩ (fun _ => rfl) ⟨by rw [zst_j _ _ (by decide), zst_j _ _ (by decide), zst_j _ _ (by decide), zst_j _ _ (by decide), zst_e], by rw [zst_j _ _ (by decide), zst_j _ _ (by decide), zst_j _ _ (by decide), zst_e], by rw [zst_j _ _ (by decide), zst_j _ _ (by decide), zst_e], by rw [zst_j _ _ (by decide), zst_e], by rw [zst_e]⟩
      have r3 : zW3 A3 0 = zvl y.2.1 (zst (zst (zst (zst (zst A' 27 0 0) 29 0 0) 30 0 0) 31 0 20) 33 0 0) := r3
      rw [q0.vl] at r3
      have q2 := q0.tr r1
      refine ⟨zTes1 A3 0, (q2.tes (Nat.le_refl _)).1, ?_⟩
      unfold fX7_worked
      have e0 : (zst (zst (zst (zst (zst A' 27 0 0) 29 0 0) 30 0 0) 31 0 20) 33 0 0) 20 0 = nI k := by rw [q0.1 20 (by omega), a20, h20]
      have hk : k + y.2.2.length = E := hk
      have run := run (N - y.2.2.length - 1 + 1)
      rw [show N - y.2.2.length - 1 + 1 + y.2.2.length = N by omega, hk, zWk_end hb (by rw [q2.1 21 (by omega), a21]; exact h21) hE, r3] at run
      have eo := zW_opens (α := Int32) (F := F) (L := L) (A := A') (M := M) hb (show 0 < 7 by omega) (fun _ => jB (jgR [7] 20 (some a)) fun y2 => jB (jaI 0 y2 0) fun y3 => fX7_worked_14 N a N 0 0 y3)
      refine Eq.trans eo ?_
      rw [zr_g20, zr_a20_0, e0]
      exact run
    · rw [if_neg h59] at hx; cases hx
theorem zOfT_o (t : Nat → Nat) (n i : Nat) : (zOfT t n).2.2.1 i < 10000 := zTo_lt _ _ _
