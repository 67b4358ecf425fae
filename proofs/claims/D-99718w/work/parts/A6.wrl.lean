/-! PURE 33: the reference works an expression out: a code -/
set_option maxRecDepth 100000
section
variable {N : Nat} {h : jH} {a : Nat} {F : Nat → Int32} {L : Nat → Int64} {A : Nat → Nat → Int32} {M : Nat → Nat → Int64}
theorem zWk_hd {m d k E c : Nat} (hE : A 21 0 = nI E) (hE2 : E ≤ 2000) (hk : k < E) (hc : A 22 k = nI c) (hc2 : c < 100000) : zWW N h a F L M (m + 1) d k A = (if c = 28 then (fX7_worked_46 N (fX7_worked_14 N a m) a 0 (nI d) (nI k) (nI c)).1 (rH h a (F, L, A, M)) else (if c = 30 then (fX7_worked_46 N (fX7_worked_14 N a m) a 0 (nI d) (nI k) (nI c)).1 (rH h a (F, L, A, M)) else (if c = 20 then (fX7_worked_89 N (fX7_worked_14 N a m) a 0 (nI d) (nI k) (nI c)).1 (rH h a (F, L, A, M)) else (if c = 21 then (fX7_worked_89 N (fX7_worked_14 N a m) a 0 (nI d) (nI k) (nI c)).1 (rH h a (F, L, A, M)) else (if c = 22 then (jB (jsI 0 (some (a + 24)) (nI d) (nI c)) fun _ => fX7_worked_329 N (fX7_worked_14 N a m) a 0 (nI d) (nI k)).1 (rH h a (F, L, A, M)) else (if c = 24 then (fX7_worked_137 N (fX7_worked_14 N a m) a 0 (nI d) (nI k) (nI c)).1 (rH h a (F, L, A, M)) else (if c = 25 then (fX7_worked_137 N (fX7_worked_14 N a m) a 0 (nI d) (nI k) (nI c)).1 (rH h a (F, L, A, M)) else (if c = 26 then (fX7_worked_194 N (fX7_worked_14 N a m) a 0 (nI d) (nI k) (nI c)).1 (rH h a (F, L, A, M)) else (if c = 27 then (fX7_worked_194 N (fX7_worked_14 N a m) a 0 (nI d) (nI k) (nI c)).1 (rH h a (F, L, A, M)) else (if c < 100 then (if 20 ≤ c then (fX7_worked_243 N (fX7_worked_14 N a m) a 0 (nI d) (nI k) (nI c) 0).1 (rH h a (F, L, A, M)) else (jB (jaI 0 (some (a + 26)) (nI c)) fun y6 => fX7_worked_243 N (fX7_worked_14 N a m) a 0 (nI d) (nI k) (nI c) y6).1 (rH h a (F, L, A, M))) else (fX7_worked_243 N (fX7_worked_14 N a m) a 0 (nI d) (nI k) (nI c) (nI c - 100)).1 (rH h a (F, L, A, M)))))))))))) := by
  show (fX7_worked_14 N a (m + 1) 0 (nI d) (nI k)).1 (rH h a (F, L, A, M)) = _
  rw [fX7_worked_14, zr_g21, zr_a21_0, hE, zI, if_neg (show ¬ nI E ≤ nI k by rw [nI_leI (by omega) (by omega)]; omega), zr_g22, zr_a22 (by omega), hc]
  rw [zI]
  by_cases c28 : c = 28
  · rw [if_pos c28, if_pos (show nI c = 28 by rw [c28]; rfl)]
  · rw [if_neg c28, if_neg (show ¬ nI c = 28 from fun q => c28 ((nI_eq (b := 28) (by omega) (by decide)).mp q))]
    rw [zI]
    by_cases c30 : c = 30
    · rw [if_pos c30, if_pos (show nI c = 30 by rw [c30]; rfl)]
    · rw [if_neg c30, if_neg (show ¬ nI c = 30 from fun q => c30 ((nI_eq (b := 30) (by omega) (by decide)).mp q))]
      rw [zI]
      by_cases c20 : c = 20
      · rw [if_pos c20, if_pos (show nI c = 20 by rw [c20]; rfl)]
      · rw [if_neg c20, if_neg (show ¬ nI c = 20 from fun q => c20 ((nI_eq (b := 20) (by omega) (by decide)).mp q))]
        rw [zI]
        by_cases c21 : c = 21
        · rw [if_pos c21, if_pos (show nI c = 21 by rw [c21]; rfl)]
        · rw [if_neg c21, if_neg (show ¬ nI c = 21 from fun q => c21 ((nI_eq (b := 21) (by omega) (by decide)).mp q))]
          rw [zI]
          by_cases c22 : c = 22
          · rw [if_pos c22, if_pos (show nI c = 22 by rw [c22]; rfl), zr_g33]
          · rw [if_neg c22, if_neg (show ¬ nI c = 22 from fun q => c22 ((nI_eq (b := 22) (by omega) (by decide)).mp q))]
            rw [zI]
            by_cases c24 : c = 24
            · rw [if_pos c24, if_pos (show nI c = 24 by rw [c24]; rfl)]
            · rw [if_neg c24, if_neg (show ¬ nI c = 24 from fun q => c24 ((nI_eq (b := 24) (by omega) (by decide)).mp q))]
              rw [zI]
              by_cases c25 : c = 25
              · rw [if_pos c25, if_pos (show nI c = 25 by rw [c25]; rfl)]
              · rw [if_neg c25, if_neg (show ¬ nI c = 25 from fun q => c25 ((nI_eq (b := 25) (by omega) (by decide)).mp q))]
                rw [zI]
                by_cases c26 : c = 26
                · rw [if_pos c26, if_pos (show nI c = 26 by rw [c26]; rfl)]
                · rw [if_neg c26, if_neg (show ¬ nI c = 26 from fun q => c26 ((nI_eq (b := 26) (by omega) (by decide)).mp q))]
                  rw [zI]
                  by_cases c27 : c = 27
                  · rw [if_pos c27, if_pos (show nI c = 27 by rw [c27]; rfl)]
                  · rw [if_neg c27, if_neg (show ¬ nI c = 27 from fun q => c27 ((nI_eq (b := 27) (by omega) (by decide)).mp q))]
                    rw [zI]
                    by_cases cl : c < 100
                    · rw [if_pos cl, if_pos (show nI c < 100 from (nI_ltI (b := 100) (by omega) (by decide)).mpr cl), zI]
                      by_cases cm : 20 ≤ c
                      · rw [if_pos cm, if_pos (show 20 ≤ nI c from (nI_leI (a := 20) (by decide) (by omega)).mpr cm)]
                      · rw [if_neg cm, if_neg (show ¬ 20 ≤ nI c from fun q => cm ((nI_leI (a := 20) (by decide) (by omega)).mp q)), zr_g35]
                    · rw [if_neg cl, if_neg (show ¬ nI c < 100 from fun q => cl ((nI_ltI (b := 100) (by omega) (by decide)).mp q))]
theorem zWk_opn (hb : h.2.2.2.2 0 ≤ a) {m d k E : Nat} (b : Bool) (hE : A 21 0 = nI E) (hE2 : E ≤ 2000) (hk : k < E) (hc : A 22 k = nI (if b = true then 30 else 28)) (hd : d + 1 < 7) : zWW N h a F L M (m + 1) d k A = zWW N h a F L M m (d + 1) (k + 1) (zOpn1 A (d + 1) (if b = true then 1 else 0)) := by
  have e : ∀ y : Int32, (fX7_worked_66 N (fX7_worked_14 N a m) a 0 (nI d + 1) (nI k) (some (a + 25)) (nI d + 1) y).1 (rH h a (F, L, A, M)) = zWW N h a F L M m (d + 1) (k + 1) (zOpn1 A (d + 1) y) := by
    intro y
    unfold fX7_worked_66 fX7_worked_329
    rw [zc1_da, zr_s34 hb hd, zW_opens hb hd, zc1_da]
    rfl
  cases b with
  | true =>
    rw [if_pos rfl] at hc ⊢
    rw [zWk_hd hE hE2 hk hc (by decide), if_neg (by decide), if_pos rfl]
    unfold fX7_worked_46
    rw [zr_g34, zI, if_pos (show nI 30 = 30 from rfl)]
    exact e 1
  | false =>
    rw [if_neg zff] at hc ⊢
    rw [zWk_hd hE hE2 hk hc (by decide), if_pos rfl]
    unfold fX7_worked_46
    rw [zr_g34, zI, if_neg (by decide)]
    exact e 0
theorem zWk_atom (hb : h.2.2.2.2 0 ≤ a) (hN : 3000 ≤ N) {m d k E c : Nat} {x : Int32} (hE : A 21 0 = nI E) (hE2 : E ≤ 2000) (hk : k < E) (hc : A 22 k = nI c) (hd : d < 7) (hx : (c < 20 ∧ x = A 35 c) ∨ (100 ≤ c ∧ c < 100000 ∧ x = nI (c - 100))) : zWW N h a F L M (m + 1) d k A = zWW N h a F L M m (zPw0 (A 34) d x).1 (k + 1) (zTer1 A (zPw0 (A 34) d x)) := by
  have e : (fX7_worked_243 N (fX7_worked_14 N a m) a 0 (nI d) (nI k) (nI c) x).1 (rH h a (F, L, A, M)) = zWW N h a F L M m (zPw0 (A 34) d x).1 (k + 1) (zTer1 A (zPw0 (A 34) d x)) := by
    unfold fX7_worked_243
    rw [zI, if_neg (by rw [show (29 : Int32) = nI 29 from rfl, nI_eq (by omega) (by decide)]; omega)]
    exact zWk_268 hb d N x (by omega) hd
  rw [zWk_hd hE hE2 hk hc (by omega), if_neg (by omega), if_neg (by omega), if_neg (by omega), if_neg (by omega), if_neg (by omega), if_neg (by omega), if_neg (by omega), if_neg (by omega), if_neg (by omega)]
  rcases hx with ⟨h1, h2⟩ | ⟨h1, h2, h3⟩
  · rw [if_pos (by omega), if_neg (by omega), zr_a35 h1, ← h2]
    exact e
  · rw [if_neg (by omega), show (100 : Int32) = nI 100 from rfl, pk_sub h1, ← h3]
    exact e
theorem zWk_cl (hb : h.2.2.2.2 0 ≤ a) (hN : 3000 ≤ N) {m d k E : Nat} (hE : A 21 0 = nI E) (hE2 : E ≤ 2000) (hk : k < E) (hc : A 22 k = nI 29) (hd : d + 1 < 7) : zWW N h a F L M (m + 1) (d + 1) k A = zWW N h a F L M m (zPw0 (zTes1 A (d + 1) 34) d (zW3 A (d + 1))).1 (k + 1) (zTer1 (zTes1 A (d + 1)) (zPw0 (zTes1 A (d + 1) 34) d (zW3 A (d + 1)))) := by
  rw [zWk_hd hE hE2 hk hc (by decide), if_neg (by decide), if_neg (by decide), if_neg (by decide), if_neg (by decide), if_neg (by decide), if_neg (by decide), if_neg (by decide), if_neg (by decide), if_neg (by decide), if_pos (by decide), if_pos (by decide)]
  unfold fX7_worked_243
  rw [zI, if_pos (show nI 29 = 29 from rfl), zW_tests hb hd, zr_g26, zr_a26 hd, zm1 (by omega), Nat.add_sub_cancel]
  have e : zTes1 A (d + 1) 26 (d + 1) = zW3 A (d + 1) := by
    unfold zTes1
    rw [zst_j _ _ (by decide), zst_j _ _ (by decide), zst_j _ _ (by decide), zst_e]
  rw [e]
  exact zWk_268 hb d N _ (by omega) (by omega)
theorem zWk_mul (hb : h.2.2.2.2 0 ≤ a) {m d k E : Nat} (hE : A 21 0 = nI E) (hE2 : E ≤ 2000) (hk : k < E) (hc : A 22 k = nI 22) (hd : d < 7) : zWW N h a F L M (m + 1) d k A = zWW N h a F L M m d (k + 1) (zst A 33 d 22) := by
  rw [zWk_hd hE hE2 hk hc (by decide), if_neg (by decide), if_neg (by decide), if_neg (by decide), if_neg (by decide), if_pos rfl]
  unfold fX7_worked_329
  rw [zr_s33 hb hd, zc1_da]
  rfl
theorem zWk_pm (hb : h.2.2.2.2 0 ≤ a) {m d k E c : Nat} (hE : A 21 0 = nI E) (hE2 : E ≤ 2000) (hk : k < E) (hc : A 22 k = nI c) (hcc : c = 20 ∨ c = 21) (hd : d < 7) : zWW N h a F L M (m + 1) d k A = zWW N h a F L M m d (k + 1) (zst (zSum1 A d) 31 d (nI c)) := by
  have e : (fX7_worked_89 N (fX7_worked_14 N a m) a 0 (nI d) (nI k) (nI c)).1 (rH h a (F, L, A, M)) = zWW N h a F L M m d (k + 1) (zst (zSum1 A d) 31 d (nI c)) := by
    unfold fX7_worked_89 fX7_worked_329
    rw [zW_sums hb hd, zr_g31, zr_s31 hb hd, zc1_da]
    rfl
  rw [zWk_hd hE hE2 hk hc (by omega), if_neg (by omega), if_neg (by omega), ← e]
  rcases hcc with h1 | h1
  · rw [if_pos h1]
  · rw [if_neg (by omega), if_pos h1]
theorem zWk_cmp (hb : h.2.2.2.2 0 ≤ a) {m d k E c : Nat} (hE : A 21 0 = nI E) (hE2 : E ≤ 2000) (hk : k < E) (hc : A 22 k = nI c) (hcc : c = 24 ∨ c = 25) (hd : d < 7) : zWW N h a F L M (m + 1) d k A = zWW N h a F L M m d (k + 1) (zst (zst (zst (zst (zSum1 A d) 28 d (zW1s A d)) 29 d (nI c)) 30 d 0) 31 d 20) := by
  have e : (fX7_worked_137 N (fX7_worked_14 N a m) a 0 (nI d) (nI k) (nI c)).1 (rH h a (F, L, A, M)) = zWW N h a F L M m d (k + 1) (zst (zst (zst (zst (zSum1 A d) 28 d (zW1s A d)) 29 d (nI c)) 30 d 0) 31 d 20) := by
    have s30 : zSum1 A d 30 d = zW1s A d := by unfold zSum1; rw [zst_j _ _ (by decide), zst_e]
    unfold fX7_worked_137 fX7_worked_329
    rw [zW_sums hb hd]
    simp (disch := omega) only [zr_g28, zr_g29, zr_g30, zr_g31, zr_a30, zr_s28 hb, zr_s29 hb, zr_s30 hb, zr_s31 hb, s30, zc1_da]
    rfl
  rw [zWk_hd hE hE2 hk hc (by omega), if_neg (by omega), if_neg (by omega), if_neg (by omega), if_neg (by omega), if_neg (by omega), ← e]
  rcases hcc with h1 | h1
  · rw [if_pos h1]
  · rw [if_neg (by omega), if_pos h1]
theorem zWk_ao (hb : h.2.2.2.2 0 ≤ a) {m d k E c : Nat} (hE : A 21 0 = nI E) (hE2 : E ≤ 2000) (hk : k < E) (hc : A 22 k = nI c) (hcc : c = 26 ∨ c = 27) (hd : d < 7) : zWW N h a F L M (m + 1) d k A = zWW N h a F L M m d (k + 1) (zst (zTes1 A d) 27 d (nI c)) := by
  have e : (fX7_worked_194 N (fX7_worked_14 N a m) a 0 (nI d) (nI k) (nI c)).1 (rH h a (F, L, A, M)) = zWW N h a F L M m d (k + 1) (zst (zTes1 A d) 27 d (nI c)) := by
    unfold fX7_worked_194 fX7_worked_329
    rw [zW_tests hb hd, zr_g27, zr_s27 hb hd, zc1_da]
    rfl
  rw [zWk_hd hE hE2 hk hc (by omega), if_neg (by omega), if_neg (by omega), if_neg (by omega), if_neg (by omega), if_neg (by omega), if_neg (by omega), if_neg (by omega), ← e]
  rcases hcc with h1 | h1
  · rw [if_pos h1]
  · rw [if_neg (by omega), if_pos h1]
theorem zWk_end (hb : h.2.2.2.2 0 ≤ a) {m E : Nat} (hE : A 21 0 = nI E) (hE2 : E ≤ 2000) : zWW N h a F L M (m + 1) 0 E A = some (zW3 A 0, rH h a (F, L, zTes1 A 0, M)) := by
  show (fX7_worked_14 N a (m + 1) 0 (nI 0) (nI E)).1 (rH h a (F, L, A, M)) = _
  rw [fX7_worked_14, zr_g21, zr_a21_0, hE, zI, if_pos (nI_le (Nat.le_refl _) (by omega))]
  unfold fX7_worked_335
  have e : zTes1 A 0 26 0 = zW3 A 0 := by
    unfold zTes1
    rw [zst_j _ _ (by decide), zst_j _ _ (by decide), zst_j _ _ (by decide), zst_e]
  rw [show (0 : Int32) = nI 0 from rfl, zW_tests hb (by decide), zr_g26, zr_a26 (by decide), e]
  rfl
end
