/-! PURE 1b (printed by nums.py): literals -/
set_option maxRecDepth 100000
theorem zc0_le {l : Nat} (h : l < 2 ^ 31) : (0 : Int32) ≤ nI l ↔ 0 ≤ l := nI_leI (a := 0) (by decide) h
theorem zc0_ge {l : Nat} (h : l < 2 ^ 31) : nI l ≤ (0 : Int32) ↔ l ≤ 0 := nI_leI (b := 0) h (by decide)
theorem zc0_lt {l : Nat} (h : l < 2 ^ 31) : nI l < (0 : Int32) ↔ l < 0 := nI_ltI (b := 0) h (by decide)
theorem zc0_gt {l : Nat} (h : l < 2 ^ 31) : (0 : Int32) < nI l ↔ 0 < l := nI_ltI (a := 0) (by decide) h
theorem zc0_eq {l : Nat} (h : l < 2 ^ 31) : nI l = (0 : Int32) ↔ l = 0 := nI_eq (b := 0) h (by decide)
theorem zc1_le {l : Nat} (h : l < 2 ^ 31) : (1 : Int32) ≤ nI l ↔ 1 ≤ l := nI_leI (a := 1) (by decide) h
theorem zc1_ge {l : Nat} (h : l < 2 ^ 31) : nI l ≤ (1 : Int32) ↔ l ≤ 1 := nI_leI (b := 1) h (by decide)
theorem zc1_lt {l : Nat} (h : l < 2 ^ 31) : nI l < (1 : Int32) ↔ l < 1 := nI_ltI (b := 1) h (by decide)
theorem zc1_gt {l : Nat} (h : l < 2 ^ 31) : (1 : Int32) < nI l ↔ 1 < l := nI_ltI (a := 1) (by decide) h
theorem zc1_eq {l : Nat} (h : l < 2 ^ 31) : nI l = (1 : Int32) ↔ l = 1 := nI_eq (b := 1) h (by decide)
theorem zc1_ad (l : Nat) : (1 : Int32) + nI l = nI (1 + l) := nI_add 1 l
theorem zc1_da (l : Nat) : nI l + (1 : Int32) = nI (l + 1) := nI_add l 1
theorem zc1_mu (l : Nat) : (1 : Int32) * nI l = nI (1 * l) := pk_mul 1 l
theorem zc1_um (l : Nat) : nI l * (1 : Int32) = nI (l * 1) := pk_mul l 1
theorem zc1_sb {l : Nat} (h : 1 ≤ l) : nI l - (1 : Int32) = nI (l - 1) := pk_sub (b := 1) h
theorem zc1_dv {l : Nat} (h : l < 2 ^ 31) : nI l / (1 : Int32) = nI (l / 1) := pk_div (d := 1) h (by decide) (by decide)
theorem zc1_rm {l : Nat} (h : l < 2 ^ 31) : nI l - nI l / (1 : Int32) * (1 : Int32) = nI (l % 1) := pk_rem (d := 1) h (by decide) (by decide)
theorem zc2_le {l : Nat} (h : l < 2 ^ 31) : (2 : Int32) ≤ nI l ↔ 2 ≤ l := nI_leI (a := 2) (by decide) h
theorem zc2_ge {l : Nat} (h : l < 2 ^ 31) : nI l ≤ (2 : Int32) ↔ l ≤ 2 := nI_leI (b := 2) h (by decide)
theorem zc2_lt {l : Nat} (h : l < 2 ^ 31) : nI l < (2 : Int32) ↔ l < 2 := nI_ltI (b := 2) h (by decide)
theorem zc2_gt {l : Nat} (h : l < 2 ^ 31) : (2 : Int32) < nI l ↔ 2 < l := nI_ltI (a := 2) (by decide) h
theorem zc2_eq {l : Nat} (h : l < 2 ^ 31) : nI l = (2 : Int32) ↔ l = 2 := nI_eq (b := 2) h (by decide)
theorem zc2_ad (l : Nat) : (2 : Int32) + nI l = nI (2 + l) := nI_add 2 l
theorem zc2_da (l : Nat) : nI l + (2 : Int32) = nI (l + 2) := nI_add l 2
theorem zc2_mu (l : Nat) : (2 : Int32) * nI l = nI (2 * l) := pk_mul 2 l
theorem zc2_um (l : Nat) : nI l * (2 : Int32) = nI (l * 2) := pk_mul l 2
theorem zc2_sb {l : Nat} (h : 2 ≤ l) : nI l - (2 : Int32) = nI (l - 2) := pk_sub (b := 2) h
theorem zc2_dv {l : Nat} (h : l < 2 ^ 31) : nI l / (2 : Int32) = nI (l / 2) := pk_div (d := 2) h (by decide) (by decide)
theorem zc2_rm {l : Nat} (h : l < 2 ^ 31) : nI l - nI l / (2 : Int32) * (2 : Int32) = nI (l % 2) := pk_rem (d := 2) h (by decide) (by decide)
theorem zc3_le {l : Nat} (h : l < 2 ^ 31) : (3 : Int32) ≤ nI l ↔ 3 ≤ l := nI_leI (a := 3) (by decide) h
theorem zc3_ge {l : Nat} (h : l < 2 ^ 31) : nI l ≤ (3 : Int32) ↔ l ≤ 3 := nI_leI (b := 3) h (by decide)
theorem zc3_lt {l : Nat} (h : l < 2 ^ 31) : nI l < (3 : Int32) ↔ l < 3 := nI_ltI (b := 3) h (by decide)
theorem zc3_gt {l : Nat} (h : l < 2 ^ 31) : (3 : Int32) < nI l ↔ 3 < l := nI_ltI (a := 3) (by decide) h
theorem zc3_eq {l : Nat} (h : l < 2 ^ 31) : nI l = (3 : Int32) ↔ l = 3 := nI_eq (b := 3) h (by decide)
theorem zc3_ad (l : Nat) : (3 : Int32) + nI l = nI (3 + l) := nI_add 3 l
theorem zc3_da (l : Nat) : nI l + (3 : Int32) = nI (l + 3) := nI_add l 3
theorem zc3_mu (l : Nat) : (3 : Int32) * nI l = nI (3 * l) := pk_mul 3 l
theorem zc3_um (l : Nat) : nI l * (3 : Int32) = nI (l * 3) := pk_mul l 3
theorem zc3_sb {l : Nat} (h : 3 ≤ l) : nI l - (3 : Int32) = nI (l - 3) := pk_sub (b := 3) h
theorem zc3_dv {l : Nat} (h : l < 2 ^ 31) : nI l / (3 : Int32) = nI (l / 3) := pk_div (d := 3) h (by decide) (by decide)
theorem zc3_rm {l : Nat} (h : l < 2 ^ 31) : nI l - nI l / (3 : Int32) * (3 : Int32) = nI (l % 3) := pk_rem (d := 3) h (by decide) (by decide)
theorem zc4_le {l : Nat} (h : l < 2 ^ 31) : (4 : Int32) ≤ nI l ↔ 4 ≤ l := nI_leI (a := 4) (by decide) h
theorem zc4_ge {l : Nat} (h : l < 2 ^ 31) : nI l ≤ (4 : Int32) ↔ l ≤ 4 := nI_leI (b := 4) h (by decide)
theorem zc4_lt {l : Nat} (h : l < 2 ^ 31) : nI l < (4 : Int32) ↔ l < 4 := nI_ltI (b := 4) h (by decide)
theorem zc4_gt {l : Nat} (h : l < 2 ^ 31) : (4 : Int32) < nI l ↔ 4 < l := nI_ltI (a := 4) (by decide) h
theorem zc4_eq {l : Nat} (h : l < 2 ^ 31) : nI l = (4 : Int32) ↔ l = 4 := nI_eq (b := 4) h (by decide)
theorem zc4_ad (l : Nat) : (4 : Int32) + nI l = nI (4 + l) := nI_add 4 l
theorem zc4_da (l : Nat) : nI l + (4 : Int32) = nI (l + 4) := nI_add l 4
theorem zc4_mu (l : Nat) : (4 : Int32) * nI l = nI (4 * l) := pk_mul 4 l
theorem zc4_um (l : Nat) : nI l * (4 : Int32) = nI (l * 4) := pk_mul l 4
theorem zc4_sb {l : Nat} (h : 4 ≤ l) : nI l - (4 : Int32) = nI (l - 4) := pk_sub (b := 4) h
theorem zc4_dv {l : Nat} (h : l < 2 ^ 31) : nI l / (4 : Int32) = nI (l / 4) := pk_div (d := 4) h (by decide) (by decide)
theorem zc4_rm {l : Nat} (h : l < 2 ^ 31) : nI l - nI l / (4 : Int32) * (4 : Int32) = nI (l % 4) := pk_rem (d := 4) h (by decide) (by decide)
theorem zc5_le {l : Nat} (h : l < 2 ^ 31) : (5 : Int32) ≤ nI l ↔ 5 ≤ l := nI_leI (a := 5) (by decide) h
theorem zc5_ge {l : Nat} (h : l < 2 ^ 31) : nI l ≤ (5 : Int32) ↔ l ≤ 5 := nI_leI (b := 5) h (by decide)
theorem zc5_lt {l : Nat} (h : l < 2 ^ 31) : nI l < (5 : Int32) ↔ l < 5 := nI_ltI (b := 5) h (by decide)
theorem zc5_gt {l : Nat} (h : l < 2 ^ 31) : (5 : Int32) < nI l ↔ 5 < l := nI_ltI (a := 5) (by decide) h
theorem zc5_eq {l : Nat} (h : l < 2 ^ 31) : nI l = (5 : Int32) ↔ l = 5 := nI_eq (b := 5) h (by decide)
theorem zc5_ad (l : Nat) : (5 : Int32) + nI l = nI (5 + l) := nI_add 5 l
theorem zc5_da (l : Nat) : nI l + (5 : Int32) = nI (l + 5) := nI_add l 5
theorem zc5_mu (l : Nat) : (5 : Int32) * nI l = nI (5 * l) := pk_mul 5 l
theorem zc5_um (l : Nat) : nI l * (5 : Int32) = nI (l * 5) := pk_mul l 5
theorem zc5_sb {l : Nat} (h : 5 ≤ l) : nI l - (5 : Int32) = nI (l - 5) := pk_sub (b := 5) h
theorem zc5_dv {l : Nat} (h : l < 2 ^ 31) : nI l / (5 : Int32) = nI (l / 5) := pk_div (d := 5) h (by decide) (by decide)
theorem zc5_rm {l : Nat} (h : l < 2 ^ 31) : nI l - nI l / (5 : Int32) * (5 : Int32) = nI (l % 5) := pk_rem (d := 5) h (by decide) (by decide)
theorem zc6_le {l : Nat} (h : l < 2 ^ 31) : (6 : Int32) ≤ nI l ↔ 6 ≤ l := nI_leI (a := 6) (by decide) h
theorem zc6_ge {l : Nat} (h : l < 2 ^ 31) : nI l ≤ (6 : Int32) ↔ l ≤ 6 := nI_leI (b := 6) h (by decide)
theorem zc6_lt {l : Nat} (h : l < 2 ^ 31) : nI l < (6 : Int32) ↔ l < 6 := nI_ltI (b := 6) h (by decide)
theorem zc6_gt {l : Nat} (h : l < 2 ^ 31) : (6 : Int32) < nI l ↔ 6 < l := nI_ltI (a := 6) (by decide) h
theorem zc6_eq {l : Nat} (h : l < 2 ^ 31) : nI l = (6 : Int32) ↔ l = 6 := nI_eq (b := 6) h (by decide)
theorem zc6_ad (l : Nat) : (6 : Int32) + nI l = nI (6 + l) := nI_add 6 l
theorem zc6_da (l : Nat) : nI l + (6 : Int32) = nI (l + 6) := nI_add l 6
theorem zc6_mu (l : Nat) : (6 : Int32) * nI l = nI (6 * l) := pk_mul 6 l
theorem zc6_um (l : Nat) : nI l * (6 : Int32) = nI (l * 6) := pk_mul l 6
theorem zc6_sb {l : Nat} (h : 6 ≤ l) : nI l - (6 : Int32) = nI (l - 6) := pk_sub (b := 6) h
theorem zc6_dv {l : Nat} (h : l < 2 ^ 31) : nI l / (6 : Int32) = nI (l / 6) := pk_div (d := 6) h (by decide) (by decide)
theorem zc6_rm {l : Nat} (h : l < 2 ^ 31) : nI l - nI l / (6 : Int32) * (6 : Int32) = nI (l % 6) := pk_rem (d := 6) h (by decide) (by decide)
theorem zc7_le {l : Nat} (h : l < 2 ^ 31) : (7 : Int32) ≤ nI l ↔ 7 ≤ l := nI_leI (a := 7) (by decide) h
theorem zc7_ge {l : Nat} (h : l < 2 ^ 31) : nI l ≤ (7 : Int32) ↔ l ≤ 7 := nI_leI (b := 7) h (by decide)
theorem zc7_lt {l : Nat} (h : l < 2 ^ 31) : nI l < (7 : Int32) ↔ l < 7 := nI_ltI (b := 7) h (by decide)
theorem zc7_gt {l : Nat} (h : l < 2 ^ 31) : (7 : Int32) < nI l ↔ 7 < l := nI_ltI (a := 7) (by decide) h
theorem zc7_eq {l : Nat} (h : l < 2 ^ 31) : nI l = (7 : Int32) ↔ l = 7 := nI_eq (b := 7) h (by decide)
theorem zc7_ad (l : Nat) : (7 : Int32) + nI l = nI (7 + l) := nI_add 7 l
theorem zc7_da (l : Nat) : nI l + (7 : Int32) = nI (l + 7) := nI_add l 7
theorem zc7_mu (l : Nat) : (7 : Int32) * nI l = nI (7 * l) := pk_mul 7 l
theorem zc7_um (l : Nat) : nI l * (7 : Int32) = nI (l * 7) := pk_mul l 7
theorem zc7_sb {l : Nat} (h : 7 ≤ l) : nI l - (7 : Int32) = nI (l - 7) := pk_sub (b := 7) h
theorem zc7_dv {l : Nat} (h : l < 2 ^ 31) : nI l / (7 : Int32) = nI (l / 7) := pk_div (d := 7) h (by decide) (by decide)
theorem zc7_rm {l : Nat} (h : l < 2 ^ 31) : nI l - nI l / (7 : Int32) * (7 : Int32) = nI (l % 7) := pk_rem (d := 7) h (by decide) (by decide)
theorem zc8_le {l : Nat} (h : l < 2 ^ 31) : (8 : Int32) ≤ nI l ↔ 8 ≤ l := nI_leI (a := 8) (by decide) h
theorem zc8_ge {l : Nat} (h : l < 2 ^ 31) : nI l ≤ (8 : Int32) ↔ l ≤ 8 := nI_leI (b := 8) h (by decide)
theorem zc8_lt {l : Nat} (h : l < 2 ^ 31) : nI l < (8 : Int32) ↔ l < 8 := nI_ltI (b := 8) h (by decide)
theorem zc8_gt {l : Nat} (h : l < 2 ^ 31) : (8 : Int32) < nI l ↔ 8 < l := nI_ltI (a := 8) (by decide) h
theorem zc8_eq {l : Nat} (h : l < 2 ^ 31) : nI l = (8 : Int32) ↔ l = 8 := nI_eq (b := 8) h (by decide)
theorem zc8_ad (l : Nat) : (8 : Int32) + nI l = nI (8 + l) := nI_add 8 l
theorem zc8_da (l : Nat) : nI l + (8 : Int32) = nI (l + 8) := nI_add l 8
theorem zc8_mu (l : Nat) : (8 : Int32) * nI l = nI (8 * l) := pk_mul 8 l
theorem zc8_um (l : Nat) : nI l * (8 : Int32) = nI (l * 8) := pk_mul l 8
theorem zc8_sb {l : Nat} (h : 8 ≤ l) : nI l - (8 : Int32) = nI (l - 8) := pk_sub (b := 8) h
theorem zc8_dv {l : Nat} (h : l < 2 ^ 31) : nI l / (8 : Int32) = nI (l / 8) := pk_div (d := 8) h (by decide) (by decide)
theorem zc8_rm {l : Nat} (h : l < 2 ^ 31) : nI l - nI l / (8 : Int32) * (8 : Int32) = nI (l % 8) := pk_rem (d := 8) h (by decide) (by decide)
theorem zc9_le {l : Nat} (h : l < 2 ^ 31) : (9 : Int32) ≤ nI l ↔ 9 ≤ l := nI_leI (a := 9) (by decide) h
theorem zc9_ge {l : Nat} (h : l < 2 ^ 31) : nI l ≤ (9 : Int32) ↔ l ≤ 9 := nI_leI (b := 9) h (by decide)
theorem zc9_lt {l : Nat} (h : l < 2 ^ 31) : nI l < (9 : Int32) ↔ l < 9 := nI_ltI (b := 9) h (by decide)
theorem zc9_gt {l : Nat} (h : l < 2 ^ 31) : (9 : Int32) < nI l ↔ 9 < l := nI_ltI (a := 9) (by decide) h
theorem zc9_eq {l : Nat} (h : l < 2 ^ 31) : nI l = (9 : Int32) ↔ l = 9 := nI_eq (b := 9) h (by decide)
theorem zc9_ad (l : Nat) : (9 : Int32) + nI l = nI (9 + l) := nI_add 9 l
theorem zc9_da (l : Nat) : nI l + (9 : Int32) = nI (l + 9) := nI_add l 9
theorem zc9_mu (l : Nat) : (9 : Int32) * nI l = nI (9 * l) := pk_mul 9 l
theorem zc9_um (l : Nat) : nI l * (9 : Int32) = nI (l * 9) := pk_mul l 9
theorem zc9_sb {l : Nat} (h : 9 ≤ l) : nI l - (9 : Int32) = nI (l - 9) := pk_sub (b := 9) h
theorem zc9_dv {l : Nat} (h : l < 2 ^ 31) : nI l / (9 : Int32) = nI (l / 9) := pk_div (d := 9) h (by decide) (by decide)
theorem zc9_rm {l : Nat} (h : l < 2 ^ 31) : nI l - nI l / (9 : Int32) * (9 : Int32) = nI (l % 9) := pk_rem (d := 9) h (by decide) (by decide)
theorem zc10_le {l : Nat} (h : l < 2 ^ 31) : (10 : Int32) ≤ nI l ↔ 10 ≤ l := nI_leI (a := 10) (by decide) h
theorem zc10_ge {l : Nat} (h : l < 2 ^ 31) : nI l ≤ (10 : Int32) ↔ l ≤ 10 := nI_leI (b := 10) h (by decide)
theorem zc10_lt {l : Nat} (h : l < 2 ^ 31) : nI l < (10 : Int32) ↔ l < 10 := nI_ltI (b := 10) h (by decide)
theorem zc10_gt {l : Nat} (h : l < 2 ^ 31) : (10 : Int32) < nI l ↔ 10 < l := nI_ltI (a := 10) (by decide) h
theorem zc10_eq {l : Nat} (h : l < 2 ^ 31) : nI l = (10 : Int32) ↔ l = 10 := nI_eq (b := 10) h (by decide)
theorem zc10_ad (l : Nat) : (10 : Int32) + nI l = nI (10 + l) := nI_add 10 l
theorem zc10_da (l : Nat) : nI l + (10 : Int32) = nI (l + 10) := nI_add l 10
theorem zc10_mu (l : Nat) : (10 : Int32) * nI l = nI (10 * l) := pk_mul 10 l
theorem zc10_um (l : Nat) : nI l * (10 : Int32) = nI (l * 10) := pk_mul l 10
theorem zc10_sb {l : Nat} (h : 10 ≤ l) : nI l - (10 : Int32) = nI (l - 10) := pk_sub (b := 10) h
theorem zc10_dv {l : Nat} (h : l < 2 ^ 31) : nI l / (10 : Int32) = nI (l / 10) := pk_div (d := 10) h (by decide) (by decide)
theorem zc10_rm {l : Nat} (h : l < 2 ^ 31) : nI l - nI l / (10 : Int32) * (10 : Int32) = nI (l % 10) := pk_rem (d := 10) h (by decide) (by decide)
theorem zc12_le {l : Nat} (h : l < 2 ^ 31) : (12 : Int32) ≤ nI l ↔ 12 ≤ l := nI_leI (a := 12) (by decide) h
theorem zc12_ge {l : Nat} (h : l < 2 ^ 31) : nI l ≤ (12 : Int32) ↔ l ≤ 12 := nI_leI (b := 12) h (by decide)
theorem zc12_lt {l : Nat} (h : l < 2 ^ 31) : nI l < (12 : Int32) ↔ l < 12 := nI_ltI (b := 12) h (by decide)
theorem zc12_gt {l : Nat} (h : l < 2 ^ 31) : (12 : Int32) < nI l ↔ 12 < l := nI_ltI (a := 12) (by decide) h
theorem zc12_eq {l : Nat} (h : l < 2 ^ 31) : nI l = (12 : Int32) ↔ l = 12 := nI_eq (b := 12) h (by decide)
theorem zc12_ad (l : Nat) : (12 : Int32) + nI l = nI (12 + l) := nI_add 12 l
theorem zc12_da (l : Nat) : nI l + (12 : Int32) = nI (l + 12) := nI_add l 12
theorem zc12_mu (l : Nat) : (12 : Int32) * nI l = nI (12 * l) := pk_mul 12 l
theorem zc12_um (l : Nat) : nI l * (12 : Int32) = nI (l * 12) := pk_mul l 12
theorem zc12_sb {l : Nat} (h : 12 ≤ l) : nI l - (12 : Int32) = nI (l - 12) := pk_sub (b := 12) h
theorem zc12_dv {l : Nat} (h : l < 2 ^ 31) : nI l / (12 : Int32) = nI (l / 12) := pk_div (d := 12) h (by decide) (by decide)
theorem zc12_rm {l : Nat} (h : l < 2 ^ 31) : nI l - nI l / (12 : Int32) * (12 : Int32) = nI (l % 12) := pk_rem (d := 12) h (by decide) (by decide)
theorem zc16_le {l : Nat} (h : l < 2 ^ 31) : (16 : Int32) ≤ nI l ↔ 16 ≤ l := nI_leI (a := 16) (by decide) h
theorem zc16_ge {l : Nat} (h : l < 2 ^ 31) : nI l ≤ (16 : Int32) ↔ l ≤ 16 := nI_leI (b := 16) h (by decide)
theorem zc16_lt {l : Nat} (h : l < 2 ^ 31) : nI l < (16 : Int32) ↔ l < 16 := nI_ltI (b := 16) h (by decide)
theorem zc16_gt {l : Nat} (h : l < 2 ^ 31) : (16 : Int32) < nI l ↔ 16 < l := nI_ltI (a := 16) (by decide) h
theorem zc16_eq {l : Nat} (h : l < 2 ^ 31) : nI l = (16 : Int32) ↔ l = 16 := nI_eq (b := 16) h (by decide)
theorem zc16_ad (l : Nat) : (16 : Int32) + nI l = nI (16 + l) := nI_add 16 l
theorem zc16_da (l : Nat) : nI l + (16 : Int32) = nI (l + 16) := nI_add l 16
theorem zc16_mu (l : Nat) : (16 : Int32) * nI l = nI (16 * l) := pk_mul 16 l
theorem zc16_um (l : Nat) : nI l * (16 : Int32) = nI (l * 16) := pk_mul l 16
theorem zc16_sb {l : Nat} (h : 16 ≤ l) : nI l - (16 : Int32) = nI (l - 16) := pk_sub (b := 16) h
theorem zc16_dv {l : Nat} (h : l < 2 ^ 31) : nI l / (16 : Int32) = nI (l / 16) := pk_div (d := 16) h (by decide) (by decide)
theorem zc16_rm {l : Nat} (h : l < 2 ^ 31) : nI l - nI l / (16 : Int32) * (16 : Int32) = nI (l % 16) := pk_rem (d := 16) h (by decide) (by decide)
theorem zc18_le {l : Nat} (h : l < 2 ^ 31) : (18 : Int32) ≤ nI l ↔ 18 ≤ l := nI_leI (a := 18) (by decide) h
theorem zc18_ge {l : Nat} (h : l < 2 ^ 31) : nI l ≤ (18 : Int32) ↔ l ≤ 18 := nI_leI (b := 18) h (by decide)
theorem zc18_lt {l : Nat} (h : l < 2 ^ 31) : nI l < (18 : Int32) ↔ l < 18 := nI_ltI (b := 18) h (by decide)
theorem zc18_gt {l : Nat} (h : l < 2 ^ 31) : (18 : Int32) < nI l ↔ 18 < l := nI_ltI (a := 18) (by decide) h
theorem zc18_eq {l : Nat} (h : l < 2 ^ 31) : nI l = (18 : Int32) ↔ l = 18 := nI_eq (b := 18) h (by decide)
theorem zc18_ad (l : Nat) : (18 : Int32) + nI l = nI (18 + l) := nI_add 18 l
theorem zc18_da (l : Nat) : nI l + (18 : Int32) = nI (l + 18) := nI_add l 18
theorem zc18_mu (l : Nat) : (18 : Int32) * nI l = nI (18 * l) := pk_mul 18 l
theorem zc18_um (l : Nat) : nI l * (18 : Int32) = nI (l * 18) := pk_mul l 18
theorem zc18_sb {l : Nat} (h : 18 ≤ l) : nI l - (18 : Int32) = nI (l - 18) := pk_sub (b := 18) h
theorem zc18_dv {l : Nat} (h : l < 2 ^ 31) : nI l / (18 : Int32) = nI (l / 18) := pk_div (d := 18) h (by decide) (by decide)
theorem zc18_rm {l : Nat} (h : l < 2 ^ 31) : nI l - nI l / (18 : Int32) * (18 : Int32) = nI (l % 18) := pk_rem (d := 18) h (by decide) (by decide)
theorem zc19_le {l : Nat} (h : l < 2 ^ 31) : (19 : Int32) ≤ nI l ↔ 19 ≤ l := nI_leI (a := 19) (by decide) h
theorem zc19_ge {l : Nat} (h : l < 2 ^ 31) : nI l ≤ (19 : Int32) ↔ l ≤ 19 := nI_leI (b := 19) h (by decide)
theorem zc19_lt {l : Nat} (h : l < 2 ^ 31) : nI l < (19 : Int32) ↔ l < 19 := nI_ltI (b := 19) h (by decide)
theorem zc19_gt {l : Nat} (h : l < 2 ^ 31) : (19 : Int32) < nI l ↔ 19 < l := nI_ltI (a := 19) (by decide) h
theorem zc19_eq {l : Nat} (h : l < 2 ^ 31) : nI l = (19 : Int32) ↔ l = 19 := nI_eq (b := 19) h (by decide)
theorem zc19_ad (l : Nat) : (19 : Int32) + nI l = nI (19 + l) := nI_add 19 l
theorem zc19_da (l : Nat) : nI l + (19 : Int32) = nI (l + 19) := nI_add l 19
theorem zc19_mu (l : Nat) : (19 : Int32) * nI l = nI (19 * l) := pk_mul 19 l
theorem zc19_um (l : Nat) : nI l * (19 : Int32) = nI (l * 19) := pk_mul l 19
theorem zc19_sb {l : Nat} (h : 19 ≤ l) : nI l - (19 : Int32) = nI (l - 19) := pk_sub (b := 19) h
theorem zc19_dv {l : Nat} (h : l < 2 ^ 31) : nI l / (19 : Int32) = nI (l / 19) := pk_div (d := 19) h (by decide) (by decide)
theorem zc19_rm {l : Nat} (h : l < 2 ^ 31) : nI l - nI l / (19 : Int32) * (19 : Int32) = nI (l % 19) := pk_rem (d := 19) h (by decide) (by decide)
theorem zc20_le {l : Nat} (h : l < 2 ^ 31) : (20 : Int32) ≤ nI l ↔ 20 ≤ l := nI_leI (a := 20) (by decide) h
theorem zc20_ge {l : Nat} (h : l < 2 ^ 31) : nI l ≤ (20 : Int32) ↔ l ≤ 20 := nI_leI (b := 20) h (by decide)
theorem zc20_lt {l : Nat} (h : l < 2 ^ 31) : nI l < (20 : Int32) ↔ l < 20 := nI_ltI (b := 20) h (by decide)
theorem zc20_gt {l : Nat} (h : l < 2 ^ 31) : (20 : Int32) < nI l ↔ 20 < l := nI_ltI (a := 20) (by decide) h
theorem zc20_eq {l : Nat} (h : l < 2 ^ 31) : nI l = (20 : Int32) ↔ l = 20 := nI_eq (b := 20) h (by decide)
theorem zc20_ad (l : Nat) : (20 : Int32) + nI l = nI (20 + l) := nI_add 20 l
theorem zc20_da (l : Nat) : nI l + (20 : Int32) = nI (l + 20) := nI_add l 20
theorem zc20_mu (l : Nat) : (20 : Int32) * nI l = nI (20 * l) := pk_mul 20 l
theorem zc20_um (l : Nat) : nI l * (20 : Int32) = nI (l * 20) := pk_mul l 20
theorem zc20_sb {l : Nat} (h : 20 ≤ l) : nI l - (20 : Int32) = nI (l - 20) := pk_sub (b := 20) h
theorem zc20_dv {l : Nat} (h : l < 2 ^ 31) : nI l / (20 : Int32) = nI (l / 20) := pk_div (d := 20) h (by decide) (by decide)
theorem zc20_rm {l : Nat} (h : l < 2 ^ 31) : nI l - nI l / (20 : Int32) * (20 : Int32) = nI (l % 20) := pk_rem (d := 20) h (by decide) (by decide)
theorem zc25_le {l : Nat} (h : l < 2 ^ 31) : (25 : Int32) ≤ nI l ↔ 25 ≤ l := nI_leI (a := 25) (by decide) h
theorem zc25_ge {l : Nat} (h : l < 2 ^ 31) : nI l ≤ (25 : Int32) ↔ l ≤ 25 := nI_leI (b := 25) h (by decide)
theorem zc25_lt {l : Nat} (h : l < 2 ^ 31) : nI l < (25 : Int32) ↔ l < 25 := nI_ltI (b := 25) h (by decide)
theorem zc25_gt {l : Nat} (h : l < 2 ^ 31) : (25 : Int32) < nI l ↔ 25 < l := nI_ltI (a := 25) (by decide) h
theorem zc25_eq {l : Nat} (h : l < 2 ^ 31) : nI l = (25 : Int32) ↔ l = 25 := nI_eq (b := 25) h (by decide)
theorem zc25_ad (l : Nat) : (25 : Int32) + nI l = nI (25 + l) := nI_add 25 l
theorem zc25_da (l : Nat) : nI l + (25 : Int32) = nI (l + 25) := nI_add l 25
theorem zc25_mu (l : Nat) : (25 : Int32) * nI l = nI (25 * l) := pk_mul 25 l
theorem zc25_um (l : Nat) : nI l * (25 : Int32) = nI (l * 25) := pk_mul l 25
theorem zc25_sb {l : Nat} (h : 25 ≤ l) : nI l - (25 : Int32) = nI (l - 25) := pk_sub (b := 25) h
theorem zc25_dv {l : Nat} (h : l < 2 ^ 31) : nI l / (25 : Int32) = nI (l / 25) := pk_div (d := 25) h (by decide) (by decide)
theorem zc25_rm {l : Nat} (h : l < 2 ^ 31) : nI l - nI l / (25 : Int32) * (25 : Int32) = nI (l % 25) := pk_rem (d := 25) h (by decide) (by decide)
theorem zc40_le {l : Nat} (h : l < 2 ^ 31) : (40 : Int32) ≤ nI l ↔ 40 ≤ l := nI_leI (a := 40) (by decide) h
theorem zc40_ge {l : Nat} (h : l < 2 ^ 31) : nI l ≤ (40 : Int32) ↔ l ≤ 40 := nI_leI (b := 40) h (by decide)
theorem zc40_lt {l : Nat} (h : l < 2 ^ 31) : nI l < (40 : Int32) ↔ l < 40 := nI_ltI (b := 40) h (by decide)
theorem zc40_gt {l : Nat} (h : l < 2 ^ 31) : (40 : Int32) < nI l ↔ 40 < l := nI_ltI (a := 40) (by decide) h
theorem zc40_eq {l : Nat} (h : l < 2 ^ 31) : nI l = (40 : Int32) ↔ l = 40 := nI_eq (b := 40) h (by decide)
theorem zc40_ad (l : Nat) : (40 : Int32) + nI l = nI (40 + l) := nI_add 40 l
theorem zc40_da (l : Nat) : nI l + (40 : Int32) = nI (l + 40) := nI_add l 40
theorem zc40_mu (l : Nat) : (40 : Int32) * nI l = nI (40 * l) := pk_mul 40 l
theorem zc40_um (l : Nat) : nI l * (40 : Int32) = nI (l * 40) := pk_mul l 40
theorem zc40_sb {l : Nat} (h : 40 ≤ l) : nI l - (40 : Int32) = nI (l - 40) := pk_sub (b := 40) h
theorem zc40_dv {l : Nat} (h : l < 2 ^ 31) : nI l / (40 : Int32) = nI (l / 40) := pk_div (d := 40) h (by decide) (by decide)
theorem zc40_rm {l : Nat} (h : l < 2 ^ 31) : nI l - nI l / (40 : Int32) * (40 : Int32) = nI (l % 40) := pk_rem (d := 40) h (by decide) (by decide)
theorem zc99_le {l : Nat} (h : l < 2 ^ 31) : (99 : Int32) ≤ nI l ↔ 99 ≤ l := nI_leI (a := 99) (by decide) h
theorem zc99_ge {l : Nat} (h : l < 2 ^ 31) : nI l ≤ (99 : Int32) ↔ l ≤ 99 := nI_leI (b := 99) h (by decide)
theorem zc99_lt {l : Nat} (h : l < 2 ^ 31) : nI l < (99 : Int32) ↔ l < 99 := nI_ltI (b := 99) h (by decide)
theorem zc99_gt {l : Nat} (h : l < 2 ^ 31) : (99 : Int32) < nI l ↔ 99 < l := nI_ltI (a := 99) (by decide) h
theorem zc99_eq {l : Nat} (h : l < 2 ^ 31) : nI l = (99 : Int32) ↔ l = 99 := nI_eq (b := 99) h (by decide)
theorem zc99_ad (l : Nat) : (99 : Int32) + nI l = nI (99 + l) := nI_add 99 l
theorem zc99_da (l : Nat) : nI l + (99 : Int32) = nI (l + 99) := nI_add l 99
theorem zc99_mu (l : Nat) : (99 : Int32) * nI l = nI (99 * l) := pk_mul 99 l
theorem zc99_um (l : Nat) : nI l * (99 : Int32) = nI (l * 99) := pk_mul l 99
theorem zc99_sb {l : Nat} (h : 99 ≤ l) : nI l - (99 : Int32) = nI (l - 99) := pk_sub (b := 99) h
theorem zc99_dv {l : Nat} (h : l < 2 ^ 31) : nI l / (99 : Int32) = nI (l / 99) := pk_div (d := 99) h (by decide) (by decide)
theorem zc99_rm {l : Nat} (h : l < 2 ^ 31) : nI l - nI l / (99 : Int32) * (99 : Int32) = nI (l % 99) := pk_rem (d := 99) h (by decide) (by decide)
theorem zc100_le {l : Nat} (h : l < 2 ^ 31) : (100 : Int32) ≤ nI l ↔ 100 ≤ l := nI_leI (a := 100) (by decide) h
theorem zc100_ge {l : Nat} (h : l < 2 ^ 31) : nI l ≤ (100 : Int32) ↔ l ≤ 100 := nI_leI (b := 100) h (by decide)
theorem zc100_lt {l : Nat} (h : l < 2 ^ 31) : nI l < (100 : Int32) ↔ l < 100 := nI_ltI (b := 100) h (by decide)
theorem zc100_gt {l : Nat} (h : l < 2 ^ 31) : (100 : Int32) < nI l ↔ 100 < l := nI_ltI (a := 100) (by decide) h
theorem zc100_eq {l : Nat} (h : l < 2 ^ 31) : nI l = (100 : Int32) ↔ l = 100 := nI_eq (b := 100) h (by decide)
theorem zc100_ad (l : Nat) : (100 : Int32) + nI l = nI (100 + l) := nI_add 100 l
theorem zc100_da (l : Nat) : nI l + (100 : Int32) = nI (l + 100) := nI_add l 100
theorem zc100_mu (l : Nat) : (100 : Int32) * nI l = nI (100 * l) := pk_mul 100 l
theorem zc100_um (l : Nat) : nI l * (100 : Int32) = nI (l * 100) := pk_mul l 100
theorem zc100_sb {l : Nat} (h : 100 ≤ l) : nI l - (100 : Int32) = nI (l - 100) := pk_sub (b := 100) h
theorem zc100_dv {l : Nat} (h : l < 2 ^ 31) : nI l / (100 : Int32) = nI (l / 100) := pk_div (d := 100) h (by decide) (by decide)
theorem zc100_rm {l : Nat} (h : l < 2 ^ 31) : nI l - nI l / (100 : Int32) * (100 : Int32) = nI (l % 100) := pk_rem (d := 100) h (by decide) (by decide)
theorem zc126_le {l : Nat} (h : l < 2 ^ 31) : (126 : Int32) ≤ nI l ↔ 126 ≤ l := nI_leI (a := 126) (by decide) h
theorem zc126_ge {l : Nat} (h : l < 2 ^ 31) : nI l ≤ (126 : Int32) ↔ l ≤ 126 := nI_leI (b := 126) h (by decide)
theorem zc126_lt {l : Nat} (h : l < 2 ^ 31) : nI l < (126 : Int32) ↔ l < 126 := nI_ltI (b := 126) h (by decide)
theorem zc126_gt {l : Nat} (h : l < 2 ^ 31) : (126 : Int32) < nI l ↔ 126 < l := nI_ltI (a := 126) (by decide) h
theorem zc126_eq {l : Nat} (h : l < 2 ^ 31) : nI l = (126 : Int32) ↔ l = 126 := nI_eq (b := 126) h (by decide)
theorem zc126_ad (l : Nat) : (126 : Int32) + nI l = nI (126 + l) := nI_add 126 l
theorem zc126_da (l : Nat) : nI l + (126 : Int32) = nI (l + 126) := nI_add l 126
theorem zc126_mu (l : Nat) : (126 : Int32) * nI l = nI (126 * l) := pk_mul 126 l
theorem zc126_um (l : Nat) : nI l * (126 : Int32) = nI (l * 126) := pk_mul l 126
theorem zc126_sb {l : Nat} (h : 126 ≤ l) : nI l - (126 : Int32) = nI (l - 126) := pk_sub (b := 126) h
theorem zc126_dv {l : Nat} (h : l < 2 ^ 31) : nI l / (126 : Int32) = nI (l / 126) := pk_div (d := 126) h (by decide) (by decide)
theorem zc126_rm {l : Nat} (h : l < 2 ^ 31) : nI l - nI l / (126 : Int32) * (126 : Int32) = nI (l % 126) := pk_rem (d := 126) h (by decide) (by decide)
theorem zc200_le {l : Nat} (h : l < 2 ^ 31) : (200 : Int32) ≤ nI l ↔ 200 ≤ l := nI_leI (a := 200) (by decide) h
theorem zc200_ge {l : Nat} (h : l < 2 ^ 31) : nI l ≤ (200 : Int32) ↔ l ≤ 200 := nI_leI (b := 200) h (by decide)
theorem zc200_lt {l : Nat} (h : l < 2 ^ 31) : nI l < (200 : Int32) ↔ l < 200 := nI_ltI (b := 200) h (by decide)
theorem zc200_gt {l : Nat} (h : l < 2 ^ 31) : (200 : Int32) < nI l ↔ 200 < l := nI_ltI (a := 200) (by decide) h
theorem zc200_eq {l : Nat} (h : l < 2 ^ 31) : nI l = (200 : Int32) ↔ l = 200 := nI_eq (b := 200) h (by decide)
theorem zc200_ad (l : Nat) : (200 : Int32) + nI l = nI (200 + l) := nI_add 200 l
theorem zc200_da (l : Nat) : nI l + (200 : Int32) = nI (l + 200) := nI_add l 200
theorem zc200_mu (l : Nat) : (200 : Int32) * nI l = nI (200 * l) := pk_mul 200 l
theorem zc200_um (l : Nat) : nI l * (200 : Int32) = nI (l * 200) := pk_mul l 200
theorem zc200_sb {l : Nat} (h : 200 ≤ l) : nI l - (200 : Int32) = nI (l - 200) := pk_sub (b := 200) h
theorem zc200_dv {l : Nat} (h : l < 2 ^ 31) : nI l / (200 : Int32) = nI (l / 200) := pk_div (d := 200) h (by decide) (by decide)
theorem zc200_rm {l : Nat} (h : l < 2 ^ 31) : nI l - nI l / (200 : Int32) * (200 : Int32) = nI (l % 200) := pk_rem (d := 200) h (by decide) (by decide)
theorem zc375_le {l : Nat} (h : l < 2 ^ 31) : (375 : Int32) ≤ nI l ↔ 375 ≤ l := nI_leI (a := 375) (by decide) h
theorem zc375_ge {l : Nat} (h : l < 2 ^ 31) : nI l ≤ (375 : Int32) ↔ l ≤ 375 := nI_leI (b := 375) h (by decide)
theorem zc375_lt {l : Nat} (h : l < 2 ^ 31) : nI l < (375 : Int32) ↔ l < 375 := nI_ltI (b := 375) h (by decide)
theorem zc375_gt {l : Nat} (h : l < 2 ^ 31) : (375 : Int32) < nI l ↔ 375 < l := nI_ltI (a := 375) (by decide) h
theorem zc375_eq {l : Nat} (h : l < 2 ^ 31) : nI l = (375 : Int32) ↔ l = 375 := nI_eq (b := 375) h (by decide)
theorem zc375_ad (l : Nat) : (375 : Int32) + nI l = nI (375 + l) := nI_add 375 l
theorem zc375_da (l : Nat) : nI l + (375 : Int32) = nI (l + 375) := nI_add l 375
theorem zc375_mu (l : Nat) : (375 : Int32) * nI l = nI (375 * l) := pk_mul 375 l
theorem zc375_um (l : Nat) : nI l * (375 : Int32) = nI (l * 375) := pk_mul l 375
theorem zc375_sb {l : Nat} (h : 375 ≤ l) : nI l - (375 : Int32) = nI (l - 375) := pk_sub (b := 375) h
theorem zc375_dv {l : Nat} (h : l < 2 ^ 31) : nI l / (375 : Int32) = nI (l / 375) := pk_div (d := 375) h (by decide) (by decide)
theorem zc375_rm {l : Nat} (h : l < 2 ^ 31) : nI l - nI l / (375 : Int32) * (375 : Int32) = nI (l % 375) := pk_rem (d := 375) h (by decide) (by decide)
theorem zc1000_le {l : Nat} (h : l < 2 ^ 31) : (1000 : Int32) ≤ nI l ↔ 1000 ≤ l := nI_leI (a := 1000) (by decide) h
theorem zc1000_ge {l : Nat} (h : l < 2 ^ 31) : nI l ≤ (1000 : Int32) ↔ l ≤ 1000 := nI_leI (b := 1000) h (by decide)
theorem zc1000_lt {l : Nat} (h : l < 2 ^ 31) : nI l < (1000 : Int32) ↔ l < 1000 := nI_ltI (b := 1000) h (by decide)
theorem zc1000_gt {l : Nat} (h : l < 2 ^ 31) : (1000 : Int32) < nI l ↔ 1000 < l := nI_ltI (a := 1000) (by decide) h
theorem zc1000_eq {l : Nat} (h : l < 2 ^ 31) : nI l = (1000 : Int32) ↔ l = 1000 := nI_eq (b := 1000) h (by decide)
theorem zc1000_ad (l : Nat) : (1000 : Int32) + nI l = nI (1000 + l) := nI_add 1000 l
theorem zc1000_da (l : Nat) : nI l + (1000 : Int32) = nI (l + 1000) := nI_add l 1000
theorem zc1000_mu (l : Nat) : (1000 : Int32) * nI l = nI (1000 * l) := pk_mul 1000 l
theorem zc1000_um (l : Nat) : nI l * (1000 : Int32) = nI (l * 1000) := pk_mul l 1000
theorem zc1000_sb {l : Nat} (h : 1000 ≤ l) : nI l - (1000 : Int32) = nI (l - 1000) := pk_sub (b := 1000) h
theorem zc1000_dv {l : Nat} (h : l < 2 ^ 31) : nI l / (1000 : Int32) = nI (l / 1000) := pk_div (d := 1000) h (by decide) (by decide)
theorem zc1000_rm {l : Nat} (h : l < 2 ^ 31) : nI l - nI l / (1000 : Int32) * (1000 : Int32) = nI (l % 1000) := pk_rem (d := 1000) h (by decide) (by decide)
theorem zc5764801_le {l : Nat} (h : l < 2 ^ 31) : (5764801 : Int32) ≤ nI l ↔ 5764801 ≤ l := nI_leI (a := 5764801) (by decide) h
theorem zc5764801_ge {l : Nat} (h : l < 2 ^ 31) : nI l ≤ (5764801 : Int32) ↔ l ≤ 5764801 := nI_leI (b := 5764801) h (by decide)
theorem zc5764801_lt {l : Nat} (h : l < 2 ^ 31) : nI l < (5764801 : Int32) ↔ l < 5764801 := nI_ltI (b := 5764801) h (by decide)
theorem zc5764801_gt {l : Nat} (h : l < 2 ^ 31) : (5764801 : Int32) < nI l ↔ 5764801 < l := nI_ltI (a := 5764801) (by decide) h
theorem zc5764801_eq {l : Nat} (h : l < 2 ^ 31) : nI l = (5764801 : Int32) ↔ l = 5764801 := nI_eq (b := 5764801) h (by decide)
theorem zc5764801_ad (l : Nat) : (5764801 : Int32) + nI l = nI (5764801 + l) := nI_add 5764801 l
theorem zc5764801_da (l : Nat) : nI l + (5764801 : Int32) = nI (l + 5764801) := nI_add l 5764801
theorem zc5764801_mu (l : Nat) : (5764801 : Int32) * nI l = nI (5764801 * l) := pk_mul 5764801 l
theorem zc5764801_um (l : Nat) : nI l * (5764801 : Int32) = nI (l * 5764801) := pk_mul l 5764801
theorem zc5764801_sb {l : Nat} (h : 5764801 ≤ l) : nI l - (5764801 : Int32) = nI (l - 5764801) := pk_sub (b := 5764801) h
theorem zc5764801_dv {l : Nat} (h : l < 2 ^ 31) : nI l / (5764801 : Int32) = nI (l / 5764801) := pk_div (d := 5764801) h (by decide) (by decide)
theorem zc5764801_rm {l : Nat} (h : l < 2 ^ 31) : nI l - nI l / (5764801 : Int32) * (5764801 : Int32) = nI (l % 5764801) := pk_rem (d := 5764801) h (by decide) (by decide)
theorem znz7 {α : Type} (k : Unit → jM α) (h : jH) : (jB (jnz 7) k).1 h = (k ()).1 h := znz (by decide) k h
theorem znz6 {α : Type} (k : Unit → jM α) (h : jH) : (jB (jnz 6) k).1 h = (k ()).1 h := znz (by decide) k h
theorem znz2 {α : Type} (k : Unit → jM α) (h : jH) : (jB (jnz 2) k).1 h = (k ()).1 h := znz (by decide) k h
theorem zc1_ne0 : ((1 : Int32) = 0) = False := eq_false (by decide)
