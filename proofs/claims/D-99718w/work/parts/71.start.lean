/-! THE START: what the tables and the cells are at the law's entry -/
set_option maxRecDepth 100000
theorem q181 : (Jvm.Cond.stringRef "WornSkin$Reader" (11 : Nat) "wet") ∈ lw_tbl := lw_at lw_m1 70 rfl
theorem q182 : (Jvm.Cond.stringRef "WornSkin$Reader" (13 : Nat) "deep") ∈ lw_tbl := lw_at lw_m1 71 rfl
theorem q183 : (Jvm.Cond.stringRef "WornSkin$Reader" (15 : Nat) "bite") ∈ lw_tbl := lw_at lw_m1 72 rfl
theorem q184 : (Jvm.Cond.stringRef "WornSkin$Reader" (17 : Nat) "thin") ∈ lw_tbl := lw_at lw_m1 73 rfl
theorem q185 : (Jvm.Cond.stringRef "WornSkin$Reader" (25 : Nat) "charter") ∈ lw_tbl := lw_at lw_m1 74 rfl
theorem q186 : (Jvm.Cond.stringRef "WornSkin$Reader" (27 : Nat) "psalm") ∈ lw_tbl := lw_at lw_m1 75 rfl
theorem q187 : (Jvm.Cond.stringRef "WornSkin$Reader" (29 : Nat) "recipe") ∈ lw_tbl := lw_at lw_m1 76 rfl
theorem q188 : (Jvm.Cond.stringRef "WornSkin$Reader" (31 : Nat) "oath") ∈ lw_tbl := lw_at lw_m1 77 rfl
theorem q189 : (Jvm.Cond.stringRef "WornSkin$Reader" (36 : Nat) "skin") ∈ lw_tbl := lw_at lw_m1 78 rfl
theorem q190 : (Jvm.Cond.stringRef "WornSkin$Reader" (38 : Nat) "lines") ∈ lw_tbl := lw_at lw_m1 79 rfl
theorem q191 : (Jvm.Cond.stringRef "WornSkin$Reader" (40 : Nat) "thick") ∈ lw_tbl := lw_at lw_m1 80 rfl
theorem q192 : (Jvm.Cond.stringRef "WornSkin$Reader" (42 : Nat) "hole") ∈ lw_tbl := lw_at lw_m1 81 rfl
theorem q193 : (Jvm.Cond.stringRef "WornSkin$Reader" (44 : Nat) "text") ∈ lw_tbl := lw_at lw_m1 82 rfl
theorem q194 : (Jvm.Cond.stringRef "WornSkin$Reader" (46 : Nat) "damp") ∈ lw_tbl := lw_at lw_m1 83 rfl
theorem q195 : (Jvm.Cond.stringRef "WornSkin$Reader" (48 : Nat) "shows") ∈ lw_tbl := lw_at lw_m1 84 rfl
theorem q196 : (Jvm.Cond.stringRef "WornSkin$Reader" (50 : Nat) "write") ∈ lw_tbl := lw_at lw_m1 85 rfl
theorem q197 : (Jvm.Cond.stringRef "WornSkin$Reader" (52 : Nat) "scrape") ∈ lw_tbl := lw_at lw_m1 86 rfl
theorem q198 : (Jvm.Cond.stringRef "WornSkin$Reader" (54 : Nat) "third") ∈ lw_tbl := lw_at lw_m1 87 rfl
theorem q199 : (Jvm.Cond.stringRef "WornSkin$Reader" (56 : Nat) "week") ∈ lw_tbl := lw_at lw_m1 88 rfl
theorem q200 : (Jvm.Cond.stringRef "WornSkin$Reader" (58 : Nat) "gall") ∈ lw_tbl := lw_at lw_m1 89 rfl
theorem q201 : (Jvm.Cond.stringRef "WornSkin$Reader" (60 : Nat) "soot") ∈ lw_tbl := lw_at lw_m1 90 rfl
theorem q202 : (Jvm.Cond.stringRef "WornSkin$Reader" (62 : Nat) "not") ∈ lw_tbl := lw_at lw_m1 91 rfl
theorem q203 : (Jvm.Cond.stringRef "WornSkin$Reader" (64 : Nat) "and") ∈ lw_tbl := lw_at lw_m1 92 rfl
theorem q204 : (Jvm.Cond.stringRef "WornSkin$Reader" (66 : Nat) "or") ∈ lw_tbl := lw_at lw_m1 93 rfl
theorem q493 : (Jvm.Cond.stringRef "WornSkin$Reader" (124 : Nat) "()<=+-*;") ∈ lw_tbl := lw_at lw_m2 142 rfl
theorem q657 : (Jvm.Cond.instantiable "java/lang/Throwable" (6 : Nat)) ∈ lw_all := lw_g (lw_at lw_m3 66 rfl) rfl
def jtmK : List Nat := [11, 13, 15, 17, 25, 27, 29, 31, 36, 38, 40, 42, 44, 46, 48, 50, 52, 54, 56, 58, 60, 62, 64, 66, 124]
def jtm (i : Nat) : Term := .string "WornSkin$Reader" (jtmK.getD i 0)
def jlen : List Nat := [3, 4, 4, 4, 7, 5, 6, 4, 4, 5, 5, 4, 4, 4, 5, 5, 6, 5, 4, 4, 4, 3, 3, 2, 8]
def jbyt : List (List Int32) := [[119, 101, 116], [100, 101, 101, 112], [98, 105, 116, 101], [116, 104, 105, 110], [99, 104, 97, 114, 116, 101, 114], [112, 115, 97, 108, 109], [114, 101, 99, 105, 112, 101], [111, 97, 116, 104], [115, 107, 105, 110], [108, 105, 110, 101, 115], [116, 104, 105, 99, 107], [104, 111, 108, 101], [116, 101, 120, 116], [100, 97, 109, 112], [115, 104, 111, 119, 115], [119, 114, 105, 116, 101], [115, 99, 114, 97, 112, 101], [116, 104, 105, 114, 100], [119, 101, 101, 107], [103, 97, 108, 108], [115, 111, 111, 116], [110, 111, 116], [97, 110, 100], [111, 114], [40, 41, 60, 61, 43, 45, 42, 59]]
abbrev jgn : Cond := Jvm.Cond.and given_1 narrow_1
theorem jk_ex : ∀ i, i < 25 → Cond.exactly (jtm i) "java/lang/String" ∈ flatC jgn := by decide +kernel
theorem jk_co : ∀ i, i < 25 → Cond.eq (.field (jtm i) "java/lang/String" "coder" "B") (.int 0) ∈ flatC jgn := by decide +kernel
theorem jk_ar : ∀ i, i < 25 → Cond.arrayOf (.field (jtm i) "java/lang/String" "value" "[B") .byte ∈ flatC jgn := by decide +kernel
theorem jk_le : ∀ i, i < 25 → Cond.eq (.length (.field (jtm i) "java/lang/String" "value" "[B")) (.int (Int32.ofNat (jlen.getD i 0))) ∈ flatC jgn := by decide +kernel
theorem jk_el : ∀ i, i < 25 → ∀ j, j < jlen.getD i 0 → Cond.eq (.elem (.field (jtm i) "java/lang/String" "value" "[B") (.int (Int32.ofNat j))) (.int ((jbyt.getD i []).getD j 0)) ∈ flatC jgn := by decide +kernel
theorem jk_sr : ∀ i, i < 25 → ∃ t, jStr[i]? = some ("WornSkin$Reader", jtmK.getD i 0, t, 1 + i) ∧ Cond.stringRef "WornSkin$Reader" (jtmK.getD i 0) t ∈ lw_tbl := by
  intro i hi
  match i, hi with
  | 0, _ => exact ⟨_, rfl, q181⟩
  | 1, _ => exact ⟨_, rfl, q182⟩
  | 2, _ => exact ⟨_, rfl, q183⟩
  | 3, _ => exact ⟨_, rfl, q184⟩
  | 4, _ => exact ⟨_, rfl, q185⟩
  | 5, _ => exact ⟨_, rfl, q186⟩
  | 6, _ => exact ⟨_, rfl, q187⟩
  | 7, _ => exact ⟨_, rfl, q188⟩
  | 8, _ => exact ⟨_, rfl, q189⟩
  | 9, _ => exact ⟨_, rfl, q190⟩
  | 10, _ => exact ⟨_, rfl, q191⟩
  | 11, _ => exact ⟨_, rfl, q192⟩
  | 12, _ => exact ⟨_, rfl, q193⟩
  | 13, _ => exact ⟨_, rfl, q194⟩
  | 14, _ => exact ⟨_, rfl, q195⟩
  | 15, _ => exact ⟨_, rfl, q196⟩
  | 16, _ => exact ⟨_, rfl, q197⟩
  | 17, _ => exact ⟨_, rfl, q198⟩
  | 18, _ => exact ⟨_, rfl, q199⟩
  | 19, _ => exact ⟨_, rfl, q200⟩
  | 20, _ => exact ⟨_, rfl, q201⟩
  | 21, _ => exact ⟨_, rfl, q202⟩
  | 22, _ => exact ⟨_, rfl, q203⟩
  | 23, _ => exact ⟨_, rfl, q204⟩
  | 24, _ => exact ⟨_, rfl, q493⟩
  | n + 25, h => exact absurd h (by omega)
section
variable {args : Array Value} {s : State}
theorem jknown (hts : ∀ w ∈ lw_tbl, w.before args s = true) : ∀ (c : Nat) (q : vw_C), jCl[c]? = some q → c < 33 → ∃ (cC : ClassId) (iS : Nat → Nat), u_Kn s q.1 q.2.1 q.2.2 cC iS := by
  intro c q hq hc
  match c, hc with
  | 0, _ => cases hq; exact u_known (C := RX1) (T := TX1) (N := 9) (n := 9) hts (fun w h => lw_all_tbl (in_X1 w h)) (hts _ (lw_all_tbl q166))
  | 1, _ => cases hq; exact u_known (C := RX2) (T := TX2) (N := 13) (n := 13) hts (fun w h => lw_all_tbl (in_X2 w h)) (hts _ (lw_all_tbl q174))
  | 2, _ => cases hq; exact u_known (C := RX3) (T := TX3) (N := 6) (n := 6) hts (fun w h => lw_all_tbl (in_X3 w h)) (hts _ (lw_all_tbl q250))
  | 3, _ => cases hq; exact u_known (C := RX4) (T := TX4) (N := 8) (n := 8) hts (fun w h => lw_all_tbl (in_X4 w h)) (hts _ (lw_all_tbl q283))
  | 4, _ => cases hq; exact u_known (C := RJ2) (T := TJ2) (N := 3) (n := 3) hts (fun w h => lw_all_tbl (in_J2 w h)) (hts _ (lw_all_tbl q289))
  | 5, _ => cases hq; exact u_known (C := RX5) (T := TX5) (N := 1) (n := 1) hts (fun w h => lw_all_tbl (in_X5 w h)) (hts _ (lw_all_tbl q317))
  | 6, _ => cases hq; exact u_known (C := RX6) (T := TX6) (N := 4) (n := 4) hts (fun w h => lw_all_tbl (in_X6 w h)) (hts _ (lw_all_tbl q406))
  | 7, _ => cases hq; exact u_known (C := RX7) (T := TX7) (N := 59) (n := 59) hts (fun w h => lw_all_tbl (in_X7 w h)) (hts _ (lw_all_tbl q1679))
  | 8, _ => cases hq; exact u_known (C := RJ10) (T := TJ10) (N := 5) (n := 6) hts (fun w h => lw_all_tbl (in_J10 w h)) (hts _ (lw_all_tbl q657))
  | 9, _ => cases hq; exact u_known (C := RX8) (T := TX8) (N := 7) (n := 7) hts (fun w h => lw_all_tbl (in_X8 w h)) (hts _ (lw_all_tbl q622))
  | 10, _ => cases hq; exact u_known (C := RJ13) (T := TJ13) (N := 1) (n := 1) hts (fun w h => lw_all_tbl (in_J13 w h)) (hts _ (lw_all_tbl q714))
  | 11, _ => cases hq; exact u_known (C := RJ16) (T := TJ16) (N := 1) (n := 1) hts (fun w h => lw_all_tbl (in_J16 w h)) (hts _ (lw_all_tbl q807))
  | 12, _ => cases hq; exact u_known (C := RX9) (T := TX9) (N := 3) (n := 3) hts (fun w h => lw_all_tbl (in_X9 w h)) (hts _ (lw_all_tbl q833))
  | 13, _ => cases hq; exact u_known (C := RX10) (T := TX10) (N := 2) (n := 2) hts (fun w h => lw_all_tbl (in_X10 w h)) (hts _ (lw_all_tbl q918))
  | 14, _ => cases hq; exact u_known (C := RX11) (T := TX11) (N := 2) (n := 2) hts (fun w h => lw_all_tbl (in_X11 w h)) (hts _ (lw_all_tbl q878))
  | 15, _ => cases hq; exact u_known (C := RX12) (T := TX12) (N := 2) (n := 2) hts (fun w h => lw_all_tbl (in_X12 w h)) (hts _ (lw_all_tbl q900))
  | 16, _ => cases hq; exact u_known (C := RX13) (T := TX13) (N := 2) (n := 2) hts (fun w h => lw_all_tbl (in_X13 w h)) (hts _ (lw_all_tbl q909))
  | 17, _ => cases hq; exact u_known (C := RX15) (T := TX15) (N := 1) (n := 1) hts (fun w h => lw_all_tbl (in_X15 w h)) (hts _ (lw_all_tbl q964))
  | 18, _ => cases hq; exact u_known (C := RX16) (T := TX16) (N := 1) (n := 1) hts (fun w h => lw_all_tbl (in_X16 w h)) (hts _ (lw_all_tbl q977))
  | 19, _ => cases hq; exact u_known (C := RX17) (T := TX17) (N := 1) (n := 1) hts (fun w h => lw_all_tbl (in_X17 w h)) (hts _ (lw_all_tbl q987))
  | 20, _ => cases hq; exact u_known (C := RX18) (T := TX18) (N := 2) (n := 2) hts (fun w h => lw_all_tbl (in_X18 w h)) (hts _ (lw_all_tbl q1008))
  | 21, _ => cases hq; exact u_known (C := RX20) (T := TX20) (N := 1) (n := 1) hts (fun w h => lw_all_tbl (in_X20 w h)) (hts _ (lw_all_tbl q1024))
  | 22, _ => cases hq; exact u_known (C := RX21) (T := TX21) (N := 1) (n := 1) hts (fun w h => lw_all_tbl (in_X21 w h)) (hts _ (lw_all_tbl q1037))
  | 23, _ => cases hq; exact u_known (C := RX22) (T := TX22) (N := 1) (n := 1) hts (fun w h => lw_all_tbl (in_X22 w h)) (hts _ (lw_all_tbl q1045))
  | 24, _ => cases hq; exact u_known (C := RX23) (T := TX23) (N := 1) (n := 1) hts (fun w h => lw_all_tbl (in_X23 w h)) (hts _ (lw_all_tbl q1053))
  | 25, _ => cases hq; exact u_known (C := RX24) (T := TX24) (N := 1) (n := 1) hts (fun w h => lw_all_tbl (in_X24 w h)) (hts _ (lw_all_tbl q1061))
  | 26, _ => cases hq; exact u_known (C := RX25) (T := TX25) (N := 1) (n := 1) hts (fun w h => lw_all_tbl (in_X25 w h)) (hts _ (lw_all_tbl q1069))
  | 27, _ => cases hq; exact u_known (C := RX26) (T := TX26) (N := 1) (n := 1) hts (fun w h => lw_all_tbl (in_X26 w h)) (hts _ (lw_all_tbl q1077))
  | 28, _ => cases hq; exact u_known (C := RX28) (T := TX28) (N := 0) (n := 0) hts (fun w h => by cases h) (hts _ (lw_all_tbl q1107))
  | 29, _ => cases hq; exact u_known (C := RX29) (T := TX29) (N := 2) (n := 2) hts (fun w h => lw_all_tbl (in_X29 w h)) (hts _ (lw_all_tbl q1117))
  | 30, _ => cases hq; exact u_known (C := RX30) (T := TX30) (N := 3) (n := 3) hts (fun w h => lw_all_tbl (in_X30 w h)) (hts _ (lw_all_tbl q1130))
  | 31, _ => cases hq; exact u_known (C := RJ18) (T := TJ18) (N := 6) (n := 6) hts (fun w h => lw_all_tbl (in_J18 w h)) (hts _ (lw_all_tbl q1653))
  | 32, _ => cases hq; exact u_known (C := RX31) (T := TX31) (N := 3) (n := 3) hts (fun w h => lw_all_tbl (in_X31 w h)) (hts _ (lw_all_tbl q1612))
  | n + 33, h => exact absurd h (by omega)
end
