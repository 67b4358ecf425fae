set_option maxRecDepth 100000
section
variable {p : Program} {l : Launch} {e : Env} {s : State} {m : MethodId} {args : Array Value} {below : List Frame} {meth : Method} {c : Code} {D : va_G} {dA : Nat → ClassId → Prop} {H0 : Heap} {hs h' : jH} {mc ms : Nat}
def fL_law_1483 (N : Nat) (a0 : Nat) : jM Int32 := jRn .boolean 1
def fL_law_1477 (N : Nat) (k23 : Option Nat → Option Nat → Option Nat → Int32 → jM Int32) (a0 : Nat) (x1 : Option Nat) (x2 : Option Nat) (x3 : Option Nat) (x4 : Int32) : jM Int32 := k23 x1 x2 x3 (x4 + 7)
def fL_law_1475 (N : Nat) (a0 : Nat) : jM Int32 := jRn .boolean 0
def fL_law_1452 (N : Nat) (k23 : Option Nat → Option Nat → Option Nat → Int32 → jM Int32) (a0 : Nat) (x1 : Option Nat) (x2 : Option Nat) (x3 : Option Nat) (x4 : Int32) : jM Int32 := jB (jaI 9 (some a0) (x4 + 1)) fun y1 => jB (jrc 0 x1) fun b3 => jB (fX1_count N b3 y1) fun y2 => jB (jaI 9 (some a0) (x4 + 1)) fun y4 => jB (jrc 7 x2) fun b6 => jB (fX7_count N b6 y4) fun y5 => if y2 = y5 then (fL_law_1477 N k23 a0 x1 x2 x3 x4) else (fL_law_1475 N a0)
def fL_law_1450 (N : Nat) (a0 : Nat) : jM Int32 := jRn .boolean 0
def fL_law_1444 (N : Nat) (k23 : Option Nat → Option Nat → Option Nat → Int32 → jM Int32) (a0 : Nat) (x1 : Option Nat) (x2 : Option Nat) (x3 : Option Nat) (x4 : Int32) (v0 : Int32) (v1 : Option Nat) (v2 : Int32) (v3 : Int32) : jM Int32 := jB (jrc 7 v1) fun b2 => jB (fX7_mark N b2 v2 v3) fun y1 => if v0 = y1 then (fL_law_1477 N k23 a0 x1 x2 x3 x4) else (fL_law_1450 N a0)
def fL_law_1420 (N : Nat) (k23 : Option Nat → Option Nat → Option Nat → Int32 → jM Int32) (a0 : Nat) (x1 : Option Nat) (x2 : Option Nat) (x3 : Option Nat) (x4 : Int32) (v0 : Option Nat) (v1 : Int32) (v2 : Int32) : jM Int32 := jB (jrc 0 v0) fun b2 => jB (fX1_mark N b2 v1 v2) fun y1 => jB (jaI 9 (some a0) (x4 + 1)) fun y3 => jB (jaI 9 (some a0) (x4 + 2)) fun y4 => if y4 = 0 then (fL_law_1444 N k23 a0 x1 x2 x3 x4 y1 x2 y3 0) else (fL_law_1444 N k23 a0 x1 x2 x3 x4 y1 x2 y3 1)
def fL_law_1399 (N : Nat) (k23 : Option Nat → Option Nat → Option Nat → Int32 → jM Int32) (a0 : Nat) (x1 : Option Nat) (x2 : Option Nat) (x3 : Option Nat) (x4 : Int32) : jM Int32 := jB (jaI 9 (some a0) (x4 + 1)) fun y1 => jB (jaI 9 (some a0) (x4 + 2)) fun y2 => if y2 = 0 then (fL_law_1420 N k23 a0 x1 x2 x3 x4 x1 y1 0) else (fL_law_1420 N k23 a0 x1 x2 x3 x4 x1 y1 1)
def fL_law_1397 (N : Nat) (a0 : Nat) : jM Int32 := jRn .boolean 0
def fL_law_1350 (N : Nat) (k23 : Option Nat → Option Nat → Option Nat → Int32 → jM Int32) (a0 : Nat) (x1 : Option Nat) (x2 : Option Nat) (x3 : Option Nat) (x4 : Int32) : jM Int32 := jB (jaI 9 (some a0) (x4 + 1)) fun y1 => jB (jaI 9 (some a0) (x4 + 2)) fun y2 => jB (jaI 9 (some a0) (x4 + 3)) fun y3 => jB (jrc 0 x1) fun b5 => jB (fX1_years N b5 y1 y2 y3) fun y4 => jB (jaI 9 (some a0) (x4 + 1)) fun y6 => jB (jaI 9 (some a0) (x4 + 2)) fun y7 => jB (jaI 9 (some a0) (x4 + 3)) fun y8 => jB (jrc 7 x2) fun b10 => jB (fX7_years N b10 y6 y7 y8) fun y9 => if y4 = y9 then (fL_law_1477 N k23 a0 x1 x2 x3 x4) else (fL_law_1397 N a0)
def fL_law_1347 (N : Nat) (k23 : Option Nat → Option Nat → Option Nat → Int32 → jM Int32) (a0 : Nat) (x1 : Option Nat) (x2 : Option Nat) (x3 : Option Nat) (x4 : Int32) : jM Int32 := fL_law_1477 N k23 a0 x1 x2 x3 x4
def fL_law_1345 (N : Nat) (a0 : Nat) : jM Int32 := jRn .boolean 0
def fL_law_1328 (N : Nat) (a0 : Nat) : jM Int32 := jRn .boolean 0
def fL_law_1258 (N : Nat) (k23 : Option Nat → Option Nat → Option Nat → Int32 → jM Int32) (a0 : Nat) (x1 : Option Nat) (x2 : Option Nat) (x3 : Option Nat) (x4 : Int32) : jM Int32 := jB (jaI 9 (some a0) (x4 + 1)) fun y1 => jB (jaI 9 (some a0) (x4 + 2)) fun y2 => jB (jaI 9 (some a0) (x4 + 3)) fun y3 => jB (jaI 9 (some a0) (x4 + 4)) fun y4 => jB (fX0_rests N x1 y1 y2 y3 y4 x3) fun y5 => jB (jaI 9 (some a0) (x4 + 1)) fun y6 => jB (jaI 9 (some a0) (x4 + 2)) fun y7 => jB (jaI 9 (some a0) (x4 + 3)) fun y8 => jB (jaI 9 (some a0) (x4 + 4)) fun y9 => jB (jrc 7 x2) fun b11 => jB (fX7_rests N b11 y6 y7 y8 y9) fun y10 => jB (jrc 7 x2) fun b13 => jB (fX7_thrown b13) fun y12 => if y12 = y5 then (if y5 = 0 then (jB (jaL 1 x3 0) fun y14 => if (lg_cmp y14 (y10.toInt64)) = 0 then (fL_law_1347 N k23 a0 x1 x2 x3 x4) else (fL_law_1345 N a0)) else (fL_law_1347 N k23 a0 x1 x2 x3 x4)) else (fL_law_1328 N a0)
def fL_law_1256 (N : Nat) (a0 : Nat) : jM Int32 := jRn .boolean 0
def fL_law_1209 (N : Nat) (k23 : Option Nat → Option Nat → Option Nat → Int32 → jM Int32) (a0 : Nat) (x1 : Option Nat) (x2 : Option Nat) (x3 : Option Nat) (x4 : Int32) : jM Int32 := jB (jaI 9 (some a0) (x4 + 1)) fun y1 => jB (jaI 9 (some a0) (x4 + 2)) fun y2 => jB (jaI 9 (some a0) (x4 + 3)) fun y3 => jB (jrc 0 x1) fun b5 => jB (fX1_chance N b5 y1 y2 y3) fun y4 => jB (jaI 9 (some a0) (x4 + 1)) fun y6 => jB (jaI 9 (some a0) (x4 + 2)) fun y7 => jB (jaI 9 (some a0) (x4 + 3)) fun y8 => jB (jrc 7 x2) fun b10 => jB (fX7_chance N b10 y6 y7 y8) fun y9 => if y4 = y9 then (fL_law_1477 N k23 a0 x1 x2 x3 x4) else (fL_law_1256 N a0)
def fL_law_1207 (N : Nat) (a0 : Nat) : jM Int32 := jRn .boolean 0
def fL_law_1184 (N : Nat) (k23 : Option Nat → Option Nat → Option Nat → Int32 → jM Int32) (a0 : Nat) (x1 : Option Nat) (x2 : Option Nat) (x3 : Option Nat) (x4 : Int32) : jM Int32 := jB (jaI 9 (some a0) (x4 + 1)) fun y1 => jB (jrc 0 x1) fun b3 => jB (fX1_ask N b3 y1) fun y2 => jB (jaI 9 (some a0) (x4 + 1)) fun y4 => jB (jrc 7 x2) fun b6 => jB (fX7_ask N b6 y4) fun y5 => if y2 = y5 then (fL_law_1477 N k23 a0 x1 x2 x3 x4) else (fL_law_1207 N a0)
def fL_law_1182 (N : Nat) (a0 : Nat) : jM Int32 := jRn .boolean 0
def fL_law_1171 (N : Nat) (k23 : Option Nat → Option Nat → Option Nat → Int32 → jM Int32) (a0 : Nat) (x1 : Option Nat) (x2 : Option Nat) (x3 : Option Nat) (x4 : Int32) : jM Int32 := jB (jrc 0 x1) fun b2 => jB (fX1_who N b2) fun y1 => jB (jrc 7 x2) fun b4 => jB (fX7_who N b4) fun y3 => if y1 = y3 then (fL_law_1477 N k23 a0 x1 x2 x3 x4) else (fL_law_1182 N a0)
def fL_law_1169 (N : Nat) (a0 : Nat) : jM Int32 := jRn .boolean 0
def fL_law_1163 (N : Nat) (k23 : Option Nat → Option Nat → Option Nat → Int32 → jM Int32) (a0 : Nat) (x1 : Option Nat) (x2 : Option Nat) (x3 : Option Nat) (x4 : Int32) (v0 : Int32) (v1 : Option Nat) (v2 : Int32) (v3 : Int32) (v4 : Int32) (v5 : Int32) : jM Int32 := jB (jrc 7 v1) fun b2 => jB (fX7_see b2 v2 v3 v4 v5) fun y1 => if v0 = y1 then (fL_law_1477 N k23 a0 x1 x2 x3 x4) else (fL_law_1169 N a0)
def fL_law_1127 (N : Nat) (k23 : Option Nat → Option Nat → Option Nat → Int32 → jM Int32) (a0 : Nat) (x1 : Option Nat) (x2 : Option Nat) (x3 : Option Nat) (x4 : Int32) (v0 : Option Nat) (v1 : Int32) (v2 : Int32) (v3 : Int32) (v4 : Int32) : jM Int32 := jB (jrc 0 v0) fun b2 => jB (fX1_see b2 v1 v2 v3 v4) fun y1 => jB (jaI 9 (some a0) (x4 + 1)) fun y3 => jB (jaI 9 (some a0) (x4 + 2)) fun y4 => jB (jaI 9 (some a0) (x4 + 3)) fun y5 => jB (jaI 9 (some a0) (x4 + 4)) fun y6 => if y6 = 0 then (fL_law_1163 N k23 a0 x1 x2 x3 x4 y1 x2 y3 y4 y5 0) else (fL_law_1163 N k23 a0 x1 x2 x3 x4 y1 x2 y3 y4 y5 1)
def fL_law_1094 (N : Nat) (k23 : Option Nat → Option Nat → Option Nat → Int32 → jM Int32) (a0 : Nat) (x1 : Option Nat) (x2 : Option Nat) (x3 : Option Nat) (x4 : Int32) : jM Int32 := jB (jaI 9 (some a0) (x4 + 1)) fun y1 => jB (jaI 9 (some a0) (x4 + 2)) fun y2 => jB (jaI 9 (some a0) (x4 + 3)) fun y3 => jB (jaI 9 (some a0) (x4 + 4)) fun y4 => if y4 = 0 then (fL_law_1127 N k23 a0 x1 x2 x3 x4 x1 y1 y2 y3 0) else (fL_law_1127 N k23 a0 x1 x2 x3 x4 x1 y1 y2 y3 1)
def fL_law_1092 (N : Nat) (a0 : Nat) : jM Int32 := jRn .boolean 0
def fL_law_1069 (N : Nat) (k23 : Option Nat → Option Nat → Option Nat → Int32 → jM Int32) (a0 : Nat) (x1 : Option Nat) (x2 : Option Nat) (x3 : Option Nat) (x4 : Int32) : jM Int32 := jB (jaI 9 (some a0) (x4 + 1)) fun y1 => jB (jrc 0 x1) fun b3 => jB (fX1_psalter N b3 y1) fun y2 => jB (jaI 9 (some a0) (x4 + 1)) fun y4 => jB (jrc 7 x2) fun b6 => jB (fX7_psalter N b6 y4) fun y5 => if y2 = y5 then (fL_law_1477 N k23 a0 x1 x2 x3 x4) else (fL_law_1092 N a0)
def fL_law_1067 (N : Nat) (a0 : Nat) : jM Int32 := jRn .boolean 0
def fL_law_1056 (N : Nat) (k23 : Option Nat → Option Nat → Option Nat → Int32 → jM Int32) (a0 : Nat) (x1 : Option Nat) (x2 : Option Nat) (x3 : Option Nat) (x4 : Int32) : jM Int32 := jB (jrc 0 x1) fun b2 => jB (fX1_giveup N b2) fun y1 => jB (jrc 7 x2) fun b4 => jB (fX7_giveup N b4) fun y3 => if y1 = y3 then (fL_law_1477 N k23 a0 x1 x2 x3 x4) else (fL_law_1067 N a0)
def fL_law_1054 (N : Nat) (a0 : Nat) : jM Int32 := jRn .boolean 0
def fL_law_1043 (N : Nat) (k23 : Option Nat → Option Nat → Option Nat → Int32 → jM Int32) (a0 : Nat) (x1 : Option Nat) (x2 : Option Nat) (x3 : Option Nat) (x4 : Int32) : jM Int32 := jB (jrc 0 x1) fun b2 => jB (fX1_same N b2) fun y1 => jB (jrc 7 x2) fun b4 => jB (fX7_same N b4) fun y3 => if y1 = y3 then (fL_law_1477 N k23 a0 x1 x2 x3 x4) else (fL_law_1054 N a0)
def fL_law_1041 (N : Nat) (a0 : Nat) : jM Int32 := jRn .boolean 0
def fL_law_1018 (N : Nat) (k23 : Option Nat → Option Nat → Option Nat → Int32 → jM Int32) (a0 : Nat) (x1 : Option Nat) (x2 : Option Nat) (x3 : Option Nat) (x4 : Int32) : jM Int32 := jB (jaI 9 (some a0) (x4 + 1)) fun y1 => jB (jrc 0 x1) fun b3 => jB (fX1_bare N b3 y1) fun y2 => jB (jaI 9 (some a0) (x4 + 1)) fun y4 => jB (jrc 7 x2) fun b6 => jB (fX7_bare N b6 y4) fun y5 => if y2 = y5 then (fL_law_1477 N k23 a0 x1 x2 x3 x4) else (fL_law_1041 N a0)
def fL_law_1016 (N : Nat) (a0 : Nat) : jM Int32 := jRn .boolean 0
def fL_law_993 (N : Nat) (k23 : Option Nat → Option Nat → Option Nat → Int32 → jM Int32) (a0 : Nat) (x1 : Option Nat) (x2 : Option Nat) (x3 : Option Nat) (x4 : Int32) : jM Int32 := jB (jaI 9 (some a0) (x4 + 1)) fun y1 => jB (jrc 0 x1) fun b3 => jB (fX1_deepest N b3 y1) fun y2 => jB (jaI 9 (some a0) (x4 + 1)) fun y4 => jB (jrc 7 x2) fun b6 => jB (fX7_deepest N b6 y4) fun y5 => if y2 = y5 then (fL_law_1477 N k23 a0 x1 x2 x3 x4) else (fL_law_1016 N a0)
def fL_law_991 (N : Nat) (a0 : Nat) : jM Int32 := jRn .boolean 0
def fL_law_968 (N : Nat) (k23 : Option Nat → Option Nat → Option Nat → Int32 → jM Int32) (a0 : Nat) (x1 : Option Nat) (x2 : Option Nat) (x3 : Option Nat) (x4 : Int32) : jM Int32 := jB (jaI 9 (some a0) (x4 + 1)) fun y1 => jB (jrc 0 x1) fun b3 => jB (fX1_over N b3 y1) fun y2 => jB (jaI 9 (some a0) (x4 + 1)) fun y4 => jB (jrc 7 x2) fun b6 => jB (fX7_over N b6 y4) fun y5 => if y2 = y5 then (fL_law_1477 N k23 a0 x1 x2 x3 x4) else (fL_law_991 N a0)
def fL_law_966 (N : Nat) (a0 : Nat) : jM Int32 := jRn .boolean 0
def fL_law_931 (N : Nat) (k23 : Option Nat → Option Nat → Option Nat → Int32 → jM Int32) (a0 : Nat) (x1 : Option Nat) (x2 : Option Nat) (x3 : Option Nat) (x4 : Int32) : jM Int32 := jB (jaI 9 (some a0) (x4 + 1)) fun y1 => jB (jaI 9 (some a0) (x4 + 2)) fun y2 => jB (jrc 0 x1) fun b4 => jB (fX1_bears N b4 y1 y2) fun y3 => jB (jaI 9 (some a0) (x4 + 1)) fun y5 => jB (jaI 9 (some a0) (x4 + 2)) fun y6 => jB (jrc 7 x2) fun b8 => jB (fX7_bears N b8 y5 y6) fun y7 => if y3 = y7 then (fL_law_1477 N k23 a0 x1 x2 x3 x4) else (fL_law_966 N a0)
def fL_law_929 (N : Nat) (a0 : Nat) : jM Int32 := jRn .boolean 0
def fL_law_906 (N : Nat) (k23 : Option Nat → Option Nat → Option Nat → Int32 → jM Int32) (a0 : Nat) (x1 : Option Nat) (x2 : Option Nat) (x3 : Option Nat) (x4 : Int32) : jM Int32 := jB (jaI 9 (some a0) (x4 + 1)) fun y1 => jB (jrc 0 x1) fun b3 => jB (fX1_lay N b3 y1) fun y2 => jB (jaI 9 (some a0) (x4 + 1)) fun y4 => jB (jrc 7 x2) fun b6 => jB (fX7_lay N b6 y4) fun y5 => if y2 = y5 then (fL_law_1477 N k23 a0 x1 x2 x3 x4) else (fL_law_929 N a0)
def fL_law_904 (N : Nat) (a0 : Nat) : jM Int32 := jRn .boolean 0
def fL_law_869 (N : Nat) (k23 : Option Nat → Option Nat → Option Nat → Int32 → jM Int32) (a0 : Nat) (x1 : Option Nat) (x2 : Option Nat) (x3 : Option Nat) (x4 : Int32) : jM Int32 := jB (jaI 9 (some a0) (x4 + 1)) fun y1 => jB (jaI 9 (some a0) (x4 + 2)) fun y2 => jB (jrc 0 x1) fun b4 => jB (fX1_cost N b4 y1 y2) fun y3 => jB (jaI 9 (some a0) (x4 + 1)) fun y5 => jB (jaI 9 (some a0) (x4 + 2)) fun y6 => jB (jrc 7 x2) fun b8 => jB (fX7_cost N b8 y5 y6) fun y7 => if y3 = y7 then (fL_law_1477 N k23 a0 x1 x2 x3 x4) else (fL_law_904 N a0)
def fL_law_867 (N : Nat) (a0 : Nat) : jM Int32 := jRn .boolean 0
def fL_law_832 (N : Nat) (k23 : Option Nat → Option Nat → Option Nat → Int32 → jM Int32) (a0 : Nat) (x1 : Option Nat) (x2 : Option Nat) (x3 : Option Nat) (x4 : Int32) : jM Int32 := jB (jaI 9 (some a0) (x4 + 1)) fun y1 => jB (jaI 9 (some a0) (x4 + 2)) fun y2 => jB (jrc 0 x1) fun b4 => jB (fX1_place N b4 y1 y2) fun y3 => jB (jaI 9 (some a0) (x4 + 1)) fun y5 => jB (jaI 9 (some a0) (x4 + 2)) fun y6 => jB (jrc 7 x2) fun b8 => jB (fX7_place N b8 y5 y6) fun y7 => if y3 = y7 then (fL_law_1477 N k23 a0 x1 x2 x3 x4) else (fL_law_867 N a0)
def fL_law_830 (N : Nat) (a0 : Nat) : jM Int32 := jRn .boolean 0
def fL_law_819 (N : Nat) (k23 : Option Nat → Option Nat → Option Nat → Int32 → jM Int32) (a0 : Nat) (x1 : Option Nat) (x2 : Option Nat) (x3 : Option Nat) (x4 : Int32) : jM Int32 := jB (jrc 0 x1) fun b2 => jB (fX1_lost N b2) fun y1 => jB (jrc 7 x2) fun b4 => jB (fX7_lost N b4) fun y3 => if y1 = y3 then (fL_law_1477 N k23 a0 x1 x2 x3 x4) else (fL_law_830 N a0)
def fL_law_817 (N : Nat) (a0 : Nat) : jM Int32 := jRn .boolean 0
def fL_law_794 (N : Nat) (k23 : Option Nat → Option Nat → Option Nat → Int32 → jM Int32) (a0 : Nat) (x1 : Option Nat) (x2 : Option Nat) (x3 : Option Nat) (x4 : Int32) : jM Int32 := jB (jaI 9 (some a0) (x4 + 1)) fun y1 => jB (jrc 0 x1) fun b3 => jB (fX1_need N b3 y1) fun y2 => jB (jaI 9 (some a0) (x4 + 1)) fun y4 => jB (jrc 7 x2) fun b6 => jB (fX7_need N b6 y4) fun y5 => if y2 = y5 then (fL_law_1477 N k23 a0 x1 x2 x3 x4) else (fL_law_817 N a0)
def fL_law_792 (N : Nat) (a0 : Nat) : jM Int32 := jRn .boolean 0
def fL_law_769 (N : Nat) (k23 : Option Nat → Option Nat → Option Nat → Int32 → jM Int32) (a0 : Nat) (x1 : Option Nat) (x2 : Option Nat) (x3 : Option Nat) (x4 : Int32) : jM Int32 := jB (jaI 9 (some a0) (x4 + 1)) fun y1 => jB (jrc 0 x1) fun b3 => jB (fX1_when N b3 y1) fun y2 => jB (jaI 9 (some a0) (x4 + 1)) fun y4 => jB (jrc 7 x2) fun b6 => jB (fX7_when N b6 y4) fun y5 => if y2 = y5 then (fL_law_1477 N k23 a0 x1 x2 x3 x4) else (fL_law_792 N a0)
def fL_law_767 (N : Nat) (a0 : Nat) : jM Int32 := jRn .boolean 0
def fL_law_720 (N : Nat) (k23 : Option Nat → Option Nat → Option Nat → Int32 → jM Int32) (a0 : Nat) (x1 : Option Nat) (x2 : Option Nat) (x3 : Option Nat) (x4 : Int32) : jM Int32 := jB (jaI 9 (some a0) (x4 + 1)) fun y1 => jB (jaI 9 (some a0) (x4 + 2)) fun y2 => jB (jaI 9 (some a0) (x4 + 3)) fun y3 => jB (jrc 0 x1) fun b5 => jB (fX1_later N b5 y1 y2 y3) fun y4 => jB (jaI 9 (some a0) (x4 + 1)) fun y6 => jB (jaI 9 (some a0) (x4 + 2)) fun y7 => jB (jaI 9 (some a0) (x4 + 3)) fun y8 => jB (jrc 7 x2) fun b10 => jB (fX7_later N b10 y6 y7 y8) fun y9 => if y4 = y9 then (fL_law_1477 N k23 a0 x1 x2 x3 x4) else (fL_law_767 N a0)
def fL_law_718 (N : Nat) (a0 : Nat) : jM Int32 := jRn .boolean 0
def fL_law_695 (N : Nat) (k23 : Option Nat → Option Nat → Option Nat → Int32 → jM Int32) (a0 : Nat) (x1 : Option Nat) (x2 : Option Nat) (x3 : Option Nat) (x4 : Int32) : jM Int32 := jB (jaI 9 (some a0) (x4 + 1)) fun y1 => jB (jrc 0 x1) fun b3 => jB (fX1_judged N b3 y1) fun y2 => jB (jaI 9 (some a0) (x4 + 1)) fun y4 => jB (jrc 7 x2) fun b6 => jB (fX7_judged N b6 y4) fun y5 => if y2 = y5 then (fL_law_1477 N k23 a0 x1 x2 x3 x4) else (fL_law_718 N a0)
def fL_law_693 (N : Nat) (a0 : Nat) : jM Int32 := jRn .boolean 0
def fL_law_682 (N : Nat) (k23 : Option Nat → Option Nat → Option Nat → Int32 → jM Int32) (a0 : Nat) (x1 : Option Nat) (x2 : Option Nat) (x3 : Option Nat) (x4 : Int32) : jM Int32 := jB (jrc 0 x1) fun b2 => jB (fX1_undo b2) fun y1 => jB (jrc 7 x2) fun b4 => jB (fX7_undo N b4) fun y3 => if y1 = y3 then (fL_law_1477 N k23 a0 x1 x2 x3 x4) else (fL_law_693 N a0)
def fL_law_680 (N : Nat) (a0 : Nat) : jM Int32 := jRn .boolean 0
def fL_law_669 (N : Nat) (k23 : Option Nat → Option Nat → Option Nat → Int32 → jM Int32) (a0 : Nat) (x1 : Option Nat) (x2 : Option Nat) (x3 : Option Nat) (x4 : Int32) : jM Int32 := jB (jrc 0 x1) fun b2 => jB (fX1_week b2) fun y1 => jB (jrc 7 x2) fun b4 => jB (fX7_week N b4) fun y3 => if y1 = y3 then (fL_law_1477 N k23 a0 x1 x2 x3 x4) else (fL_law_680 N a0)
def fL_law_667 (N : Nat) (a0 : Nat) : jM Int32 := jRn .boolean 0
def fL_law_644 (N : Nat) (k23 : Option Nat → Option Nat → Option Nat → Int32 → jM Int32) (a0 : Nat) (x1 : Option Nat) (x2 : Option Nat) (x3 : Option Nat) (x4 : Int32) : jM Int32 := jB (jaI 9 (some a0) (x4 + 1)) fun y1 => jB (jrc 0 x1) fun b3 => jB (fX1_third N b3 y1) fun y2 => jB (jaI 9 (some a0) (x4 + 1)) fun y4 => jB (jrc 7 x2) fun b6 => jB (fX7_third N b6 y4) fun y5 => if y2 = y5 then (fL_law_1477 N k23 a0 x1 x2 x3 x4) else (fL_law_667 N a0)
def fL_law_642 (N : Nat) (a0 : Nat) : jM Int32 := jRn .boolean 0
def fL_law_619 (N : Nat) (k23 : Option Nat → Option Nat → Option Nat → Int32 → jM Int32) (a0 : Nat) (x1 : Option Nat) (x2 : Option Nat) (x3 : Option Nat) (x4 : Int32) : jM Int32 := jB (jaI 9 (some a0) (x4 + 1)) fun y1 => jB (jrc 0 x1) fun b3 => jB (fX1_scrape N b3 y1) fun y2 => jB (jaI 9 (some a0) (x4 + 1)) fun y4 => jB (jrc 7 x2) fun b6 => jB (fX7_scrape N b6 y4) fun y5 => if y2 = y5 then (fL_law_1477 N k23 a0 x1 x2 x3 x4) else (fL_law_642 N a0)
def fL_law_617 (N : Nat) (a0 : Nat) : jM Int32 := jRn .boolean 0
def fL_law_570 (N : Nat) (k23 : Option Nat → Option Nat → Option Nat → Int32 → jM Int32) (a0 : Nat) (x1 : Option Nat) (x2 : Option Nat) (x3 : Option Nat) (x4 : Int32) : jM Int32 := jB (jaI 9 (some a0) (x4 + 1)) fun y1 => jB (jaI 9 (some a0) (x4 + 2)) fun y2 => jB (jaI 9 (some a0) (x4 + 3)) fun y3 => jB (jrc 0 x1) fun b5 => jB (fX1_write N b5 y1 y2 y3) fun y4 => jB (jaI 9 (some a0) (x4 + 1)) fun y6 => jB (jaI 9 (some a0) (x4 + 2)) fun y7 => jB (jaI 9 (some a0) (x4 + 3)) fun y8 => jB (jrc 7 x2) fun b10 => jB (fX7_write N b10 y6 y7 y8) fun y9 => if y4 = y9 then (fL_law_1477 N k23 a0 x1 x2 x3 x4) else (fL_law_617 N a0)
def fL_law_568 (N : Nat) (a0 : Nat) : jM Int32 := jRn .boolean 0
def fL_law_533 (N : Nat) (k23 : Option Nat → Option Nat → Option Nat → Int32 → jM Int32) (a0 : Nat) (x1 : Option Nat) (x2 : Option Nat) (x3 : Option Nat) (x4 : Int32) : jM Int32 := jB (jaI 9 (some a0) (x4 + 1)) fun y1 => jB (jaI 9 (some a0) (x4 + 2)) fun y2 => jB (jrc 0 x1) fun b4 => jB (fX1_read N b4 y1 y2) fun y3 => jB (jaI 9 (some a0) (x4 + 1)) fun y5 => jB (jaI 9 (some a0) (x4 + 2)) fun y6 => jB (jrc 7 x2) fun b8 => jB (fX7_read N b8 y5 y6) fun y7 => if y3 = y7 then (fL_law_1477 N k23 a0 x1 x2 x3 x4) else (fL_law_568 N a0)
def fL_law_531 (N : Nat) (a0 : Nat) : jM Int32 := jRn .boolean 0
def fL_law_484 (N : Nat) (k23 : Option Nat → Option Nat → Option Nat → Int32 → jM Int32) (a0 : Nat) (x1 : Option Nat) (x2 : Option Nat) (x3 : Option Nat) (x4 : Int32) : jM Int32 := jB (jaI 9 (some a0) (x4 + 1)) fun y1 => jB (jaI 9 (some a0) (x4 + 2)) fun y2 => jB (jaI 9 (some a0) (x4 + 3)) fun y3 => jB (jrc 0 x1) fun b5 => jB (fX1_layer b5 y1 y2 y3) fun y4 => jB (jaI 9 (some a0) (x4 + 1)) fun y6 => jB (jaI 9 (some a0) (x4 + 2)) fun y7 => jB (jaI 9 (some a0) (x4 + 3)) fun y8 => jB (jrc 7 x2) fun b10 => jB (fX7_layer N b10 y6 y7 y8) fun y9 => if y4 = y9 then (fL_law_1477 N k23 a0 x1 x2 x3 x4) else (fL_law_531 N a0)
def fL_law_482 (N : Nat) (a0 : Nat) : jM Int32 := jRn .boolean 0
def fL_law_447 (N : Nat) (k23 : Option Nat → Option Nat → Option Nat → Int32 → jM Int32) (a0 : Nat) (x1 : Option Nat) (x2 : Option Nat) (x3 : Option Nat) (x4 : Int32) : jM Int32 := jB (jaI 9 (some a0) (x4 + 1)) fun y1 => jB (jaI 9 (some a0) (x4 + 2)) fun y2 => jB (jrc 0 x1) fun b4 => jB (fX1_layers b4 y1 y2) fun y3 => jB (jaI 9 (some a0) (x4 + 1)) fun y5 => jB (jaI 9 (some a0) (x4 + 2)) fun y6 => jB (jrc 7 x2) fun b8 => jB (fX7_layers N b8 y5 y6) fun y7 => if y3 = y7 then (fL_law_1477 N k23 a0 x1 x2 x3 x4) else (fL_law_482 N a0)
def fL_law_445 (N : Nat) (a0 : Nat) : jM Int32 := jRn .boolean 0
def fL_law_410 (N : Nat) (k23 : Option Nat → Option Nat → Option Nat → Int32 → jM Int32) (a0 : Nat) (x1 : Option Nat) (x2 : Option Nat) (x3 : Option Nat) (x4 : Int32) : jM Int32 := jB (jaI 9 (some a0) (x4 + 1)) fun y1 => jB (jaI 9 (some a0) (x4 + 2)) fun y2 => jB (jrc 0 x1) fun b4 => jB (fX1_text N b4 y1 y2) fun y3 => jB (jaI 9 (some a0) (x4 + 1)) fun y5 => jB (jaI 9 (some a0) (x4 + 2)) fun y6 => jB (jrc 7 x2) fun b8 => jB (fX7_text N b8 y5 y6) fun y7 => if y3 = y7 then (fL_law_1477 N k23 a0 x1 x2 x3 x4) else (fL_law_445 N a0)
def fL_law_408 (N : Nat) (a0 : Nat) : jM Int32 := jRn .boolean 0
def fL_law_373 (N : Nat) (k23 : Option Nat → Option Nat → Option Nat → Int32 → jM Int32) (a0 : Nat) (x1 : Option Nat) (x2 : Option Nat) (x3 : Option Nat) (x4 : Int32) : jM Int32 := jB (jaI 9 (some a0) (x4 + 1)) fun y1 => jB (jaI 9 (some a0) (x4 + 2)) fun y2 => jB (jrc 0 x1) fun b4 => jB (fX1_skin N b4 y1 y2) fun y3 => jB (jaI 9 (some a0) (x4 + 1)) fun y5 => jB (jaI 9 (some a0) (x4 + 2)) fun y6 => jB (jrc 7 x2) fun b8 => jB (fX7_skin N b8 y5 y6) fun y7 => if y3 = y7 then (fL_law_1477 N k23 a0 x1 x2 x3 x4) else (fL_law_408 N a0)
def fL_law_371 (N : Nat) (a0 : Nat) : jM Int32 := jRn .boolean 0
def fL_law_360 (N : Nat) (k23 : Option Nat → Option Nat → Option Nat → Int32 → jM Int32) (a0 : Nat) (x1 : Option Nat) (x2 : Option Nat) (x3 : Option Nat) (x4 : Int32) : jM Int32 := jB (jrc 0 x1) fun b2 => jB (fX1_year N b2) fun y1 => jB (jrc 7 x2) fun b4 => jB (fX7_year N b4) fun y3 => if y1 = y3 then (fL_law_1477 N k23 a0 x1 x2 x3 x4) else (fL_law_371 N a0)
def fL_law_358 (N : Nat) (a0 : Nat) : jM Int32 := jRn .boolean 0
def fL_law_347 (N : Nat) (k23 : Option Nat → Option Nat → Option Nat → Int32 → jM Int32) (a0 : Nat) (x1 : Option Nat) (x2 : Option Nat) (x3 : Option Nat) (x4 : Int32) : jM Int32 := jB (jrc 0 x1) fun b2 => jB (fX1_library N b2) fun y1 => jB (jrc 7 x2) fun b4 => jB (fX7_library N b4) fun y3 => if y1 = y3 then (fL_law_1477 N k23 a0 x1 x2 x3 x4) else (fL_law_358 N a0)
def fL_law_345 (N : Nat) (a0 : Nat) : jM Int32 := jRn .boolean 0
def fL_law_200 (N : Nat) (k23 : Option Nat → Option Nat → Option Nat → Int32 → jM Int32) (a0 : Nat) (x1 : Option Nat) (x2 : Option Nat) (x3 : Option Nat) (x4 : Int32) : jM Int32 := jB (jaI 9 (some a0) (x4 + 1)) fun y1 => jB (jaI 9 (some a0) (x4 + 2)) fun y2 => jB (jaI 9 (some a0) (x4 + 3)) fun y3 => jB (jaI 9 (some a0) (x4 + 4)) fun y4 => jB (jaI 9 (some a0) (x4 + 5)) fun y5 => jB (jaI 9 (some a0) (x4 + 6)) fun y6 => jB (jrc 0 x1) fun b8 => jB (fX1_feed N b8 (((y1.toInt64) <<< ((32 : Int32).toInt64 &&& 63)) ||| ((y2.toInt64) &&& 4294967295)) (((y3.toInt64) <<< ((32 : Int32).toInt64 &&& 63)) ||| ((y4.toInt64) &&& 4294967295)) (((y5.toInt64) <<< ((32 : Int32).toInt64 &&& 63)) ||| ((y6.toInt64) &&& 4294967295))) fun y7 => jB (jaI 9 (some a0) (x4 + 1)) fun y9 => jB (jaI 9 (some a0) (x4 + 2)) fun y10 => jB (jaI 9 (some a0) (x4 + 3)) fun y11 => jB (jaI 9 (some a0) (x4 + 4)) fun y12 => jB (jaI 9 (some a0) (x4 + 5)) fun y13 => jB (jaI 9 (some a0) (x4 + 6)) fun y14 => jB (jrc 7 x2) fun b16 => jB (fX7_feed N b16 (((y9.toInt64) <<< ((32 : Int32).toInt64 &&& 63)) ||| ((y10.toInt64) &&& 4294967295)) (((y11.toInt64) <<< ((32 : Int32).toInt64 &&& 63)) ||| ((y12.toInt64) &&& 4294967295)) (((y13.toInt64) <<< ((32 : Int32).toInt64 &&& 63)) ||| ((y14.toInt64) &&& 4294967295))) fun y15 => if y7 = y15 then (fL_law_1477 N k23 a0 x1 x2 x3 x4) else (fL_law_345 N a0)
def fL_law_23 (N : Nat) (a0 : Nat) : Nat → Option Nat → Option Nat → Option Nat → Int32 → jM Int32
  | 0, _, _, _, _ => jE
  | n + 1, x1, x2, x3, x4 => jB (jln (some a0)) fun y1 => if (y1 - 7) < x4 then (fL_law_1483 N a0) else (jB (jaI 9 (some a0) x4) fun y2 => if (y2 &&& 63) = 0 then (fL_law_200 N (fL_law_23 N a0 n) a0 x1 x2 x3 x4) else (if (y2 &&& 63) = 1 then (fL_law_347 N (fL_law_23 N a0 n) a0 x1 x2 x3 x4) else (if (y2 &&& 63) = 2 then (fL_law_360 N (fL_law_23 N a0 n) a0 x1 x2 x3 x4) else (if (y2 &&& 63) = 3 then (fL_law_373 N (fL_law_23 N a0 n) a0 x1 x2 x3 x4) else (if (y2 &&& 63) = 4 then (fL_law_410 N (fL_law_23 N a0 n) a0 x1 x2 x3 x4) else (if (y2 &&& 63) = 5 then (fL_law_447 N (fL_law_23 N a0 n) a0 x1 x2 x3 x4) else (if (y2 &&& 63) = 6 then (fL_law_484 N (fL_law_23 N a0 n) a0 x1 x2 x3 x4) else (if (y2 &&& 63) = 7 then (fL_law_533 N (fL_law_23 N a0 n) a0 x1 x2 x3 x4) else (if (y2 &&& 63) = 8 then (fL_law_570 N (fL_law_23 N a0 n) a0 x1 x2 x3 x4) else (if (y2 &&& 63) = 9 then (fL_law_619 N (fL_law_23 N a0 n) a0 x1 x2 x3 x4) else (if (y2 &&& 63) = 10 then (fL_law_644 N (fL_law_23 N a0 n) a0 x1 x2 x3 x4) else (if (y2 &&& 63) = 11 then (fL_law_669 N (fL_law_23 N a0 n) a0 x1 x2 x3 x4) else (if (y2 &&& 63) = 12 then (fL_law_682 N (fL_law_23 N a0 n) a0 x1 x2 x3 x4) else (if (y2 &&& 63) = 13 then (fL_law_695 N (fL_law_23 N a0 n) a0 x1 x2 x3 x4) else (if (y2 &&& 63) = 14 then (fL_law_720 N (fL_law_23 N a0 n) a0 x1 x2 x3 x4) else (if (y2 &&& 63) = 15 then (fL_law_769 N (fL_law_23 N a0 n) a0 x1 x2 x3 x4) else (if (y2 &&& 63) = 16 then (fL_law_794 N (fL_law_23 N a0 n) a0 x1 x2 x3 x4) else (if (y2 &&& 63) = 17 then (fL_law_819 N (fL_law_23 N a0 n) a0 x1 x2 x3 x4) else (if (y2 &&& 63) = 18 then (fL_law_832 N (fL_law_23 N a0 n) a0 x1 x2 x3 x4) else (if (y2 &&& 63) = 19 then (fL_law_869 N (fL_law_23 N a0 n) a0 x1 x2 x3 x4) else (if (y2 &&& 63) = 20 then (fL_law_906 N (fL_law_23 N a0 n) a0 x1 x2 x3 x4) else (if (y2 &&& 63) = 21 then (fL_law_931 N (fL_law_23 N a0 n) a0 x1 x2 x3 x4) else (if (y2 &&& 63) = 22 then (fL_law_968 N (fL_law_23 N a0 n) a0 x1 x2 x3 x4) else (if (y2 &&& 63) = 23 then (fL_law_993 N (fL_law_23 N a0 n) a0 x1 x2 x3 x4) else (if (y2 &&& 63) = 24 then (fL_law_1018 N (fL_law_23 N a0 n) a0 x1 x2 x3 x4) else (if (y2 &&& 63) = 25 then (fL_law_1043 N (fL_law_23 N a0 n) a0 x1 x2 x3 x4) else (if (y2 &&& 63) = 26 then (fL_law_1056 N (fL_law_23 N a0 n) a0 x1 x2 x3 x4) else (if (y2 &&& 63) = 27 then (fL_law_1069 N (fL_law_23 N a0 n) a0 x1 x2 x3 x4) else (if (y2 &&& 63) = 28 then (fL_law_1094 N (fL_law_23 N a0 n) a0 x1 x2 x3 x4) else (if (y2 &&& 63) = 29 then (fL_law_1171 N (fL_law_23 N a0 n) a0 x1 x2 x3 x4) else (if (y2 &&& 63) = 30 then (fL_law_1184 N (fL_law_23 N a0 n) a0 x1 x2 x3 x4) else (if (y2 &&& 63) = 31 then (fL_law_1209 N (fL_law_23 N a0 n) a0 x1 x2 x3 x4) else (if (y2 &&& 63) = 32 then (fL_law_1258 N (fL_law_23 N a0 n) a0 x1 x2 x3 x4) else (if (y2 &&& 63) = 33 then (fL_law_1350 N (fL_law_23 N a0 n) a0 x1 x2 x3 x4) else (if (y2 &&& 63) = 34 then (fL_law_1399 N (fL_law_23 N a0 n) a0 x1 x2 x3 x4) else (if (y2 &&& 63) = 35 then (fL_law_1452 N (fL_law_23 N a0 n) a0 x1 x2 x3 x4) else (fL_law_1477 N (fL_law_23 N a0 n) a0 x1 x2 x3 x4)))))))))))))))))))))))))))))))))))))
def fL_law (N : Nat) (a0 : Nat) (x1 : Option Nat) : jM Int32 := jB (jnw 0 9 [.null, .null, .null, .null, .null, .null, .null, .long 0, .null]) fun q1 => jB (fX1_init N q1) fun _ => jB (jnw 7 59 [.int 0, .int 0, .null, .int 0, .int 0, .int 0, .int 0, .long 0, .int 0, .int 0, .null, .null, .null, .null, .null, .null, .null, .null, .null, .null, .null, .null, .null, .int 0, .null, .null, .null, .null, .null, .null, .null, .null, .null, .null, .null, .null, .int 0, .long 0, .null, .null, .null, .null, .null, .null, .null, .null, .null, .null, .null, .null, .null, .null, .null, .null, .int 0, .null, .null, .int 0, .long 0]) fun q3 => jB (fX7_init q3) fun _ => jB (jnaL 1 1) fun q5 => fL_law_23 N a0 N (some q1) (some q3) (some q5) 0
theorem wL_law_1483 {N : Nat} {r : Int32} (cx : jCx p s m args meth c cL_law "WornSkinLaw" 7 ret D dA H0 hs.2.2.2.2) (e1 : h'.2.2.1 ≤ hs.2.2.1 + 774447) (e2 : h'.2.2.2.1 ≤ hs.2.2.2.1 + 6772764) (hfl : l.stackTraces = false) {b : Nat} (hr1 : r = 1) (hA : args = #[Value.ref b]) (hH0 : H0 = s.heap) (a0 : Nat) : ∀ (h : jH) (H : Heap) (locs : List Loc) (cells slots : Nat) (ls : Array Slot), (fL_law_1483 N a0).1 h = some (r, h') → jS D dA H0 hs h H locs cells slots → lv_has ls 7 [(0, .ref a0)] → W p l e room_1 s m args below meth c H locs cells slots (lw_Z below args s) (F0 m 1483 ls []) := by
  have hx := cx.1
  have hb := cx.2.1
  have hown := cx.2.2.2.1
  have hts := cx.2.2.2.2.1
  have hm : h'.2.2.1 ≤ hs.2.2.1 + room_1.cells ∧ h'.2.2.2.1 ≤ hs.2.2.2.1 + room_1.slots := ⟨e1, e2⟩
  intro h H locs cells slots ls hf hS hl
  unfold fL_law_1483 at hf
  refine lv_iconst (pc := 1483) (v := 1) hx hb dL_law_1483 rfl ?_
  exact j_lawret (pc := 1484) cx hS hf hr1 hA hH0 e1 e2 dL_law_1484
theorem wL_law_1477 {N : Nat} {k23 : Option Nat → Option Nat → Option Nat → Int32 → jM Int32} {r : Int32} (cx : jCx p s m args meth c cL_law "WornSkinLaw" 7 ret D dA H0 hs.2.2.2.2) (e1 : h'.2.2.1 ≤ hs.2.2.1 + 774447) (e2 : h'.2.2.2.1 ≤ hs.2.2.2.1 + 6772764) (hfl : l.stackTraces = false) {b : Nat} (hr1 : r = 1) (hA : args = #[Value.ref b]) (hH0 : H0 = s.heap) (a0 : Nat) (hk23 : ∀ (x1 : Option Nat) (x2 : Option Nat) (x3 : Option Nat) (x4 : Int32), ∀ (h : jH) (H : Heap) (locs : List Loc) (cells slots : Nat) (ls : Array Slot), (k23 x1 x2 x3 x4).1 h = some (r, h') → jS D dA H0 hs h H locs cells slots → lv_has ls 7 [(0, .ref a0), (1, va_rf x1), (2, va_rf x2), (3, va_rf x3), (4, .int x4)] → W p l e room_1 s m args below meth c H locs cells slots (lw_Z below args s) (F0 m 23 ls [])) : ∀ (x1 : Option Nat) (x2 : Option Nat) (x3 : Option Nat) (x4 : Int32), ∀ (h : jH) (H : Heap) (locs : List Loc) (cells slots : Nat) (ls : Array Slot), (fL_law_1477 N k23 a0 x1 x2 x3 x4).1 h = some (r, h') → jS D dA H0 hs h H locs cells slots → lv_has ls 7 [(0, .ref a0), (1, va_rf x1), (2, va_rf x2), (3, va_rf x3), (4, .int x4)] → W p l e room_1 s m args below meth c H locs cells slots (lw_Z below args s) (F0 m 1477 ls []) := by
  have hx := cx.1
  have hb := cx.2.1
  have hown := cx.2.2.2.1
  have hts := cx.2.2.2.2.1
  have hm : h'.2.2.1 ≤ hs.2.2.1 + room_1.cells ∧ h'.2.2.2.1 ≤ hs.2.2.2.1 + room_1.slots := ⟨e1, e2⟩
  intro x1 x2 x3 x4 h H locs cells slots ls hf hS hl
  unfold fL_law_1477 at hf
  refine lv_iinc (pc := 1477) (v := (x4 + 7)) (lv' := [(4, .int (x4 + 7)), (0, .ref a0), (1, va_rf x1), (2, va_rf x2), (3, va_rf x3)]) hx hb dL_law_1477 hl (k := 4) rfl rfl (Nat.le_of_ble_eq_true rfl) (by cases x3 <;> rfl) (fun ls hl => ?_)
  refine lv_goto (pc := 1480) (tgt := 23) hx hb dL_law_1480 (by decide) ?_
  exact hk23 _ _ _ _ _ _ _ _ _ _ hf hS (lv_sub hl [1, 2, 3, 4, 0] rfl)
theorem wL_law_1475 {N : Nat} {r : Int32} (cx : jCx p s m args meth c cL_law "WornSkinLaw" 7 ret D dA H0 hs.2.2.2.2) (e1 : h'.2.2.1 ≤ hs.2.2.1 + 774447) (e2 : h'.2.2.2.1 ≤ hs.2.2.2.1 + 6772764) (hfl : l.stackTraces = false) {b : Nat} (hr1 : r = 1) (hA : args = #[Value.ref b]) (hH0 : H0 = s.heap) (a0 : Nat) : ∀ (h : jH) (H : Heap) (locs : List Loc) (cells slots : Nat) (ls : Array Slot), (fL_law_1475 N a0).1 h = some (r, h') → jS D dA H0 hs h H locs cells slots → lv_has ls 7 [(0, .ref a0)] → W p l e room_1 s m args below meth c H locs cells slots (lw_Z below args s) (F0 m 1475 ls []) := by
  have hx := cx.1
  have hb := cx.2.1
  have hown := cx.2.2.2.1
  have hts := cx.2.2.2.2.1
  have hm : h'.2.2.1 ≤ hs.2.2.1 + room_1.cells ∧ h'.2.2.2.1 ≤ hs.2.2.2.1 + room_1.slots := ⟨e1, e2⟩
  intro h H locs cells slots ls hf hS hl
  unfold fL_law_1475 at hf
  refine lv_iconst (pc := 1475) (v := 0) hx hb dL_law_1475 rfl ?_
  exact j_lawret (pc := 1476) cx hS hf hr1 hA hH0 e1 e2 dL_law_1476
theorem wL_law_1452 {N : Nat} {k23 : Option Nat → Option Nat → Option Nat → Int32 → jM Int32} {r : Int32} (cx : jCx p s m args meth c cL_law "WornSkinLaw" 7 ret D dA H0 hs.2.2.2.2) (e1 : h'.2.2.1 ≤ hs.2.2.1 + 774447) (e2 : h'.2.2.2.1 ≤ hs.2.2.2.1 + 6772764) (hfl : l.stackTraces = false) {b : Nat} (hr1 : r = 1) (hA : args = #[Value.ref b]) (hH0 : H0 = s.heap) (a0 : Nat) (hk23 : ∀ (x1 : Option Nat) (x2 : Option Nat) (x3 : Option Nat) (x4 : Int32), ∀ (h : jH) (H : Heap) (locs : List Loc) (cells slots : Nat) (ls : Array Slot), (k23 x1 x2 x3 x4).1 h = some (r, h') → jS D dA H0 hs h H locs cells slots → lv_has ls 7 [(0, .ref a0), (1, va_rf x1), (2, va_rf x2), (3, va_rf x3), (4, .int x4)] → W p l e room_1 s m args below meth c H locs cells slots (lw_Z below args s) (F0 m 23 ls [])) : ∀ (x1 : Option Nat) (x2 : Option Nat) (x3 : Option Nat) (x4 : Int32), ∀ (h : jH) (H : Heap) (locs : List Loc) (cells slots : Nat) (ls : Array Slot), (fL_law_1452 N k23 a0 x1 x2 x3 x4).1 h = some (r, h') → jS D dA H0 hs h H locs cells slots → lv_has ls 7 [(0, .ref a0), (1, va_rf x1), (2, va_rf x2), (3, va_rf x3), (4, .int x4)] → W p l e room_1 s m args below meth c H locs cells slots (lw_Z below args s) (F0 m 1452 ls []) := by
  have hx := cx.1
  have hb := cx.2.1
  have hown := cx.2.2.2.1
  have hts := cx.2.2.2.2.1
  have hm : h'.2.2.1 ≤ hs.2.2.1 + room_1.cells ∧ h'.2.2.2.1 ≤ hs.2.2.2.1 + room_1.slots := ⟨e1, e2⟩
  intro x1 x2 x3 x4 h H locs cells slots ls hf hS hl
  unfold fL_law_1452 at hf
  refine j_aload_n (pc := 1452) (r := x1) hx hb dL_law_1452 rfl (lv_at hl 1 rfl) ?_
  refine lv_aload_n (pc := 1453) hx hb dL_law_1453 rfl (lv_at hl 0 rfl) ?_
  refine lv_iload (pc := 1454) hx hb dL_law_1454 (lv_at hl 4 rfl) ?_
  refine lv_iconst (pc := 1456) (v := 1) hx hb dL_law_1456 rfl ?_
  refine lv_iadd (pc := 1457) hx hb dL_law_1457 ?_
  refine j_aI (pc := 1458) cx hS hf rfl dL_law_1458 (fun y1 hf => ?_)
  obtain ⟨b3, eb, hrc, hf⟩ := jrc_s hf
  refine j_nn (pc := 1459) eb [.int y1] [] rfl ?_
  obtain ⟨y2, h1, e9, hf⟩ := jB_some hf
  refine j_callV (pc := 1459) (st1 := [.int y2]) (As := [.int y1]) (rest := []) cx hS rfl hl.1 hm (metX1_count l _ _ _ _ _ _ hrc e9) (jle hf) hrc rfl (lw_V q1633 q1634 q1635 q112 q1636) pdX1_count rfl rfl (Nat.le_of_ble_eq_true rfl) ⟨Nat.le_of_ble_eq_true rfl, Nat.le_of_ble_eq_true rfl⟩ dL_law_1459 rfl (fun H locs cells slots hS => ?_)
  refine j_aload_n (pc := 1462) (r := x2) hx hb dL_law_1462 rfl (lv_at hl 2 rfl) ?_
  refine lv_aload_n (pc := 1463) hx hb dL_law_1463 rfl (lv_at hl 0 rfl) ?_
  refine lv_iload (pc := 1464) hx hb dL_law_1464 (lv_at hl 4 rfl) ?_
  refine lv_iconst (pc := 1466) (v := 1) hx hb dL_law_1466 rfl ?_
  refine lv_iadd (pc := 1467) hx hb dL_law_1467 ?_
  refine j_aI (pc := 1468) cx hS hf rfl dL_law_1468 (fun y4 hf => ?_)
  obtain ⟨b6, eb, hrc, hf⟩ := jrc_s hf
  refine j_nn (pc := 1469) eb [.int y4] [.int y2] rfl ?_
  obtain ⟨y5, h1, e9, hf⟩ := jB_some hf
  refine j_callV (pc := 1469) (st1 := [.int y5, .int y2]) (As := [.int y4]) (rest := [.int y2]) cx hS rfl hl.1 hm (metX7_count l _ _ _ _ _ _ hrc e9) (jle hf) hrc rfl (lw_V q2300 q2301 q2302 q123 q2303) pdX7_count rfl rfl (Nat.le_of_ble_eq_true rfl) ⟨Nat.le_of_ble_eq_true rfl, Nat.le_of_ble_eq_true rfl⟩ dL_law_1469 rfl (fun H locs cells slots hS => ?_)
  refine lv_icmp_eq (pc := 1472) (tgt := 1477) hx hb dL_law_1472 (by decide) (fun hc => ?_) (fun hc => ?_)
  · have hf := jI_t hf hc
    exact wL_law_1477 cx e1 e2 hfl hr1 hA hH0 a0 hk23 _ _ _ _ _ _ _ _ _ _ hf hS hl
  · have hf := jI_f hf hc
    exact wL_law_1475 cx e1 e2 hfl hr1 hA hH0 a0 _ _ _ _ _ _ hf hS (lv_sub hl [0] rfl)
theorem wL_law_1450 {N : Nat} {r : Int32} (cx : jCx p s m args meth c cL_law "WornSkinLaw" 7 ret D dA H0 hs.2.2.2.2) (e1 : h'.2.2.1 ≤ hs.2.2.1 + 774447) (e2 : h'.2.2.2.1 ≤ hs.2.2.2.1 + 6772764) (hfl : l.stackTraces = false) {b : Nat} (hr1 : r = 1) (hA : args = #[Value.ref b]) (hH0 : H0 = s.heap) (a0 : Nat) : ∀ (h : jH) (H : Heap) (locs : List Loc) (cells slots : Nat) (ls : Array Slot), (fL_law_1450 N a0).1 h = some (r, h') → jS D dA H0 hs h H locs cells slots → lv_has ls 7 [(0, .ref a0)] → W p l e room_1 s m args below meth c H locs cells slots (lw_Z below args s) (F0 m 1450 ls []) := by
  have hx := cx.1
  have hb := cx.2.1
  have hown := cx.2.2.2.1
  have hts := cx.2.2.2.2.1
  have hm : h'.2.2.1 ≤ hs.2.2.1 + room_1.cells ∧ h'.2.2.2.1 ≤ hs.2.2.2.1 + room_1.slots := ⟨e1, e2⟩
  intro h H locs cells slots ls hf hS hl
  unfold fL_law_1450 at hf
  refine lv_iconst (pc := 1450) (v := 0) hx hb dL_law_1450 rfl ?_
  exact j_lawret (pc := 1451) cx hS hf hr1 hA hH0 e1 e2 dL_law_1451
theorem wL_law_1444 {N : Nat} {k23 : Option Nat → Option Nat → Option Nat → Int32 → jM Int32} {r : Int32} (cx : jCx p s m args meth c cL_law "WornSkinLaw" 7 ret D dA H0 hs.2.2.2.2) (e1 : h'.2.2.1 ≤ hs.2.2.1 + 774447) (e2 : h'.2.2.2.1 ≤ hs.2.2.2.1 + 6772764) (hfl : l.stackTraces = false) {b : Nat} (hr1 : r = 1) (hA : args = #[Value.ref b]) (hH0 : H0 = s.heap) (a0 : Nat) (hk23 : ∀ (x1 : Option Nat) (x2 : Option Nat) (x3 : Option Nat) (x4 : Int32), ∀ (h : jH) (H : Heap) (locs : List Loc) (cells slots : Nat) (ls : Array Slot), (k23 x1 x2 x3 x4).1 h = some (r, h') → jS D dA H0 hs h H locs cells slots → lv_has ls 7 [(0, .ref a0), (1, va_rf x1), (2, va_rf x2), (3, va_rf x3), (4, .int x4)] → W p l e room_1 s m args below meth c H locs cells slots (lw_Z below args s) (F0 m 23 ls [])) : ∀ (x1 : Option Nat) (x2 : Option Nat) (x3 : Option Nat) (x4 : Int32) (v0 : Int32) (v1 : Option Nat) (v2 : Int32) (v3 : Int32), ∀ (h : jH) (H : Heap) (locs : List Loc) (cells slots : Nat) (ls : Array Slot), (fL_law_1444 N k23 a0 x1 x2 x3 x4 v0 v1 v2 v3).1 h = some (r, h') → jS D dA H0 hs h H locs cells slots → lv_has ls 7 [(0, .ref a0), (1, va_rf x1), (2, va_rf x2), (3, va_rf x3), (4, .int x4)] → W p l e room_1 s m args below meth c H locs cells slots (lw_Z below args s) (F0 m 1444 ls [.int v3, .int v2, va_rf v1, .int v0]) := by
  have hx := cx.1
  have hb := cx.2.1
  have hown := cx.2.2.2.1
  have hts := cx.2.2.2.2.1
  have hm : h'.2.2.1 ≤ hs.2.2.1 + room_1.cells ∧ h'.2.2.2.1 ≤ hs.2.2.2.1 + room_1.slots := ⟨e1, e2⟩
  intro x1 x2 x3 x4 v0 v1 v2 v3 h H locs cells slots ls hf hS hl
  unfold fL_law_1444 at hf
  obtain ⟨b2, eb, hrc, hf⟩ := jrc_s hf
  refine j_nn (pc := 1444) eb [.int v3, .int v2] [.int v0] rfl ?_
  obtain ⟨y1, h1, e9, hf⟩ := jB_some hf
  refine j_callV (pc := 1444) (st1 := [.int y1, .int v0]) (As := [.int v2, .int v3]) (rest := [.int v0]) cx hS rfl hl.1 hm (metX7_mark l _ _ _ _ _ _ _ hrc e9) (jle hf) hrc rfl (lw_V q2292 q2293 q2294 q123 q2295) pdX7_mark rfl rfl (Nat.le_of_ble_eq_true rfl) ⟨Nat.le_of_ble_eq_true rfl, Nat.le_of_ble_eq_true rfl⟩ dL_law_1444 rfl (fun H locs cells slots hS => ?_)
  refine lv_icmp_eq (pc := 1447) (tgt := 1477) hx hb dL_law_1447 (by decide) (fun hc => ?_) (fun hc => ?_)
  · have hf := jI_t hf hc
    exact wL_law_1477 cx e1 e2 hfl hr1 hA hH0 a0 hk23 _ _ _ _ _ _ _ _ _ _ hf hS hl
  · have hf := jI_f hf hc
    exact wL_law_1450 cx e1 e2 hfl hr1 hA hH0 a0 _ _ _ _ _ _ hf hS (lv_sub hl [0] rfl)
theorem wL_law_1420 {N : Nat} {k23 : Option Nat → Option Nat → Option Nat → Int32 → jM Int32} {r : Int32} (cx : jCx p s m args meth c cL_law "WornSkinLaw" 7 ret D dA H0 hs.2.2.2.2) (e1 : h'.2.2.1 ≤ hs.2.2.1 + 774447) (e2 : h'.2.2.2.1 ≤ hs.2.2.2.1 + 6772764) (hfl : l.stackTraces = false) {b : Nat} (hr1 : r = 1) (hA : args = #[Value.ref b]) (hH0 : H0 = s.heap) (a0 : Nat) (hk23 : ∀ (x1 : Option Nat) (x2 : Option Nat) (x3 : Option Nat) (x4 : Int32), ∀ (h : jH) (H : Heap) (locs : List Loc) (cells slots : Nat) (ls : Array Slot), (k23 x1 x2 x3 x4).1 h = some (r, h') → jS D dA H0 hs h H locs cells slots → lv_has ls 7 [(0, .ref a0), (1, va_rf x1), (2, va_rf x2), (3, va_rf x3), (4, .int x4)] → W p l e room_1 s m args below meth c H locs cells slots (lw_Z below args s) (F0 m 23 ls [])) : ∀ (x1 : Option Nat) (x2 : Option Nat) (x3 : Option Nat) (x4 : Int32) (v0 : Option Nat) (v1 : Int32) (v2 : Int32), ∀ (h : jH) (H : Heap) (locs : List Loc) (cells slots : Nat) (ls : Array Slot), (fL_law_1420 N k23 a0 x1 x2 x3 x4 v0 v1 v2).1 h = some (r, h') → jS D dA H0 hs h H locs cells slots → lv_has ls 7 [(0, .ref a0), (1, va_rf x1), (2, va_rf x2), (3, va_rf x3), (4, .int x4)] → W p l e room_1 s m args below meth c H locs cells slots (lw_Z below args s) (F0 m 1420 ls [.int v2, .int v1, va_rf v0]) := by
  have hx := cx.1
  have hb := cx.2.1
  have hown := cx.2.2.2.1
  have hts := cx.2.2.2.2.1
  have hm : h'.2.2.1 ≤ hs.2.2.1 + room_1.cells ∧ h'.2.2.2.1 ≤ hs.2.2.2.1 + room_1.slots := ⟨e1, e2⟩
  intro x1 x2 x3 x4 v0 v1 v2 h H locs cells slots ls hf hS hl
  unfold fL_law_1420 at hf
  obtain ⟨b2, eb, hrc, hf⟩ := jrc_s hf
  refine j_nn (pc := 1420) eb [.int v2, .int v1] [] rfl ?_
  obtain ⟨y1, h1, e9, hf⟩ := jB_some hf
  refine j_callV (pc := 1420) (st1 := [.int y1]) (As := [.int v1, .int v2]) (rest := []) cx hS rfl hl.1 hm (metX1_mark l _ _ _ _ _ _ _ hrc e9) (jle hf) hrc rfl (lw_V q1608 q1609 q1610 q112 q1611) pdX1_mark rfl rfl (Nat.le_of_ble_eq_true rfl) ⟨Nat.le_of_ble_eq_true rfl, Nat.le_of_ble_eq_true rfl⟩ dL_law_1420 rfl (fun H locs cells slots hS => ?_)
  refine j_aload_n (pc := 1423) (r := x2) hx hb dL_law_1423 rfl (lv_at hl 2 rfl) ?_
  refine lv_aload_n (pc := 1424) hx hb dL_law_1424 rfl (lv_at hl 0 rfl) ?_
  refine lv_iload (pc := 1425) hx hb dL_law_1425 (lv_at hl 4 rfl) ?_
  refine lv_iconst (pc := 1427) (v := 1) hx hb dL_law_1427 rfl ?_
  refine lv_iadd (pc := 1428) hx hb dL_law_1428 ?_
  refine j_aI (pc := 1429) cx hS hf rfl dL_law_1429 (fun y3 hf => ?_)
  refine lv_aload_n (pc := 1430) hx hb dL_law_1430 rfl (lv_at hl 0 rfl) ?_
  refine lv_iload (pc := 1431) hx hb dL_law_1431 (lv_at hl 4 rfl) ?_
  refine lv_iconst (pc := 1433) (v := 2) hx hb dL_law_1433 rfl ?_
  refine lv_iadd (pc := 1434) hx hb dL_law_1434 ?_
  refine j_aI (pc := 1435) cx hS hf rfl dL_law_1435 (fun y4 hf => ?_)
  refine lv_if_eq (pc := 1436) (tgt := 1443) hx hb dL_law_1436 (by decide) (fun hc => ?_) (fun hc => ?_)
  · have hf := jI_t hf hc
    refine lv_iconst (pc := 1443) (v := 0) hx hb dL_law_1443 rfl ?_
    exact wL_law_1444 cx e1 e2 hfl hr1 hA hH0 a0 hk23 _ _ _ _ _ _ _ _ _ _ _ _ _ _ hf hS hl
  · have hf := jI_f hf hc
    refine lv_iconst (pc := 1439) (v := 1) hx hb dL_law_1439 rfl ?_
    refine lv_goto (pc := 1440) (tgt := 1444) hx hb dL_law_1440 (by decide) ?_
    exact wL_law_1444 cx e1 e2 hfl hr1 hA hH0 a0 hk23 _ _ _ _ _ _ _ _ _ _ _ _ _ _ hf hS hl
theorem wL_law_1399 {N : Nat} {k23 : Option Nat → Option Nat → Option Nat → Int32 → jM Int32} {r : Int32} (cx : jCx p s m args meth c cL_law "WornSkinLaw" 7 ret D dA H0 hs.2.2.2.2) (e1 : h'.2.2.1 ≤ hs.2.2.1 + 774447) (e2 : h'.2.2.2.1 ≤ hs.2.2.2.1 + 6772764) (hfl : l.stackTraces = false) {b : Nat} (hr1 : r = 1) (hA : args = #[Value.ref b]) (hH0 : H0 = s.heap) (a0 : Nat) (hk23 : ∀ (x1 : Option Nat) (x2 : Option Nat) (x3 : Option Nat) (x4 : Int32), ∀ (h : jH) (H : Heap) (locs : List Loc) (cells slots : Nat) (ls : Array Slot), (k23 x1 x2 x3 x4).1 h = some (r, h') → jS D dA H0 hs h H locs cells slots → lv_has ls 7 [(0, .ref a0), (1, va_rf x1), (2, va_rf x2), (3, va_rf x3), (4, .int x4)] → W p l e room_1 s m args below meth c H locs cells slots (lw_Z below args s) (F0 m 23 ls [])) : ∀ (x1 : Option Nat) (x2 : Option Nat) (x3 : Option Nat) (x4 : Int32), ∀ (h : jH) (H : Heap) (locs : List Loc) (cells slots : Nat) (ls : Array Slot), (fL_law_1399 N k23 a0 x1 x2 x3 x4).1 h = some (r, h') → jS D dA H0 hs h H locs cells slots → lv_has ls 7 [(0, .ref a0), (1, va_rf x1), (2, va_rf x2), (3, va_rf x3), (4, .int x4)] → W p l e room_1 s m args below meth c H locs cells slots (lw_Z below args s) (F0 m 1399 ls []) := by
  have hx := cx.1
  have hb := cx.2.1
  have hown := cx.2.2.2.1
  have hts := cx.2.2.2.2.1
  have hm : h'.2.2.1 ≤ hs.2.2.1 + room_1.cells ∧ h'.2.2.2.1 ≤ hs.2.2.2.1 + room_1.slots := ⟨e1, e2⟩
  intro x1 x2 x3 x4 h H locs cells slots ls hf hS hl
  unfold fL_law_1399 at hf
  refine j_aload_n (pc := 1399) (r := x1) hx hb dL_law_1399 rfl (lv_at hl 1 rfl) ?_
  refine lv_aload_n (pc := 1400) hx hb dL_law_1400 rfl (lv_at hl 0 rfl) ?_
  refine lv_iload (pc := 1401) hx hb dL_law_1401 (lv_at hl 4 rfl) ?_
  refine lv_iconst (pc := 1403) (v := 1) hx hb dL_law_1403 rfl ?_
  refine lv_iadd (pc := 1404) hx hb dL_law_1404 ?_
  refine j_aI (pc := 1405) cx hS hf rfl dL_law_1405 (fun y1 hf => ?_)
  refine lv_aload_n (pc := 1406) hx hb dL_law_1406 rfl (lv_at hl 0 rfl) ?_
  refine lv_iload (pc := 1407) hx hb dL_law_1407 (lv_at hl 4 rfl) ?_
  refine lv_iconst (pc := 1409) (v := 2) hx hb dL_law_1409 rfl ?_
  refine lv_iadd (pc := 1410) hx hb dL_law_1410 ?_
  refine j_aI (pc := 1411) cx hS hf rfl dL_law_1411 (fun y2 hf => ?_)
  refine lv_if_eq (pc := 1412) (tgt := 1419) hx hb dL_law_1412 (by decide) (fun hc => ?_) (fun hc => ?_)
  · have hf := jI_t hf hc
    refine lv_iconst (pc := 1419) (v := 0) hx hb dL_law_1419 rfl ?_
    exact wL_law_1420 cx e1 e2 hfl hr1 hA hH0 a0 hk23 _ _ _ _ _ _ _ _ _ _ _ _ _ hf hS hl
  · have hf := jI_f hf hc
    refine lv_iconst (pc := 1415) (v := 1) hx hb dL_law_1415 rfl ?_
    refine lv_goto (pc := 1416) (tgt := 1420) hx hb dL_law_1416 (by decide) ?_
    exact wL_law_1420 cx e1 e2 hfl hr1 hA hH0 a0 hk23 _ _ _ _ _ _ _ _ _ _ _ _ _ hf hS hl
theorem wL_law_1397 {N : Nat} {r : Int32} (cx : jCx p s m args meth c cL_law "WornSkinLaw" 7 ret D dA H0 hs.2.2.2.2) (e1 : h'.2.2.1 ≤ hs.2.2.1 + 774447) (e2 : h'.2.2.2.1 ≤ hs.2.2.2.1 + 6772764) (hfl : l.stackTraces = false) {b : Nat} (hr1 : r = 1) (hA : args = #[Value.ref b]) (hH0 : H0 = s.heap) (a0 : Nat) : ∀ (h : jH) (H : Heap) (locs : List Loc) (cells slots : Nat) (ls : Array Slot), (fL_law_1397 N a0).1 h = some (r, h') → jS D dA H0 hs h H locs cells slots → lv_has ls 7 [(0, .ref a0)] → W p l e room_1 s m args below meth c H locs cells slots (lw_Z below args s) (F0 m 1397 ls []) := by
  have hx := cx.1
  have hb := cx.2.1
  have hown := cx.2.2.2.1
  have hts := cx.2.2.2.2.1
  have hm : h'.2.2.1 ≤ hs.2.2.1 + room_1.cells ∧ h'.2.2.2.1 ≤ hs.2.2.2.1 + room_1.slots := ⟨e1, e2⟩
  intro h H locs cells slots ls hf hS hl
  unfold fL_law_1397 at hf
  refine lv_iconst (pc := 1397) (v := 0) hx hb dL_law_1397 rfl ?_
  exact j_lawret (pc := 1398) cx hS hf hr1 hA hH0 e1 e2 dL_law_1398
theorem wL_law_1350 {N : Nat} {k23 : Option Nat → Option Nat → Option Nat → Int32 → jM Int32} {r : Int32} (cx : jCx p s m args meth c cL_law "WornSkinLaw" 7 ret D dA H0 hs.2.2.2.2) (e1 : h'.2.2.1 ≤ hs.2.2.1 + 774447) (e2 : h'.2.2.2.1 ≤ hs.2.2.2.1 + 6772764) (hfl : l.stackTraces = false) {b : Nat} (hr1 : r = 1) (hA : args = #[Value.ref b]) (hH0 : H0 = s.heap) (a0 : Nat) (hk23 : ∀ (x1 : Option Nat) (x2 : Option Nat) (x3 : Option Nat) (x4 : Int32), ∀ (h : jH) (H : Heap) (locs : List Loc) (cells slots : Nat) (ls : Array Slot), (k23 x1 x2 x3 x4).1 h = some (r, h') → jS D dA H0 hs h H locs cells slots → lv_has ls 7 [(0, .ref a0), (1, va_rf x1), (2, va_rf x2), (3, va_rf x3), (4, .int x4)] → W p l e room_1 s m args below meth c H locs cells slots (lw_Z below args s) (F0 m 23 ls [])) : ∀ (x1 : Option Nat) (x2 : Option Nat) (x3 : Option Nat) (x4 : Int32), ∀ (h : jH) (H : Heap) (locs : List Loc) (cells slots : Nat) (ls : Array Slot), (fL_law_1350 N k23 a0 x1 x2 x3 x4).1 h = some (r, h') → jS D dA H0 hs h H locs cells slots → lv_has ls 7 [(0, .ref a0), (1, va_rf x1), (2, va_rf x2), (3, va_rf x3), (4, .int x4)] → W p l e room_1 s m args below meth c H locs cells slots (lw_Z below args s) (F0 m 1350 ls []) := by
  have hx := cx.1
  have hb := cx.2.1
  have hown := cx.2.2.2.1
  have hts := cx.2.2.2.2.1
  have hm : h'.2.2.1 ≤ hs.2.2.1 + room_1.cells ∧ h'.2.2.2.1 ≤ hs.2.2.2.1 + room_1.slots := ⟨e1, e2⟩
  intro x1 x2 x3 x4 h H locs cells slots ls hf hS hl
  unfold fL_law_1350 at hf
  refine j_aload_n (pc := 1350) (r := x1) hx hb dL_law_1350 rfl (lv_at hl 1 rfl) ?_
  refine lv_aload_n (pc := 1351) hx hb dL_law_1351 rfl (lv_at hl 0 rfl) ?_
  refine lv_iload (pc := 1352) hx hb dL_law_1352 (lv_at hl 4 rfl) ?_
  refine lv_iconst (pc := 1354) (v := 1) hx hb dL_law_1354 rfl ?_
  refine lv_iadd (pc := 1355) hx hb dL_law_1355 ?_
  refine j_aI (pc := 1356) cx hS hf rfl dL_law_1356 (fun y1 hf => ?_)
  refine lv_aload_n (pc := 1357) hx hb dL_law_1357 rfl (lv_at hl 0 rfl) ?_
  refine lv_iload (pc := 1358) hx hb dL_law_1358 (lv_at hl 4 rfl) ?_
  refine lv_iconst (pc := 1360) (v := 2) hx hb dL_law_1360 rfl ?_
  refine lv_iadd (pc := 1361) hx hb dL_law_1361 ?_
  refine j_aI (pc := 1362) cx hS hf rfl dL_law_1362 (fun y2 hf => ?_)
  refine lv_aload_n (pc := 1363) hx hb dL_law_1363 rfl (lv_at hl 0 rfl) ?_
  refine lv_iload (pc := 1364) hx hb dL_law_1364 (lv_at hl 4 rfl) ?_
  refine lv_iconst (pc := 1366) (v := 3) hx hb dL_law_1366 rfl ?_
  refine lv_iadd (pc := 1367) hx hb dL_law_1367 ?_
  refine j_aI (pc := 1368) cx hS hf rfl dL_law_1368 (fun y3 hf => ?_)
  obtain ⟨b5, eb, hrc, hf⟩ := jrc_s hf
  refine j_nn (pc := 1369) eb [.int y3, .int y2, .int y1] [] rfl ?_
  obtain ⟨y4, h1, e9, hf⟩ := jB_some hf
  refine j_callV (pc := 1369) (st1 := [.int y4]) (As := [.int y1, .int y2, .int y3]) (rest := []) cx hS rfl hl.1 hm (metX1_years l _ _ _ _ _ _ _ _ hrc e9) (jle hf) hrc rfl (lw_V q1588 q1589 q1590 q112 q1591) pdX1_years rfl rfl (Nat.le_of_ble_eq_true rfl) ⟨Nat.le_of_ble_eq_true rfl, Nat.le_of_ble_eq_true rfl⟩ dL_law_1369 rfl (fun H locs cells slots hS => ?_)
  refine j_aload_n (pc := 1372) (r := x2) hx hb dL_law_1372 rfl (lv_at hl 2 rfl) ?_
  refine lv_aload_n (pc := 1373) hx hb dL_law_1373 rfl (lv_at hl 0 rfl) ?_
  refine lv_iload (pc := 1374) hx hb dL_law_1374 (lv_at hl 4 rfl) ?_
  refine lv_iconst (pc := 1376) (v := 1) hx hb dL_law_1376 rfl ?_
  refine lv_iadd (pc := 1377) hx hb dL_law_1377 ?_
  refine j_aI (pc := 1378) cx hS hf rfl dL_law_1378 (fun y6 hf => ?_)
  refine lv_aload_n (pc := 1379) hx hb dL_law_1379 rfl (lv_at hl 0 rfl) ?_
  refine lv_iload (pc := 1380) hx hb dL_law_1380 (lv_at hl 4 rfl) ?_
  refine lv_iconst (pc := 1382) (v := 2) hx hb dL_law_1382 rfl ?_
  refine lv_iadd (pc := 1383) hx hb dL_law_1383 ?_
  refine j_aI (pc := 1384) cx hS hf rfl dL_law_1384 (fun y7 hf => ?_)
  refine lv_aload_n (pc := 1385) hx hb dL_law_1385 rfl (lv_at hl 0 rfl) ?_
  refine lv_iload (pc := 1386) hx hb dL_law_1386 (lv_at hl 4 rfl) ?_
  refine lv_iconst (pc := 1388) (v := 3) hx hb dL_law_1388 rfl ?_
  refine lv_iadd (pc := 1389) hx hb dL_law_1389 ?_
  refine j_aI (pc := 1390) cx hS hf rfl dL_law_1390 (fun y8 hf => ?_)
  obtain ⟨b10, eb, hrc, hf⟩ := jrc_s hf
  refine j_nn (pc := 1391) eb [.int y8, .int y7, .int y6] [.int y4] rfl ?_
  obtain ⟨y9, h1, e9, hf⟩ := jB_some hf
  refine j_callV (pc := 1391) (st1 := [.int y9, .int y4]) (As := [.int y6, .int y7, .int y8]) (rest := [.int y4]) cx hS rfl hl.1 hm (metX7_years l _ _ _ _ _ _ _ _ hrc e9) (jle hf) hrc rfl (lw_V q2272 q2273 q2274 q123 q2275) pdX7_years rfl rfl (Nat.le_of_ble_eq_true rfl) ⟨Nat.le_of_ble_eq_true rfl, Nat.le_of_ble_eq_true rfl⟩ dL_law_1391 rfl (fun H locs cells slots hS => ?_)
  refine lv_icmp_eq (pc := 1394) (tgt := 1477) hx hb dL_law_1394 (by decide) (fun hc => ?_) (fun hc => ?_)
  · have hf := jI_t hf hc
    exact wL_law_1477 cx e1 e2 hfl hr1 hA hH0 a0 hk23 _ _ _ _ _ _ _ _ _ _ hf hS hl
  · have hf := jI_f hf hc
    exact wL_law_1397 cx e1 e2 hfl hr1 hA hH0 a0 _ _ _ _ _ _ hf hS (lv_sub hl [0] rfl)
theorem wL_law_1347 {N : Nat} {k23 : Option Nat → Option Nat → Option Nat → Int32 → jM Int32} {r : Int32} (cx : jCx p s m args meth c cL_law "WornSkinLaw" 7 ret D dA H0 hs.2.2.2.2) (e1 : h'.2.2.1 ≤ hs.2.2.1 + 774447) (e2 : h'.2.2.2.1 ≤ hs.2.2.2.1 + 6772764) (hfl : l.stackTraces = false) {b : Nat} (hr1 : r = 1) (hA : args = #[Value.ref b]) (hH0 : H0 = s.heap) (a0 : Nat) (hk23 : ∀ (x1 : Option Nat) (x2 : Option Nat) (x3 : Option Nat) (x4 : Int32), ∀ (h : jH) (H : Heap) (locs : List Loc) (cells slots : Nat) (ls : Array Slot), (k23 x1 x2 x3 x4).1 h = some (r, h') → jS D dA H0 hs h H locs cells slots → lv_has ls 7 [(0, .ref a0), (1, va_rf x1), (2, va_rf x2), (3, va_rf x3), (4, .int x4)] → W p l e room_1 s m args below meth c H locs cells slots (lw_Z below args s) (F0 m 23 ls [])) : ∀ (x1 : Option Nat) (x2 : Option Nat) (x3 : Option Nat) (x4 : Int32), ∀ (h : jH) (H : Heap) (locs : List Loc) (cells slots : Nat) (ls : Array Slot), (fL_law_1347 N k23 a0 x1 x2 x3 x4).1 h = some (r, h') → jS D dA H0 hs h H locs cells slots → lv_has ls 7 [(0, .ref a0), (1, va_rf x1), (2, va_rf x2), (3, va_rf x3), (4, .int x4)] → W p l e room_1 s m args below meth c H locs cells slots (lw_Z below args s) (F0 m 1347 ls []) := by
  have hx := cx.1
  have hb := cx.2.1
  have hown := cx.2.2.2.1
  have hts := cx.2.2.2.2.1
  have hm : h'.2.2.1 ≤ hs.2.2.1 + room_1.cells ∧ h'.2.2.2.1 ≤ hs.2.2.2.1 + room_1.slots := ⟨e1, e2⟩
  intro x1 x2 x3 x4 h H locs cells slots ls hf hS hl
  unfold fL_law_1347 at hf
  refine lv_goto (pc := 1347) (tgt := 1477) hx hb dL_law_1347 (by decide) ?_
  exact wL_law_1477 cx e1 e2 hfl hr1 hA hH0 a0 hk23 _ _ _ _ _ _ _ _ _ _ hf hS hl
theorem wL_law_1345 {N : Nat} {r : Int32} (cx : jCx p s m args meth c cL_law "WornSkinLaw" 7 ret D dA H0 hs.2.2.2.2) (e1 : h'.2.2.1 ≤ hs.2.2.1 + 774447) (e2 : h'.2.2.2.1 ≤ hs.2.2.2.1 + 6772764) (hfl : l.stackTraces = false) {b : Nat} (hr1 : r = 1) (hA : args = #[Value.ref b]) (hH0 : H0 = s.heap) (a0 : Nat) : ∀ (h : jH) (H : Heap) (locs : List Loc) (cells slots : Nat) (ls : Array Slot), (fL_law_1345 N a0).1 h = some (r, h') → jS D dA H0 hs h H locs cells slots → lv_has ls 7 [(0, .ref a0)] → W p l e room_1 s m args below meth c H locs cells slots (lw_Z below args s) (F0 m 1345 ls []) := by
  have hx := cx.1
  have hb := cx.2.1
  have hown := cx.2.2.2.1
  have hts := cx.2.2.2.2.1
  have hm : h'.2.2.1 ≤ hs.2.2.1 + room_1.cells ∧ h'.2.2.2.1 ≤ hs.2.2.2.1 + room_1.slots := ⟨e1, e2⟩
  intro h H locs cells slots ls hf hS hl
  unfold fL_law_1345 at hf
  refine lv_iconst (pc := 1345) (v := 0) hx hb dL_law_1345 rfl ?_
  exact j_lawret (pc := 1346) cx hS hf hr1 hA hH0 e1 e2 dL_law_1346
theorem wL_law_1328 {N : Nat} {r : Int32} (cx : jCx p s m args meth c cL_law "WornSkinLaw" 7 ret D dA H0 hs.2.2.2.2) (e1 : h'.2.2.1 ≤ hs.2.2.1 + 774447) (e2 : h'.2.2.2.1 ≤ hs.2.2.2.1 + 6772764) (hfl : l.stackTraces = false) {b : Nat} (hr1 : r = 1) (hA : args = #[Value.ref b]) (hH0 : H0 = s.heap) (a0 : Nat) : ∀ (h : jH) (H : Heap) (locs : List Loc) (cells slots : Nat) (ls : Array Slot), (fL_law_1328 N a0).1 h = some (r, h') → jS D dA H0 hs h H locs cells slots → lv_has ls 7 [(0, .ref a0)] → W p l e room_1 s m args below meth c H locs cells slots (lw_Z below args s) (F0 m 1328 ls []) := by
  have hx := cx.1
  have hb := cx.2.1
  have hown := cx.2.2.2.1
  have hts := cx.2.2.2.2.1
  have hm : h'.2.2.1 ≤ hs.2.2.1 + room_1.cells ∧ h'.2.2.2.1 ≤ hs.2.2.2.1 + room_1.slots := ⟨e1, e2⟩
  intro h H locs cells slots ls hf hS hl
  unfold fL_law_1328 at hf
  refine lv_iconst (pc := 1328) (v := 0) hx hb dL_law_1328 rfl ?_
  exact j_lawret (pc := 1329) cx hS hf hr1 hA hH0 e1 e2 dL_law_1329
theorem wL_law_1258 {N : Nat} {k23 : Option Nat → Option Nat → Option Nat → Int32 → jM Int32} {r : Int32} (cx : jCx p s m args meth c cL_law "WornSkinLaw" 7 ret D dA H0 hs.2.2.2.2) (e1 : h'.2.2.1 ≤ hs.2.2.1 + 774447) (e2 : h'.2.2.2.1 ≤ hs.2.2.2.1 + 6772764) (hfl : l.stackTraces = false) {b : Nat} (hr1 : r = 1) (hA : args = #[Value.ref b]) (hH0 : H0 = s.heap) (a0 : Nat) (hk23 : ∀ (x1 : Option Nat) (x2 : Option Nat) (x3 : Option Nat) (x4 : Int32), ∀ (h : jH) (H : Heap) (locs : List Loc) (cells slots : Nat) (ls : Array Slot), (k23 x1 x2 x3 x4).1 h = some (r, h') → jS D dA H0 hs h H locs cells slots → lv_has ls 7 [(0, .ref a0), (1, va_rf x1), (2, va_rf x2), (3, va_rf x3), (4, .int x4)] → W p l e room_1 s m args below meth c H locs cells slots (lw_Z below args s) (F0 m 23 ls [])) : ∀ (x1 : Option Nat) (x2 : Option Nat) (x3 : Option Nat) (x4 : Int32), ∀ (h : jH) (H : Heap) (locs : List Loc) (cells slots : Nat) (ls : Array Slot), (fL_law_1258 N k23 a0 x1 x2 x3 x4).1 h = some (r, h') → jS D dA H0 hs h H locs cells slots → lv_has ls 7 [(0, .ref a0), (1, va_rf x1), (2, va_rf x2), (3, va_rf x3), (4, .int x4)] → W p l e room_1 s m args below meth c H locs cells slots (lw_Z below args s) (F0 m 1258 ls []) := by
  have hx := cx.1
  have hb := cx.2.1
  have hown := cx.2.2.2.1
  have hts := cx.2.2.2.2.1
  have hm : h'.2.2.1 ≤ hs.2.2.1 + room_1.cells ∧ h'.2.2.2.1 ≤ hs.2.2.2.1 + room_1.slots := ⟨e1, e2⟩
  intro x1 x2 x3 x4 h H locs cells slots ls hf hS hl
  unfold fL_law_1258 at hf
  refine j_aload_n (pc := 1258) (r := x1) hx hb dL_law_1258 rfl (lv_at hl 1 rfl) ?_
  refine lv_aload_n (pc := 1259) hx hb dL_law_1259 rfl (lv_at hl 0 rfl) ?_
  refine lv_iload (pc := 1260) hx hb dL_law_1260 (lv_at hl 4 rfl) ?_
  refine lv_iconst (pc := 1262) (v := 1) hx hb dL_law_1262 rfl ?_
  refine lv_iadd (pc := 1263) hx hb dL_law_1263 ?_
  refine j_aI (pc := 1264) cx hS hf rfl dL_law_1264 (fun y1 hf => ?_)
  refine lv_aload_n (pc := 1265) hx hb dL_law_1265 rfl (lv_at hl 0 rfl) ?_
  refine lv_iload (pc := 1266) hx hb dL_law_1266 (lv_at hl 4 rfl) ?_
  refine lv_iconst (pc := 1268) (v := 2) hx hb dL_law_1268 rfl ?_
  refine lv_iadd (pc := 1269) hx hb dL_law_1269 ?_
  refine j_aI (pc := 1270) cx hS hf rfl dL_law_1270 (fun y2 hf => ?_)
  refine lv_aload_n (pc := 1271) hx hb dL_law_1271 rfl (lv_at hl 0 rfl) ?_
  refine lv_iload (pc := 1272) hx hb dL_law_1272 (lv_at hl 4 rfl) ?_
  refine lv_iconst (pc := 1274) (v := 3) hx hb dL_law_1274 rfl ?_
  refine lv_iadd (pc := 1275) hx hb dL_law_1275 ?_
  refine j_aI (pc := 1276) cx hS hf rfl dL_law_1276 (fun y3 hf => ?_)
  refine lv_aload_n (pc := 1277) hx hb dL_law_1277 rfl (lv_at hl 0 rfl) ?_
  refine lv_iload (pc := 1278) hx hb dL_law_1278 (lv_at hl 4 rfl) ?_
  refine lv_iconst (pc := 1280) (v := 4) hx hb dL_law_1280 rfl ?_
  refine lv_iadd (pc := 1281) hx hb dL_law_1281 ?_
  refine j_aI (pc := 1282) cx hS hf rfl dL_law_1282 (fun y4 hf => ?_)
  refine j_aload_n (pc := 1283) (r := x3) hx hb dL_law_1283 rfl (lv_at hl 3 rfl) ?_
  obtain ⟨y5, h1, e9, hf⟩ := jB_some hf
  refine j_callSW (pc := 1284) (st1 := [.int y5]) (As := [va_rf x1, .int y1, .int y2, .int y3, .int y4, va_rf x3]) (rest := []) cx hS rfl hl.1 hm (metX0_rests l hfl _ _ _ _ _ _ _ _ _ _ e9) (jle hf) q1643 q1642 q1641 q111 pdX0_rests rfl rfl (Nat.le_of_ble_eq_true rfl) ⟨Nat.le_of_ble_eq_true rfl, Nat.le_of_ble_eq_true rfl⟩ dL_law_1284 rfl (fun H locs cells slots hS => ?_)
  refine lv_istore (pc := 1287) (i := 5) (lv' := [(5, .int y5), (0, .ref a0), (1, va_rf x1), (2, va_rf x2), (3, va_rf x3), (4, .int x4)]) hx hb dL_law_1287 hl (Nat.le_of_ble_eq_true rfl) rfl (fun ls hl => ?_)
  refine j_aload_n (pc := 1289) (r := x2) hx hb dL_law_1289 rfl (lv_at hl 3 rfl) ?_
  refine lv_aload_n (pc := 1290) hx hb dL_law_1290 rfl (lv_at hl 1 rfl) ?_
  refine lv_iload (pc := 1291) hx hb dL_law_1291 (lv_at hl 5 rfl) ?_
  refine lv_iconst (pc := 1293) (v := 1) hx hb dL_law_1293 rfl ?_
  refine lv_iadd (pc := 1294) hx hb dL_law_1294 ?_
  refine j_aI (pc := 1295) cx hS hf rfl dL_law_1295 (fun y6 hf => ?_)
  refine lv_aload_n (pc := 1296) hx hb dL_law_1296 rfl (lv_at hl 1 rfl) ?_
  refine lv_iload (pc := 1297) hx hb dL_law_1297 (lv_at hl 5 rfl) ?_
  refine lv_iconst (pc := 1299) (v := 2) hx hb dL_law_1299 rfl ?_
  refine lv_iadd (pc := 1300) hx hb dL_law_1300 ?_
  refine j_aI (pc := 1301) cx hS hf rfl dL_law_1301 (fun y7 hf => ?_)
  refine lv_aload_n (pc := 1302) hx hb dL_law_1302 rfl (lv_at hl 1 rfl) ?_
  refine lv_iload (pc := 1303) hx hb dL_law_1303 (lv_at hl 5 rfl) ?_
  refine lv_iconst (pc := 1305) (v := 3) hx hb dL_law_1305 rfl ?_
  refine lv_iadd (pc := 1306) hx hb dL_law_1306 ?_
  refine j_aI (pc := 1307) cx hS hf rfl dL_law_1307 (fun y8 hf => ?_)
  refine lv_aload_n (pc := 1308) hx hb dL_law_1308 rfl (lv_at hl 1 rfl) ?_
  refine lv_iload (pc := 1309) hx hb dL_law_1309 (lv_at hl 5 rfl) ?_
  refine lv_iconst (pc := 1311) (v := 4) hx hb dL_law_1311 rfl ?_
  refine lv_iadd (pc := 1312) hx hb dL_law_1312 ?_
  refine j_aI (pc := 1313) cx hS hf rfl dL_law_1313 (fun y9 hf => ?_)
  obtain ⟨b11, eb, hrc, hf⟩ := jrc_s hf
  refine j_nn (pc := 1314) eb [.int y9, .int y8, .int y7, .int y6] [] rfl ?_
  obtain ⟨y10, h1, e9, hf⟩ := jB_some hf
  refine j_callV (pc := 1314) (st1 := [.int y10]) (As := [.int y6, .int y7, .int y8, .int y9]) (rest := []) cx hS rfl hl.1 hm (metX7_rests l _ _ _ _ _ _ _ _ _ hrc e9) (jle hf) hrc rfl (lw_V q2265 q2266 q2267 q123 q2268) pdX7_rests rfl rfl (Nat.le_of_ble_eq_true rfl) ⟨Nat.le_of_ble_eq_true rfl, Nat.le_of_ble_eq_true rfl⟩ dL_law_1314 rfl (fun H locs cells slots hS => ?_)
  refine lv_istore (pc := 1317) (i := 6) (lv' := [(6, .int y10), (5, .int y5), (0, .ref a0), (1, va_rf x1), (2, va_rf x2), (3, va_rf x3), (4, .int x4)]) hx hb dL_law_1317 hl (Nat.le_of_ble_eq_true rfl) rfl (fun ls hl => ?_)
  refine j_aload_n (pc := 1319) (r := x2) hx hb dL_law_1319 rfl (lv_at hl 4 rfl) ?_
  obtain ⟨b13, eb, hrc, hf⟩ := jrc_s hf
  refine j_nn (pc := 1320) eb [] [] rfl ?_
  obtain ⟨y12, h1, e9, hf⟩ := jB_some hf
  refine j_callV (pc := 1320) (st1 := [.int y12]) (As := []) (rest := []) cx hS rfl hl.1 hm (metX7_thrown l _ _ _ _ hrc e9) (jle hf) hrc rfl (lw_V q1863 q1864 q1865 q123 q1866) pdX7_thrown rfl rfl (Nat.le_of_ble_eq_true rfl) ⟨Nat.le_of_ble_eq_true rfl, Nat.le_of_ble_eq_true rfl⟩ dL_law_1320 rfl (fun H locs cells slots hS => ?_)
  refine lv_iload (pc := 1323) hx hb dL_law_1323 (lv_at hl 1 rfl) ?_
  refine lv_icmp_eq (pc := 1325) (tgt := 1330) hx hb dL_law_1325 (by decide) (fun hc => ?_) (fun hc => ?_)
  · have hf := jI_t hf hc
    refine lv_iload (pc := 1330) hx hb dL_law_1330 (lv_at hl 1 rfl) ?_
    refine lv_if_ne (pc := 1332) (tgt := 1347) hx hb dL_law_1332 (by decide) (fun hc => ?_) (fun hc => ?_)
    · have hf := jI_f hf hc
      exact wL_law_1347 cx e1 e2 hfl hr1 hA hH0 a0 hk23 _ _ _ _ _ _ _ _ _ _ hf hS (lv_sub hl [2, 3, 4, 5, 6] rfl)
    · have hf := jI_t hf hc
      refine j_aload_n (pc := 1335) (r := x3) hx hb dL_law_1335 rfl (lv_at hl 5 rfl) ?_
      refine lv_iconst (pc := 1336) (v := 0) hx hb dL_law_1336 rfl ?_
      refine j_aL (pc := 1337) cx hS hf rfl dL_law_1337 (fun y14 hf => ?_)
      refine lv_iload (pc := 1338) hx hb dL_law_1338 (lv_at hl 0 rfl) ?_
      refine lv_i2l (pc := 1340) (v := y10.toInt64) hx hb dL_law_1340 rfl ?_
      refine W.lcmp (pc := 1341) hx hb dL_law_1341 ?_
      refine lv_if_eq (pc := 1342) (tgt := 1347) hx hb dL_law_1342 (by decide) (fun hc => ?_) (fun hc => ?_)
      · have hf := jI_t hf hc
        exact wL_law_1347 cx e1 e2 hfl hr1 hA hH0 a0 hk23 _ _ _ _ _ _ _ _ _ _ hf hS (lv_sub hl [2, 3, 4, 5, 6] rfl)
      · have hf := jI_f hf hc
        exact wL_law_1345 cx e1 e2 hfl hr1 hA hH0 a0 _ _ _ _ _ _ hf hS (lv_sub hl [2] rfl)
  · have hf := jI_f hf hc
    exact wL_law_1328 cx e1 e2 hfl hr1 hA hH0 a0 _ _ _ _ _ _ hf hS (lv_sub hl [2] rfl)
theorem wL_law_1256 {N : Nat} {r : Int32} (cx : jCx p s m args meth c cL_law "WornSkinLaw" 7 ret D dA H0 hs.2.2.2.2) (e1 : h'.2.2.1 ≤ hs.2.2.1 + 774447) (e2 : h'.2.2.2.1 ≤ hs.2.2.2.1 + 6772764) (hfl : l.stackTraces = false) {b : Nat} (hr1 : r = 1) (hA : args = #[Value.ref b]) (hH0 : H0 = s.heap) (a0 : Nat) : ∀ (h : jH) (H : Heap) (locs : List Loc) (cells slots : Nat) (ls : Array Slot), (fL_law_1256 N a0).1 h = some (r, h') → jS D dA H0 hs h H locs cells slots → lv_has ls 7 [(0, .ref a0)] → W p l e room_1 s m args below meth c H locs cells slots (lw_Z below args s) (F0 m 1256 ls []) := by
  have hx := cx.1
  have hb := cx.2.1
  have hown := cx.2.2.2.1
  have hts := cx.2.2.2.2.1
  have hm : h'.2.2.1 ≤ hs.2.2.1 + room_1.cells ∧ h'.2.2.2.1 ≤ hs.2.2.2.1 + room_1.slots := ⟨e1, e2⟩
  intro h H locs cells slots ls hf hS hl
  unfold fL_law_1256 at hf
  refine lv_iconst (pc := 1256) (v := 0) hx hb dL_law_1256 rfl ?_
  exact j_lawret (pc := 1257) cx hS hf hr1 hA hH0 e1 e2 dL_law_1257
theorem wL_law_1209 {N : Nat} {k23 : Option Nat → Option Nat → Option Nat → Int32 → jM Int32} {r : Int32} (cx : jCx p s m args meth c cL_law "WornSkinLaw" 7 ret D dA H0 hs.2.2.2.2) (e1 : h'.2.2.1 ≤ hs.2.2.1 + 774447) (e2 : h'.2.2.2.1 ≤ hs.2.2.2.1 + 6772764) (hfl : l.stackTraces = false) {b : Nat} (hr1 : r = 1) (hA : args = #[Value.ref b]) (hH0 : H0 = s.heap) (a0 : Nat) (hk23 : ∀ (x1 : Option Nat) (x2 : Option Nat) (x3 : Option Nat) (x4 : Int32), ∀ (h : jH) (H : Heap) (locs : List Loc) (cells slots : Nat) (ls : Array Slot), (k23 x1 x2 x3 x4).1 h = some (r, h') → jS D dA H0 hs h H locs cells slots → lv_has ls 7 [(0, .ref a0), (1, va_rf x1), (2, va_rf x2), (3, va_rf x3), (4, .int x4)] → W p l e room_1 s m args below meth c H locs cells slots (lw_Z below args s) (F0 m 23 ls [])) : ∀ (x1 : Option Nat) (x2 : Option Nat) (x3 : Option Nat) (x4 : Int32), ∀ (h : jH) (H : Heap) (locs : List Loc) (cells slots : Nat) (ls : Array Slot), (fL_law_1209 N k23 a0 x1 x2 x3 x4).1 h = some (r, h') → jS D dA H0 hs h H locs cells slots → lv_has ls 7 [(0, .ref a0), (1, va_rf x1), (2, va_rf x2), (3, va_rf x3), (4, .int x4)] → W p l e room_1 s m args below meth c H locs cells slots (lw_Z below args s) (F0 m 1209 ls []) := by
  have hx := cx.1
  have hb := cx.2.1
  have hown := cx.2.2.2.1
  have hts := cx.2.2.2.2.1
  have hm : h'.2.2.1 ≤ hs.2.2.1 + room_1.cells ∧ h'.2.2.2.1 ≤ hs.2.2.2.1 + room_1.slots := ⟨e1, e2⟩
  intro x1 x2 x3 x4 h H locs cells slots ls hf hS hl
  unfold fL_law_1209 at hf
  refine j_aload_n (pc := 1209) (r := x1) hx hb dL_law_1209 rfl (lv_at hl 1 rfl) ?_
  refine lv_aload_n (pc := 1210) hx hb dL_law_1210 rfl (lv_at hl 0 rfl) ?_
  refine lv_iload (pc := 1211) hx hb dL_law_1211 (lv_at hl 4 rfl) ?_
  refine lv_iconst (pc := 1213) (v := 1) hx hb dL_law_1213 rfl ?_
  refine lv_iadd (pc := 1214) hx hb dL_law_1214 ?_
  refine j_aI (pc := 1215) cx hS hf rfl dL_law_1215 (fun y1 hf => ?_)
  refine lv_aload_n (pc := 1216) hx hb dL_law_1216 rfl (lv_at hl 0 rfl) ?_
  refine lv_iload (pc := 1217) hx hb dL_law_1217 (lv_at hl 4 rfl) ?_
  refine lv_iconst (pc := 1219) (v := 2) hx hb dL_law_1219 rfl ?_
  refine lv_iadd (pc := 1220) hx hb dL_law_1220 ?_
  refine j_aI (pc := 1221) cx hS hf rfl dL_law_1221 (fun y2 hf => ?_)
  refine lv_aload_n (pc := 1222) hx hb dL_law_1222 rfl (lv_at hl 0 rfl) ?_
  refine lv_iload (pc := 1223) hx hb dL_law_1223 (lv_at hl 4 rfl) ?_
  refine lv_iconst (pc := 1225) (v := 3) hx hb dL_law_1225 rfl ?_
  refine lv_iadd (pc := 1226) hx hb dL_law_1226 ?_
  refine j_aI (pc := 1227) cx hS hf rfl dL_law_1227 (fun y3 hf => ?_)
  obtain ⟨b5, eb, hrc, hf⟩ := jrc_s hf
  refine j_nn (pc := 1228) eb [.int y3, .int y2, .int y1] [] rfl ?_
  obtain ⟨y4, h1, e9, hf⟩ := jB_some hf
  refine j_callV (pc := 1228) (st1 := [.int y4]) (As := [.int y1, .int y2, .int y3]) (rest := []) cx hS rfl hl.1 hm (metX1_chance l _ _ _ _ _ _ _ _ hrc e9) (jle hf) hrc rfl (lw_V q1582 q1583 q1584 q112 q1585) pdX1_chance rfl rfl (Nat.le_of_ble_eq_true rfl) ⟨Nat.le_of_ble_eq_true rfl, Nat.le_of_ble_eq_true rfl⟩ dL_law_1228 rfl (fun H locs cells slots hS => ?_)
  refine j_aload_n (pc := 1231) (r := x2) hx hb dL_law_1231 rfl (lv_at hl 2 rfl) ?_
  refine lv_aload_n (pc := 1232) hx hb dL_law_1232 rfl (lv_at hl 0 rfl) ?_
  refine lv_iload (pc := 1233) hx hb dL_law_1233 (lv_at hl 4 rfl) ?_
  refine lv_iconst (pc := 1235) (v := 1) hx hb dL_law_1235 rfl ?_
  refine lv_iadd (pc := 1236) hx hb dL_law_1236 ?_
  refine j_aI (pc := 1237) cx hS hf rfl dL_law_1237 (fun y6 hf => ?_)
  refine lv_aload_n (pc := 1238) hx hb dL_law_1238 rfl (lv_at hl 0 rfl) ?_
  refine lv_iload (pc := 1239) hx hb dL_law_1239 (lv_at hl 4 rfl) ?_
  refine lv_iconst (pc := 1241) (v := 2) hx hb dL_law_1241 rfl ?_
  refine lv_iadd (pc := 1242) hx hb dL_law_1242 ?_
  refine j_aI (pc := 1243) cx hS hf rfl dL_law_1243 (fun y7 hf => ?_)
  refine lv_aload_n (pc := 1244) hx hb dL_law_1244 rfl (lv_at hl 0 rfl) ?_
  refine lv_iload (pc := 1245) hx hb dL_law_1245 (lv_at hl 4 rfl) ?_
  refine lv_iconst (pc := 1247) (v := 3) hx hb dL_law_1247 rfl ?_
  refine lv_iadd (pc := 1248) hx hb dL_law_1248 ?_
  refine j_aI (pc := 1249) cx hS hf rfl dL_law_1249 (fun y8 hf => ?_)
  obtain ⟨b10, eb, hrc, hf⟩ := jrc_s hf
  refine j_nn (pc := 1250) eb [.int y8, .int y7, .int y6] [.int y4] rfl ?_
  obtain ⟨y9, h1, e9, hf⟩ := jB_some hf
  refine j_callV (pc := 1250) (st1 := [.int y9, .int y4]) (As := [.int y6, .int y7, .int y8]) (rest := [.int y4]) cx hS rfl hl.1 hm (metX7_chance l _ _ _ _ _ _ _ _ hrc e9) (jle hf) hrc rfl (lw_V q2259 q2260 q2261 q123 q2262) pdX7_chance rfl rfl (Nat.le_of_ble_eq_true rfl) ⟨Nat.le_of_ble_eq_true rfl, Nat.le_of_ble_eq_true rfl⟩ dL_law_1250 rfl (fun H locs cells slots hS => ?_)
  refine lv_icmp_eq (pc := 1253) (tgt := 1477) hx hb dL_law_1253 (by decide) (fun hc => ?_) (fun hc => ?_)
  · have hf := jI_t hf hc
    exact wL_law_1477 cx e1 e2 hfl hr1 hA hH0 a0 hk23 _ _ _ _ _ _ _ _ _ _ hf hS hl
  · have hf := jI_f hf hc
    exact wL_law_1256 cx e1 e2 hfl hr1 hA hH0 a0 _ _ _ _ _ _ hf hS (lv_sub hl [0] rfl)
theorem wL_law_1207 {N : Nat} {r : Int32} (cx : jCx p s m args meth c cL_law "WornSkinLaw" 7 ret D dA H0 hs.2.2.2.2) (e1 : h'.2.2.1 ≤ hs.2.2.1 + 774447) (e2 : h'.2.2.2.1 ≤ hs.2.2.2.1 + 6772764) (hfl : l.stackTraces = false) {b : Nat} (hr1 : r = 1) (hA : args = #[Value.ref b]) (hH0 : H0 = s.heap) (a0 : Nat) : ∀ (h : jH) (H : Heap) (locs : List Loc) (cells slots : Nat) (ls : Array Slot), (fL_law_1207 N a0).1 h = some (r, h') → jS D dA H0 hs h H locs cells slots → lv_has ls 7 [(0, .ref a0)] → W p l e room_1 s m args below meth c H locs cells slots (lw_Z below args s) (F0 m 1207 ls []) := by
  have hx := cx.1
  have hb := cx.2.1
  have hown := cx.2.2.2.1
  have hts := cx.2.2.2.2.1
  have hm : h'.2.2.1 ≤ hs.2.2.1 + room_1.cells ∧ h'.2.2.2.1 ≤ hs.2.2.2.1 + room_1.slots := ⟨e1, e2⟩
  intro h H locs cells slots ls hf hS hl
  unfold fL_law_1207 at hf
  refine lv_iconst (pc := 1207) (v := 0) hx hb dL_law_1207 rfl ?_
  exact j_lawret (pc := 1208) cx hS hf hr1 hA hH0 e1 e2 dL_law_1208
theorem wL_law_1184 {N : Nat} {k23 : Option Nat → Option Nat → Option Nat → Int32 → jM Int32} {r : Int32} (cx : jCx p s m args meth c cL_law "WornSkinLaw" 7 ret D dA H0 hs.2.2.2.2) (e1 : h'.2.2.1 ≤ hs.2.2.1 + 774447) (e2 : h'.2.2.2.1 ≤ hs.2.2.2.1 + 6772764) (hfl : l.stackTraces = false) {b : Nat} (hr1 : r = 1) (hA : args = #[Value.ref b]) (hH0 : H0 = s.heap) (a0 : Nat) (hk23 : ∀ (x1 : Option Nat) (x2 : Option Nat) (x3 : Option Nat) (x4 : Int32), ∀ (h : jH) (H : Heap) (locs : List Loc) (cells slots : Nat) (ls : Array Slot), (k23 x1 x2 x3 x4).1 h = some (r, h') → jS D dA H0 hs h H locs cells slots → lv_has ls 7 [(0, .ref a0), (1, va_rf x1), (2, va_rf x2), (3, va_rf x3), (4, .int x4)] → W p l e room_1 s m args below meth c H locs cells slots (lw_Z below args s) (F0 m 23 ls [])) : ∀ (x1 : Option Nat) (x2 : Option Nat) (x3 : Option Nat) (x4 : Int32), ∀ (h : jH) (H : Heap) (locs : List Loc) (cells slots : Nat) (ls : Array Slot), (fL_law_1184 N k23 a0 x1 x2 x3 x4).1 h = some (r, h') → jS D dA H0 hs h H locs cells slots → lv_has ls 7 [(0, .ref a0), (1, va_rf x1), (2, va_rf x2), (3, va_rf x3), (4, .int x4)] → W p l e room_1 s m args below meth c H locs cells slots (lw_Z below args s) (F0 m 1184 ls []) := by
  have hx := cx.1
  have hb := cx.2.1
  have hown := cx.2.2.2.1
  have hts := cx.2.2.2.2.1
  have hm : h'.2.2.1 ≤ hs.2.2.1 + room_1.cells ∧ h'.2.2.2.1 ≤ hs.2.2.2.1 + room_1.slots := ⟨e1, e2⟩
  intro x1 x2 x3 x4 h H locs cells slots ls hf hS hl
  unfold fL_law_1184 at hf
  refine j_aload_n (pc := 1184) (r := x1) hx hb dL_law_1184 rfl (lv_at hl 1 rfl) ?_
  refine lv_aload_n (pc := 1185) hx hb dL_law_1185 rfl (lv_at hl 0 rfl) ?_
  refine lv_iload (pc := 1186) hx hb dL_law_1186 (lv_at hl 4 rfl) ?_
  refine lv_iconst (pc := 1188) (v := 1) hx hb dL_law_1188 rfl ?_
  refine lv_iadd (pc := 1189) hx hb dL_law_1189 ?_
  refine j_aI (pc := 1190) cx hS hf rfl dL_law_1190 (fun y1 hf => ?_)
  obtain ⟨b3, eb, hrc, hf⟩ := jrc_s hf
  refine j_nn (pc := 1191) eb [.int y1] [] rfl ?_
  obtain ⟨y2, h1, e9, hf⟩ := jB_some hf
  refine j_callV (pc := 1191) (st1 := [.int y2]) (As := [.int y1]) (rest := []) cx hS rfl hl.1 hm (metX1_ask l _ _ _ _ _ _ hrc e9) (jle hf) hrc rfl (lw_V q1576 q1577 q1578 q112 q1579) pdX1_ask rfl rfl (Nat.le_of_ble_eq_true rfl) ⟨Nat.le_of_ble_eq_true rfl, Nat.le_of_ble_eq_true rfl⟩ dL_law_1191 rfl (fun H locs cells slots hS => ?_)
  refine j_aload_n (pc := 1194) (r := x2) hx hb dL_law_1194 rfl (lv_at hl 2 rfl) ?_
  refine lv_aload_n (pc := 1195) hx hb dL_law_1195 rfl (lv_at hl 0 rfl) ?_
  refine lv_iload (pc := 1196) hx hb dL_law_1196 (lv_at hl 4 rfl) ?_
  refine lv_iconst (pc := 1198) (v := 1) hx hb dL_law_1198 rfl ?_
  refine lv_iadd (pc := 1199) hx hb dL_law_1199 ?_
  refine j_aI (pc := 1200) cx hS hf rfl dL_law_1200 (fun y4 hf => ?_)
  obtain ⟨b6, eb, hrc, hf⟩ := jrc_s hf
  refine j_nn (pc := 1201) eb [.int y4] [.int y2] rfl ?_
  obtain ⟨y5, h1, e9, hf⟩ := jB_some hf
  refine j_callV (pc := 1201) (st1 := [.int y5, .int y2]) (As := [.int y4]) (rest := [.int y2]) cx hS rfl hl.1 hm (metX7_ask l _ _ _ _ _ _ hrc e9) (jle hf) hrc rfl (lw_V q2253 q2254 q2255 q123 q2256) pdX7_ask rfl rfl (Nat.le_of_ble_eq_true rfl) ⟨Nat.le_of_ble_eq_true rfl, Nat.le_of_ble_eq_true rfl⟩ dL_law_1201 rfl (fun H locs cells slots hS => ?_)
  refine lv_icmp_eq (pc := 1204) (tgt := 1477) hx hb dL_law_1204 (by decide) (fun hc => ?_) (fun hc => ?_)
  · have hf := jI_t hf hc
    exact wL_law_1477 cx e1 e2 hfl hr1 hA hH0 a0 hk23 _ _ _ _ _ _ _ _ _ _ hf hS hl
  · have hf := jI_f hf hc
    exact wL_law_1207 cx e1 e2 hfl hr1 hA hH0 a0 _ _ _ _ _ _ hf hS (lv_sub hl [0] rfl)
theorem wL_law_1182 {N : Nat} {r : Int32} (cx : jCx p s m args meth c cL_law "WornSkinLaw" 7 ret D dA H0 hs.2.2.2.2) (e1 : h'.2.2.1 ≤ hs.2.2.1 + 774447) (e2 : h'.2.2.2.1 ≤ hs.2.2.2.1 + 6772764) (hfl : l.stackTraces = false) {b : Nat} (hr1 : r = 1) (hA : args = #[Value.ref b]) (hH0 : H0 = s.heap) (a0 : Nat) : ∀ (h : jH) (H : Heap) (locs : List Loc) (cells slots : Nat) (ls : Array Slot), (fL_law_1182 N a0).1 h = some (r, h') → jS D dA H0 hs h H locs cells slots → lv_has ls 7 [(0, .ref a0)] → W p l e room_1 s m args below meth c H locs cells slots (lw_Z below args s) (F0 m 1182 ls []) := by
  have hx := cx.1
  have hb := cx.2.1
  have hown := cx.2.2.2.1
  have hts := cx.2.2.2.2.1
  have hm : h'.2.2.1 ≤ hs.2.2.1 + room_1.cells ∧ h'.2.2.2.1 ≤ hs.2.2.2.1 + room_1.slots := ⟨e1, e2⟩
  intro h H locs cells slots ls hf hS hl
  unfold fL_law_1182 at hf
  refine lv_iconst (pc := 1182) (v := 0) hx hb dL_law_1182 rfl ?_
  exact j_lawret (pc := 1183) cx hS hf hr1 hA hH0 e1 e2 dL_law_1183
theorem wL_law_1171 {N : Nat} {k23 : Option Nat → Option Nat → Option Nat → Int32 → jM Int32} {r : Int32} (cx : jCx p s m args meth c cL_law "WornSkinLaw" 7 ret D dA H0 hs.2.2.2.2) (e1 : h'.2.2.1 ≤ hs.2.2.1 + 774447) (e2 : h'.2.2.2.1 ≤ hs.2.2.2.1 + 6772764) (hfl : l.stackTraces = false) {b : Nat} (hr1 : r = 1) (hA : args = #[Value.ref b]) (hH0 : H0 = s.heap) (a0 : Nat) (hk23 : ∀ (x1 : Option Nat) (x2 : Option Nat) (x3 : Option Nat) (x4 : Int32), ∀ (h : jH) (H : Heap) (locs : List Loc) (cells slots : Nat) (ls : Array Slot), (k23 x1 x2 x3 x4).1 h = some (r, h') → jS D dA H0 hs h H locs cells slots → lv_has ls 7 [(0, .ref a0), (1, va_rf x1), (2, va_rf x2), (3, va_rf x3), (4, .int x4)] → W p l e room_1 s m args below meth c H locs cells slots (lw_Z below args s) (F0 m 23 ls [])) : ∀ (x1 : Option Nat) (x2 : Option Nat) (x3 : Option Nat) (x4 : Int32), ∀ (h : jH) (H : Heap) (locs : List Loc) (cells slots : Nat) (ls : Array Slot), (fL_law_1171 N k23 a0 x1 x2 x3 x4).1 h = some (r, h') → jS D dA H0 hs h H locs cells slots → lv_has ls 7 [(0, .ref a0), (1, va_rf x1), (2, va_rf x2), (3, va_rf x3), (4, .int x4)] → W p l e room_1 s m args below meth c H locs cells slots (lw_Z below args s) (F0 m 1171 ls []) := by
  have hx := cx.1
  have hb := cx.2.1
  have hown := cx.2.2.2.1
  have hts := cx.2.2.2.2.1
  have hm : h'.2.2.1 ≤ hs.2.2.1 + room_1.cells ∧ h'.2.2.2.1 ≤ hs.2.2.2.1 + room_1.slots := ⟨e1, e2⟩
  intro x1 x2 x3 x4 h H locs cells slots ls hf hS hl
  unfold fL_law_1171 at hf
  refine j_aload_n (pc := 1171) (r := x1) hx hb dL_law_1171 rfl (lv_at hl 1 rfl) ?_
  obtain ⟨b2, eb, hrc, hf⟩ := jrc_s hf
  refine j_nn (pc := 1172) eb [] [] rfl ?_
  obtain ⟨y1, h1, e9, hf⟩ := jB_some hf
  refine j_callV (pc := 1172) (st1 := [.int y1]) (As := []) (rest := []) cx hS rfl hl.1 hm (metX1_who l _ _ _ _ _ hrc e9) (jle hf) hrc rfl (lw_V q1566 q1567 q1568 q112 q1569) pdX1_who rfl rfl (Nat.le_of_ble_eq_true rfl) ⟨Nat.le_of_ble_eq_true rfl, Nat.le_of_ble_eq_true rfl⟩ dL_law_1172 rfl (fun H locs cells slots hS => ?_)
  refine j_aload_n (pc := 1175) (r := x2) hx hb dL_law_1175 rfl (lv_at hl 2 rfl) ?_
  obtain ⟨b4, eb, hrc, hf⟩ := jrc_s hf
  refine j_nn (pc := 1176) eb [] [.int y1] rfl ?_
  obtain ⟨y3, h1, e9, hf⟩ := jB_some hf
  refine j_callV (pc := 1176) (st1 := [.int y3, .int y1]) (As := []) (rest := [.int y1]) cx hS rfl hl.1 hm (metX7_who l _ _ _ _ _ hrc e9) (jle hf) hrc rfl (lw_V q2249 q2250 q2251 q123 q2252) pdX7_who rfl rfl (Nat.le_of_ble_eq_true rfl) ⟨Nat.le_of_ble_eq_true rfl, Nat.le_of_ble_eq_true rfl⟩ dL_law_1176 rfl (fun H locs cells slots hS => ?_)
  refine lv_icmp_eq (pc := 1179) (tgt := 1477) hx hb dL_law_1179 (by decide) (fun hc => ?_) (fun hc => ?_)
  · have hf := jI_t hf hc
    exact wL_law_1477 cx e1 e2 hfl hr1 hA hH0 a0 hk23 _ _ _ _ _ _ _ _ _ _ hf hS hl
  · have hf := jI_f hf hc
    exact wL_law_1182 cx e1 e2 hfl hr1 hA hH0 a0 _ _ _ _ _ _ hf hS (lv_sub hl [0] rfl)
theorem wL_law_1169 {N : Nat} {r : Int32} (cx : jCx p s m args meth c cL_law "WornSkinLaw" 7 ret D dA H0 hs.2.2.2.2) (e1 : h'.2.2.1 ≤ hs.2.2.1 + 774447) (e2 : h'.2.2.2.1 ≤ hs.2.2.2.1 + 6772764) (hfl : l.stackTraces = false) {b : Nat} (hr1 : r = 1) (hA : args = #[Value.ref b]) (hH0 : H0 = s.heap) (a0 : Nat) : ∀ (h : jH) (H : Heap) (locs : List Loc) (cells slots : Nat) (ls : Array Slot), (fL_law_1169 N a0).1 h = some (r, h') → jS D dA H0 hs h H locs cells slots → lv_has ls 7 [(0, .ref a0)] → W p l e room_1 s m args below meth c H locs cells slots (lw_Z below args s) (F0 m 1169 ls []) := by
  have hx := cx.1
  have hb := cx.2.1
  have hown := cx.2.2.2.1
  have hts := cx.2.2.2.2.1
  have hm : h'.2.2.1 ≤ hs.2.2.1 + room_1.cells ∧ h'.2.2.2.1 ≤ hs.2.2.2.1 + room_1.slots := ⟨e1, e2⟩
  intro h H locs cells slots ls hf hS hl
  unfold fL_law_1169 at hf
  refine lv_iconst (pc := 1169) (v := 0) hx hb dL_law_1169 rfl ?_
  exact j_lawret (pc := 1170) cx hS hf hr1 hA hH0 e1 e2 dL_law_1170
theorem wL_law_1163 {N : Nat} {k23 : Option Nat → Option Nat → Option Nat → Int32 → jM Int32} {r : Int32} (cx : jCx p s m args meth c cL_law "WornSkinLaw" 7 ret D dA H0 hs.2.2.2.2) (e1 : h'.2.2.1 ≤ hs.2.2.1 + 774447) (e2 : h'.2.2.2.1 ≤ hs.2.2.2.1 + 6772764) (hfl : l.stackTraces = false) {b : Nat} (hr1 : r = 1) (hA : args = #[Value.ref b]) (hH0 : H0 = s.heap) (a0 : Nat) (hk23 : ∀ (x1 : Option Nat) (x2 : Option Nat) (x3 : Option Nat) (x4 : Int32), ∀ (h : jH) (H : Heap) (locs : List Loc) (cells slots : Nat) (ls : Array Slot), (k23 x1 x2 x3 x4).1 h = some (r, h') → jS D dA H0 hs h H locs cells slots → lv_has ls 7 [(0, .ref a0), (1, va_rf x1), (2, va_rf x2), (3, va_rf x3), (4, .int x4)] → W p l e room_1 s m args below meth c H locs cells slots (lw_Z below args s) (F0 m 23 ls [])) : ∀ (x1 : Option Nat) (x2 : Option Nat) (x3 : Option Nat) (x4 : Int32) (v0 : Int32) (v1 : Option Nat) (v2 : Int32) (v3 : Int32) (v4 : Int32) (v5 : Int32), ∀ (h : jH) (H : Heap) (locs : List Loc) (cells slots : Nat) (ls : Array Slot), (fL_law_1163 N k23 a0 x1 x2 x3 x4 v0 v1 v2 v3 v4 v5).1 h = some (r, h') → jS D dA H0 hs h H locs cells slots → lv_has ls 7 [(0, .ref a0), (1, va_rf x1), (2, va_rf x2), (3, va_rf x3), (4, .int x4)] → W p l e room_1 s m args below meth c H locs cells slots (lw_Z below args s) (F0 m 1163 ls [.int v5, .int v4, .int v3, .int v2, va_rf v1, .int v0]) := by
  have hx := cx.1
  have hb := cx.2.1
  have hown := cx.2.2.2.1
  have hts := cx.2.2.2.2.1
  have hm : h'.2.2.1 ≤ hs.2.2.1 + room_1.cells ∧ h'.2.2.2.1 ≤ hs.2.2.2.1 + room_1.slots := ⟨e1, e2⟩
  intro x1 x2 x3 x4 v0 v1 v2 v3 v4 v5 h H locs cells slots ls hf hS hl
  unfold fL_law_1163 at hf
  obtain ⟨b2, eb, hrc, hf⟩ := jrc_s hf
  refine j_nn (pc := 1163) eb [.int v5, .int v4, .int v3, .int v2] [.int v0] rfl ?_
  obtain ⟨y1, h1, e9, hf⟩ := jB_some hf
  refine j_callV (pc := 1163) (st1 := [.int y1, .int v0]) (As := [.int v2, .int v3, .int v4, .int v5]) (rest := [.int v0]) cx hS rfl hl.1 hm (metX7_see l _ _ _ _ _ _ _ _ hrc e9) (jle hf) hrc rfl (lw_V q2245 q2246 q2247 q123 q2248) pdX7_see rfl rfl (Nat.le_of_ble_eq_true rfl) ⟨Nat.le_of_ble_eq_true rfl, Nat.le_of_ble_eq_true rfl⟩ dL_law_1163 rfl (fun H locs cells slots hS => ?_)
  refine lv_icmp_eq (pc := 1166) (tgt := 1477) hx hb dL_law_1166 (by decide) (fun hc => ?_) (fun hc => ?_)
  · have hf := jI_t hf hc
    exact wL_law_1477 cx e1 e2 hfl hr1 hA hH0 a0 hk23 _ _ _ _ _ _ _ _ _ _ hf hS hl
  · have hf := jI_f hf hc
    exact wL_law_1169 cx e1 e2 hfl hr1 hA hH0 a0 _ _ _ _ _ _ hf hS (lv_sub hl [0] rfl)
theorem wL_law_1127 {N : Nat} {k23 : Option Nat → Option Nat → Option Nat → Int32 → jM Int32} {r : Int32} (cx : jCx p s m args meth c cL_law "WornSkinLaw" 7 ret D dA H0 hs.2.2.2.2) (e1 : h'.2.2.1 ≤ hs.2.2.1 + 774447) (e2 : h'.2.2.2.1 ≤ hs.2.2.2.1 + 6772764) (hfl : l.stackTraces = false) {b : Nat} (hr1 : r = 1) (hA : args = #[Value.ref b]) (hH0 : H0 = s.heap) (a0 : Nat) (hk23 : ∀ (x1 : Option Nat) (x2 : Option Nat) (x3 : Option Nat) (x4 : Int32), ∀ (h : jH) (H : Heap) (locs : List Loc) (cells slots : Nat) (ls : Array Slot), (k23 x1 x2 x3 x4).1 h = some (r, h') → jS D dA H0 hs h H locs cells slots → lv_has ls 7 [(0, .ref a0), (1, va_rf x1), (2, va_rf x2), (3, va_rf x3), (4, .int x4)] → W p l e room_1 s m args below meth c H locs cells slots (lw_Z below args s) (F0 m 23 ls [])) : ∀ (x1 : Option Nat) (x2 : Option Nat) (x3 : Option Nat) (x4 : Int32) (v0 : Option Nat) (v1 : Int32) (v2 : Int32) (v3 : Int32) (v4 : Int32), ∀ (h : jH) (H : Heap) (locs : List Loc) (cells slots : Nat) (ls : Array Slot), (fL_law_1127 N k23 a0 x1 x2 x3 x4 v0 v1 v2 v3 v4).1 h = some (r, h') → jS D dA H0 hs h H locs cells slots → lv_has ls 7 [(0, .ref a0), (1, va_rf x1), (2, va_rf x2), (3, va_rf x3), (4, .int x4)] → W p l e room_1 s m args below meth c H locs cells slots (lw_Z below args s) (F0 m 1127 ls [.int v4, .int v3, .int v2, .int v1, va_rf v0]) := by
  have hx := cx.1
  have hb := cx.2.1
  have hown := cx.2.2.2.1
  have hts := cx.2.2.2.2.1
  have hm : h'.2.2.1 ≤ hs.2.2.1 + room_1.cells ∧ h'.2.2.2.1 ≤ hs.2.2.2.1 + room_1.slots := ⟨e1, e2⟩
  intro x1 x2 x3 x4 v0 v1 v2 v3 v4 h H locs cells slots ls hf hS hl
  unfold fL_law_1127 at hf
  obtain ⟨b2, eb, hrc, hf⟩ := jrc_s hf
  refine j_nn (pc := 1127) eb [.int v4, .int v3, .int v2, .int v1] [] rfl ?_
  obtain ⟨y1, h1, e9, hf⟩ := jB_some hf
  refine j_callV (pc := 1127) (st1 := [.int y1]) (As := [.int v1, .int v2, .int v3, .int v4]) (rest := []) cx hS rfl hl.1 hm (metX1_see l _ _ _ _ _ _ _ _ hrc e9) (jle hf) hrc rfl (lw_V q1562 q1563 q1564 q112 q1565) pdX1_see rfl rfl (Nat.le_of_ble_eq_true rfl) ⟨Nat.le_of_ble_eq_true rfl, Nat.le_of_ble_eq_true rfl⟩ dL_law_1127 rfl (fun H locs cells slots hS => ?_)
  refine j_aload_n (pc := 1130) (r := x2) hx hb dL_law_1130 rfl (lv_at hl 2 rfl) ?_
  refine lv_aload_n (pc := 1131) hx hb dL_law_1131 rfl (lv_at hl 0 rfl) ?_
  refine lv_iload (pc := 1132) hx hb dL_law_1132 (lv_at hl 4 rfl) ?_
  refine lv_iconst (pc := 1134) (v := 1) hx hb dL_law_1134 rfl ?_
  refine lv_iadd (pc := 1135) hx hb dL_law_1135 ?_
  refine j_aI (pc := 1136) cx hS hf rfl dL_law_1136 (fun y3 hf => ?_)
  refine lv_aload_n (pc := 1137) hx hb dL_law_1137 rfl (lv_at hl 0 rfl) ?_
  refine lv_iload (pc := 1138) hx hb dL_law_1138 (lv_at hl 4 rfl) ?_
  refine lv_iconst (pc := 1140) (v := 2) hx hb dL_law_1140 rfl ?_
  refine lv_iadd (pc := 1141) hx hb dL_law_1141 ?_
  refine j_aI (pc := 1142) cx hS hf rfl dL_law_1142 (fun y4 hf => ?_)
  refine lv_aload_n (pc := 1143) hx hb dL_law_1143 rfl (lv_at hl 0 rfl) ?_
  refine lv_iload (pc := 1144) hx hb dL_law_1144 (lv_at hl 4 rfl) ?_
  refine lv_iconst (pc := 1146) (v := 3) hx hb dL_law_1146 rfl ?_
  refine lv_iadd (pc := 1147) hx hb dL_law_1147 ?_
  refine j_aI (pc := 1148) cx hS hf rfl dL_law_1148 (fun y5 hf => ?_)
  refine lv_aload_n (pc := 1149) hx hb dL_law_1149 rfl (lv_at hl 0 rfl) ?_
  refine lv_iload (pc := 1150) hx hb dL_law_1150 (lv_at hl 4 rfl) ?_
  refine lv_iconst (pc := 1152) (v := 4) hx hb dL_law_1152 rfl ?_
  refine lv_iadd (pc := 1153) hx hb dL_law_1153 ?_
  refine j_aI (pc := 1154) cx hS hf rfl dL_law_1154 (fun y6 hf => ?_)
  refine lv_if_eq (pc := 1155) (tgt := 1162) hx hb dL_law_1155 (by decide) (fun hc => ?_) (fun hc => ?_)
  · have hf := jI_t hf hc
    refine lv_iconst (pc := 1162) (v := 0) hx hb dL_law_1162 rfl ?_
    exact wL_law_1163 cx e1 e2 hfl hr1 hA hH0 a0 hk23 _ _ _ _ _ _ _ _ _ _ _ _ _ _ _ _ hf hS hl
  · have hf := jI_f hf hc
    refine lv_iconst (pc := 1158) (v := 1) hx hb dL_law_1158 rfl ?_
    refine lv_goto (pc := 1159) (tgt := 1163) hx hb dL_law_1159 (by decide) ?_
    exact wL_law_1163 cx e1 e2 hfl hr1 hA hH0 a0 hk23 _ _ _ _ _ _ _ _ _ _ _ _ _ _ _ _ hf hS hl
theorem wL_law_1094 {N : Nat} {k23 : Option Nat → Option Nat → Option Nat → Int32 → jM Int32} {r : Int32} (cx : jCx p s m args meth c cL_law "WornSkinLaw" 7 ret D dA H0 hs.2.2.2.2) (e1 : h'.2.2.1 ≤ hs.2.2.1 + 774447) (e2 : h'.2.2.2.1 ≤ hs.2.2.2.1 + 6772764) (hfl : l.stackTraces = false) {b : Nat} (hr1 : r = 1) (hA : args = #[Value.ref b]) (hH0 : H0 = s.heap) (a0 : Nat) (hk23 : ∀ (x1 : Option Nat) (x2 : Option Nat) (x3 : Option Nat) (x4 : Int32), ∀ (h : jH) (H : Heap) (locs : List Loc) (cells slots : Nat) (ls : Array Slot), (k23 x1 x2 x3 x4).1 h = some (r, h') → jS D dA H0 hs h H locs cells slots → lv_has ls 7 [(0, .ref a0), (1, va_rf x1), (2, va_rf x2), (3, va_rf x3), (4, .int x4)] → W p l e room_1 s m args below meth c H locs cells slots (lw_Z below args s) (F0 m 23 ls [])) : ∀ (x1 : Option Nat) (x2 : Option Nat) (x3 : Option Nat) (x4 : Int32), ∀ (h : jH) (H : Heap) (locs : List Loc) (cells slots : Nat) (ls : Array Slot), (fL_law_1094 N k23 a0 x1 x2 x3 x4).1 h = some (r, h') → jS D dA H0 hs h H locs cells slots → lv_has ls 7 [(0, .ref a0), (1, va_rf x1), (2, va_rf x2), (3, va_rf x3), (4, .int x4)] → W p l e room_1 s m args below meth c H locs cells slots (lw_Z below args s) (F0 m 1094 ls []) := by
  have hx := cx.1
  have hb := cx.2.1
  have hown := cx.2.2.2.1
  have hts := cx.2.2.2.2.1
  have hm : h'.2.2.1 ≤ hs.2.2.1 + room_1.cells ∧ h'.2.2.2.1 ≤ hs.2.2.2.1 + room_1.slots := ⟨e1, e2⟩
  intro x1 x2 x3 x4 h H locs cells slots ls hf hS hl
  unfold fL_law_1094 at hf
  refine j_aload_n (pc := 1094) (r := x1) hx hb dL_law_1094 rfl (lv_at hl 1 rfl) ?_
  refine lv_aload_n (pc := 1095) hx hb dL_law_1095 rfl (lv_at hl 0 rfl) ?_
  refine lv_iload (pc := 1096) hx hb dL_law_1096 (lv_at hl 4 rfl) ?_
  refine lv_iconst (pc := 1098) (v := 1) hx hb dL_law_1098 rfl ?_
  refine lv_iadd (pc := 1099) hx hb dL_law_1099 ?_
  refine j_aI (pc := 1100) cx hS hf rfl dL_law_1100 (fun y1 hf => ?_)
  refine lv_aload_n (pc := 1101) hx hb dL_law_1101 rfl (lv_at hl 0 rfl) ?_
  refine lv_iload (pc := 1102) hx hb dL_law_1102 (lv_at hl 4 rfl) ?_
  refine lv_iconst (pc := 1104) (v := 2) hx hb dL_law_1104 rfl ?_
  refine lv_iadd (pc := 1105) hx hb dL_law_1105 ?_
  refine j_aI (pc := 1106) cx hS hf rfl dL_law_1106 (fun y2 hf => ?_)
  refine lv_aload_n (pc := 1107) hx hb dL_law_1107 rfl (lv_at hl 0 rfl) ?_
  refine lv_iload (pc := 1108) hx hb dL_law_1108 (lv_at hl 4 rfl) ?_
  refine lv_iconst (pc := 1110) (v := 3) hx hb dL_law_1110 rfl ?_
  refine lv_iadd (pc := 1111) hx hb dL_law_1111 ?_
  refine j_aI (pc := 1112) cx hS hf rfl dL_law_1112 (fun y3 hf => ?_)
  refine lv_aload_n (pc := 1113) hx hb dL_law_1113 rfl (lv_at hl 0 rfl) ?_
  refine lv_iload (pc := 1114) hx hb dL_law_1114 (lv_at hl 4 rfl) ?_
  refine lv_iconst (pc := 1116) (v := 4) hx hb dL_law_1116 rfl ?_
  refine lv_iadd (pc := 1117) hx hb dL_law_1117 ?_
  refine j_aI (pc := 1118) cx hS hf rfl dL_law_1118 (fun y4 hf => ?_)
  refine lv_if_eq (pc := 1119) (tgt := 1126) hx hb dL_law_1119 (by decide) (fun hc => ?_) (fun hc => ?_)
  · have hf := jI_t hf hc
    refine lv_iconst (pc := 1126) (v := 0) hx hb dL_law_1126 rfl ?_
    exact wL_law_1127 cx e1 e2 hfl hr1 hA hH0 a0 hk23 _ _ _ _ _ _ _ _ _ _ _ _ _ _ _ hf hS hl
  · have hf := jI_f hf hc
    refine lv_iconst (pc := 1122) (v := 1) hx hb dL_law_1122 rfl ?_
    refine lv_goto (pc := 1123) (tgt := 1127) hx hb dL_law_1123 (by decide) ?_
    exact wL_law_1127 cx e1 e2 hfl hr1 hA hH0 a0 hk23 _ _ _ _ _ _ _ _ _ _ _ _ _ _ _ hf hS hl
theorem wL_law_1092 {N : Nat} {r : Int32} (cx : jCx p s m args meth c cL_law "WornSkinLaw" 7 ret D dA H0 hs.2.2.2.2) (e1 : h'.2.2.1 ≤ hs.2.2.1 + 774447) (e2 : h'.2.2.2.1 ≤ hs.2.2.2.1 + 6772764) (hfl : l.stackTraces = false) {b : Nat} (hr1 : r = 1) (hA : args = #[Value.ref b]) (hH0 : H0 = s.heap) (a0 : Nat) : ∀ (h : jH) (H : Heap) (locs : List Loc) (cells slots : Nat) (ls : Array Slot), (fL_law_1092 N a0).1 h = some (r, h') → jS D dA H0 hs h H locs cells slots → lv_has ls 7 [(0, .ref a0)] → W p l e room_1 s m args below meth c H locs cells slots (lw_Z below args s) (F0 m 1092 ls []) := by
  have hx := cx.1
  have hb := cx.2.1
  have hown := cx.2.2.2.1
  have hts := cx.2.2.2.2.1
  have hm : h'.2.2.1 ≤ hs.2.2.1 + room_1.cells ∧ h'.2.2.2.1 ≤ hs.2.2.2.1 + room_1.slots := ⟨e1, e2⟩
  intro h H locs cells slots ls hf hS hl
  unfold fL_law_1092 at hf
  refine lv_iconst (pc := 1092) (v := 0) hx hb dL_law_1092 rfl ?_
  exact j_lawret (pc := 1093) cx hS hf hr1 hA hH0 e1 e2 dL_law_1093
theorem wL_law_1069 {N : Nat} {k23 : Option Nat → Option Nat → Option Nat → Int32 → jM Int32} {r : Int32} (cx : jCx p s m args meth c cL_law "WornSkinLaw" 7 ret D dA H0 hs.2.2.2.2) (e1 : h'.2.2.1 ≤ hs.2.2.1 + 774447) (e2 : h'.2.2.2.1 ≤ hs.2.2.2.1 + 6772764) (hfl : l.stackTraces = false) {b : Nat} (hr1 : r = 1) (hA : args = #[Value.ref b]) (hH0 : H0 = s.heap) (a0 : Nat) (hk23 : ∀ (x1 : Option Nat) (x2 : Option Nat) (x3 : Option Nat) (x4 : Int32), ∀ (h : jH) (H : Heap) (locs : List Loc) (cells slots : Nat) (ls : Array Slot), (k23 x1 x2 x3 x4).1 h = some (r, h') → jS D dA H0 hs h H locs cells slots → lv_has ls 7 [(0, .ref a0), (1, va_rf x1), (2, va_rf x2), (3, va_rf x3), (4, .int x4)] → W p l e room_1 s m args below meth c H locs cells slots (lw_Z below args s) (F0 m 23 ls [])) : ∀ (x1 : Option Nat) (x2 : Option Nat) (x3 : Option Nat) (x4 : Int32), ∀ (h : jH) (H : Heap) (locs : List Loc) (cells slots : Nat) (ls : Array Slot), (fL_law_1069 N k23 a0 x1 x2 x3 x4).1 h = some (r, h') → jS D dA H0 hs h H locs cells slots → lv_has ls 7 [(0, .ref a0), (1, va_rf x1), (2, va_rf x2), (3, va_rf x3), (4, .int x4)] → W p l e room_1 s m args below meth c H locs cells slots (lw_Z below args s) (F0 m 1069 ls []) := by
  have hx := cx.1
  have hb := cx.2.1
  have hown := cx.2.2.2.1
  have hts := cx.2.2.2.2.1
  have hm : h'.2.2.1 ≤ hs.2.2.1 + room_1.cells ∧ h'.2.2.2.1 ≤ hs.2.2.2.1 + room_1.slots := ⟨e1, e2⟩
  intro x1 x2 x3 x4 h H locs cells slots ls hf hS hl
  unfold fL_law_1069 at hf
  refine j_aload_n (pc := 1069) (r := x1) hx hb dL_law_1069 rfl (lv_at hl 1 rfl) ?_
  refine lv_aload_n (pc := 1070) hx hb dL_law_1070 rfl (lv_at hl 0 rfl) ?_
  refine lv_iload (pc := 1071) hx hb dL_law_1071 (lv_at hl 4 rfl) ?_
  refine lv_iconst (pc := 1073) (v := 1) hx hb dL_law_1073 rfl ?_
  refine lv_iadd (pc := 1074) hx hb dL_law_1074 ?_
  refine j_aI (pc := 1075) cx hS hf rfl dL_law_1075 (fun y1 hf => ?_)
  obtain ⟨b3, eb, hrc, hf⟩ := jrc_s hf
  refine j_nn (pc := 1076) eb [.int y1] [] rfl ?_
  obtain ⟨y2, h1, e9, hf⟩ := jB_some hf
  refine j_callV (pc := 1076) (st1 := [.int y2]) (As := [.int y1]) (rest := []) cx hS rfl hl.1 hm (metX1_psalter l _ _ _ _ _ _ hrc e9) (jle hf) hrc rfl (lw_V q1476 q1477 q1478 q112 q1479) pdX1_psalter rfl rfl (Nat.le_of_ble_eq_true rfl) ⟨Nat.le_of_ble_eq_true rfl, Nat.le_of_ble_eq_true rfl⟩ dL_law_1076 rfl (fun H locs cells slots hS => ?_)
  refine j_aload_n (pc := 1079) (r := x2) hx hb dL_law_1079 rfl (lv_at hl 2 rfl) ?_
  refine lv_aload_n (pc := 1080) hx hb dL_law_1080 rfl (lv_at hl 0 rfl) ?_
  refine lv_iload (pc := 1081) hx hb dL_law_1081 (lv_at hl 4 rfl) ?_
  refine lv_iconst (pc := 1083) (v := 1) hx hb dL_law_1083 rfl ?_
  refine lv_iadd (pc := 1084) hx hb dL_law_1084 ?_
  refine j_aI (pc := 1085) cx hS hf rfl dL_law_1085 (fun y4 hf => ?_)
  obtain ⟨b6, eb, hrc, hf⟩ := jrc_s hf
  refine j_nn (pc := 1086) eb [.int y4] [.int y2] rfl ?_
  obtain ⟨y5, h1, e9, hf⟩ := jB_some hf
  refine j_callV (pc := 1086) (st1 := [.int y5, .int y2]) (As := [.int y4]) (rest := [.int y2]) cx hS rfl hl.1 hm (metX7_psalter l _ _ _ _ _ _ hrc e9) (jle hf) hrc rfl (lw_V q2184 q2185 q2186 q123 q2187) pdX7_psalter rfl rfl (Nat.le_of_ble_eq_true rfl) ⟨Nat.le_of_ble_eq_true rfl, Nat.le_of_ble_eq_true rfl⟩ dL_law_1086 rfl (fun H locs cells slots hS => ?_)
  refine lv_icmp_eq (pc := 1089) (tgt := 1477) hx hb dL_law_1089 (by decide) (fun hc => ?_) (fun hc => ?_)
  · have hf := jI_t hf hc
    exact wL_law_1477 cx e1 e2 hfl hr1 hA hH0 a0 hk23 _ _ _ _ _ _ _ _ _ _ hf hS hl
  · have hf := jI_f hf hc
    exact wL_law_1092 cx e1 e2 hfl hr1 hA hH0 a0 _ _ _ _ _ _ hf hS (lv_sub hl [0] rfl)
theorem wL_law_1067 {N : Nat} {r : Int32} (cx : jCx p s m args meth c cL_law "WornSkinLaw" 7 ret D dA H0 hs.2.2.2.2) (e1 : h'.2.2.1 ≤ hs.2.2.1 + 774447) (e2 : h'.2.2.2.1 ≤ hs.2.2.2.1 + 6772764) (hfl : l.stackTraces = false) {b : Nat} (hr1 : r = 1) (hA : args = #[Value.ref b]) (hH0 : H0 = s.heap) (a0 : Nat) : ∀ (h : jH) (H : Heap) (locs : List Loc) (cells slots : Nat) (ls : Array Slot), (fL_law_1067 N a0).1 h = some (r, h') → jS D dA H0 hs h H locs cells slots → lv_has ls 7 [(0, .ref a0)] → W p l e room_1 s m args below meth c H locs cells slots (lw_Z below args s) (F0 m 1067 ls []) := by
  have hx := cx.1
  have hb := cx.2.1
  have hown := cx.2.2.2.1
  have hts := cx.2.2.2.2.1
  have hm : h'.2.2.1 ≤ hs.2.2.1 + room_1.cells ∧ h'.2.2.2.1 ≤ hs.2.2.2.1 + room_1.slots := ⟨e1, e2⟩
  intro h H locs cells slots ls hf hS hl
  unfold fL_law_1067 at hf
  refine lv_iconst (pc := 1067) (v := 0) hx hb dL_law_1067 rfl ?_
  exact j_lawret (pc := 1068) cx hS hf hr1 hA hH0 e1 e2 dL_law_1068
theorem wL_law_1056 {N : Nat} {k23 : Option Nat → Option Nat → Option Nat → Int32 → jM Int32} {r : Int32} (cx : jCx p s m args meth c cL_law "WornSkinLaw" 7 ret D dA H0 hs.2.2.2.2) (e1 : h'.2.2.1 ≤ hs.2.2.1 + 774447) (e2 : h'.2.2.2.1 ≤ hs.2.2.2.1 + 6772764) (hfl : l.stackTraces = false) {b : Nat} (hr1 : r = 1) (hA : args = #[Value.ref b]) (hH0 : H0 = s.heap) (a0 : Nat) (hk23 : ∀ (x1 : Option Nat) (x2 : Option Nat) (x3 : Option Nat) (x4 : Int32), ∀ (h : jH) (H : Heap) (locs : List Loc) (cells slots : Nat) (ls : Array Slot), (k23 x1 x2 x3 x4).1 h = some (r, h') → jS D dA H0 hs h H locs cells slots → lv_has ls 7 [(0, .ref a0), (1, va_rf x1), (2, va_rf x2), (3, va_rf x3), (4, .int x4)] → W p l e room_1 s m args below meth c H locs cells slots (lw_Z below args s) (F0 m 23 ls [])) : ∀ (x1 : Option Nat) (x2 : Option Nat) (x3 : Option Nat) (x4 : Int32), ∀ (h : jH) (H : Heap) (locs : List Loc) (cells slots : Nat) (ls : Array Slot), (fL_law_1056 N k23 a0 x1 x2 x3 x4).1 h = some (r, h') → jS D dA H0 hs h H locs cells slots → lv_has ls 7 [(0, .ref a0), (1, va_rf x1), (2, va_rf x2), (3, va_rf x3), (4, .int x4)] → W p l e room_1 s m args below meth c H locs cells slots (lw_Z below args s) (F0 m 1056 ls []) := by
  have hx := cx.1
  have hb := cx.2.1
  have hown := cx.2.2.2.1
  have hts := cx.2.2.2.2.1
  have hm : h'.2.2.1 ≤ hs.2.2.1 + room_1.cells ∧ h'.2.2.2.1 ≤ hs.2.2.2.1 + room_1.slots := ⟨e1, e2⟩
  intro x1 x2 x3 x4 h H locs cells slots ls hf hS hl
  unfold fL_law_1056 at hf
  refine j_aload_n (pc := 1056) (r := x1) hx hb dL_law_1056 rfl (lv_at hl 1 rfl) ?_
  obtain ⟨b2, eb, hrc, hf⟩ := jrc_s hf
  refine j_nn (pc := 1057) eb [] [] rfl ?_
  obtain ⟨y1, h1, e9, hf⟩ := jB_some hf
  refine j_callV (pc := 1057) (st1 := [.int y1]) (As := []) (rest := []) cx hS rfl hl.1 hm (metX1_giveup l _ _ _ _ _ hrc e9) (jle hf) hrc rfl (lw_V q1558 q1559 q1560 q112 q1561) pdX1_giveup rfl rfl (Nat.le_of_ble_eq_true rfl) ⟨Nat.le_of_ble_eq_true rfl, Nat.le_of_ble_eq_true rfl⟩ dL_law_1057 rfl (fun H locs cells slots hS => ?_)
  refine j_aload_n (pc := 1060) (r := x2) hx hb dL_law_1060 rfl (lv_at hl 2 rfl) ?_
  obtain ⟨b4, eb, hrc, hf⟩ := jrc_s hf
  refine j_nn (pc := 1061) eb [] [.int y1] rfl ?_
  obtain ⟨y3, h1, e9, hf⟩ := jB_some hf
  refine j_callV (pc := 1061) (st1 := [.int y3, .int y1]) (As := []) (rest := [.int y1]) cx hS rfl hl.1 hm (metX7_giveup l _ _ _ _ _ hrc e9) (jle hf) hrc rfl (lw_V q2241 q2242 q2243 q123 q2244) pdX7_giveup rfl rfl (Nat.le_of_ble_eq_true rfl) ⟨Nat.le_of_ble_eq_true rfl, Nat.le_of_ble_eq_true rfl⟩ dL_law_1061 rfl (fun H locs cells slots hS => ?_)
  refine lv_icmp_eq (pc := 1064) (tgt := 1477) hx hb dL_law_1064 (by decide) (fun hc => ?_) (fun hc => ?_)
  · have hf := jI_t hf hc
    exact wL_law_1477 cx e1 e2 hfl hr1 hA hH0 a0 hk23 _ _ _ _ _ _ _ _ _ _ hf hS hl
  · have hf := jI_f hf hc
    exact wL_law_1067 cx e1 e2 hfl hr1 hA hH0 a0 _ _ _ _ _ _ hf hS (lv_sub hl [0] rfl)
theorem wL_law_1054 {N : Nat} {r : Int32} (cx : jCx p s m args meth c cL_law "WornSkinLaw" 7 ret D dA H0 hs.2.2.2.2) (e1 : h'.2.2.1 ≤ hs.2.2.1 + 774447) (e2 : h'.2.2.2.1 ≤ hs.2.2.2.1 + 6772764) (hfl : l.stackTraces = false) {b : Nat} (hr1 : r = 1) (hA : args = #[Value.ref b]) (hH0 : H0 = s.heap) (a0 : Nat) : ∀ (h : jH) (H : Heap) (locs : List Loc) (cells slots : Nat) (ls : Array Slot), (fL_law_1054 N a0).1 h = some (r, h') → jS D dA H0 hs h H locs cells slots → lv_has ls 7 [(0, .ref a0)] → W p l e room_1 s m args below meth c H locs cells slots (lw_Z below args s) (F0 m 1054 ls []) := by
  have hx := cx.1
  have hb := cx.2.1
  have hown := cx.2.2.2.1
  have hts := cx.2.2.2.2.1
  have hm : h'.2.2.1 ≤ hs.2.2.1 + room_1.cells ∧ h'.2.2.2.1 ≤ hs.2.2.2.1 + room_1.slots := ⟨e1, e2⟩
  intro h H locs cells slots ls hf hS hl
  unfold fL_law_1054 at hf
  refine lv_iconst (pc := 1054) (v := 0) hx hb dL_law_1054 rfl ?_
  exact j_lawret (pc := 1055) cx hS hf hr1 hA hH0 e1 e2 dL_law_1055
theorem wL_law_1043 {N : Nat} {k23 : Option Nat → Option Nat → Option Nat → Int32 → jM Int32} {r : Int32} (cx : jCx p s m args meth c cL_law "WornSkinLaw" 7 ret D dA H0 hs.2.2.2.2) (e1 : h'.2.2.1 ≤ hs.2.2.1 + 774447) (e2 : h'.2.2.2.1 ≤ hs.2.2.2.1 + 6772764) (hfl : l.stackTraces = false) {b : Nat} (hr1 : r = 1) (hA : args = #[Value.ref b]) (hH0 : H0 = s.heap) (a0 : Nat) (hk23 : ∀ (x1 : Option Nat) (x2 : Option Nat) (x3 : Option Nat) (x4 : Int32), ∀ (h : jH) (H : Heap) (locs : List Loc) (cells slots : Nat) (ls : Array Slot), (k23 x1 x2 x3 x4).1 h = some (r, h') → jS D dA H0 hs h H locs cells slots → lv_has ls 7 [(0, .ref a0), (1, va_rf x1), (2, va_rf x2), (3, va_rf x3), (4, .int x4)] → W p l e room_1 s m args below meth c H locs cells slots (lw_Z below args s) (F0 m 23 ls [])) : ∀ (x1 : Option Nat) (x2 : Option Nat) (x3 : Option Nat) (x4 : Int32), ∀ (h : jH) (H : Heap) (locs : List Loc) (cells slots : Nat) (ls : Array Slot), (fL_law_1043 N k23 a0 x1 x2 x3 x4).1 h = some (r, h') → jS D dA H0 hs h H locs cells slots → lv_has ls 7 [(0, .ref a0), (1, va_rf x1), (2, va_rf x2), (3, va_rf x3), (4, .int x4)] → W p l e room_1 s m args below meth c H locs cells slots (lw_Z below args s) (F0 m 1043 ls []) := by
  have hx := cx.1
  have hb := cx.2.1
  have hown := cx.2.2.2.1
  have hts := cx.2.2.2.2.1
  have hm : h'.2.2.1 ≤ hs.2.2.1 + room_1.cells ∧ h'.2.2.2.1 ≤ hs.2.2.2.1 + room_1.slots := ⟨e1, e2⟩
  intro x1 x2 x3 x4 h H locs cells slots ls hf hS hl
  unfold fL_law_1043 at hf
  refine j_aload_n (pc := 1043) (r := x1) hx hb dL_law_1043 rfl (lv_at hl 1 rfl) ?_
  obtain ⟨b2, eb, hrc, hf⟩ := jrc_s hf
  refine j_nn (pc := 1044) eb [] [] rfl ?_
  obtain ⟨y1, h1, e9, hf⟩ := jB_some hf
  refine j_callV (pc := 1044) (st1 := [.int y1]) (As := []) (rest := []) cx hS rfl hl.1 hm (metX1_same l _ _ _ _ _ hrc e9) (jle hf) hrc rfl (lw_V q1550 q1551 q1552 q112 q1553) pdX1_same rfl rfl (Nat.le_of_ble_eq_true rfl) ⟨Nat.le_of_ble_eq_true rfl, Nat.le_of_ble_eq_true rfl⟩ dL_law_1044 rfl (fun H locs cells slots hS => ?_)
  refine j_aload_n (pc := 1047) (r := x2) hx hb dL_law_1047 rfl (lv_at hl 2 rfl) ?_
  obtain ⟨b4, eb, hrc, hf⟩ := jrc_s hf
  refine j_nn (pc := 1048) eb [] [.int y1] rfl ?_
  obtain ⟨y3, h1, e9, hf⟩ := jB_some hf
  refine j_callV (pc := 1048) (st1 := [.int y3, .int y1]) (As := []) (rest := [.int y1]) cx hS rfl hl.1 hm (metX7_same l _ _ _ _ _ hrc e9) (jle hf) hrc rfl (lw_V q2237 q2238 q2239 q123 q2240) pdX7_same rfl rfl (Nat.le_of_ble_eq_true rfl) ⟨Nat.le_of_ble_eq_true rfl, Nat.le_of_ble_eq_true rfl⟩ dL_law_1048 rfl (fun H locs cells slots hS => ?_)
  refine lv_icmp_eq (pc := 1051) (tgt := 1477) hx hb dL_law_1051 (by decide) (fun hc => ?_) (fun hc => ?_)
  · have hf := jI_t hf hc
    exact wL_law_1477 cx e1 e2 hfl hr1 hA hH0 a0 hk23 _ _ _ _ _ _ _ _ _ _ hf hS hl
  · have hf := jI_f hf hc
    exact wL_law_1054 cx e1 e2 hfl hr1 hA hH0 a0 _ _ _ _ _ _ hf hS (lv_sub hl [0] rfl)
theorem wL_law_1041 {N : Nat} {r : Int32} (cx : jCx p s m args meth c cL_law "WornSkinLaw" 7 ret D dA H0 hs.2.2.2.2) (e1 : h'.2.2.1 ≤ hs.2.2.1 + 774447) (e2 : h'.2.2.2.1 ≤ hs.2.2.2.1 + 6772764) (hfl : l.stackTraces = false) {b : Nat} (hr1 : r = 1) (hA : args = #[Value.ref b]) (hH0 : H0 = s.heap) (a0 : Nat) : ∀ (h : jH) (H : Heap) (locs : List Loc) (cells slots : Nat) (ls : Array Slot), (fL_law_1041 N a0).1 h = some (r, h') → jS D dA H0 hs h H locs cells slots → lv_has ls 7 [(0, .ref a0)] → W p l e room_1 s m args below meth c H locs cells slots (lw_Z below args s) (F0 m 1041 ls []) := by
  have hx := cx.1
  have hb := cx.2.1
  have hown := cx.2.2.2.1
  have hts := cx.2.2.2.2.1
  have hm : h'.2.2.1 ≤ hs.2.2.1 + room_1.cells ∧ h'.2.2.2.1 ≤ hs.2.2.2.1 + room_1.slots := ⟨e1, e2⟩
  intro h H locs cells slots ls hf hS hl
  unfold fL_law_1041 at hf
  refine lv_iconst (pc := 1041) (v := 0) hx hb dL_law_1041 rfl ?_
  exact j_lawret (pc := 1042) cx hS hf hr1 hA hH0 e1 e2 dL_law_1042
theorem wL_law_1018 {N : Nat} {k23 : Option Nat → Option Nat → Option Nat → Int32 → jM Int32} {r : Int32} (cx : jCx p s m args meth c cL_law "WornSkinLaw" 7 ret D dA H0 hs.2.2.2.2) (e1 : h'.2.2.1 ≤ hs.2.2.1 + 774447) (e2 : h'.2.2.2.1 ≤ hs.2.2.2.1 + 6772764) (hfl : l.stackTraces = false) {b : Nat} (hr1 : r = 1) (hA : args = #[Value.ref b]) (hH0 : H0 = s.heap) (a0 : Nat) (hk23 : ∀ (x1 : Option Nat) (x2 : Option Nat) (x3 : Option Nat) (x4 : Int32), ∀ (h : jH) (H : Heap) (locs : List Loc) (cells slots : Nat) (ls : Array Slot), (k23 x1 x2 x3 x4).1 h = some (r, h') → jS D dA H0 hs h H locs cells slots → lv_has ls 7 [(0, .ref a0), (1, va_rf x1), (2, va_rf x2), (3, va_rf x3), (4, .int x4)] → W p l e room_1 s m args below meth c H locs cells slots (lw_Z below args s) (F0 m 23 ls [])) : ∀ (x1 : Option Nat) (x2 : Option Nat) (x3 : Option Nat) (x4 : Int32), ∀ (h : jH) (H : Heap) (locs : List Loc) (cells slots : Nat) (ls : Array Slot), (fL_law_1018 N k23 a0 x1 x2 x3 x4).1 h = some (r, h') → jS D dA H0 hs h H locs cells slots → lv_has ls 7 [(0, .ref a0), (1, va_rf x1), (2, va_rf x2), (3, va_rf x3), (4, .int x4)] → W p l e room_1 s m args below meth c H locs cells slots (lw_Z below args s) (F0 m 1018 ls []) := by
  have hx := cx.1
  have hb := cx.2.1
  have hown := cx.2.2.2.1
  have hts := cx.2.2.2.2.1
  have hm : h'.2.2.1 ≤ hs.2.2.1 + room_1.cells ∧ h'.2.2.2.1 ≤ hs.2.2.2.1 + room_1.slots := ⟨e1, e2⟩
  intro x1 x2 x3 x4 h H locs cells slots ls hf hS hl
  unfold fL_law_1018 at hf
  refine j_aload_n (pc := 1018) (r := x1) hx hb dL_law_1018 rfl (lv_at hl 1 rfl) ?_
  refine lv_aload_n (pc := 1019) hx hb dL_law_1019 rfl (lv_at hl 0 rfl) ?_
  refine lv_iload (pc := 1020) hx hb dL_law_1020 (lv_at hl 4 rfl) ?_
  refine lv_iconst (pc := 1022) (v := 1) hx hb dL_law_1022 rfl ?_
  refine lv_iadd (pc := 1023) hx hb dL_law_1023 ?_
  refine j_aI (pc := 1024) cx hS hf rfl dL_law_1024 (fun y1 hf => ?_)
  obtain ⟨b3, eb, hrc, hf⟩ := jrc_s hf
  refine j_nn (pc := 1025) eb [.int y1] [] rfl ?_
  obtain ⟨y2, h1, e9, hf⟩ := jB_some hf
  refine j_callV (pc := 1025) (st1 := [.int y2]) (As := [.int y1]) (rest := []) cx hS rfl hl.1 hm (metX1_bare l _ _ _ _ _ _ hrc e9) (jle hf) hrc rfl (lw_V q1545 q1546 q1547 q112 q1548) pdX1_bare rfl rfl (Nat.le_of_ble_eq_true rfl) ⟨Nat.le_of_ble_eq_true rfl, Nat.le_of_ble_eq_true rfl⟩ dL_law_1025 rfl (fun H locs cells slots hS => ?_)
  refine j_aload_n (pc := 1028) (r := x2) hx hb dL_law_1028 rfl (lv_at hl 2 rfl) ?_
  refine lv_aload_n (pc := 1029) hx hb dL_law_1029 rfl (lv_at hl 0 rfl) ?_
  refine lv_iload (pc := 1030) hx hb dL_law_1030 (lv_at hl 4 rfl) ?_
  refine lv_iconst (pc := 1032) (v := 1) hx hb dL_law_1032 rfl ?_
  refine lv_iadd (pc := 1033) hx hb dL_law_1033 ?_
  refine j_aI (pc := 1034) cx hS hf rfl dL_law_1034 (fun y4 hf => ?_)
  obtain ⟨b6, eb, hrc, hf⟩ := jrc_s hf
  refine j_nn (pc := 1035) eb [.int y4] [.int y2] rfl ?_
  obtain ⟨y5, h1, e9, hf⟩ := jB_some hf
  refine j_callV (pc := 1035) (st1 := [.int y5, .int y2]) (As := [.int y4]) (rest := [.int y2]) cx hS rfl hl.1 hm (metX7_bare l _ _ _ _ _ _ hrc e9) (jle hf) hrc rfl (lw_V q2233 q2234 q2235 q123 q2236) pdX7_bare rfl rfl (Nat.le_of_ble_eq_true rfl) ⟨Nat.le_of_ble_eq_true rfl, Nat.le_of_ble_eq_true rfl⟩ dL_law_1035 rfl (fun H locs cells slots hS => ?_)
  refine lv_icmp_eq (pc := 1038) (tgt := 1477) hx hb dL_law_1038 (by decide) (fun hc => ?_) (fun hc => ?_)
  · have hf := jI_t hf hc
    exact wL_law_1477 cx e1 e2 hfl hr1 hA hH0 a0 hk23 _ _ _ _ _ _ _ _ _ _ hf hS hl
  · have hf := jI_f hf hc
    exact wL_law_1041 cx e1 e2 hfl hr1 hA hH0 a0 _ _ _ _ _ _ hf hS (lv_sub hl [0] rfl)
theorem wL_law_1016 {N : Nat} {r : Int32} (cx : jCx p s m args meth c cL_law "WornSkinLaw" 7 ret D dA H0 hs.2.2.2.2) (e1 : h'.2.2.1 ≤ hs.2.2.1 + 774447) (e2 : h'.2.2.2.1 ≤ hs.2.2.2.1 + 6772764) (hfl : l.stackTraces = false) {b : Nat} (hr1 : r = 1) (hA : args = #[Value.ref b]) (hH0 : H0 = s.heap) (a0 : Nat) : ∀ (h : jH) (H : Heap) (locs : List Loc) (cells slots : Nat) (ls : Array Slot), (fL_law_1016 N a0).1 h = some (r, h') → jS D dA H0 hs h H locs cells slots → lv_has ls 7 [(0, .ref a0)] → W p l e room_1 s m args below meth c H locs cells slots (lw_Z below args s) (F0 m 1016 ls []) := by
  have hx := cx.1
  have hb := cx.2.1
  have hown := cx.2.2.2.1
  have hts := cx.2.2.2.2.1
  have hm : h'.2.2.1 ≤ hs.2.2.1 + room_1.cells ∧ h'.2.2.2.1 ≤ hs.2.2.2.1 + room_1.slots := ⟨e1, e2⟩
  intro h H locs cells slots ls hf hS hl
  unfold fL_law_1016 at hf
  refine lv_iconst (pc := 1016) (v := 0) hx hb dL_law_1016 rfl ?_
  exact j_lawret (pc := 1017) cx hS hf hr1 hA hH0 e1 e2 dL_law_1017
theorem wL_law_993 {N : Nat} {k23 : Option Nat → Option Nat → Option Nat → Int32 → jM Int32} {r : Int32} (cx : jCx p s m args meth c cL_law "WornSkinLaw" 7 ret D dA H0 hs.2.2.2.2) (e1 : h'.2.2.1 ≤ hs.2.2.1 + 774447) (e2 : h'.2.2.2.1 ≤ hs.2.2.2.1 + 6772764) (hfl : l.stackTraces = false) {b : Nat} (hr1 : r = 1) (hA : args = #[Value.ref b]) (hH0 : H0 = s.heap) (a0 : Nat) (hk23 : ∀ (x1 : Option Nat) (x2 : Option Nat) (x3 : Option Nat) (x4 : Int32), ∀ (h : jH) (H : Heap) (locs : List Loc) (cells slots : Nat) (ls : Array Slot), (k23 x1 x2 x3 x4).1 h = some (r, h') → jS D dA H0 hs h H locs cells slots → lv_has ls 7 [(0, .ref a0), (1, va_rf x1), (2, va_rf x2), (3, va_rf x3), (4, .int x4)] → W p l e room_1 s m args below meth c H locs cells slots (lw_Z below args s) (F0 m 23 ls [])) : ∀ (x1 : Option Nat) (x2 : Option Nat) (x3 : Option Nat) (x4 : Int32), ∀ (h : jH) (H : Heap) (locs : List Loc) (cells slots : Nat) (ls : Array Slot), (fL_law_993 N k23 a0 x1 x2 x3 x4).1 h = some (r, h') → jS D dA H0 hs h H locs cells slots → lv_has ls 7 [(0, .ref a0), (1, va_rf x1), (2, va_rf x2), (3, va_rf x3), (4, .int x4)] → W p l e room_1 s m args below meth c H locs cells slots (lw_Z below args s) (F0 m 993 ls []) := by
  have hx := cx.1
  have hb := cx.2.1
  have hown := cx.2.2.2.1
  have hts := cx.2.2.2.2.1
  have hm : h'.2.2.1 ≤ hs.2.2.1 + room_1.cells ∧ h'.2.2.2.1 ≤ hs.2.2.2.1 + room_1.slots := ⟨e1, e2⟩
  intro x1 x2 x3 x4 h H locs cells slots ls hf hS hl
  unfold fL_law_993 at hf
  refine j_aload_n (pc := 993) (r := x1) hx hb dL_law_993 rfl (lv_at hl 1 rfl) ?_
  refine lv_aload_n (pc := 994) hx hb dL_law_994 rfl (lv_at hl 0 rfl) ?_
  refine lv_iload (pc := 995) hx hb dL_law_995 (lv_at hl 4 rfl) ?_
  refine lv_iconst (pc := 997) (v := 1) hx hb dL_law_997 rfl ?_
  refine lv_iadd (pc := 998) hx hb dL_law_998 ?_
  refine j_aI (pc := 999) cx hS hf rfl dL_law_999 (fun y1 hf => ?_)
  obtain ⟨b3, eb, hrc, hf⟩ := jrc_s hf
  refine j_nn (pc := 1000) eb [.int y1] [] rfl ?_
  obtain ⟨y2, h1, e9, hf⟩ := jB_some hf
  refine j_callV (pc := 1000) (st1 := [.int y2]) (As := [.int y1]) (rest := []) cx hS rfl hl.1 hm (metX1_deepest l _ _ _ _ _ _ hrc e9) (jle hf) hrc rfl (lw_V q1541 q1542 q1543 q112 q1544) pdX1_deepest rfl rfl (Nat.le_of_ble_eq_true rfl) ⟨Nat.le_of_ble_eq_true rfl, Nat.le_of_ble_eq_true rfl⟩ dL_law_1000 rfl (fun H locs cells slots hS => ?_)
  refine j_aload_n (pc := 1003) (r := x2) hx hb dL_law_1003 rfl (lv_at hl 2 rfl) ?_
  refine lv_aload_n (pc := 1004) hx hb dL_law_1004 rfl (lv_at hl 0 rfl) ?_
  refine lv_iload (pc := 1005) hx hb dL_law_1005 (lv_at hl 4 rfl) ?_
  refine lv_iconst (pc := 1007) (v := 1) hx hb dL_law_1007 rfl ?_
  refine lv_iadd (pc := 1008) hx hb dL_law_1008 ?_
  refine j_aI (pc := 1009) cx hS hf rfl dL_law_1009 (fun y4 hf => ?_)
  obtain ⟨b6, eb, hrc, hf⟩ := jrc_s hf
  refine j_nn (pc := 1010) eb [.int y4] [.int y2] rfl ?_
  obtain ⟨y5, h1, e9, hf⟩ := jB_some hf
  refine j_callV (pc := 1010) (st1 := [.int y5, .int y2]) (As := [.int y4]) (rest := [.int y2]) cx hS rfl hl.1 hm (metX7_deepest l _ _ _ _ _ _ hrc e9) (jle hf) hrc rfl (lw_V q2229 q2230 q2231 q123 q2232) pdX7_deepest rfl rfl (Nat.le_of_ble_eq_true rfl) ⟨Nat.le_of_ble_eq_true rfl, Nat.le_of_ble_eq_true rfl⟩ dL_law_1010 rfl (fun H locs cells slots hS => ?_)
  refine lv_icmp_eq (pc := 1013) (tgt := 1477) hx hb dL_law_1013 (by decide) (fun hc => ?_) (fun hc => ?_)
  · have hf := jI_t hf hc
    exact wL_law_1477 cx e1 e2 hfl hr1 hA hH0 a0 hk23 _ _ _ _ _ _ _ _ _ _ hf hS hl
  · have hf := jI_f hf hc
    exact wL_law_1016 cx e1 e2 hfl hr1 hA hH0 a0 _ _ _ _ _ _ hf hS (lv_sub hl [0] rfl)
theorem wL_law_991 {N : Nat} {r : Int32} (cx : jCx p s m args meth c cL_law "WornSkinLaw" 7 ret D dA H0 hs.2.2.2.2) (e1 : h'.2.2.1 ≤ hs.2.2.1 + 774447) (e2 : h'.2.2.2.1 ≤ hs.2.2.2.1 + 6772764) (hfl : l.stackTraces = false) {b : Nat} (hr1 : r = 1) (hA : args = #[Value.ref b]) (hH0 : H0 = s.heap) (a0 : Nat) : ∀ (h : jH) (H : Heap) (locs : List Loc) (cells slots : Nat) (ls : Array Slot), (fL_law_991 N a0).1 h = some (r, h') → jS D dA H0 hs h H locs cells slots → lv_has ls 7 [(0, .ref a0)] → W p l e room_1 s m args below meth c H locs cells slots (lw_Z below args s) (F0 m 991 ls []) := by
  have hx := cx.1
  have hb := cx.2.1
  have hown := cx.2.2.2.1
  have hts := cx.2.2.2.2.1
  have hm : h'.2.2.1 ≤ hs.2.2.1 + room_1.cells ∧ h'.2.2.2.1 ≤ hs.2.2.2.1 + room_1.slots := ⟨e1, e2⟩
  intro h H locs cells slots ls hf hS hl
  unfold fL_law_991 at hf
  refine lv_iconst (pc := 991) (v := 0) hx hb dL_law_991 rfl ?_
  exact j_lawret (pc := 992) cx hS hf hr1 hA hH0 e1 e2 dL_law_992
theorem wL_law_968 {N : Nat} {k23 : Option Nat → Option Nat → Option Nat → Int32 → jM Int32} {r : Int32} (cx : jCx p s m args meth c cL_law "WornSkinLaw" 7 ret D dA H0 hs.2.2.2.2) (e1 : h'.2.2.1 ≤ hs.2.2.1 + 774447) (e2 : h'.2.2.2.1 ≤ hs.2.2.2.1 + 6772764) (hfl : l.stackTraces = false) {b : Nat} (hr1 : r = 1) (hA : args = #[Value.ref b]) (hH0 : H0 = s.heap) (a0 : Nat) (hk23 : ∀ (x1 : Option Nat) (x2 : Option Nat) (x3 : Option Nat) (x4 : Int32), ∀ (h : jH) (H : Heap) (locs : List Loc) (cells slots : Nat) (ls : Array Slot), (k23 x1 x2 x3 x4).1 h = some (r, h') → jS D dA H0 hs h H locs cells slots → lv_has ls 7 [(0, .ref a0), (1, va_rf x1), (2, va_rf x2), (3, va_rf x3), (4, .int x4)] → W p l e room_1 s m args below meth c H locs cells slots (lw_Z below args s) (F0 m 23 ls [])) : ∀ (x1 : Option Nat) (x2 : Option Nat) (x3 : Option Nat) (x4 : Int32), ∀ (h : jH) (H : Heap) (locs : List Loc) (cells slots : Nat) (ls : Array Slot), (fL_law_968 N k23 a0 x1 x2 x3 x4).1 h = some (r, h') → jS D dA H0 hs h H locs cells slots → lv_has ls 7 [(0, .ref a0), (1, va_rf x1), (2, va_rf x2), (3, va_rf x3), (4, .int x4)] → W p l e room_1 s m args below meth c H locs cells slots (lw_Z below args s) (F0 m 968 ls []) := by
  have hx := cx.1
  have hb := cx.2.1
  have hown := cx.2.2.2.1
  have hts := cx.2.2.2.2.1
  have hm : h'.2.2.1 ≤ hs.2.2.1 + room_1.cells ∧ h'.2.2.2.1 ≤ hs.2.2.2.1 + room_1.slots := ⟨e1, e2⟩
  intro x1 x2 x3 x4 h H locs cells slots ls hf hS hl
  unfold fL_law_968 at hf
  refine j_aload_n (pc := 968) (r := x1) hx hb dL_law_968 rfl (lv_at hl 1 rfl) ?_
  refine lv_aload_n (pc := 969) hx hb dL_law_969 rfl (lv_at hl 0 rfl) ?_
  refine lv_iload (pc := 970) hx hb dL_law_970 (lv_at hl 4 rfl) ?_
  refine lv_iconst (pc := 972) (v := 1) hx hb dL_law_972 rfl ?_
  refine lv_iadd (pc := 973) hx hb dL_law_973 ?_
  refine j_aI (pc := 974) cx hS hf rfl dL_law_974 (fun y1 hf => ?_)
  obtain ⟨b3, eb, hrc, hf⟩ := jrc_s hf
  refine j_nn (pc := 975) eb [.int y1] [] rfl ?_
  obtain ⟨y2, h1, e9, hf⟩ := jB_some hf
  refine j_callV (pc := 975) (st1 := [.int y2]) (As := [.int y1]) (rest := []) cx hS rfl hl.1 hm (metX1_over l _ _ _ _ _ _ hrc e9) (jle hf) hrc rfl (lw_V q1533 q1534 q1535 q112 q1536) pdX1_over rfl rfl (Nat.le_of_ble_eq_true rfl) ⟨Nat.le_of_ble_eq_true rfl, Nat.le_of_ble_eq_true rfl⟩ dL_law_975 rfl (fun H locs cells slots hS => ?_)
  refine j_aload_n (pc := 978) (r := x2) hx hb dL_law_978 rfl (lv_at hl 2 rfl) ?_
  refine lv_aload_n (pc := 979) hx hb dL_law_979 rfl (lv_at hl 0 rfl) ?_
  refine lv_iload (pc := 980) hx hb dL_law_980 (lv_at hl 4 rfl) ?_
  refine lv_iconst (pc := 982) (v := 1) hx hb dL_law_982 rfl ?_
  refine lv_iadd (pc := 983) hx hb dL_law_983 ?_
  refine j_aI (pc := 984) cx hS hf rfl dL_law_984 (fun y4 hf => ?_)
  obtain ⟨b6, eb, hrc, hf⟩ := jrc_s hf
  refine j_nn (pc := 985) eb [.int y4] [.int y2] rfl ?_
  obtain ⟨y5, h1, e9, hf⟩ := jB_some hf
  refine j_callV (pc := 985) (st1 := [.int y5, .int y2]) (As := [.int y4]) (rest := [.int y2]) cx hS rfl hl.1 hm (metX7_over l _ _ _ _ _ _ hrc e9) (jle hf) hrc rfl (lw_V q2225 q2226 q2227 q123 q2228) pdX7_over rfl rfl (Nat.le_of_ble_eq_true rfl) ⟨Nat.le_of_ble_eq_true rfl, Nat.le_of_ble_eq_true rfl⟩ dL_law_985 rfl (fun H locs cells slots hS => ?_)
  refine lv_icmp_eq (pc := 988) (tgt := 1477) hx hb dL_law_988 (by decide) (fun hc => ?_) (fun hc => ?_)
  · have hf := jI_t hf hc
    exact wL_law_1477 cx e1 e2 hfl hr1 hA hH0 a0 hk23 _ _ _ _ _ _ _ _ _ _ hf hS hl
  · have hf := jI_f hf hc
    exact wL_law_991 cx e1 e2 hfl hr1 hA hH0 a0 _ _ _ _ _ _ hf hS (lv_sub hl [0] rfl)
theorem wL_law_966 {N : Nat} {r : Int32} (cx : jCx p s m args meth c cL_law "WornSkinLaw" 7 ret D dA H0 hs.2.2.2.2) (e1 : h'.2.2.1 ≤ hs.2.2.1 + 774447) (e2 : h'.2.2.2.1 ≤ hs.2.2.2.1 + 6772764) (hfl : l.stackTraces = false) {b : Nat} (hr1 : r = 1) (hA : args = #[Value.ref b]) (hH0 : H0 = s.heap) (a0 : Nat) : ∀ (h : jH) (H : Heap) (locs : List Loc) (cells slots : Nat) (ls : Array Slot), (fL_law_966 N a0).1 h = some (r, h') → jS D dA H0 hs h H locs cells slots → lv_has ls 7 [(0, .ref a0)] → W p l e room_1 s m args below meth c H locs cells slots (lw_Z below args s) (F0 m 966 ls []) := by
  have hx := cx.1
  have hb := cx.2.1
  have hown := cx.2.2.2.1
  have hts := cx.2.2.2.2.1
  have hm : h'.2.2.1 ≤ hs.2.2.1 + room_1.cells ∧ h'.2.2.2.1 ≤ hs.2.2.2.1 + room_1.slots := ⟨e1, e2⟩
  intro h H locs cells slots ls hf hS hl
  unfold fL_law_966 at hf
  refine lv_iconst (pc := 966) (v := 0) hx hb dL_law_966 rfl ?_
  exact j_lawret (pc := 967) cx hS hf hr1 hA hH0 e1 e2 dL_law_967
theorem wL_law_931 {N : Nat} {k23 : Option Nat → Option Nat → Option Nat → Int32 → jM Int32} {r : Int32} (cx : jCx p s m args meth c cL_law "WornSkinLaw" 7 ret D dA H0 hs.2.2.2.2) (e1 : h'.2.2.1 ≤ hs.2.2.1 + 774447) (e2 : h'.2.2.2.1 ≤ hs.2.2.2.1 + 6772764) (hfl : l.stackTraces = false) {b : Nat} (hr1 : r = 1) (hA : args = #[Value.ref b]) (hH0 : H0 = s.heap) (a0 : Nat) (hk23 : ∀ (x1 : Option Nat) (x2 : Option Nat) (x3 : Option Nat) (x4 : Int32), ∀ (h : jH) (H : Heap) (locs : List Loc) (cells slots : Nat) (ls : Array Slot), (k23 x1 x2 x3 x4).1 h = some (r, h') → jS D dA H0 hs h H locs cells slots → lv_has ls 7 [(0, .ref a0), (1, va_rf x1), (2, va_rf x2), (3, va_rf x3), (4, .int x4)] → W p l e room_1 s m args below meth c H locs cells slots (lw_Z below args s) (F0 m 23 ls [])) : ∀ (x1 : Option Nat) (x2 : Option Nat) (x3 : Option Nat) (x4 : Int32), ∀ (h : jH) (H : Heap) (locs : List Loc) (cells slots : Nat) (ls : Array Slot), (fL_law_931 N k23 a0 x1 x2 x3 x4).1 h = some (r, h') → jS D dA H0 hs h H locs cells slots → lv_has ls 7 [(0, .ref a0), (1, va_rf x1), (2, va_rf x2), (3, va_rf x3), (4, .int x4)] → W p l e room_1 s m args below meth c H locs cells slots (lw_Z below args s) (F0 m 931 ls []) := by
  have hx := cx.1
  have hb := cx.2.1
  have hown := cx.2.2.2.1
  have hts := cx.2.2.2.2.1
  have hm : h'.2.2.1 ≤ hs.2.2.1 + room_1.cells ∧ h'.2.2.2.1 ≤ hs.2.2.2.1 + room_1.slots := ⟨e1, e2⟩
  intro x1 x2 x3 x4 h H locs cells slots ls hf hS hl
  unfold fL_law_931 at hf
  refine j_aload_n (pc := 931) (r := x1) hx hb dL_law_931 rfl (lv_at hl 1 rfl) ?_
  refine lv_aload_n (pc := 932) hx hb dL_law_932 rfl (lv_at hl 0 rfl) ?_
  refine lv_iload (pc := 933) hx hb dL_law_933 (lv_at hl 4 rfl) ?_
  refine lv_iconst (pc := 935) (v := 1) hx hb dL_law_935 rfl ?_
  refine lv_iadd (pc := 936) hx hb dL_law_936 ?_
  refine j_aI (pc := 937) cx hS hf rfl dL_law_937 (fun y1 hf => ?_)
  refine lv_aload_n (pc := 938) hx hb dL_law_938 rfl (lv_at hl 0 rfl) ?_
  refine lv_iload (pc := 939) hx hb dL_law_939 (lv_at hl 4 rfl) ?_
  refine lv_iconst (pc := 941) (v := 2) hx hb dL_law_941 rfl ?_
  refine lv_iadd (pc := 942) hx hb dL_law_942 ?_
  refine j_aI (pc := 943) cx hS hf rfl dL_law_943 (fun y2 hf => ?_)
  obtain ⟨b4, eb, hrc, hf⟩ := jrc_s hf
  refine j_nn (pc := 944) eb [.int y2, .int y1] [] rfl ?_
  obtain ⟨y3, h1, e9, hf⟩ := jB_some hf
  refine j_callV (pc := 944) (st1 := [.int y3]) (As := [.int y1, .int y2]) (rest := []) cx hS rfl hl.1 hm (metX1_bears l _ _ _ _ _ _ _ hrc e9) (jle hf) hrc rfl (lw_V q1529 q1530 q1531 q112 q1532) pdX1_bears rfl rfl (Nat.le_of_ble_eq_true rfl) ⟨Nat.le_of_ble_eq_true rfl, Nat.le_of_ble_eq_true rfl⟩ dL_law_944 rfl (fun H locs cells slots hS => ?_)
  refine j_aload_n (pc := 947) (r := x2) hx hb dL_law_947 rfl (lv_at hl 2 rfl) ?_
  refine lv_aload_n (pc := 948) hx hb dL_law_948 rfl (lv_at hl 0 rfl) ?_
  refine lv_iload (pc := 949) hx hb dL_law_949 (lv_at hl 4 rfl) ?_
  refine lv_iconst (pc := 951) (v := 1) hx hb dL_law_951 rfl ?_
  refine lv_iadd (pc := 952) hx hb dL_law_952 ?_
  refine j_aI (pc := 953) cx hS hf rfl dL_law_953 (fun y5 hf => ?_)
  refine lv_aload_n (pc := 954) hx hb dL_law_954 rfl (lv_at hl 0 rfl) ?_
  refine lv_iload (pc := 955) hx hb dL_law_955 (lv_at hl 4 rfl) ?_
  refine lv_iconst (pc := 957) (v := 2) hx hb dL_law_957 rfl ?_
  refine lv_iadd (pc := 958) hx hb dL_law_958 ?_
  refine j_aI (pc := 959) cx hS hf rfl dL_law_959 (fun y6 hf => ?_)
  obtain ⟨b8, eb, hrc, hf⟩ := jrc_s hf
  refine j_nn (pc := 960) eb [.int y6, .int y5] [.int y3] rfl ?_
  obtain ⟨y7, h1, e9, hf⟩ := jB_some hf
  refine j_callV (pc := 960) (st1 := [.int y7, .int y3]) (As := [.int y5, .int y6]) (rest := [.int y3]) cx hS rfl hl.1 hm (metX7_bears l _ _ _ _ _ _ _ hrc e9) (jle hf) hrc rfl (lw_V q2221 q2222 q2223 q123 q2224) pdX7_bears rfl rfl (Nat.le_of_ble_eq_true rfl) ⟨Nat.le_of_ble_eq_true rfl, Nat.le_of_ble_eq_true rfl⟩ dL_law_960 rfl (fun H locs cells slots hS => ?_)
  refine lv_icmp_eq (pc := 963) (tgt := 1477) hx hb dL_law_963 (by decide) (fun hc => ?_) (fun hc => ?_)
  · have hf := jI_t hf hc
    exact wL_law_1477 cx e1 e2 hfl hr1 hA hH0 a0 hk23 _ _ _ _ _ _ _ _ _ _ hf hS hl
  · have hf := jI_f hf hc
    exact wL_law_966 cx e1 e2 hfl hr1 hA hH0 a0 _ _ _ _ _ _ hf hS (lv_sub hl [0] rfl)
theorem wL_law_929 {N : Nat} {r : Int32} (cx : jCx p s m args meth c cL_law "WornSkinLaw" 7 ret D dA H0 hs.2.2.2.2) (e1 : h'.2.2.1 ≤ hs.2.2.1 + 774447) (e2 : h'.2.2.2.1 ≤ hs.2.2.2.1 + 6772764) (hfl : l.stackTraces = false) {b : Nat} (hr1 : r = 1) (hA : args = #[Value.ref b]) (hH0 : H0 = s.heap) (a0 : Nat) : ∀ (h : jH) (H : Heap) (locs : List Loc) (cells slots : Nat) (ls : Array Slot), (fL_law_929 N a0).1 h = some (r, h') → jS D dA H0 hs h H locs cells slots → lv_has ls 7 [(0, .ref a0)] → W p l e room_1 s m args below meth c H locs cells slots (lw_Z below args s) (F0 m 929 ls []) := by
  have hx := cx.1
  have hb := cx.2.1
  have hown := cx.2.2.2.1
  have hts := cx.2.2.2.2.1
  have hm : h'.2.2.1 ≤ hs.2.2.1 + room_1.cells ∧ h'.2.2.2.1 ≤ hs.2.2.2.1 + room_1.slots := ⟨e1, e2⟩
  intro h H locs cells slots ls hf hS hl
  unfold fL_law_929 at hf
  refine lv_iconst (pc := 929) (v := 0) hx hb dL_law_929 rfl ?_
  exact j_lawret (pc := 930) cx hS hf hr1 hA hH0 e1 e2 dL_law_930
theorem wL_law_906 {N : Nat} {k23 : Option Nat → Option Nat → Option Nat → Int32 → jM Int32} {r : Int32} (cx : jCx p s m args meth c cL_law "WornSkinLaw" 7 ret D dA H0 hs.2.2.2.2) (e1 : h'.2.2.1 ≤ hs.2.2.1 + 774447) (e2 : h'.2.2.2.1 ≤ hs.2.2.2.1 + 6772764) (hfl : l.stackTraces = false) {b : Nat} (hr1 : r = 1) (hA : args = #[Value.ref b]) (hH0 : H0 = s.heap) (a0 : Nat) (hk23 : ∀ (x1 : Option Nat) (x2 : Option Nat) (x3 : Option Nat) (x4 : Int32), ∀ (h : jH) (H : Heap) (locs : List Loc) (cells slots : Nat) (ls : Array Slot), (k23 x1 x2 x3 x4).1 h = some (r, h') → jS D dA H0 hs h H locs cells slots → lv_has ls 7 [(0, .ref a0), (1, va_rf x1), (2, va_rf x2), (3, va_rf x3), (4, .int x4)] → W p l e room_1 s m args below meth c H locs cells slots (lw_Z below args s) (F0 m 23 ls [])) : ∀ (x1 : Option Nat) (x2 : Option Nat) (x3 : Option Nat) (x4 : Int32), ∀ (h : jH) (H : Heap) (locs : List Loc) (cells slots : Nat) (ls : Array Slot), (fL_law_906 N k23 a0 x1 x2 x3 x4).1 h = some (r, h') → jS D dA H0 hs h H locs cells slots → lv_has ls 7 [(0, .ref a0), (1, va_rf x1), (2, va_rf x2), (3, va_rf x3), (4, .int x4)] → W p l e room_1 s m args below meth c H locs cells slots (lw_Z below args s) (F0 m 906 ls []) := by
  have hx := cx.1
  have hb := cx.2.1
  have hown := cx.2.2.2.1
  have hts := cx.2.2.2.2.1
  have hm : h'.2.2.1 ≤ hs.2.2.1 + room_1.cells ∧ h'.2.2.2.1 ≤ hs.2.2.2.1 + room_1.slots := ⟨e1, e2⟩
  intro x1 x2 x3 x4 h H locs cells slots ls hf hS hl
  unfold fL_law_906 at hf
  refine j_aload_n (pc := 906) (r := x1) hx hb dL_law_906 rfl (lv_at hl 1 rfl) ?_
  refine lv_aload_n (pc := 907) hx hb dL_law_907 rfl (lv_at hl 0 rfl) ?_
  refine lv_iload (pc := 908) hx hb dL_law_908 (lv_at hl 4 rfl) ?_
  refine lv_iconst (pc := 910) (v := 1) hx hb dL_law_910 rfl ?_
  refine lv_iadd (pc := 911) hx hb dL_law_911 ?_
  refine j_aI (pc := 912) cx hS hf rfl dL_law_912 (fun y1 hf => ?_)
  obtain ⟨b3, eb, hrc, hf⟩ := jrc_s hf
  refine j_nn (pc := 913) eb [.int y1] [] rfl ?_
  obtain ⟨y2, h1, e9, hf⟩ := jB_some hf
  refine j_callV (pc := 913) (st1 := [.int y2]) (As := [.int y1]) (rest := []) cx hS rfl hl.1 hm (metX1_lay l _ _ _ _ _ _ hrc e9) (jle hf) hrc rfl (lw_V q1506 q1507 q1508 q112 q1509) pdX1_lay rfl rfl (Nat.le_of_ble_eq_true rfl) ⟨Nat.le_of_ble_eq_true rfl, Nat.le_of_ble_eq_true rfl⟩ dL_law_913 rfl (fun H locs cells slots hS => ?_)
  refine j_aload_n (pc := 916) (r := x2) hx hb dL_law_916 rfl (lv_at hl 2 rfl) ?_
  refine lv_aload_n (pc := 917) hx hb dL_law_917 rfl (lv_at hl 0 rfl) ?_
  refine lv_iload (pc := 918) hx hb dL_law_918 (lv_at hl 4 rfl) ?_
  refine lv_iconst (pc := 920) (v := 1) hx hb dL_law_920 rfl ?_
  refine lv_iadd (pc := 921) hx hb dL_law_921 ?_
  refine j_aI (pc := 922) cx hS hf rfl dL_law_922 (fun y4 hf => ?_)
  obtain ⟨b6, eb, hrc, hf⟩ := jrc_s hf
  refine j_nn (pc := 923) eb [.int y4] [.int y2] rfl ?_
  obtain ⟨y5, h1, e9, hf⟩ := jB_some hf
  refine j_callV (pc := 923) (st1 := [.int y5, .int y2]) (As := [.int y4]) (rest := [.int y2]) cx hS rfl hl.1 hm (metX7_lay l _ _ _ _ _ _ hrc e9) (jle hf) hrc rfl (lw_V q2209 q2210 q2211 q123 q2212) pdX7_lay rfl rfl (Nat.le_of_ble_eq_true rfl) ⟨Nat.le_of_ble_eq_true rfl, Nat.le_of_ble_eq_true rfl⟩ dL_law_923 rfl (fun H locs cells slots hS => ?_)
  refine lv_icmp_eq (pc := 926) (tgt := 1477) hx hb dL_law_926 (by decide) (fun hc => ?_) (fun hc => ?_)
  · have hf := jI_t hf hc
    exact wL_law_1477 cx e1 e2 hfl hr1 hA hH0 a0 hk23 _ _ _ _ _ _ _ _ _ _ hf hS hl
  · have hf := jI_f hf hc
    exact wL_law_929 cx e1 e2 hfl hr1 hA hH0 a0 _ _ _ _ _ _ hf hS (lv_sub hl [0] rfl)
theorem wL_law_904 {N : Nat} {r : Int32} (cx : jCx p s m args meth c cL_law "WornSkinLaw" 7 ret D dA H0 hs.2.2.2.2) (e1 : h'.2.2.1 ≤ hs.2.2.1 + 774447) (e2 : h'.2.2.2.1 ≤ hs.2.2.2.1 + 6772764) (hfl : l.stackTraces = false) {b : Nat} (hr1 : r = 1) (hA : args = #[Value.ref b]) (hH0 : H0 = s.heap) (a0 : Nat) : ∀ (h : jH) (H : Heap) (locs : List Loc) (cells slots : Nat) (ls : Array Slot), (fL_law_904 N a0).1 h = some (r, h') → jS D dA H0 hs h H locs cells slots → lv_has ls 7 [(0, .ref a0)] → W p l e room_1 s m args below meth c H locs cells slots (lw_Z below args s) (F0 m 904 ls []) := by
  have hx := cx.1
  have hb := cx.2.1
  have hown := cx.2.2.2.1
  have hts := cx.2.2.2.2.1
  have hm : h'.2.2.1 ≤ hs.2.2.1 + room_1.cells ∧ h'.2.2.2.1 ≤ hs.2.2.2.1 + room_1.slots := ⟨e1, e2⟩
  intro h H locs cells slots ls hf hS hl
  unfold fL_law_904 at hf
  refine lv_iconst (pc := 904) (v := 0) hx hb dL_law_904 rfl ?_
  exact j_lawret (pc := 905) cx hS hf hr1 hA hH0 e1 e2 dL_law_905
theorem wL_law_869 {N : Nat} {k23 : Option Nat → Option Nat → Option Nat → Int32 → jM Int32} {r : Int32} (cx : jCx p s m args meth c cL_law "WornSkinLaw" 7 ret D dA H0 hs.2.2.2.2) (e1 : h'.2.2.1 ≤ hs.2.2.1 + 774447) (e2 : h'.2.2.2.1 ≤ hs.2.2.2.1 + 6772764) (hfl : l.stackTraces = false) {b : Nat} (hr1 : r = 1) (hA : args = #[Value.ref b]) (hH0 : H0 = s.heap) (a0 : Nat) (hk23 : ∀ (x1 : Option Nat) (x2 : Option Nat) (x3 : Option Nat) (x4 : Int32), ∀ (h : jH) (H : Heap) (locs : List Loc) (cells slots : Nat) (ls : Array Slot), (k23 x1 x2 x3 x4).1 h = some (r, h') → jS D dA H0 hs h H locs cells slots → lv_has ls 7 [(0, .ref a0), (1, va_rf x1), (2, va_rf x2), (3, va_rf x3), (4, .int x4)] → W p l e room_1 s m args below meth c H locs cells slots (lw_Z below args s) (F0 m 23 ls [])) : ∀ (x1 : Option Nat) (x2 : Option Nat) (x3 : Option Nat) (x4 : Int32), ∀ (h : jH) (H : Heap) (locs : List Loc) (cells slots : Nat) (ls : Array Slot), (fL_law_869 N k23 a0 x1 x2 x3 x4).1 h = some (r, h') → jS D dA H0 hs h H locs cells slots → lv_has ls 7 [(0, .ref a0), (1, va_rf x1), (2, va_rf x2), (3, va_rf x3), (4, .int x4)] → W p l e room_1 s m args below meth c H locs cells slots (lw_Z below args s) (F0 m 869 ls []) := by
  have hx := cx.1
  have hb := cx.2.1
  have hown := cx.2.2.2.1
  have hts := cx.2.2.2.2.1
  have hm : h'.2.2.1 ≤ hs.2.2.1 + room_1.cells ∧ h'.2.2.2.1 ≤ hs.2.2.2.1 + room_1.slots := ⟨e1, e2⟩
  intro x1 x2 x3 x4 h H locs cells slots ls hf hS hl
  unfold fL_law_869 at hf
  refine j_aload_n (pc := 869) (r := x1) hx hb dL_law_869 rfl (lv_at hl 1 rfl) ?_
  refine lv_aload_n (pc := 870) hx hb dL_law_870 rfl (lv_at hl 0 rfl) ?_
  refine lv_iload (pc := 871) hx hb dL_law_871 (lv_at hl 4 rfl) ?_
  refine lv_iconst (pc := 873) (v := 1) hx hb dL_law_873 rfl ?_
  refine lv_iadd (pc := 874) hx hb dL_law_874 ?_
  refine j_aI (pc := 875) cx hS hf rfl dL_law_875 (fun y1 hf => ?_)
  refine lv_aload_n (pc := 876) hx hb dL_law_876 rfl (lv_at hl 0 rfl) ?_
  refine lv_iload (pc := 877) hx hb dL_law_877 (lv_at hl 4 rfl) ?_
  refine lv_iconst (pc := 879) (v := 2) hx hb dL_law_879 rfl ?_
  refine lv_iadd (pc := 880) hx hb dL_law_880 ?_
  refine j_aI (pc := 881) cx hS hf rfl dL_law_881 (fun y2 hf => ?_)
  obtain ⟨b4, eb, hrc, hf⟩ := jrc_s hf
  refine j_nn (pc := 882) eb [.int y2, .int y1] [] rfl ?_
  obtain ⟨y3, h1, e9, hf⟩ := jB_some hf
  refine j_callV (pc := 882) (st1 := [.int y3]) (As := [.int y1, .int y2]) (rest := []) cx hS rfl hl.1 hm (metX1_cost l _ _ _ _ _ _ _ hrc e9) (jle hf) hrc rfl (lw_V q1497 q1498 q1499 q112 q1500) pdX1_cost rfl rfl (Nat.le_of_ble_eq_true rfl) ⟨Nat.le_of_ble_eq_true rfl, Nat.le_of_ble_eq_true rfl⟩ dL_law_882 rfl (fun H locs cells slots hS => ?_)
  refine j_aload_n (pc := 885) (r := x2) hx hb dL_law_885 rfl (lv_at hl 2 rfl) ?_
  refine lv_aload_n (pc := 886) hx hb dL_law_886 rfl (lv_at hl 0 rfl) ?_
  refine lv_iload (pc := 887) hx hb dL_law_887 (lv_at hl 4 rfl) ?_
  refine lv_iconst (pc := 889) (v := 1) hx hb dL_law_889 rfl ?_
  refine lv_iadd (pc := 890) hx hb dL_law_890 ?_
  refine j_aI (pc := 891) cx hS hf rfl dL_law_891 (fun y5 hf => ?_)
  refine lv_aload_n (pc := 892) hx hb dL_law_892 rfl (lv_at hl 0 rfl) ?_
  refine lv_iload (pc := 893) hx hb dL_law_893 (lv_at hl 4 rfl) ?_
  refine lv_iconst (pc := 895) (v := 2) hx hb dL_law_895 rfl ?_
  refine lv_iadd (pc := 896) hx hb dL_law_896 ?_
  refine j_aI (pc := 897) cx hS hf rfl dL_law_897 (fun y6 hf => ?_)
  obtain ⟨b8, eb, hrc, hf⟩ := jrc_s hf
  refine j_nn (pc := 898) eb [.int y6, .int y5] [.int y3] rfl ?_
  obtain ⟨y7, h1, e9, hf⟩ := jB_some hf
  refine j_callV (pc := 898) (st1 := [.int y7, .int y3]) (As := [.int y5, .int y6]) (rest := [.int y3]) cx hS rfl hl.1 hm (metX7_cost l _ _ _ _ _ _ _ hrc e9) (jle hf) hrc rfl (lw_V q2200 q2201 q2202 q123 q2203) pdX7_cost rfl rfl (Nat.le_of_ble_eq_true rfl) ⟨Nat.le_of_ble_eq_true rfl, Nat.le_of_ble_eq_true rfl⟩ dL_law_898 rfl (fun H locs cells slots hS => ?_)
  refine lv_icmp_eq (pc := 901) (tgt := 1477) hx hb dL_law_901 (by decide) (fun hc => ?_) (fun hc => ?_)
  · have hf := jI_t hf hc
    exact wL_law_1477 cx e1 e2 hfl hr1 hA hH0 a0 hk23 _ _ _ _ _ _ _ _ _ _ hf hS hl
  · have hf := jI_f hf hc
    exact wL_law_904 cx e1 e2 hfl hr1 hA hH0 a0 _ _ _ _ _ _ hf hS (lv_sub hl [0] rfl)
theorem wL_law_867 {N : Nat} {r : Int32} (cx : jCx p s m args meth c cL_law "WornSkinLaw" 7 ret D dA H0 hs.2.2.2.2) (e1 : h'.2.2.1 ≤ hs.2.2.1 + 774447) (e2 : h'.2.2.2.1 ≤ hs.2.2.2.1 + 6772764) (hfl : l.stackTraces = false) {b : Nat} (hr1 : r = 1) (hA : args = #[Value.ref b]) (hH0 : H0 = s.heap) (a0 : Nat) : ∀ (h : jH) (H : Heap) (locs : List Loc) (cells slots : Nat) (ls : Array Slot), (fL_law_867 N a0).1 h = some (r, h') → jS D dA H0 hs h H locs cells slots → lv_has ls 7 [(0, .ref a0)] → W p l e room_1 s m args below meth c H locs cells slots (lw_Z below args s) (F0 m 867 ls []) := by
  have hx := cx.1
  have hb := cx.2.1
  have hown := cx.2.2.2.1
  have hts := cx.2.2.2.2.1
  have hm : h'.2.2.1 ≤ hs.2.2.1 + room_1.cells ∧ h'.2.2.2.1 ≤ hs.2.2.2.1 + room_1.slots := ⟨e1, e2⟩
  intro h H locs cells slots ls hf hS hl
  unfold fL_law_867 at hf
  refine lv_iconst (pc := 867) (v := 0) hx hb dL_law_867 rfl ?_
  exact j_lawret (pc := 868) cx hS hf hr1 hA hH0 e1 e2 dL_law_868
theorem wL_law_832 {N : Nat} {k23 : Option Nat → Option Nat → Option Nat → Int32 → jM Int32} {r : Int32} (cx : jCx p s m args meth c cL_law "WornSkinLaw" 7 ret D dA H0 hs.2.2.2.2) (e1 : h'.2.2.1 ≤ hs.2.2.1 + 774447) (e2 : h'.2.2.2.1 ≤ hs.2.2.2.1 + 6772764) (hfl : l.stackTraces = false) {b : Nat} (hr1 : r = 1) (hA : args = #[Value.ref b]) (hH0 : H0 = s.heap) (a0 : Nat) (hk23 : ∀ (x1 : Option Nat) (x2 : Option Nat) (x3 : Option Nat) (x4 : Int32), ∀ (h : jH) (H : Heap) (locs : List Loc) (cells slots : Nat) (ls : Array Slot), (k23 x1 x2 x3 x4).1 h = some (r, h') → jS D dA H0 hs h H locs cells slots → lv_has ls 7 [(0, .ref a0), (1, va_rf x1), (2, va_rf x2), (3, va_rf x3), (4, .int x4)] → W p l e room_1 s m args below meth c H locs cells slots (lw_Z below args s) (F0 m 23 ls [])) : ∀ (x1 : Option Nat) (x2 : Option Nat) (x3 : Option Nat) (x4 : Int32), ∀ (h : jH) (H : Heap) (locs : List Loc) (cells slots : Nat) (ls : Array Slot), (fL_law_832 N k23 a0 x1 x2 x3 x4).1 h = some (r, h') → jS D dA H0 hs h H locs cells slots → lv_has ls 7 [(0, .ref a0), (1, va_rf x1), (2, va_rf x2), (3, va_rf x3), (4, .int x4)] → W p l e room_1 s m args below meth c H locs cells slots (lw_Z below args s) (F0 m 832 ls []) := by
  have hx := cx.1
  have hb := cx.2.1
  have hown := cx.2.2.2.1
  have hts := cx.2.2.2.2.1
  have hm : h'.2.2.1 ≤ hs.2.2.1 + room_1.cells ∧ h'.2.2.2.1 ≤ hs.2.2.2.1 + room_1.slots := ⟨e1, e2⟩
  intro x1 x2 x3 x4 h H locs cells slots ls hf hS hl
  unfold fL_law_832 at hf
  refine j_aload_n (pc := 832) (r := x1) hx hb dL_law_832 rfl (lv_at hl 1 rfl) ?_
  refine lv_aload_n (pc := 833) hx hb dL_law_833 rfl (lv_at hl 0 rfl) ?_
  refine lv_iload (pc := 834) hx hb dL_law_834 (lv_at hl 4 rfl) ?_
  refine lv_iconst (pc := 836) (v := 1) hx hb dL_law_836 rfl ?_
  refine lv_iadd (pc := 837) hx hb dL_law_837 ?_
  refine j_aI (pc := 838) cx hS hf rfl dL_law_838 (fun y1 hf => ?_)
  refine lv_aload_n (pc := 839) hx hb dL_law_839 rfl (lv_at hl 0 rfl) ?_
  refine lv_iload (pc := 840) hx hb dL_law_840 (lv_at hl 4 rfl) ?_
  refine lv_iconst (pc := 842) (v := 2) hx hb dL_law_842 rfl ?_
  refine lv_iadd (pc := 843) hx hb dL_law_843 ?_
  refine j_aI (pc := 844) cx hS hf rfl dL_law_844 (fun y2 hf => ?_)
  obtain ⟨b4, eb, hrc, hf⟩ := jrc_s hf
  refine j_nn (pc := 845) eb [.int y2, .int y1] [] rfl ?_
  obtain ⟨y3, h1, e9, hf⟩ := jB_some hf
  refine j_callV (pc := 845) (st1 := [.int y3]) (As := [.int y1, .int y2]) (rest := []) cx hS rfl hl.1 hm (metX1_place l _ _ _ _ _ _ _ hrc e9) (jle hf) hrc rfl (lw_V q1488 q1489 q1490 q112 q1491) pdX1_place rfl rfl (Nat.le_of_ble_eq_true rfl) ⟨Nat.le_of_ble_eq_true rfl, Nat.le_of_ble_eq_true rfl⟩ dL_law_845 rfl (fun H locs cells slots hS => ?_)
  refine j_aload_n (pc := 848) (r := x2) hx hb dL_law_848 rfl (lv_at hl 2 rfl) ?_
  refine lv_aload_n (pc := 849) hx hb dL_law_849 rfl (lv_at hl 0 rfl) ?_
  refine lv_iload (pc := 850) hx hb dL_law_850 (lv_at hl 4 rfl) ?_
  refine lv_iconst (pc := 852) (v := 1) hx hb dL_law_852 rfl ?_
  refine lv_iadd (pc := 853) hx hb dL_law_853 ?_
  refine j_aI (pc := 854) cx hS hf rfl dL_law_854 (fun y5 hf => ?_)
  refine lv_aload_n (pc := 855) hx hb dL_law_855 rfl (lv_at hl 0 rfl) ?_
  refine lv_iload (pc := 856) hx hb dL_law_856 (lv_at hl 4 rfl) ?_
  refine lv_iconst (pc := 858) (v := 2) hx hb dL_law_858 rfl ?_
  refine lv_iadd (pc := 859) hx hb dL_law_859 ?_
  refine j_aI (pc := 860) cx hS hf rfl dL_law_860 (fun y6 hf => ?_)
  obtain ⟨b8, eb, hrc, hf⟩ := jrc_s hf
  refine j_nn (pc := 861) eb [.int y6, .int y5] [.int y3] rfl ?_
  obtain ⟨y7, h1, e9, hf⟩ := jB_some hf
  refine j_callV (pc := 861) (st1 := [.int y7, .int y3]) (As := [.int y5, .int y6]) (rest := [.int y3]) cx hS rfl hl.1 hm (metX7_place l _ _ _ _ _ _ _ hrc e9) (jle hf) hrc rfl (lw_V q2192 q2193 q2194 q123 q2195) pdX7_place rfl rfl (Nat.le_of_ble_eq_true rfl) ⟨Nat.le_of_ble_eq_true rfl, Nat.le_of_ble_eq_true rfl⟩ dL_law_861 rfl (fun H locs cells slots hS => ?_)
  refine lv_icmp_eq (pc := 864) (tgt := 1477) hx hb dL_law_864 (by decide) (fun hc => ?_) (fun hc => ?_)
  · have hf := jI_t hf hc
    exact wL_law_1477 cx e1 e2 hfl hr1 hA hH0 a0 hk23 _ _ _ _ _ _ _ _ _ _ hf hS hl
  · have hf := jI_f hf hc
    exact wL_law_867 cx e1 e2 hfl hr1 hA hH0 a0 _ _ _ _ _ _ hf hS (lv_sub hl [0] rfl)
theorem wL_law_830 {N : Nat} {r : Int32} (cx : jCx p s m args meth c cL_law "WornSkinLaw" 7 ret D dA H0 hs.2.2.2.2) (e1 : h'.2.2.1 ≤ hs.2.2.1 + 774447) (e2 : h'.2.2.2.1 ≤ hs.2.2.2.1 + 6772764) (hfl : l.stackTraces = false) {b : Nat} (hr1 : r = 1) (hA : args = #[Value.ref b]) (hH0 : H0 = s.heap) (a0 : Nat) : ∀ (h : jH) (H : Heap) (locs : List Loc) (cells slots : Nat) (ls : Array Slot), (fL_law_830 N a0).1 h = some (r, h') → jS D dA H0 hs h H locs cells slots → lv_has ls 7 [(0, .ref a0)] → W p l e room_1 s m args below meth c H locs cells slots (lw_Z below args s) (F0 m 830 ls []) := by
  have hx := cx.1
  have hb := cx.2.1
  have hown := cx.2.2.2.1
  have hts := cx.2.2.2.2.1
  have hm : h'.2.2.1 ≤ hs.2.2.1 + room_1.cells ∧ h'.2.2.2.1 ≤ hs.2.2.2.1 + room_1.slots := ⟨e1, e2⟩
  intro h H locs cells slots ls hf hS hl
  unfold fL_law_830 at hf
  refine lv_iconst (pc := 830) (v := 0) hx hb dL_law_830 rfl ?_
  exact j_lawret (pc := 831) cx hS hf hr1 hA hH0 e1 e2 dL_law_831
theorem wL_law_819 {N : Nat} {k23 : Option Nat → Option Nat → Option Nat → Int32 → jM Int32} {r : Int32} (cx : jCx p s m args meth c cL_law "WornSkinLaw" 7 ret D dA H0 hs.2.2.2.2) (e1 : h'.2.2.1 ≤ hs.2.2.1 + 774447) (e2 : h'.2.2.2.1 ≤ hs.2.2.2.1 + 6772764) (hfl : l.stackTraces = false) {b : Nat} (hr1 : r = 1) (hA : args = #[Value.ref b]) (hH0 : H0 = s.heap) (a0 : Nat) (hk23 : ∀ (x1 : Option Nat) (x2 : Option Nat) (x3 : Option Nat) (x4 : Int32), ∀ (h : jH) (H : Heap) (locs : List Loc) (cells slots : Nat) (ls : Array Slot), (k23 x1 x2 x3 x4).1 h = some (r, h') → jS D dA H0 hs h H locs cells slots → lv_has ls 7 [(0, .ref a0), (1, va_rf x1), (2, va_rf x2), (3, va_rf x3), (4, .int x4)] → W p l e room_1 s m args below meth c H locs cells slots (lw_Z below args s) (F0 m 23 ls [])) : ∀ (x1 : Option Nat) (x2 : Option Nat) (x3 : Option Nat) (x4 : Int32), ∀ (h : jH) (H : Heap) (locs : List Loc) (cells slots : Nat) (ls : Array Slot), (fL_law_819 N k23 a0 x1 x2 x3 x4).1 h = some (r, h') → jS D dA H0 hs h H locs cells slots → lv_has ls 7 [(0, .ref a0), (1, va_rf x1), (2, va_rf x2), (3, va_rf x3), (4, .int x4)] → W p l e room_1 s m args below meth c H locs cells slots (lw_Z below args s) (F0 m 819 ls []) := by
  have hx := cx.1
  have hb := cx.2.1
  have hown := cx.2.2.2.1
  have hts := cx.2.2.2.2.1
  have hm : h'.2.2.1 ≤ hs.2.2.1 + room_1.cells ∧ h'.2.2.2.1 ≤ hs.2.2.2.1 + room_1.slots := ⟨e1, e2⟩
  intro x1 x2 x3 x4 h H locs cells slots ls hf hS hl
  unfold fL_law_819 at hf
  refine j_aload_n (pc := 819) (r := x1) hx hb dL_law_819 rfl (lv_at hl 1 rfl) ?_
  obtain ⟨b2, eb, hrc, hf⟩ := jrc_s hf
  refine j_nn (pc := 820) eb [] [] rfl ?_
  obtain ⟨y1, h1, e9, hf⟩ := jB_some hf
  refine j_callV (pc := 820) (st1 := [.int y1]) (As := []) (rest := []) cx hS rfl hl.1 hm (metX1_lost l _ _ _ _ _ hrc e9) (jle hf) hrc rfl (lw_V q1480 q1481 q1482 q112 q1483) pdX1_lost rfl rfl (Nat.le_of_ble_eq_true rfl) ⟨Nat.le_of_ble_eq_true rfl, Nat.le_of_ble_eq_true rfl⟩ dL_law_820 rfl (fun H locs cells slots hS => ?_)
  refine j_aload_n (pc := 823) (r := x2) hx hb dL_law_823 rfl (lv_at hl 2 rfl) ?_
  obtain ⟨b4, eb, hrc, hf⟩ := jrc_s hf
  refine j_nn (pc := 824) eb [] [.int y1] rfl ?_
  obtain ⟨y3, h1, e9, hf⟩ := jB_some hf
  refine j_callV (pc := 824) (st1 := [.int y3, .int y1]) (As := []) (rest := [.int y1]) cx hS rfl hl.1 hm (metX7_lost l _ _ _ _ _ hrc e9) (jle hf) hrc rfl (lw_V q2188 q2189 q2190 q123 q2191) pdX7_lost rfl rfl (Nat.le_of_ble_eq_true rfl) ⟨Nat.le_of_ble_eq_true rfl, Nat.le_of_ble_eq_true rfl⟩ dL_law_824 rfl (fun H locs cells slots hS => ?_)
  refine lv_icmp_eq (pc := 827) (tgt := 1477) hx hb dL_law_827 (by decide) (fun hc => ?_) (fun hc => ?_)
  · have hf := jI_t hf hc
    exact wL_law_1477 cx e1 e2 hfl hr1 hA hH0 a0 hk23 _ _ _ _ _ _ _ _ _ _ hf hS hl
  · have hf := jI_f hf hc
    exact wL_law_830 cx e1 e2 hfl hr1 hA hH0 a0 _ _ _ _ _ _ hf hS (lv_sub hl [0] rfl)
theorem wL_law_817 {N : Nat} {r : Int32} (cx : jCx p s m args meth c cL_law "WornSkinLaw" 7 ret D dA H0 hs.2.2.2.2) (e1 : h'.2.2.1 ≤ hs.2.2.1 + 774447) (e2 : h'.2.2.2.1 ≤ hs.2.2.2.1 + 6772764) (hfl : l.stackTraces = false) {b : Nat} (hr1 : r = 1) (hA : args = #[Value.ref b]) (hH0 : H0 = s.heap) (a0 : Nat) : ∀ (h : jH) (H : Heap) (locs : List Loc) (cells slots : Nat) (ls : Array Slot), (fL_law_817 N a0).1 h = some (r, h') → jS D dA H0 hs h H locs cells slots → lv_has ls 7 [(0, .ref a0)] → W p l e room_1 s m args below meth c H locs cells slots (lw_Z below args s) (F0 m 817 ls []) := by
  have hx := cx.1
  have hb := cx.2.1
  have hown := cx.2.2.2.1
  have hts := cx.2.2.2.2.1
  have hm : h'.2.2.1 ≤ hs.2.2.1 + room_1.cells ∧ h'.2.2.2.1 ≤ hs.2.2.2.1 + room_1.slots := ⟨e1, e2⟩
  intro h H locs cells slots ls hf hS hl
  unfold fL_law_817 at hf
  refine lv_iconst (pc := 817) (v := 0) hx hb dL_law_817 rfl ?_
  exact j_lawret (pc := 818) cx hS hf hr1 hA hH0 e1 e2 dL_law_818
theorem wL_law_794 {N : Nat} {k23 : Option Nat → Option Nat → Option Nat → Int32 → jM Int32} {r : Int32} (cx : jCx p s m args meth c cL_law "WornSkinLaw" 7 ret D dA H0 hs.2.2.2.2) (e1 : h'.2.2.1 ≤ hs.2.2.1 + 774447) (e2 : h'.2.2.2.1 ≤ hs.2.2.2.1 + 6772764) (hfl : l.stackTraces = false) {b : Nat} (hr1 : r = 1) (hA : args = #[Value.ref b]) (hH0 : H0 = s.heap) (a0 : Nat) (hk23 : ∀ (x1 : Option Nat) (x2 : Option Nat) (x3 : Option Nat) (x4 : Int32), ∀ (h : jH) (H : Heap) (locs : List Loc) (cells slots : Nat) (ls : Array Slot), (k23 x1 x2 x3 x4).1 h = some (r, h') → jS D dA H0 hs h H locs cells slots → lv_has ls 7 [(0, .ref a0), (1, va_rf x1), (2, va_rf x2), (3, va_rf x3), (4, .int x4)] → W p l e room_1 s m args below meth c H locs cells slots (lw_Z below args s) (F0 m 23 ls [])) : ∀ (x1 : Option Nat) (x2 : Option Nat) (x3 : Option Nat) (x4 : Int32), ∀ (h : jH) (H : Heap) (locs : List Loc) (cells slots : Nat) (ls : Array Slot), (fL_law_794 N k23 a0 x1 x2 x3 x4).1 h = some (r, h') → jS D dA H0 hs h H locs cells slots → lv_has ls 7 [(0, .ref a0), (1, va_rf x1), (2, va_rf x2), (3, va_rf x3), (4, .int x4)] → W p l e room_1 s m args below meth c H locs cells slots (lw_Z below args s) (F0 m 794 ls []) := by
  have hx := cx.1
  have hb := cx.2.1
  have hown := cx.2.2.2.1
  have hts := cx.2.2.2.2.1
  have hm : h'.2.2.1 ≤ hs.2.2.1 + room_1.cells ∧ h'.2.2.2.1 ≤ hs.2.2.2.1 + room_1.slots := ⟨e1, e2⟩
  intro x1 x2 x3 x4 h H locs cells slots ls hf hS hl
  unfold fL_law_794 at hf
  refine j_aload_n (pc := 794) (r := x1) hx hb dL_law_794 rfl (lv_at hl 1 rfl) ?_
  refine lv_aload_n (pc := 795) hx hb dL_law_795 rfl (lv_at hl 0 rfl) ?_
  refine lv_iload (pc := 796) hx hb dL_law_796 (lv_at hl 4 rfl) ?_
  refine lv_iconst (pc := 798) (v := 1) hx hb dL_law_798 rfl ?_
  refine lv_iadd (pc := 799) hx hb dL_law_799 ?_
  refine j_aI (pc := 800) cx hS hf rfl dL_law_800 (fun y1 hf => ?_)
  obtain ⟨b3, eb, hrc, hf⟩ := jrc_s hf
  refine j_nn (pc := 801) eb [.int y1] [] rfl ?_
  obtain ⟨y2, h1, e9, hf⟩ := jB_some hf
  refine j_callV (pc := 801) (st1 := [.int y2]) (As := [.int y1]) (rest := []) cx hS rfl hl.1 hm (metX1_need l _ _ _ _ _ _ hrc e9) (jle hf) hrc rfl (lw_V q1472 q1473 q1474 q112 q1475) pdX1_need rfl rfl (Nat.le_of_ble_eq_true rfl) ⟨Nat.le_of_ble_eq_true rfl, Nat.le_of_ble_eq_true rfl⟩ dL_law_801 rfl (fun H locs cells slots hS => ?_)
  refine j_aload_n (pc := 804) (r := x2) hx hb dL_law_804 rfl (lv_at hl 2 rfl) ?_
  refine lv_aload_n (pc := 805) hx hb dL_law_805 rfl (lv_at hl 0 rfl) ?_
  refine lv_iload (pc := 806) hx hb dL_law_806 (lv_at hl 4 rfl) ?_
  refine lv_iconst (pc := 808) (v := 1) hx hb dL_law_808 rfl ?_
  refine lv_iadd (pc := 809) hx hb dL_law_809 ?_
  refine j_aI (pc := 810) cx hS hf rfl dL_law_810 (fun y4 hf => ?_)
  obtain ⟨b6, eb, hrc, hf⟩ := jrc_s hf
  refine j_nn (pc := 811) eb [.int y4] [.int y2] rfl ?_
  obtain ⟨y5, h1, e9, hf⟩ := jB_some hf
  refine j_callV (pc := 811) (st1 := [.int y5, .int y2]) (As := [.int y4]) (rest := [.int y2]) cx hS rfl hl.1 hm (metX7_need l _ _ _ _ _ _ hrc e9) (jle hf) hrc rfl (lw_V q2180 q2181 q2182 q123 q2183) pdX7_need rfl rfl (Nat.le_of_ble_eq_true rfl) ⟨Nat.le_of_ble_eq_true rfl, Nat.le_of_ble_eq_true rfl⟩ dL_law_811 rfl (fun H locs cells slots hS => ?_)
  refine lv_icmp_eq (pc := 814) (tgt := 1477) hx hb dL_law_814 (by decide) (fun hc => ?_) (fun hc => ?_)
  · have hf := jI_t hf hc
    exact wL_law_1477 cx e1 e2 hfl hr1 hA hH0 a0 hk23 _ _ _ _ _ _ _ _ _ _ hf hS hl
  · have hf := jI_f hf hc
    exact wL_law_817 cx e1 e2 hfl hr1 hA hH0 a0 _ _ _ _ _ _ hf hS (lv_sub hl [0] rfl)
theorem wL_law_792 {N : Nat} {r : Int32} (cx : jCx p s m args meth c cL_law "WornSkinLaw" 7 ret D dA H0 hs.2.2.2.2) (e1 : h'.2.2.1 ≤ hs.2.2.1 + 774447) (e2 : h'.2.2.2.1 ≤ hs.2.2.2.1 + 6772764) (hfl : l.stackTraces = false) {b : Nat} (hr1 : r = 1) (hA : args = #[Value.ref b]) (hH0 : H0 = s.heap) (a0 : Nat) : ∀ (h : jH) (H : Heap) (locs : List Loc) (cells slots : Nat) (ls : Array Slot), (fL_law_792 N a0).1 h = some (r, h') → jS D dA H0 hs h H locs cells slots → lv_has ls 7 [(0, .ref a0)] → W p l e room_1 s m args below meth c H locs cells slots (lw_Z below args s) (F0 m 792 ls []) := by
  have hx := cx.1
  have hb := cx.2.1
  have hown := cx.2.2.2.1
  have hts := cx.2.2.2.2.1
  have hm : h'.2.2.1 ≤ hs.2.2.1 + room_1.cells ∧ h'.2.2.2.1 ≤ hs.2.2.2.1 + room_1.slots := ⟨e1, e2⟩
  intro h H locs cells slots ls hf hS hl
  unfold fL_law_792 at hf
  refine lv_iconst (pc := 792) (v := 0) hx hb dL_law_792 rfl ?_
  exact j_lawret (pc := 793) cx hS hf hr1 hA hH0 e1 e2 dL_law_793
theorem wL_law_769 {N : Nat} {k23 : Option Nat → Option Nat → Option Nat → Int32 → jM Int32} {r : Int32} (cx : jCx p s m args meth c cL_law "WornSkinLaw" 7 ret D dA H0 hs.2.2.2.2) (e1 : h'.2.2.1 ≤ hs.2.2.1 + 774447) (e2 : h'.2.2.2.1 ≤ hs.2.2.2.1 + 6772764) (hfl : l.stackTraces = false) {b : Nat} (hr1 : r = 1) (hA : args = #[Value.ref b]) (hH0 : H0 = s.heap) (a0 : Nat) (hk23 : ∀ (x1 : Option Nat) (x2 : Option Nat) (x3 : Option Nat) (x4 : Int32), ∀ (h : jH) (H : Heap) (locs : List Loc) (cells slots : Nat) (ls : Array Slot), (k23 x1 x2 x3 x4).1 h = some (r, h') → jS D dA H0 hs h H locs cells slots → lv_has ls 7 [(0, .ref a0), (1, va_rf x1), (2, va_rf x2), (3, va_rf x3), (4, .int x4)] → W p l e room_1 s m args below meth c H locs cells slots (lw_Z below args s) (F0 m 23 ls [])) : ∀ (x1 : Option Nat) (x2 : Option Nat) (x3 : Option Nat) (x4 : Int32), ∀ (h : jH) (H : Heap) (locs : List Loc) (cells slots : Nat) (ls : Array Slot), (fL_law_769 N k23 a0 x1 x2 x3 x4).1 h = some (r, h') → jS D dA H0 hs h H locs cells slots → lv_has ls 7 [(0, .ref a0), (1, va_rf x1), (2, va_rf x2), (3, va_rf x3), (4, .int x4)] → W p l e room_1 s m args below meth c H locs cells slots (lw_Z below args s) (F0 m 769 ls []) := by
  have hx := cx.1
  have hb := cx.2.1
  have hown := cx.2.2.2.1
  have hts := cx.2.2.2.2.1
  have hm : h'.2.2.1 ≤ hs.2.2.1 + room_1.cells ∧ h'.2.2.2.1 ≤ hs.2.2.2.1 + room_1.slots := ⟨e1, e2⟩
  intro x1 x2 x3 x4 h H locs cells slots ls hf hS hl
  unfold fL_law_769 at hf
  refine j_aload_n (pc := 769) (r := x1) hx hb dL_law_769 rfl (lv_at hl 1 rfl) ?_
  refine lv_aload_n (pc := 770) hx hb dL_law_770 rfl (lv_at hl 0 rfl) ?_
  refine lv_iload (pc := 771) hx hb dL_law_771 (lv_at hl 4 rfl) ?_
  refine lv_iconst (pc := 773) (v := 1) hx hb dL_law_773 rfl ?_
  refine lv_iadd (pc := 774) hx hb dL_law_774 ?_
  refine j_aI (pc := 775) cx hS hf rfl dL_law_775 (fun y1 hf => ?_)
  obtain ⟨b3, eb, hrc, hf⟩ := jrc_s hf
  refine j_nn (pc := 776) eb [.int y1] [] rfl ?_
  obtain ⟨y2, h1, e9, hf⟩ := jB_some hf
  refine j_callV (pc := 776) (st1 := [.int y2]) (As := [.int y1]) (rest := []) cx hS rfl hl.1 hm (metX1_when l _ _ _ _ _ _ hrc e9) (jle hf) hrc rfl (lw_V q1468 q1469 q1470 q112 q1471) pdX1_when rfl rfl (Nat.le_of_ble_eq_true rfl) ⟨Nat.le_of_ble_eq_true rfl, Nat.le_of_ble_eq_true rfl⟩ dL_law_776 rfl (fun H locs cells slots hS => ?_)
  refine j_aload_n (pc := 779) (r := x2) hx hb dL_law_779 rfl (lv_at hl 2 rfl) ?_
  refine lv_aload_n (pc := 780) hx hb dL_law_780 rfl (lv_at hl 0 rfl) ?_
  refine lv_iload (pc := 781) hx hb dL_law_781 (lv_at hl 4 rfl) ?_
  refine lv_iconst (pc := 783) (v := 1) hx hb dL_law_783 rfl ?_
  refine lv_iadd (pc := 784) hx hb dL_law_784 ?_
  refine j_aI (pc := 785) cx hS hf rfl dL_law_785 (fun y4 hf => ?_)
  obtain ⟨b6, eb, hrc, hf⟩ := jrc_s hf
  refine j_nn (pc := 786) eb [.int y4] [.int y2] rfl ?_
  obtain ⟨y5, h1, e9, hf⟩ := jB_some hf
  refine j_callV (pc := 786) (st1 := [.int y5, .int y2]) (As := [.int y4]) (rest := [.int y2]) cx hS rfl hl.1 hm (metX7_when l _ _ _ _ _ _ hrc e9) (jle hf) hrc rfl (lw_V q2176 q2177 q2178 q123 q2179) pdX7_when rfl rfl (Nat.le_of_ble_eq_true rfl) ⟨Nat.le_of_ble_eq_true rfl, Nat.le_of_ble_eq_true rfl⟩ dL_law_786 rfl (fun H locs cells slots hS => ?_)
  refine lv_icmp_eq (pc := 789) (tgt := 1477) hx hb dL_law_789 (by decide) (fun hc => ?_) (fun hc => ?_)
  · have hf := jI_t hf hc
    exact wL_law_1477 cx e1 e2 hfl hr1 hA hH0 a0 hk23 _ _ _ _ _ _ _ _ _ _ hf hS hl
  · have hf := jI_f hf hc
    exact wL_law_792 cx e1 e2 hfl hr1 hA hH0 a0 _ _ _ _ _ _ hf hS (lv_sub hl [0] rfl)
theorem wL_law_767 {N : Nat} {r : Int32} (cx : jCx p s m args meth c cL_law "WornSkinLaw" 7 ret D dA H0 hs.2.2.2.2) (e1 : h'.2.2.1 ≤ hs.2.2.1 + 774447) (e2 : h'.2.2.2.1 ≤ hs.2.2.2.1 + 6772764) (hfl : l.stackTraces = false) {b : Nat} (hr1 : r = 1) (hA : args = #[Value.ref b]) (hH0 : H0 = s.heap) (a0 : Nat) : ∀ (h : jH) (H : Heap) (locs : List Loc) (cells slots : Nat) (ls : Array Slot), (fL_law_767 N a0).1 h = some (r, h') → jS D dA H0 hs h H locs cells slots → lv_has ls 7 [(0, .ref a0)] → W p l e room_1 s m args below meth c H locs cells slots (lw_Z below args s) (F0 m 767 ls []) := by
  have hx := cx.1
  have hb := cx.2.1
  have hown := cx.2.2.2.1
  have hts := cx.2.2.2.2.1
  have hm : h'.2.2.1 ≤ hs.2.2.1 + room_1.cells ∧ h'.2.2.2.1 ≤ hs.2.2.2.1 + room_1.slots := ⟨e1, e2⟩
  intro h H locs cells slots ls hf hS hl
  unfold fL_law_767 at hf
  refine lv_iconst (pc := 767) (v := 0) hx hb dL_law_767 rfl ?_
  exact j_lawret (pc := 768) cx hS hf hr1 hA hH0 e1 e2 dL_law_768
theorem wL_law_720 {N : Nat} {k23 : Option Nat → Option Nat → Option Nat → Int32 → jM Int32} {r : Int32} (cx : jCx p s m args meth c cL_law "WornSkinLaw" 7 ret D dA H0 hs.2.2.2.2) (e1 : h'.2.2.1 ≤ hs.2.2.1 + 774447) (e2 : h'.2.2.2.1 ≤ hs.2.2.2.1 + 6772764) (hfl : l.stackTraces = false) {b : Nat} (hr1 : r = 1) (hA : args = #[Value.ref b]) (hH0 : H0 = s.heap) (a0 : Nat) (hk23 : ∀ (x1 : Option Nat) (x2 : Option Nat) (x3 : Option Nat) (x4 : Int32), ∀ (h : jH) (H : Heap) (locs : List Loc) (cells slots : Nat) (ls : Array Slot), (k23 x1 x2 x3 x4).1 h = some (r, h') → jS D dA H0 hs h H locs cells slots → lv_has ls 7 [(0, .ref a0), (1, va_rf x1), (2, va_rf x2), (3, va_rf x3), (4, .int x4)] → W p l e room_1 s m args below meth c H locs cells slots (lw_Z below args s) (F0 m 23 ls [])) : ∀ (x1 : Option Nat) (x2 : Option Nat) (x3 : Option Nat) (x4 : Int32), ∀ (h : jH) (H : Heap) (locs : List Loc) (cells slots : Nat) (ls : Array Slot), (fL_law_720 N k23 a0 x1 x2 x3 x4).1 h = some (r, h') → jS D dA H0 hs h H locs cells slots → lv_has ls 7 [(0, .ref a0), (1, va_rf x1), (2, va_rf x2), (3, va_rf x3), (4, .int x4)] → W p l e room_1 s m args below meth c H locs cells slots (lw_Z below args s) (F0 m 720 ls []) := by
  have hx := cx.1
  have hb := cx.2.1
  have hown := cx.2.2.2.1
  have hts := cx.2.2.2.2.1
  have hm : h'.2.2.1 ≤ hs.2.2.1 + room_1.cells ∧ h'.2.2.2.1 ≤ hs.2.2.2.1 + room_1.slots := ⟨e1, e2⟩
  intro x1 x2 x3 x4 h H locs cells slots ls hf hS hl
  unfold fL_law_720 at hf
  refine j_aload_n (pc := 720) (r := x1) hx hb dL_law_720 rfl (lv_at hl 1 rfl) ?_
  refine lv_aload_n (pc := 721) hx hb dL_law_721 rfl (lv_at hl 0 rfl) ?_
  refine lv_iload (pc := 722) hx hb dL_law_722 (lv_at hl 4 rfl) ?_
  refine lv_iconst (pc := 724) (v := 1) hx hb dL_law_724 rfl ?_
  refine lv_iadd (pc := 725) hx hb dL_law_725 ?_
  refine j_aI (pc := 726) cx hS hf rfl dL_law_726 (fun y1 hf => ?_)
  refine lv_aload_n (pc := 727) hx hb dL_law_727 rfl (lv_at hl 0 rfl) ?_
  refine lv_iload (pc := 728) hx hb dL_law_728 (lv_at hl 4 rfl) ?_
  refine lv_iconst (pc := 730) (v := 2) hx hb dL_law_730 rfl ?_
  refine lv_iadd (pc := 731) hx hb dL_law_731 ?_
  refine j_aI (pc := 732) cx hS hf rfl dL_law_732 (fun y2 hf => ?_)
  refine lv_aload_n (pc := 733) hx hb dL_law_733 rfl (lv_at hl 0 rfl) ?_
  refine lv_iload (pc := 734) hx hb dL_law_734 (lv_at hl 4 rfl) ?_
  refine lv_iconst (pc := 736) (v := 3) hx hb dL_law_736 rfl ?_
  refine lv_iadd (pc := 737) hx hb dL_law_737 ?_
  refine j_aI (pc := 738) cx hS hf rfl dL_law_738 (fun y3 hf => ?_)
  obtain ⟨b5, eb, hrc, hf⟩ := jrc_s hf
  refine j_nn (pc := 739) eb [.int y3, .int y2, .int y1] [] rfl ?_
  obtain ⟨y4, h1, e9, hf⟩ := jB_some hf
  refine j_callV (pc := 739) (st1 := [.int y4]) (As := [.int y1, .int y2, .int y3]) (rest := []) cx hS rfl hl.1 hm (metX1_later l _ _ _ _ _ _ _ _ hrc e9) (jle hf) hrc rfl (lw_V q1463 q1464 q1465 q112 q1466) pdX1_later rfl rfl (Nat.le_of_ble_eq_true rfl) ⟨Nat.le_of_ble_eq_true rfl, Nat.le_of_ble_eq_true rfl⟩ dL_law_739 rfl (fun H locs cells slots hS => ?_)
  refine j_aload_n (pc := 742) (r := x2) hx hb dL_law_742 rfl (lv_at hl 2 rfl) ?_
  refine lv_aload_n (pc := 743) hx hb dL_law_743 rfl (lv_at hl 0 rfl) ?_
  refine lv_iload (pc := 744) hx hb dL_law_744 (lv_at hl 4 rfl) ?_
  refine lv_iconst (pc := 746) (v := 1) hx hb dL_law_746 rfl ?_
  refine lv_iadd (pc := 747) hx hb dL_law_747 ?_
  refine j_aI (pc := 748) cx hS hf rfl dL_law_748 (fun y6 hf => ?_)
  refine lv_aload_n (pc := 749) hx hb dL_law_749 rfl (lv_at hl 0 rfl) ?_
  refine lv_iload (pc := 750) hx hb dL_law_750 (lv_at hl 4 rfl) ?_
  refine lv_iconst (pc := 752) (v := 2) hx hb dL_law_752 rfl ?_
  refine lv_iadd (pc := 753) hx hb dL_law_753 ?_
  refine j_aI (pc := 754) cx hS hf rfl dL_law_754 (fun y7 hf => ?_)
  refine lv_aload_n (pc := 755) hx hb dL_law_755 rfl (lv_at hl 0 rfl) ?_
  refine lv_iload (pc := 756) hx hb dL_law_756 (lv_at hl 4 rfl) ?_
  refine lv_iconst (pc := 758) (v := 3) hx hb dL_law_758 rfl ?_
  refine lv_iadd (pc := 759) hx hb dL_law_759 ?_
  refine j_aI (pc := 760) cx hS hf rfl dL_law_760 (fun y8 hf => ?_)
  obtain ⟨b10, eb, hrc, hf⟩ := jrc_s hf
  refine j_nn (pc := 761) eb [.int y8, .int y7, .int y6] [.int y4] rfl ?_
  obtain ⟨y9, h1, e9, hf⟩ := jB_some hf
  refine j_callV (pc := 761) (st1 := [.int y9, .int y4]) (As := [.int y6, .int y7, .int y8]) (rest := [.int y4]) cx hS rfl hl.1 hm (metX7_later l _ _ _ _ _ _ _ _ hrc e9) (jle hf) hrc rfl (lw_V q2172 q2173 q2174 q123 q2175) pdX7_later rfl rfl (Nat.le_of_ble_eq_true rfl) ⟨Nat.le_of_ble_eq_true rfl, Nat.le_of_ble_eq_true rfl⟩ dL_law_761 rfl (fun H locs cells slots hS => ?_)
  refine lv_icmp_eq (pc := 764) (tgt := 1477) hx hb dL_law_764 (by decide) (fun hc => ?_) (fun hc => ?_)
  · have hf := jI_t hf hc
    exact wL_law_1477 cx e1 e2 hfl hr1 hA hH0 a0 hk23 _ _ _ _ _ _ _ _ _ _ hf hS hl
  · have hf := jI_f hf hc
    exact wL_law_767 cx e1 e2 hfl hr1 hA hH0 a0 _ _ _ _ _ _ hf hS (lv_sub hl [0] rfl)
theorem wL_law_718 {N : Nat} {r : Int32} (cx : jCx p s m args meth c cL_law "WornSkinLaw" 7 ret D dA H0 hs.2.2.2.2) (e1 : h'.2.2.1 ≤ hs.2.2.1 + 774447) (e2 : h'.2.2.2.1 ≤ hs.2.2.2.1 + 6772764) (hfl : l.stackTraces = false) {b : Nat} (hr1 : r = 1) (hA : args = #[Value.ref b]) (hH0 : H0 = s.heap) (a0 : Nat) : ∀ (h : jH) (H : Heap) (locs : List Loc) (cells slots : Nat) (ls : Array Slot), (fL_law_718 N a0).1 h = some (r, h') → jS D dA H0 hs h H locs cells slots → lv_has ls 7 [(0, .ref a0)] → W p l e room_1 s m args below meth c H locs cells slots (lw_Z below args s) (F0 m 718 ls []) := by
  have hx := cx.1
  have hb := cx.2.1
  have hown := cx.2.2.2.1
  have hts := cx.2.2.2.2.1
  have hm : h'.2.2.1 ≤ hs.2.2.1 + room_1.cells ∧ h'.2.2.2.1 ≤ hs.2.2.2.1 + room_1.slots := ⟨e1, e2⟩
  intro h H locs cells slots ls hf hS hl
  unfold fL_law_718 at hf
  refine lv_iconst (pc := 718) (v := 0) hx hb dL_law_718 rfl ?_
  exact j_lawret (pc := 719) cx hS hf hr1 hA hH0 e1 e2 dL_law_719
theorem wL_law_695 {N : Nat} {k23 : Option Nat → Option Nat → Option Nat → Int32 → jM Int32} {r : Int32} (cx : jCx p s m args meth c cL_law "WornSkinLaw" 7 ret D dA H0 hs.2.2.2.2) (e1 : h'.2.2.1 ≤ hs.2.2.1 + 774447) (e2 : h'.2.2.2.1 ≤ hs.2.2.2.1 + 6772764) (hfl : l.stackTraces = false) {b : Nat} (hr1 : r = 1) (hA : args = #[Value.ref b]) (hH0 : H0 = s.heap) (a0 : Nat) (hk23 : ∀ (x1 : Option Nat) (x2 : Option Nat) (x3 : Option Nat) (x4 : Int32), ∀ (h : jH) (H : Heap) (locs : List Loc) (cells slots : Nat) (ls : Array Slot), (k23 x1 x2 x3 x4).1 h = some (r, h') → jS D dA H0 hs h H locs cells slots → lv_has ls 7 [(0, .ref a0), (1, va_rf x1), (2, va_rf x2), (3, va_rf x3), (4, .int x4)] → W p l e room_1 s m args below meth c H locs cells slots (lw_Z below args s) (F0 m 23 ls [])) : ∀ (x1 : Option Nat) (x2 : Option Nat) (x3 : Option Nat) (x4 : Int32), ∀ (h : jH) (H : Heap) (locs : List Loc) (cells slots : Nat) (ls : Array Slot), (fL_law_695 N k23 a0 x1 x2 x3 x4).1 h = some (r, h') → jS D dA H0 hs h H locs cells slots → lv_has ls 7 [(0, .ref a0), (1, va_rf x1), (2, va_rf x2), (3, va_rf x3), (4, .int x4)] → W p l e room_1 s m args below meth c H locs cells slots (lw_Z below args s) (F0 m 695 ls []) := by
  have hx := cx.1
  have hb := cx.2.1
  have hown := cx.2.2.2.1
  have hts := cx.2.2.2.2.1
  have hm : h'.2.2.1 ≤ hs.2.2.1 + room_1.cells ∧ h'.2.2.2.1 ≤ hs.2.2.2.1 + room_1.slots := ⟨e1, e2⟩
  intro x1 x2 x3 x4 h H locs cells slots ls hf hS hl
  unfold fL_law_695 at hf
  refine j_aload_n (pc := 695) (r := x1) hx hb dL_law_695 rfl (lv_at hl 1 rfl) ?_
  refine lv_aload_n (pc := 696) hx hb dL_law_696 rfl (lv_at hl 0 rfl) ?_
  refine lv_iload (pc := 697) hx hb dL_law_697 (lv_at hl 4 rfl) ?_
  refine lv_iconst (pc := 699) (v := 1) hx hb dL_law_699 rfl ?_
  refine lv_iadd (pc := 700) hx hb dL_law_700 ?_
  refine j_aI (pc := 701) cx hS hf rfl dL_law_701 (fun y1 hf => ?_)
  obtain ⟨b3, eb, hrc, hf⟩ := jrc_s hf
  refine j_nn (pc := 702) eb [.int y1] [] rfl ?_
  obtain ⟨y2, h1, e9, hf⟩ := jB_some hf
  refine j_callV (pc := 702) (st1 := [.int y2]) (As := [.int y1]) (rest := []) cx hS rfl hl.1 hm (metX1_judged l _ _ _ _ _ _ hrc e9) (jle hf) hrc rfl (lw_V q1425 q1426 q1427 q112 q1428) pdX1_judged rfl rfl (Nat.le_of_ble_eq_true rfl) ⟨Nat.le_of_ble_eq_true rfl, Nat.le_of_ble_eq_true rfl⟩ dL_law_702 rfl (fun H locs cells slots hS => ?_)
  refine j_aload_n (pc := 705) (r := x2) hx hb dL_law_705 rfl (lv_at hl 2 rfl) ?_
  refine lv_aload_n (pc := 706) hx hb dL_law_706 rfl (lv_at hl 0 rfl) ?_
  refine lv_iload (pc := 707) hx hb dL_law_707 (lv_at hl 4 rfl) ?_
  refine lv_iconst (pc := 709) (v := 1) hx hb dL_law_709 rfl ?_
  refine lv_iadd (pc := 710) hx hb dL_law_710 ?_
  refine j_aI (pc := 711) cx hS hf rfl dL_law_711 (fun y4 hf => ?_)
  obtain ⟨b6, eb, hrc, hf⟩ := jrc_s hf
  refine j_nn (pc := 712) eb [.int y4] [.int y2] rfl ?_
  obtain ⟨y5, h1, e9, hf⟩ := jB_some hf
  refine j_callV (pc := 712) (st1 := [.int y5, .int y2]) (As := [.int y4]) (rest := [.int y2]) cx hS rfl hl.1 hm (metX7_judged l _ _ _ _ _ _ hrc e9) (jle hf) hrc rfl (lw_V q2160 q2161 q2162 q123 q2163) pdX7_judged rfl rfl (Nat.le_of_ble_eq_true rfl) ⟨Nat.le_of_ble_eq_true rfl, Nat.le_of_ble_eq_true rfl⟩ dL_law_712 rfl (fun H locs cells slots hS => ?_)
  refine lv_icmp_eq (pc := 715) (tgt := 1477) hx hb dL_law_715 (by decide) (fun hc => ?_) (fun hc => ?_)
  · have hf := jI_t hf hc
    exact wL_law_1477 cx e1 e2 hfl hr1 hA hH0 a0 hk23 _ _ _ _ _ _ _ _ _ _ hf hS hl
  · have hf := jI_f hf hc
    exact wL_law_718 cx e1 e2 hfl hr1 hA hH0 a0 _ _ _ _ _ _ hf hS (lv_sub hl [0] rfl)
theorem wL_law_693 {N : Nat} {r : Int32} (cx : jCx p s m args meth c cL_law "WornSkinLaw" 7 ret D dA H0 hs.2.2.2.2) (e1 : h'.2.2.1 ≤ hs.2.2.1 + 774447) (e2 : h'.2.2.2.1 ≤ hs.2.2.2.1 + 6772764) (hfl : l.stackTraces = false) {b : Nat} (hr1 : r = 1) (hA : args = #[Value.ref b]) (hH0 : H0 = s.heap) (a0 : Nat) : ∀ (h : jH) (H : Heap) (locs : List Loc) (cells slots : Nat) (ls : Array Slot), (fL_law_693 N a0).1 h = some (r, h') → jS D dA H0 hs h H locs cells slots → lv_has ls 7 [(0, .ref a0)] → W p l e room_1 s m args below meth c H locs cells slots (lw_Z below args s) (F0 m 693 ls []) := by
  have hx := cx.1
  have hb := cx.2.1
  have hown := cx.2.2.2.1
  have hts := cx.2.2.2.2.1
  have hm : h'.2.2.1 ≤ hs.2.2.1 + room_1.cells ∧ h'.2.2.2.1 ≤ hs.2.2.2.1 + room_1.slots := ⟨e1, e2⟩
  intro h H locs cells slots ls hf hS hl
  unfold fL_law_693 at hf
  refine lv_iconst (pc := 693) (v := 0) hx hb dL_law_693 rfl ?_
  exact j_lawret (pc := 694) cx hS hf hr1 hA hH0 e1 e2 dL_law_694
theorem wL_law_682 {N : Nat} {k23 : Option Nat → Option Nat → Option Nat → Int32 → jM Int32} {r : Int32} (cx : jCx p s m args meth c cL_law "WornSkinLaw" 7 ret D dA H0 hs.2.2.2.2) (e1 : h'.2.2.1 ≤ hs.2.2.1 + 774447) (e2 : h'.2.2.2.1 ≤ hs.2.2.2.1 + 6772764) (hfl : l.stackTraces = false) {b : Nat} (hr1 : r = 1) (hA : args = #[Value.ref b]) (hH0 : H0 = s.heap) (a0 : Nat) (hk23 : ∀ (x1 : Option Nat) (x2 : Option Nat) (x3 : Option Nat) (x4 : Int32), ∀ (h : jH) (H : Heap) (locs : List Loc) (cells slots : Nat) (ls : Array Slot), (k23 x1 x2 x3 x4).1 h = some (r, h') → jS D dA H0 hs h H locs cells slots → lv_has ls 7 [(0, .ref a0), (1, va_rf x1), (2, va_rf x2), (3, va_rf x3), (4, .int x4)] → W p l e room_1 s m args below meth c H locs cells slots (lw_Z below args s) (F0 m 23 ls [])) : ∀ (x1 : Option Nat) (x2 : Option Nat) (x3 : Option Nat) (x4 : Int32), ∀ (h : jH) (H : Heap) (locs : List Loc) (cells slots : Nat) (ls : Array Slot), (fL_law_682 N k23 a0 x1 x2 x3 x4).1 h = some (r, h') → jS D dA H0 hs h H locs cells slots → lv_has ls 7 [(0, .ref a0), (1, va_rf x1), (2, va_rf x2), (3, va_rf x3), (4, .int x4)] → W p l e room_1 s m args below meth c H locs cells slots (lw_Z below args s) (F0 m 682 ls []) := by
  have hx := cx.1
  have hb := cx.2.1
  have hown := cx.2.2.2.1
  have hts := cx.2.2.2.2.1
  have hm : h'.2.2.1 ≤ hs.2.2.1 + room_1.cells ∧ h'.2.2.2.1 ≤ hs.2.2.2.1 + room_1.slots := ⟨e1, e2⟩
  intro x1 x2 x3 x4 h H locs cells slots ls hf hS hl
  unfold fL_law_682 at hf
  refine j_aload_n (pc := 682) (r := x1) hx hb dL_law_682 rfl (lv_at hl 1 rfl) ?_
  obtain ⟨b2, eb, hrc, hf⟩ := jrc_s hf
  refine j_nn (pc := 683) eb [] [] rfl ?_
  obtain ⟨y1, h1, e9, hf⟩ := jB_some hf
  refine j_callV (pc := 683) (st1 := [.int y1]) (As := []) (rest := []) cx hS rfl hl.1 hm (metX1_undo l _ _ _ _ hrc e9) (jle hf) hrc rfl (lw_V q1417 q1418 q1419 q112 q1420) pdX1_undo rfl rfl (Nat.le_of_ble_eq_true rfl) ⟨Nat.le_of_ble_eq_true rfl, Nat.le_of_ble_eq_true rfl⟩ dL_law_683 rfl (fun H locs cells slots hS => ?_)
  refine j_aload_n (pc := 686) (r := x2) hx hb dL_law_686 rfl (lv_at hl 2 rfl) ?_
  obtain ⟨b4, eb, hrc, hf⟩ := jrc_s hf
  refine j_nn (pc := 687) eb [] [.int y1] rfl ?_
  obtain ⟨y3, h1, e9, hf⟩ := jB_some hf
  refine j_callV (pc := 687) (st1 := [.int y3, .int y1]) (As := []) (rest := [.int y1]) cx hS rfl hl.1 hm (metX7_undo l _ _ _ _ _ hrc e9) (jle hf) hrc rfl (lw_V q2156 q2157 q2158 q123 q2159) pdX7_undo rfl rfl (Nat.le_of_ble_eq_true rfl) ⟨Nat.le_of_ble_eq_true rfl, Nat.le_of_ble_eq_true rfl⟩ dL_law_687 rfl (fun H locs cells slots hS => ?_)
  refine lv_icmp_eq (pc := 690) (tgt := 1477) hx hb dL_law_690 (by decide) (fun hc => ?_) (fun hc => ?_)
  · have hf := jI_t hf hc
    exact wL_law_1477 cx e1 e2 hfl hr1 hA hH0 a0 hk23 _ _ _ _ _ _ _ _ _ _ hf hS hl
  · have hf := jI_f hf hc
    exact wL_law_693 cx e1 e2 hfl hr1 hA hH0 a0 _ _ _ _ _ _ hf hS (lv_sub hl [0] rfl)
theorem wL_law_680 {N : Nat} {r : Int32} (cx : jCx p s m args meth c cL_law "WornSkinLaw" 7 ret D dA H0 hs.2.2.2.2) (e1 : h'.2.2.1 ≤ hs.2.2.1 + 774447) (e2 : h'.2.2.2.1 ≤ hs.2.2.2.1 + 6772764) (hfl : l.stackTraces = false) {b : Nat} (hr1 : r = 1) (hA : args = #[Value.ref b]) (hH0 : H0 = s.heap) (a0 : Nat) : ∀ (h : jH) (H : Heap) (locs : List Loc) (cells slots : Nat) (ls : Array Slot), (fL_law_680 N a0).1 h = some (r, h') → jS D dA H0 hs h H locs cells slots → lv_has ls 7 [(0, .ref a0)] → W p l e room_1 s m args below meth c H locs cells slots (lw_Z below args s) (F0 m 680 ls []) := by
  have hx := cx.1
  have hb := cx.2.1
  have hown := cx.2.2.2.1
  have hts := cx.2.2.2.2.1
  have hm : h'.2.2.1 ≤ hs.2.2.1 + room_1.cells ∧ h'.2.2.2.1 ≤ hs.2.2.2.1 + room_1.slots := ⟨e1, e2⟩
  intro h H locs cells slots ls hf hS hl
  unfold fL_law_680 at hf
  refine lv_iconst (pc := 680) (v := 0) hx hb dL_law_680 rfl ?_
  exact j_lawret (pc := 681) cx hS hf hr1 hA hH0 e1 e2 dL_law_681
theorem wL_law_669 {N : Nat} {k23 : Option Nat → Option Nat → Option Nat → Int32 → jM Int32} {r : Int32} (cx : jCx p s m args meth c cL_law "WornSkinLaw" 7 ret D dA H0 hs.2.2.2.2) (e1 : h'.2.2.1 ≤ hs.2.2.1 + 774447) (e2 : h'.2.2.2.1 ≤ hs.2.2.2.1 + 6772764) (hfl : l.stackTraces = false) {b : Nat} (hr1 : r = 1) (hA : args = #[Value.ref b]) (hH0 : H0 = s.heap) (a0 : Nat) (hk23 : ∀ (x1 : Option Nat) (x2 : Option Nat) (x3 : Option Nat) (x4 : Int32), ∀ (h : jH) (H : Heap) (locs : List Loc) (cells slots : Nat) (ls : Array Slot), (k23 x1 x2 x3 x4).1 h = some (r, h') → jS D dA H0 hs h H locs cells slots → lv_has ls 7 [(0, .ref a0), (1, va_rf x1), (2, va_rf x2), (3, va_rf x3), (4, .int x4)] → W p l e room_1 s m args below meth c H locs cells slots (lw_Z below args s) (F0 m 23 ls [])) : ∀ (x1 : Option Nat) (x2 : Option Nat) (x3 : Option Nat) (x4 : Int32), ∀ (h : jH) (H : Heap) (locs : List Loc) (cells slots : Nat) (ls : Array Slot), (fL_law_669 N k23 a0 x1 x2 x3 x4).1 h = some (r, h') → jS D dA H0 hs h H locs cells slots → lv_has ls 7 [(0, .ref a0), (1, va_rf x1), (2, va_rf x2), (3, va_rf x3), (4, .int x4)] → W p l e room_1 s m args below meth c H locs cells slots (lw_Z below args s) (F0 m 669 ls []) := by
  have hx := cx.1
  have hb := cx.2.1
  have hown := cx.2.2.2.1
  have hts := cx.2.2.2.2.1
  have hm : h'.2.2.1 ≤ hs.2.2.1 + room_1.cells ∧ h'.2.2.2.1 ≤ hs.2.2.2.1 + room_1.slots := ⟨e1, e2⟩
  intro x1 x2 x3 x4 h H locs cells slots ls hf hS hl
  unfold fL_law_669 at hf
  refine j_aload_n (pc := 669) (r := x1) hx hb dL_law_669 rfl (lv_at hl 1 rfl) ?_
  obtain ⟨b2, eb, hrc, hf⟩ := jrc_s hf
  refine j_nn (pc := 670) eb [] [] rfl ?_
  obtain ⟨y1, h1, e9, hf⟩ := jB_some hf
  refine j_callV (pc := 670) (st1 := [.int y1]) (As := []) (rest := []) cx hS rfl hl.1 hm (metX1_week l _ _ _ _ hrc e9) (jle hf) hrc rfl (lw_V q1413 q1414 q1415 q112 q1416) pdX1_week rfl rfl (Nat.le_of_ble_eq_true rfl) ⟨Nat.le_of_ble_eq_true rfl, Nat.le_of_ble_eq_true rfl⟩ dL_law_670 rfl (fun H locs cells slots hS => ?_)
  refine j_aload_n (pc := 673) (r := x2) hx hb dL_law_673 rfl (lv_at hl 2 rfl) ?_
  obtain ⟨b4, eb, hrc, hf⟩ := jrc_s hf
  refine j_nn (pc := 674) eb [] [.int y1] rfl ?_
  obtain ⟨y3, h1, e9, hf⟩ := jB_some hf
  refine j_callV (pc := 674) (st1 := [.int y3, .int y1]) (As := []) (rest := [.int y1]) cx hS rfl hl.1 hm (metX7_week l _ _ _ _ _ hrc e9) (jle hf) hrc rfl (lw_V q2152 q2153 q2154 q123 q2155) pdX7_week rfl rfl (Nat.le_of_ble_eq_true rfl) ⟨Nat.le_of_ble_eq_true rfl, Nat.le_of_ble_eq_true rfl⟩ dL_law_674 rfl (fun H locs cells slots hS => ?_)
  refine lv_icmp_eq (pc := 677) (tgt := 1477) hx hb dL_law_677 (by decide) (fun hc => ?_) (fun hc => ?_)
  · have hf := jI_t hf hc
    exact wL_law_1477 cx e1 e2 hfl hr1 hA hH0 a0 hk23 _ _ _ _ _ _ _ _ _ _ hf hS hl
  · have hf := jI_f hf hc
    exact wL_law_680 cx e1 e2 hfl hr1 hA hH0 a0 _ _ _ _ _ _ hf hS (lv_sub hl [0] rfl)
theorem wL_law_667 {N : Nat} {r : Int32} (cx : jCx p s m args meth c cL_law "WornSkinLaw" 7 ret D dA H0 hs.2.2.2.2) (e1 : h'.2.2.1 ≤ hs.2.2.1 + 774447) (e2 : h'.2.2.2.1 ≤ hs.2.2.2.1 + 6772764) (hfl : l.stackTraces = false) {b : Nat} (hr1 : r = 1) (hA : args = #[Value.ref b]) (hH0 : H0 = s.heap) (a0 : Nat) : ∀ (h : jH) (H : Heap) (locs : List Loc) (cells slots : Nat) (ls : Array Slot), (fL_law_667 N a0).1 h = some (r, h') → jS D dA H0 hs h H locs cells slots → lv_has ls 7 [(0, .ref a0)] → W p l e room_1 s m args below meth c H locs cells slots (lw_Z below args s) (F0 m 667 ls []) := by
  have hx := cx.1
  have hb := cx.2.1
  have hown := cx.2.2.2.1
  have hts := cx.2.2.2.2.1
  have hm : h'.2.2.1 ≤ hs.2.2.1 + room_1.cells ∧ h'.2.2.2.1 ≤ hs.2.2.2.1 + room_1.slots := ⟨e1, e2⟩
  intro h H locs cells slots ls hf hS hl
  unfold fL_law_667 at hf
  refine lv_iconst (pc := 667) (v := 0) hx hb dL_law_667 rfl ?_
  exact j_lawret (pc := 668) cx hS hf hr1 hA hH0 e1 e2 dL_law_668
theorem wL_law_644 {N : Nat} {k23 : Option Nat → Option Nat → Option Nat → Int32 → jM Int32} {r : Int32} (cx : jCx p s m args meth c cL_law "WornSkinLaw" 7 ret D dA H0 hs.2.2.2.2) (e1 : h'.2.2.1 ≤ hs.2.2.1 + 774447) (e2 : h'.2.2.2.1 ≤ hs.2.2.2.1 + 6772764) (hfl : l.stackTraces = false) {b : Nat} (hr1 : r = 1) (hA : args = #[Value.ref b]) (hH0 : H0 = s.heap) (a0 : Nat) (hk23 : ∀ (x1 : Option Nat) (x2 : Option Nat) (x3 : Option Nat) (x4 : Int32), ∀ (h : jH) (H : Heap) (locs : List Loc) (cells slots : Nat) (ls : Array Slot), (k23 x1 x2 x3 x4).1 h = some (r, h') → jS D dA H0 hs h H locs cells slots → lv_has ls 7 [(0, .ref a0), (1, va_rf x1), (2, va_rf x2), (3, va_rf x3), (4, .int x4)] → W p l e room_1 s m args below meth c H locs cells slots (lw_Z below args s) (F0 m 23 ls [])) : ∀ (x1 : Option Nat) (x2 : Option Nat) (x3 : Option Nat) (x4 : Int32), ∀ (h : jH) (H : Heap) (locs : List Loc) (cells slots : Nat) (ls : Array Slot), (fL_law_644 N k23 a0 x1 x2 x3 x4).1 h = some (r, h') → jS D dA H0 hs h H locs cells slots → lv_has ls 7 [(0, .ref a0), (1, va_rf x1), (2, va_rf x2), (3, va_rf x3), (4, .int x4)] → W p l e room_1 s m args below meth c H locs cells slots (lw_Z below args s) (F0 m 644 ls []) := by
  have hx := cx.1
  have hb := cx.2.1
  have hown := cx.2.2.2.1
  have hts := cx.2.2.2.2.1
  have hm : h'.2.2.1 ≤ hs.2.2.1 + room_1.cells ∧ h'.2.2.2.1 ≤ hs.2.2.2.1 + room_1.slots := ⟨e1, e2⟩
  intro x1 x2 x3 x4 h H locs cells slots ls hf hS hl
  unfold fL_law_644 at hf
  refine j_aload_n (pc := 644) (r := x1) hx hb dL_law_644 rfl (lv_at hl 1 rfl) ?_
  refine lv_aload_n (pc := 645) hx hb dL_law_645 rfl (lv_at hl 0 rfl) ?_
  refine lv_iload (pc := 646) hx hb dL_law_646 (lv_at hl 4 rfl) ?_
  refine lv_iconst (pc := 648) (v := 1) hx hb dL_law_648 rfl ?_
  refine lv_iadd (pc := 649) hx hb dL_law_649 ?_
  refine j_aI (pc := 650) cx hS hf rfl dL_law_650 (fun y1 hf => ?_)
  obtain ⟨b3, eb, hrc, hf⟩ := jrc_s hf
  refine j_nn (pc := 651) eb [.int y1] [] rfl ?_
  obtain ⟨y2, h1, e9, hf⟩ := jB_some hf
  refine j_callV (pc := 651) (st1 := [.int y2]) (As := [.int y1]) (rest := []) cx hS rfl hl.1 hm (metX1_third l _ _ _ _ _ _ hrc e9) (jle hf) hrc rfl (lw_V q1409 q1410 q1411 q112 q1412) pdX1_third rfl rfl (Nat.le_of_ble_eq_true rfl) ⟨Nat.le_of_ble_eq_true rfl, Nat.le_of_ble_eq_true rfl⟩ dL_law_651 rfl (fun H locs cells slots hS => ?_)
  refine j_aload_n (pc := 654) (r := x2) hx hb dL_law_654 rfl (lv_at hl 2 rfl) ?_
  refine lv_aload_n (pc := 655) hx hb dL_law_655 rfl (lv_at hl 0 rfl) ?_
  refine lv_iload (pc := 656) hx hb dL_law_656 (lv_at hl 4 rfl) ?_
  refine lv_iconst (pc := 658) (v := 1) hx hb dL_law_658 rfl ?_
  refine lv_iadd (pc := 659) hx hb dL_law_659 ?_
  refine j_aI (pc := 660) cx hS hf rfl dL_law_660 (fun y4 hf => ?_)
  obtain ⟨b6, eb, hrc, hf⟩ := jrc_s hf
  refine j_nn (pc := 661) eb [.int y4] [.int y2] rfl ?_
  obtain ⟨y5, h1, e9, hf⟩ := jB_some hf
  refine j_callV (pc := 661) (st1 := [.int y5, .int y2]) (As := [.int y4]) (rest := [.int y2]) cx hS rfl hl.1 hm (metX7_third l _ _ _ _ _ _ hrc e9) (jle hf) hrc rfl (lw_V q2148 q2149 q2150 q123 q2151) pdX7_third rfl rfl (Nat.le_of_ble_eq_true rfl) ⟨Nat.le_of_ble_eq_true rfl, Nat.le_of_ble_eq_true rfl⟩ dL_law_661 rfl (fun H locs cells slots hS => ?_)
  refine lv_icmp_eq (pc := 664) (tgt := 1477) hx hb dL_law_664 (by decide) (fun hc => ?_) (fun hc => ?_)
  · have hf := jI_t hf hc
    exact wL_law_1477 cx e1 e2 hfl hr1 hA hH0 a0 hk23 _ _ _ _ _ _ _ _ _ _ hf hS hl
  · have hf := jI_f hf hc
    exact wL_law_667 cx e1 e2 hfl hr1 hA hH0 a0 _ _ _ _ _ _ hf hS (lv_sub hl [0] rfl)
theorem wL_law_642 {N : Nat} {r : Int32} (cx : jCx p s m args meth c cL_law "WornSkinLaw" 7 ret D dA H0 hs.2.2.2.2) (e1 : h'.2.2.1 ≤ hs.2.2.1 + 774447) (e2 : h'.2.2.2.1 ≤ hs.2.2.2.1 + 6772764) (hfl : l.stackTraces = false) {b : Nat} (hr1 : r = 1) (hA : args = #[Value.ref b]) (hH0 : H0 = s.heap) (a0 : Nat) : ∀ (h : jH) (H : Heap) (locs : List Loc) (cells slots : Nat) (ls : Array Slot), (fL_law_642 N a0).1 h = some (r, h') → jS D dA H0 hs h H locs cells slots → lv_has ls 7 [(0, .ref a0)] → W p l e room_1 s m args below meth c H locs cells slots (lw_Z below args s) (F0 m 642 ls []) := by
  have hx := cx.1
  have hb := cx.2.1
  have hown := cx.2.2.2.1
  have hts := cx.2.2.2.2.1
  have hm : h'.2.2.1 ≤ hs.2.2.1 + room_1.cells ∧ h'.2.2.2.1 ≤ hs.2.2.2.1 + room_1.slots := ⟨e1, e2⟩
  intro h H locs cells slots ls hf hS hl
  unfold fL_law_642 at hf
  refine lv_iconst (pc := 642) (v := 0) hx hb dL_law_642 rfl ?_
  exact j_lawret (pc := 643) cx hS hf hr1 hA hH0 e1 e2 dL_law_643
theorem wL_law_619 {N : Nat} {k23 : Option Nat → Option Nat → Option Nat → Int32 → jM Int32} {r : Int32} (cx : jCx p s m args meth c cL_law "WornSkinLaw" 7 ret D dA H0 hs.2.2.2.2) (e1 : h'.2.2.1 ≤ hs.2.2.1 + 774447) (e2 : h'.2.2.2.1 ≤ hs.2.2.2.1 + 6772764) (hfl : l.stackTraces = false) {b : Nat} (hr1 : r = 1) (hA : args = #[Value.ref b]) (hH0 : H0 = s.heap) (a0 : Nat) (hk23 : ∀ (x1 : Option Nat) (x2 : Option Nat) (x3 : Option Nat) (x4 : Int32), ∀ (h : jH) (H : Heap) (locs : List Loc) (cells slots : Nat) (ls : Array Slot), (k23 x1 x2 x3 x4).1 h = some (r, h') → jS D dA H0 hs h H locs cells slots → lv_has ls 7 [(0, .ref a0), (1, va_rf x1), (2, va_rf x2), (3, va_rf x3), (4, .int x4)] → W p l e room_1 s m args below meth c H locs cells slots (lw_Z below args s) (F0 m 23 ls [])) : ∀ (x1 : Option Nat) (x2 : Option Nat) (x3 : Option Nat) (x4 : Int32), ∀ (h : jH) (H : Heap) (locs : List Loc) (cells slots : Nat) (ls : Array Slot), (fL_law_619 N k23 a0 x1 x2 x3 x4).1 h = some (r, h') → jS D dA H0 hs h H locs cells slots → lv_has ls 7 [(0, .ref a0), (1, va_rf x1), (2, va_rf x2), (3, va_rf x3), (4, .int x4)] → W p l e room_1 s m args below meth c H locs cells slots (lw_Z below args s) (F0 m 619 ls []) := by
  have hx := cx.1
  have hb := cx.2.1
  have hown := cx.2.2.2.1
  have hts := cx.2.2.2.2.1
  have hm : h'.2.2.1 ≤ hs.2.2.1 + room_1.cells ∧ h'.2.2.2.1 ≤ hs.2.2.2.1 + room_1.slots := ⟨e1, e2⟩
  intro x1 x2 x3 x4 h H locs cells slots ls hf hS hl
  unfold fL_law_619 at hf
  refine j_aload_n (pc := 619) (r := x1) hx hb dL_law_619 rfl (lv_at hl 1 rfl) ?_
  refine lv_aload_n (pc := 620) hx hb dL_law_620 rfl (lv_at hl 0 rfl) ?_
  refine lv_iload (pc := 621) hx hb dL_law_621 (lv_at hl 4 rfl) ?_
  refine lv_iconst (pc := 623) (v := 1) hx hb dL_law_623 rfl ?_
  refine lv_iadd (pc := 624) hx hb dL_law_624 ?_
  refine j_aI (pc := 625) cx hS hf rfl dL_law_625 (fun y1 hf => ?_)
  obtain ⟨b3, eb, hrc, hf⟩ := jrc_s hf
  refine j_nn (pc := 626) eb [.int y1] [] rfl ?_
  obtain ⟨y2, h1, e9, hf⟩ := jB_some hf
  refine j_callV (pc := 626) (st1 := [.int y2]) (As := [.int y1]) (rest := []) cx hS rfl hl.1 hm (metX1_scrape l _ _ _ _ _ _ hrc e9) (jle hf) hrc rfl (lw_V q1377 q1378 q1379 q112 q1380) pdX1_scrape rfl rfl (Nat.le_of_ble_eq_true rfl) ⟨Nat.le_of_ble_eq_true rfl, Nat.le_of_ble_eq_true rfl⟩ dL_law_626 rfl (fun H locs cells slots hS => ?_)
  refine j_aload_n (pc := 629) (r := x2) hx hb dL_law_629 rfl (lv_at hl 2 rfl) ?_
  refine lv_aload_n (pc := 630) hx hb dL_law_630 rfl (lv_at hl 0 rfl) ?_
  refine lv_iload (pc := 631) hx hb dL_law_631 (lv_at hl 4 rfl) ?_
  refine lv_iconst (pc := 633) (v := 1) hx hb dL_law_633 rfl ?_
  refine lv_iadd (pc := 634) hx hb dL_law_634 ?_
  refine j_aI (pc := 635) cx hS hf rfl dL_law_635 (fun y4 hf => ?_)
  obtain ⟨b6, eb, hrc, hf⟩ := jrc_s hf
  refine j_nn (pc := 636) eb [.int y4] [.int y2] rfl ?_
  obtain ⟨y5, h1, e9, hf⟩ := jB_some hf
  refine j_callV (pc := 636) (st1 := [.int y5, .int y2]) (As := [.int y4]) (rest := [.int y2]) cx hS rfl hl.1 hm (metX7_scrape l _ _ _ _ _ _ hrc e9) (jle hf) hrc rfl (lw_V q2132 q2133 q2134 q123 q2135) pdX7_scrape rfl rfl (Nat.le_of_ble_eq_true rfl) ⟨Nat.le_of_ble_eq_true rfl, Nat.le_of_ble_eq_true rfl⟩ dL_law_636 rfl (fun H locs cells slots hS => ?_)
  refine lv_icmp_eq (pc := 639) (tgt := 1477) hx hb dL_law_639 (by decide) (fun hc => ?_) (fun hc => ?_)
  · have hf := jI_t hf hc
    exact wL_law_1477 cx e1 e2 hfl hr1 hA hH0 a0 hk23 _ _ _ _ _ _ _ _ _ _ hf hS hl
  · have hf := jI_f hf hc
    exact wL_law_642 cx e1 e2 hfl hr1 hA hH0 a0 _ _ _ _ _ _ hf hS (lv_sub hl [0] rfl)
theorem wL_law_617 {N : Nat} {r : Int32} (cx : jCx p s m args meth c cL_law "WornSkinLaw" 7 ret D dA H0 hs.2.2.2.2) (e1 : h'.2.2.1 ≤ hs.2.2.1 + 774447) (e2 : h'.2.2.2.1 ≤ hs.2.2.2.1 + 6772764) (hfl : l.stackTraces = false) {b : Nat} (hr1 : r = 1) (hA : args = #[Value.ref b]) (hH0 : H0 = s.heap) (a0 : Nat) : ∀ (h : jH) (H : Heap) (locs : List Loc) (cells slots : Nat) (ls : Array Slot), (fL_law_617 N a0).1 h = some (r, h') → jS D dA H0 hs h H locs cells slots → lv_has ls 7 [(0, .ref a0)] → W p l e room_1 s m args below meth c H locs cells slots (lw_Z below args s) (F0 m 617 ls []) := by
  have hx := cx.1
  have hb := cx.2.1
  have hown := cx.2.2.2.1
  have hts := cx.2.2.2.2.1
  have hm : h'.2.2.1 ≤ hs.2.2.1 + room_1.cells ∧ h'.2.2.2.1 ≤ hs.2.2.2.1 + room_1.slots := ⟨e1, e2⟩
  intro h H locs cells slots ls hf hS hl
  unfold fL_law_617 at hf
  refine lv_iconst (pc := 617) (v := 0) hx hb dL_law_617 rfl ?_
  exact j_lawret (pc := 618) cx hS hf hr1 hA hH0 e1 e2 dL_law_618
theorem wL_law_570 {N : Nat} {k23 : Option Nat → Option Nat → Option Nat → Int32 → jM Int32} {r : Int32} (cx : jCx p s m args meth c cL_law "WornSkinLaw" 7 ret D dA H0 hs.2.2.2.2) (e1 : h'.2.2.1 ≤ hs.2.2.1 + 774447) (e2 : h'.2.2.2.1 ≤ hs.2.2.2.1 + 6772764) (hfl : l.stackTraces = false) {b : Nat} (hr1 : r = 1) (hA : args = #[Value.ref b]) (hH0 : H0 = s.heap) (a0 : Nat) (hk23 : ∀ (x1 : Option Nat) (x2 : Option Nat) (x3 : Option Nat) (x4 : Int32), ∀ (h : jH) (H : Heap) (locs : List Loc) (cells slots : Nat) (ls : Array Slot), (k23 x1 x2 x3 x4).1 h = some (r, h') → jS D dA H0 hs h H locs cells slots → lv_has ls 7 [(0, .ref a0), (1, va_rf x1), (2, va_rf x2), (3, va_rf x3), (4, .int x4)] → W p l e room_1 s m args below meth c H locs cells slots (lw_Z below args s) (F0 m 23 ls [])) : ∀ (x1 : Option Nat) (x2 : Option Nat) (x3 : Option Nat) (x4 : Int32), ∀ (h : jH) (H : Heap) (locs : List Loc) (cells slots : Nat) (ls : Array Slot), (fL_law_570 N k23 a0 x1 x2 x3 x4).1 h = some (r, h') → jS D dA H0 hs h H locs cells slots → lv_has ls 7 [(0, .ref a0), (1, va_rf x1), (2, va_rf x2), (3, va_rf x3), (4, .int x4)] → W p l e room_1 s m args below meth c H locs cells slots (lw_Z below args s) (F0 m 570 ls []) := by
  have hx := cx.1
  have hb := cx.2.1
  have hown := cx.2.2.2.1
  have hts := cx.2.2.2.2.1
  have hm : h'.2.2.1 ≤ hs.2.2.1 + room_1.cells ∧ h'.2.2.2.1 ≤ hs.2.2.2.1 + room_1.slots := ⟨e1, e2⟩
  intro x1 x2 x3 x4 h H locs cells slots ls hf hS hl
  unfold fL_law_570 at hf
  refine j_aload_n (pc := 570) (r := x1) hx hb dL_law_570 rfl (lv_at hl 1 rfl) ?_
  refine lv_aload_n (pc := 571) hx hb dL_law_571 rfl (lv_at hl 0 rfl) ?_
  refine lv_iload (pc := 572) hx hb dL_law_572 (lv_at hl 4 rfl) ?_
  refine lv_iconst (pc := 574) (v := 1) hx hb dL_law_574 rfl ?_
  refine lv_iadd (pc := 575) hx hb dL_law_575 ?_
  refine j_aI (pc := 576) cx hS hf rfl dL_law_576 (fun y1 hf => ?_)
  refine lv_aload_n (pc := 577) hx hb dL_law_577 rfl (lv_at hl 0 rfl) ?_
  refine lv_iload (pc := 578) hx hb dL_law_578 (lv_at hl 4 rfl) ?_
  refine lv_iconst (pc := 580) (v := 2) hx hb dL_law_580 rfl ?_
  refine lv_iadd (pc := 581) hx hb dL_law_581 ?_
  refine j_aI (pc := 582) cx hS hf rfl dL_law_582 (fun y2 hf => ?_)
  refine lv_aload_n (pc := 583) hx hb dL_law_583 rfl (lv_at hl 0 rfl) ?_
  refine lv_iload (pc := 584) hx hb dL_law_584 (lv_at hl 4 rfl) ?_
  refine lv_iconst (pc := 586) (v := 3) hx hb dL_law_586 rfl ?_
  refine lv_iadd (pc := 587) hx hb dL_law_587 ?_
  refine j_aI (pc := 588) cx hS hf rfl dL_law_588 (fun y3 hf => ?_)
  obtain ⟨b5, eb, hrc, hf⟩ := jrc_s hf
  refine j_nn (pc := 589) eb [.int y3, .int y2, .int y1] [] rfl ?_
  obtain ⟨y4, h1, e9, hf⟩ := jB_some hf
  refine j_callV (pc := 589) (st1 := [.int y4]) (As := [.int y1, .int y2, .int y3]) (rest := []) cx hS rfl hl.1 hm (metX1_write l _ _ _ _ _ _ _ _ hrc e9) (jle hf) hrc rfl (lw_V q1332 q1333 q1334 q112 q1335) pdX1_write rfl rfl (Nat.le_of_ble_eq_true rfl) ⟨Nat.le_of_ble_eq_true rfl, Nat.le_of_ble_eq_true rfl⟩ dL_law_589 rfl (fun H locs cells slots hS => ?_)
  refine j_aload_n (pc := 592) (r := x2) hx hb dL_law_592 rfl (lv_at hl 2 rfl) ?_
  refine lv_aload_n (pc := 593) hx hb dL_law_593 rfl (lv_at hl 0 rfl) ?_
  refine lv_iload (pc := 594) hx hb dL_law_594 (lv_at hl 4 rfl) ?_
  refine lv_iconst (pc := 596) (v := 1) hx hb dL_law_596 rfl ?_
  refine lv_iadd (pc := 597) hx hb dL_law_597 ?_
  refine j_aI (pc := 598) cx hS hf rfl dL_law_598 (fun y6 hf => ?_)
  refine lv_aload_n (pc := 599) hx hb dL_law_599 rfl (lv_at hl 0 rfl) ?_
  refine lv_iload (pc := 600) hx hb dL_law_600 (lv_at hl 4 rfl) ?_
  refine lv_iconst (pc := 602) (v := 2) hx hb dL_law_602 rfl ?_
  refine lv_iadd (pc := 603) hx hb dL_law_603 ?_
  refine j_aI (pc := 604) cx hS hf rfl dL_law_604 (fun y7 hf => ?_)
  refine lv_aload_n (pc := 605) hx hb dL_law_605 rfl (lv_at hl 0 rfl) ?_
  refine lv_iload (pc := 606) hx hb dL_law_606 (lv_at hl 4 rfl) ?_
  refine lv_iconst (pc := 608) (v := 3) hx hb dL_law_608 rfl ?_
  refine lv_iadd (pc := 609) hx hb dL_law_609 ?_
  refine j_aI (pc := 610) cx hS hf rfl dL_law_610 (fun y8 hf => ?_)
  obtain ⟨b10, eb, hrc, hf⟩ := jrc_s hf
  refine j_nn (pc := 611) eb [.int y8, .int y7, .int y6] [.int y4] rfl ?_
  obtain ⟨y9, h1, e9, hf⟩ := jB_some hf
  refine j_callV (pc := 611) (st1 := [.int y9, .int y4]) (As := [.int y6, .int y7, .int y8]) (rest := [.int y4]) cx hS rfl hl.1 hm (metX7_write l _ _ _ _ _ _ _ _ hrc e9) (jle hf) hrc rfl (lw_V q2112 q2113 q2114 q123 q2115) pdX7_write rfl rfl (Nat.le_of_ble_eq_true rfl) ⟨Nat.le_of_ble_eq_true rfl, Nat.le_of_ble_eq_true rfl⟩ dL_law_611 rfl (fun H locs cells slots hS => ?_)
  refine lv_icmp_eq (pc := 614) (tgt := 1477) hx hb dL_law_614 (by decide) (fun hc => ?_) (fun hc => ?_)
  · have hf := jI_t hf hc
    exact wL_law_1477 cx e1 e2 hfl hr1 hA hH0 a0 hk23 _ _ _ _ _ _ _ _ _ _ hf hS hl
  · have hf := jI_f hf hc
    exact wL_law_617 cx e1 e2 hfl hr1 hA hH0 a0 _ _ _ _ _ _ hf hS (lv_sub hl [0] rfl)
theorem wL_law_568 {N : Nat} {r : Int32} (cx : jCx p s m args meth c cL_law "WornSkinLaw" 7 ret D dA H0 hs.2.2.2.2) (e1 : h'.2.2.1 ≤ hs.2.2.1 + 774447) (e2 : h'.2.2.2.1 ≤ hs.2.2.2.1 + 6772764) (hfl : l.stackTraces = false) {b : Nat} (hr1 : r = 1) (hA : args = #[Value.ref b]) (hH0 : H0 = s.heap) (a0 : Nat) : ∀ (h : jH) (H : Heap) (locs : List Loc) (cells slots : Nat) (ls : Array Slot), (fL_law_568 N a0).1 h = some (r, h') → jS D dA H0 hs h H locs cells slots → lv_has ls 7 [(0, .ref a0)] → W p l e room_1 s m args below meth c H locs cells slots (lw_Z below args s) (F0 m 568 ls []) := by
  have hx := cx.1
  have hb := cx.2.1
  have hown := cx.2.2.2.1
  have hts := cx.2.2.2.2.1
  have hm : h'.2.2.1 ≤ hs.2.2.1 + room_1.cells ∧ h'.2.2.2.1 ≤ hs.2.2.2.1 + room_1.slots := ⟨e1, e2⟩
  intro h H locs cells slots ls hf hS hl
  unfold fL_law_568 at hf
  refine lv_iconst (pc := 568) (v := 0) hx hb dL_law_568 rfl ?_
  exact j_lawret (pc := 569) cx hS hf hr1 hA hH0 e1 e2 dL_law_569
theorem wL_law_533 {N : Nat} {k23 : Option Nat → Option Nat → Option Nat → Int32 → jM Int32} {r : Int32} (cx : jCx p s m args meth c cL_law "WornSkinLaw" 7 ret D dA H0 hs.2.2.2.2) (e1 : h'.2.2.1 ≤ hs.2.2.1 + 774447) (e2 : h'.2.2.2.1 ≤ hs.2.2.2.1 + 6772764) (hfl : l.stackTraces = false) {b : Nat} (hr1 : r = 1) (hA : args = #[Value.ref b]) (hH0 : H0 = s.heap) (a0 : Nat) (hk23 : ∀ (x1 : Option Nat) (x2 : Option Nat) (x3 : Option Nat) (x4 : Int32), ∀ (h : jH) (H : Heap) (locs : List Loc) (cells slots : Nat) (ls : Array Slot), (k23 x1 x2 x3 x4).1 h = some (r, h') → jS D dA H0 hs h H locs cells slots → lv_has ls 7 [(0, .ref a0), (1, va_rf x1), (2, va_rf x2), (3, va_rf x3), (4, .int x4)] → W p l e room_1 s m args below meth c H locs cells slots (lw_Z below args s) (F0 m 23 ls [])) : ∀ (x1 : Option Nat) (x2 : Option Nat) (x3 : Option Nat) (x4 : Int32), ∀ (h : jH) (H : Heap) (locs : List Loc) (cells slots : Nat) (ls : Array Slot), (fL_law_533 N k23 a0 x1 x2 x3 x4).1 h = some (r, h') → jS D dA H0 hs h H locs cells slots → lv_has ls 7 [(0, .ref a0), (1, va_rf x1), (2, va_rf x2), (3, va_rf x3), (4, .int x4)] → W p l e room_1 s m args below meth c H locs cells slots (lw_Z below args s) (F0 m 533 ls []) := by
  have hx := cx.1
  have hb := cx.2.1
  have hown := cx.2.2.2.1
  have hts := cx.2.2.2.2.1
  have hm : h'.2.2.1 ≤ hs.2.2.1 + room_1.cells ∧ h'.2.2.2.1 ≤ hs.2.2.2.1 + room_1.slots := ⟨e1, e2⟩
  intro x1 x2 x3 x4 h H locs cells slots ls hf hS hl
  unfold fL_law_533 at hf
  refine j_aload_n (pc := 533) (r := x1) hx hb dL_law_533 rfl (lv_at hl 1 rfl) ?_
  refine lv_aload_n (pc := 534) hx hb dL_law_534 rfl (lv_at hl 0 rfl) ?_
  refine lv_iload (pc := 535) hx hb dL_law_535 (lv_at hl 4 rfl) ?_
  refine lv_iconst (pc := 537) (v := 1) hx hb dL_law_537 rfl ?_
  refine lv_iadd (pc := 538) hx hb dL_law_538 ?_
  refine j_aI (pc := 539) cx hS hf rfl dL_law_539 (fun y1 hf => ?_)
  refine lv_aload_n (pc := 540) hx hb dL_law_540 rfl (lv_at hl 0 rfl) ?_
  refine lv_iload (pc := 541) hx hb dL_law_541 (lv_at hl 4 rfl) ?_
  refine lv_iconst (pc := 543) (v := 2) hx hb dL_law_543 rfl ?_
  refine lv_iadd (pc := 544) hx hb dL_law_544 ?_
  refine j_aI (pc := 545) cx hS hf rfl dL_law_545 (fun y2 hf => ?_)
  obtain ⟨b4, eb, hrc, hf⟩ := jrc_s hf
  refine j_nn (pc := 546) eb [.int y2, .int y1] [] rfl ?_
  obtain ⟨y3, h1, e9, hf⟩ := jB_some hf
  refine j_callV (pc := 546) (st1 := [.int y3]) (As := [.int y1, .int y2]) (rest := []) cx hS rfl hl.1 hm (metX1_read l _ _ _ _ _ _ _ hrc e9) (jle hf) hrc rfl (lw_V q1328 q1329 q1330 q112 q1331) pdX1_read rfl rfl (Nat.le_of_ble_eq_true rfl) ⟨Nat.le_of_ble_eq_true rfl, Nat.le_of_ble_eq_true rfl⟩ dL_law_546 rfl (fun H locs cells slots hS => ?_)
  refine j_aload_n (pc := 549) (r := x2) hx hb dL_law_549 rfl (lv_at hl 2 rfl) ?_
  refine lv_aload_n (pc := 550) hx hb dL_law_550 rfl (lv_at hl 0 rfl) ?_
  refine lv_iload (pc := 551) hx hb dL_law_551 (lv_at hl 4 rfl) ?_
  refine lv_iconst (pc := 553) (v := 1) hx hb dL_law_553 rfl ?_
  refine lv_iadd (pc := 554) hx hb dL_law_554 ?_
  refine j_aI (pc := 555) cx hS hf rfl dL_law_555 (fun y5 hf => ?_)
  refine lv_aload_n (pc := 556) hx hb dL_law_556 rfl (lv_at hl 0 rfl) ?_
  refine lv_iload (pc := 557) hx hb dL_law_557 (lv_at hl 4 rfl) ?_
  refine lv_iconst (pc := 559) (v := 2) hx hb dL_law_559 rfl ?_
  refine lv_iadd (pc := 560) hx hb dL_law_560 ?_
  refine j_aI (pc := 561) cx hS hf rfl dL_law_561 (fun y6 hf => ?_)
  obtain ⟨b8, eb, hrc, hf⟩ := jrc_s hf
  refine j_nn (pc := 562) eb [.int y6, .int y5] [.int y3] rfl ?_
  obtain ⟨y7, h1, e9, hf⟩ := jB_some hf
  refine j_callV (pc := 562) (st1 := [.int y7, .int y3]) (As := [.int y5, .int y6]) (rest := [.int y3]) cx hS rfl hl.1 hm (metX7_read l _ _ _ _ _ _ _ hrc e9) (jle hf) hrc rfl (lw_V q2108 q2109 q2110 q123 q2111) pdX7_read rfl rfl (Nat.le_of_ble_eq_true rfl) ⟨Nat.le_of_ble_eq_true rfl, Nat.le_of_ble_eq_true rfl⟩ dL_law_562 rfl (fun H locs cells slots hS => ?_)
  refine lv_icmp_eq (pc := 565) (tgt := 1477) hx hb dL_law_565 (by decide) (fun hc => ?_) (fun hc => ?_)
  · have hf := jI_t hf hc
    exact wL_law_1477 cx e1 e2 hfl hr1 hA hH0 a0 hk23 _ _ _ _ _ _ _ _ _ _ hf hS hl
  · have hf := jI_f hf hc
    exact wL_law_568 cx e1 e2 hfl hr1 hA hH0 a0 _ _ _ _ _ _ hf hS (lv_sub hl [0] rfl)
theorem wL_law_531 {N : Nat} {r : Int32} (cx : jCx p s m args meth c cL_law "WornSkinLaw" 7 ret D dA H0 hs.2.2.2.2) (e1 : h'.2.2.1 ≤ hs.2.2.1 + 774447) (e2 : h'.2.2.2.1 ≤ hs.2.2.2.1 + 6772764) (hfl : l.stackTraces = false) {b : Nat} (hr1 : r = 1) (hA : args = #[Value.ref b]) (hH0 : H0 = s.heap) (a0 : Nat) : ∀ (h : jH) (H : Heap) (locs : List Loc) (cells slots : Nat) (ls : Array Slot), (fL_law_531 N a0).1 h = some (r, h') → jS D dA H0 hs h H locs cells slots → lv_has ls 7 [(0, .ref a0)] → W p l e room_1 s m args below meth c H locs cells slots (lw_Z below args s) (F0 m 531 ls []) := by
  have hx := cx.1
  have hb := cx.2.1
  have hown := cx.2.2.2.1
  have hts := cx.2.2.2.2.1
  have hm : h'.2.2.1 ≤ hs.2.2.1 + room_1.cells ∧ h'.2.2.2.1 ≤ hs.2.2.2.1 + room_1.slots := ⟨e1, e2⟩
  intro h H locs cells slots ls hf hS hl
  unfold fL_law_531 at hf
  refine lv_iconst (pc := 531) (v := 0) hx hb dL_law_531 rfl ?_
  exact j_lawret (pc := 532) cx hS hf hr1 hA hH0 e1 e2 dL_law_532
theorem wL_law_484 {N : Nat} {k23 : Option Nat → Option Nat → Option Nat → Int32 → jM Int32} {r : Int32} (cx : jCx p s m args meth c cL_law "WornSkinLaw" 7 ret D dA H0 hs.2.2.2.2) (e1 : h'.2.2.1 ≤ hs.2.2.1 + 774447) (e2 : h'.2.2.2.1 ≤ hs.2.2.2.1 + 6772764) (hfl : l.stackTraces = false) {b : Nat} (hr1 : r = 1) (hA : args = #[Value.ref b]) (hH0 : H0 = s.heap) (a0 : Nat) (hk23 : ∀ (x1 : Option Nat) (x2 : Option Nat) (x3 : Option Nat) (x4 : Int32), ∀ (h : jH) (H : Heap) (locs : List Loc) (cells slots : Nat) (ls : Array Slot), (k23 x1 x2 x3 x4).1 h = some (r, h') → jS D dA H0 hs h H locs cells slots → lv_has ls 7 [(0, .ref a0), (1, va_rf x1), (2, va_rf x2), (3, va_rf x3), (4, .int x4)] → W p l e room_1 s m args below meth c H locs cells slots (lw_Z below args s) (F0 m 23 ls [])) : ∀ (x1 : Option Nat) (x2 : Option Nat) (x3 : Option Nat) (x4 : Int32), ∀ (h : jH) (H : Heap) (locs : List Loc) (cells slots : Nat) (ls : Array Slot), (fL_law_484 N k23 a0 x1 x2 x3 x4).1 h = some (r, h') → jS D dA H0 hs h H locs cells slots → lv_has ls 7 [(0, .ref a0), (1, va_rf x1), (2, va_rf x2), (3, va_rf x3), (4, .int x4)] → W p l e room_1 s m args below meth c H locs cells slots (lw_Z below args s) (F0 m 484 ls []) := by
  have hx := cx.1
  have hb := cx.2.1
  have hown := cx.2.2.2.1
  have hts := cx.2.2.2.2.1
  have hm : h'.2.2.1 ≤ hs.2.2.1 + room_1.cells ∧ h'.2.2.2.1 ≤ hs.2.2.2.1 + room_1.slots := ⟨e1, e2⟩
  intro x1 x2 x3 x4 h H locs cells slots ls hf hS hl
  unfold fL_law_484 at hf
  refine j_aload_n (pc := 484) (r := x1) hx hb dL_law_484 rfl (lv_at hl 1 rfl) ?_
  refine lv_aload_n (pc := 485) hx hb dL_law_485 rfl (lv_at hl 0 rfl) ?_
  refine lv_iload (pc := 486) hx hb dL_law_486 (lv_at hl 4 rfl) ?_
  refine lv_iconst (pc := 488) (v := 1) hx hb dL_law_488 rfl ?_
  refine lv_iadd (pc := 489) hx hb dL_law_489 ?_
  refine j_aI (pc := 490) cx hS hf rfl dL_law_490 (fun y1 hf => ?_)
  refine lv_aload_n (pc := 491) hx hb dL_law_491 rfl (lv_at hl 0 rfl) ?_
  refine lv_iload (pc := 492) hx hb dL_law_492 (lv_at hl 4 rfl) ?_
  refine lv_iconst (pc := 494) (v := 2) hx hb dL_law_494 rfl ?_
  refine lv_iadd (pc := 495) hx hb dL_law_495 ?_
  refine j_aI (pc := 496) cx hS hf rfl dL_law_496 (fun y2 hf => ?_)
  refine lv_aload_n (pc := 497) hx hb dL_law_497 rfl (lv_at hl 0 rfl) ?_
  refine lv_iload (pc := 498) hx hb dL_law_498 (lv_at hl 4 rfl) ?_
  refine lv_iconst (pc := 500) (v := 3) hx hb dL_law_500 rfl ?_
  refine lv_iadd (pc := 501) hx hb dL_law_501 ?_
  refine j_aI (pc := 502) cx hS hf rfl dL_law_502 (fun y3 hf => ?_)
  obtain ⟨b5, eb, hrc, hf⟩ := jrc_s hf
  refine j_nn (pc := 503) eb [.int y3, .int y2, .int y1] [] rfl ?_
  obtain ⟨y4, h1, e9, hf⟩ := jB_some hf
  refine j_callV (pc := 503) (st1 := [.int y4]) (As := [.int y1, .int y2, .int y3]) (rest := []) cx hS rfl hl.1 hm (metX1_layer l _ _ _ _ _ _ _ hrc e9) (jle hf) hrc rfl (lw_V q1322 q1323 q1324 q112 q1325) pdX1_layer rfl rfl (Nat.le_of_ble_eq_true rfl) ⟨Nat.le_of_ble_eq_true rfl, Nat.le_of_ble_eq_true rfl⟩ dL_law_503 rfl (fun H locs cells slots hS => ?_)
  refine j_aload_n (pc := 506) (r := x2) hx hb dL_law_506 rfl (lv_at hl 2 rfl) ?_
  refine lv_aload_n (pc := 507) hx hb dL_law_507 rfl (lv_at hl 0 rfl) ?_
  refine lv_iload (pc := 508) hx hb dL_law_508 (lv_at hl 4 rfl) ?_
  refine lv_iconst (pc := 510) (v := 1) hx hb dL_law_510 rfl ?_
  refine lv_iadd (pc := 511) hx hb dL_law_511 ?_
  refine j_aI (pc := 512) cx hS hf rfl dL_law_512 (fun y6 hf => ?_)
  refine lv_aload_n (pc := 513) hx hb dL_law_513 rfl (lv_at hl 0 rfl) ?_
  refine lv_iload (pc := 514) hx hb dL_law_514 (lv_at hl 4 rfl) ?_
  refine lv_iconst (pc := 516) (v := 2) hx hb dL_law_516 rfl ?_
  refine lv_iadd (pc := 517) hx hb dL_law_517 ?_
  refine j_aI (pc := 518) cx hS hf rfl dL_law_518 (fun y7 hf => ?_)
  refine lv_aload_n (pc := 519) hx hb dL_law_519 rfl (lv_at hl 0 rfl) ?_
  refine lv_iload (pc := 520) hx hb dL_law_520 (lv_at hl 4 rfl) ?_
  refine lv_iconst (pc := 522) (v := 3) hx hb dL_law_522 rfl ?_
  refine lv_iadd (pc := 523) hx hb dL_law_523 ?_
  refine j_aI (pc := 524) cx hS hf rfl dL_law_524 (fun y8 hf => ?_)
  obtain ⟨b10, eb, hrc, hf⟩ := jrc_s hf
  refine j_nn (pc := 525) eb [.int y8, .int y7, .int y6] [.int y4] rfl ?_
  obtain ⟨y9, h1, e9, hf⟩ := jB_some hf
  refine j_callV (pc := 525) (st1 := [.int y9, .int y4]) (As := [.int y6, .int y7, .int y8]) (rest := [.int y4]) cx hS rfl hl.1 hm (metX7_layer l _ _ _ _ _ _ _ _ hrc e9) (jle hf) hrc rfl (lw_V q2101 q2102 q2103 q123 q2104) pdX7_layer rfl rfl (Nat.le_of_ble_eq_true rfl) ⟨Nat.le_of_ble_eq_true rfl, Nat.le_of_ble_eq_true rfl⟩ dL_law_525 rfl (fun H locs cells slots hS => ?_)
  refine lv_icmp_eq (pc := 528) (tgt := 1477) hx hb dL_law_528 (by decide) (fun hc => ?_) (fun hc => ?_)
  · have hf := jI_t hf hc
    exact wL_law_1477 cx e1 e2 hfl hr1 hA hH0 a0 hk23 _ _ _ _ _ _ _ _ _ _ hf hS hl
  · have hf := jI_f hf hc
    exact wL_law_531 cx e1 e2 hfl hr1 hA hH0 a0 _ _ _ _ _ _ hf hS (lv_sub hl [0] rfl)
theorem wL_law_482 {N : Nat} {r : Int32} (cx : jCx p s m args meth c cL_law "WornSkinLaw" 7 ret D dA H0 hs.2.2.2.2) (e1 : h'.2.2.1 ≤ hs.2.2.1 + 774447) (e2 : h'.2.2.2.1 ≤ hs.2.2.2.1 + 6772764) (hfl : l.stackTraces = false) {b : Nat} (hr1 : r = 1) (hA : args = #[Value.ref b]) (hH0 : H0 = s.heap) (a0 : Nat) : ∀ (h : jH) (H : Heap) (locs : List Loc) (cells slots : Nat) (ls : Array Slot), (fL_law_482 N a0).1 h = some (r, h') → jS D dA H0 hs h H locs cells slots → lv_has ls 7 [(0, .ref a0)] → W p l e room_1 s m args below meth c H locs cells slots (lw_Z below args s) (F0 m 482 ls []) := by
  have hx := cx.1
  have hb := cx.2.1
  have hown := cx.2.2.2.1
  have hts := cx.2.2.2.2.1
  have hm : h'.2.2.1 ≤ hs.2.2.1 + room_1.cells ∧ h'.2.2.2.1 ≤ hs.2.2.2.1 + room_1.slots := ⟨e1, e2⟩
  intro h H locs cells slots ls hf hS hl
  unfold fL_law_482 at hf
  refine lv_iconst (pc := 482) (v := 0) hx hb dL_law_482 rfl ?_
  exact j_lawret (pc := 483) cx hS hf hr1 hA hH0 e1 e2 dL_law_483
theorem wL_law_447 {N : Nat} {k23 : Option Nat → Option Nat → Option Nat → Int32 → jM Int32} {r : Int32} (cx : jCx p s m args meth c cL_law "WornSkinLaw" 7 ret D dA H0 hs.2.2.2.2) (e1 : h'.2.2.1 ≤ hs.2.2.1 + 774447) (e2 : h'.2.2.2.1 ≤ hs.2.2.2.1 + 6772764) (hfl : l.stackTraces = false) {b : Nat} (hr1 : r = 1) (hA : args = #[Value.ref b]) (hH0 : H0 = s.heap) (a0 : Nat) (hk23 : ∀ (x1 : Option Nat) (x2 : Option Nat) (x3 : Option Nat) (x4 : Int32), ∀ (h : jH) (H : Heap) (locs : List Loc) (cells slots : Nat) (ls : Array Slot), (k23 x1 x2 x3 x4).1 h = some (r, h') → jS D dA H0 hs h H locs cells slots → lv_has ls 7 [(0, .ref a0), (1, va_rf x1), (2, va_rf x2), (3, va_rf x3), (4, .int x4)] → W p l e room_1 s m args below meth c H locs cells slots (lw_Z below args s) (F0 m 23 ls [])) : ∀ (x1 : Option Nat) (x2 : Option Nat) (x3 : Option Nat) (x4 : Int32), ∀ (h : jH) (H : Heap) (locs : List Loc) (cells slots : Nat) (ls : Array Slot), (fL_law_447 N k23 a0 x1 x2 x3 x4).1 h = some (r, h') → jS D dA H0 hs h H locs cells slots → lv_has ls 7 [(0, .ref a0), (1, va_rf x1), (2, va_rf x2), (3, va_rf x3), (4, .int x4)] → W p l e room_1 s m args below meth c H locs cells slots (lw_Z below args s) (F0 m 447 ls []) := by
  have hx := cx.1
  have hb := cx.2.1
  have hown := cx.2.2.2.1
  have hts := cx.2.2.2.2.1
  have hm : h'.2.2.1 ≤ hs.2.2.1 + room_1.cells ∧ h'.2.2.2.1 ≤ hs.2.2.2.1 + room_1.slots := ⟨e1, e2⟩
  intro x1 x2 x3 x4 h H locs cells slots ls hf hS hl
  unfold fL_law_447 at hf
  refine j_aload_n (pc := 447) (r := x1) hx hb dL_law_447 rfl (lv_at hl 1 rfl) ?_
  refine lv_aload_n (pc := 448) hx hb dL_law_448 rfl (lv_at hl 0 rfl) ?_
  refine lv_iload (pc := 449) hx hb dL_law_449 (lv_at hl 4 rfl) ?_
  refine lv_iconst (pc := 451) (v := 1) hx hb dL_law_451 rfl ?_
  refine lv_iadd (pc := 452) hx hb dL_law_452 ?_
  refine j_aI (pc := 453) cx hS hf rfl dL_law_453 (fun y1 hf => ?_)
  refine lv_aload_n (pc := 454) hx hb dL_law_454 rfl (lv_at hl 0 rfl) ?_
  refine lv_iload (pc := 455) hx hb dL_law_455 (lv_at hl 4 rfl) ?_
  refine lv_iconst (pc := 457) (v := 2) hx hb dL_law_457 rfl ?_
  refine lv_iadd (pc := 458) hx hb dL_law_458 ?_
  refine j_aI (pc := 459) cx hS hf rfl dL_law_459 (fun y2 hf => ?_)
  obtain ⟨b4, eb, hrc, hf⟩ := jrc_s hf
  refine j_nn (pc := 460) eb [.int y2, .int y1] [] rfl ?_
  obtain ⟨y3, h1, e9, hf⟩ := jB_some hf
  refine j_callV (pc := 460) (st1 := [.int y3]) (As := [.int y1, .int y2]) (rest := []) cx hS rfl hl.1 hm (metX1_layers l _ _ _ _ _ _ hrc e9) (jle hf) hrc rfl (lw_V q1314 q1315 q1316 q112 q1317) pdX1_layers rfl rfl (Nat.le_of_ble_eq_true rfl) ⟨Nat.le_of_ble_eq_true rfl, Nat.le_of_ble_eq_true rfl⟩ dL_law_460 rfl (fun H locs cells slots hS => ?_)
  refine j_aload_n (pc := 463) (r := x2) hx hb dL_law_463 rfl (lv_at hl 2 rfl) ?_
  refine lv_aload_n (pc := 464) hx hb dL_law_464 rfl (lv_at hl 0 rfl) ?_
  refine lv_iload (pc := 465) hx hb dL_law_465 (lv_at hl 4 rfl) ?_
  refine lv_iconst (pc := 467) (v := 1) hx hb dL_law_467 rfl ?_
  refine lv_iadd (pc := 468) hx hb dL_law_468 ?_
  refine j_aI (pc := 469) cx hS hf rfl dL_law_469 (fun y5 hf => ?_)
  refine lv_aload_n (pc := 470) hx hb dL_law_470 rfl (lv_at hl 0 rfl) ?_
  refine lv_iload (pc := 471) hx hb dL_law_471 (lv_at hl 4 rfl) ?_
  refine lv_iconst (pc := 473) (v := 2) hx hb dL_law_473 rfl ?_
  refine lv_iadd (pc := 474) hx hb dL_law_474 ?_
  refine j_aI (pc := 475) cx hS hf rfl dL_law_475 (fun y6 hf => ?_)
  obtain ⟨b8, eb, hrc, hf⟩ := jrc_s hf
  refine j_nn (pc := 476) eb [.int y6, .int y5] [.int y3] rfl ?_
  obtain ⟨y7, h1, e9, hf⟩ := jB_some hf
  refine j_callV (pc := 476) (st1 := [.int y7, .int y3]) (As := [.int y5, .int y6]) (rest := [.int y3]) cx hS rfl hl.1 hm (metX7_layers l _ _ _ _ _ _ _ hrc e9) (jle hf) hrc rfl (lw_V q2090 q2091 q2092 q123 q2093) pdX7_layers rfl rfl (Nat.le_of_ble_eq_true rfl) ⟨Nat.le_of_ble_eq_true rfl, Nat.le_of_ble_eq_true rfl⟩ dL_law_476 rfl (fun H locs cells slots hS => ?_)
  refine lv_icmp_eq (pc := 479) (tgt := 1477) hx hb dL_law_479 (by decide) (fun hc => ?_) (fun hc => ?_)
  · have hf := jI_t hf hc
    exact wL_law_1477 cx e1 e2 hfl hr1 hA hH0 a0 hk23 _ _ _ _ _ _ _ _ _ _ hf hS hl
  · have hf := jI_f hf hc
    exact wL_law_482 cx e1 e2 hfl hr1 hA hH0 a0 _ _ _ _ _ _ hf hS (lv_sub hl [0] rfl)
theorem wL_law_445 {N : Nat} {r : Int32} (cx : jCx p s m args meth c cL_law "WornSkinLaw" 7 ret D dA H0 hs.2.2.2.2) (e1 : h'.2.2.1 ≤ hs.2.2.1 + 774447) (e2 : h'.2.2.2.1 ≤ hs.2.2.2.1 + 6772764) (hfl : l.stackTraces = false) {b : Nat} (hr1 : r = 1) (hA : args = #[Value.ref b]) (hH0 : H0 = s.heap) (a0 : Nat) : ∀ (h : jH) (H : Heap) (locs : List Loc) (cells slots : Nat) (ls : Array Slot), (fL_law_445 N a0).1 h = some (r, h') → jS D dA H0 hs h H locs cells slots → lv_has ls 7 [(0, .ref a0)] → W p l e room_1 s m args below meth c H locs cells slots (lw_Z below args s) (F0 m 445 ls []) := by
  have hx := cx.1
  have hb := cx.2.1
  have hown := cx.2.2.2.1
  have hts := cx.2.2.2.2.1
  have hm : h'.2.2.1 ≤ hs.2.2.1 + room_1.cells ∧ h'.2.2.2.1 ≤ hs.2.2.2.1 + room_1.slots := ⟨e1, e2⟩
  intro h H locs cells slots ls hf hS hl
  unfold fL_law_445 at hf
  refine lv_iconst (pc := 445) (v := 0) hx hb dL_law_445 rfl ?_
  exact j_lawret (pc := 446) cx hS hf hr1 hA hH0 e1 e2 dL_law_446
theorem wL_law_410 {N : Nat} {k23 : Option Nat → Option Nat → Option Nat → Int32 → jM Int32} {r : Int32} (cx : jCx p s m args meth c cL_law "WornSkinLaw" 7 ret D dA H0 hs.2.2.2.2) (e1 : h'.2.2.1 ≤ hs.2.2.1 + 774447) (e2 : h'.2.2.2.1 ≤ hs.2.2.2.1 + 6772764) (hfl : l.stackTraces = false) {b : Nat} (hr1 : r = 1) (hA : args = #[Value.ref b]) (hH0 : H0 = s.heap) (a0 : Nat) (hk23 : ∀ (x1 : Option Nat) (x2 : Option Nat) (x3 : Option Nat) (x4 : Int32), ∀ (h : jH) (H : Heap) (locs : List Loc) (cells slots : Nat) (ls : Array Slot), (k23 x1 x2 x3 x4).1 h = some (r, h') → jS D dA H0 hs h H locs cells slots → lv_has ls 7 [(0, .ref a0), (1, va_rf x1), (2, va_rf x2), (3, va_rf x3), (4, .int x4)] → W p l e room_1 s m args below meth c H locs cells slots (lw_Z below args s) (F0 m 23 ls [])) : ∀ (x1 : Option Nat) (x2 : Option Nat) (x3 : Option Nat) (x4 : Int32), ∀ (h : jH) (H : Heap) (locs : List Loc) (cells slots : Nat) (ls : Array Slot), (fL_law_410 N k23 a0 x1 x2 x3 x4).1 h = some (r, h') → jS D dA H0 hs h H locs cells slots → lv_has ls 7 [(0, .ref a0), (1, va_rf x1), (2, va_rf x2), (3, va_rf x3), (4, .int x4)] → W p l e room_1 s m args below meth c H locs cells slots (lw_Z below args s) (F0 m 410 ls []) := by
  have hx := cx.1
  have hb := cx.2.1
  have hown := cx.2.2.2.1
  have hts := cx.2.2.2.2.1
  have hm : h'.2.2.1 ≤ hs.2.2.1 + room_1.cells ∧ h'.2.2.2.1 ≤ hs.2.2.2.1 + room_1.slots := ⟨e1, e2⟩
  intro x1 x2 x3 x4 h H locs cells slots ls hf hS hl
  unfold fL_law_410 at hf
  refine j_aload_n (pc := 410) (r := x1) hx hb dL_law_410 rfl (lv_at hl 1 rfl) ?_
  refine lv_aload_n (pc := 411) hx hb dL_law_411 rfl (lv_at hl 0 rfl) ?_
  refine lv_iload (pc := 412) hx hb dL_law_412 (lv_at hl 4 rfl) ?_
  refine lv_iconst (pc := 414) (v := 1) hx hb dL_law_414 rfl ?_
  refine lv_iadd (pc := 415) hx hb dL_law_415 ?_
  refine j_aI (pc := 416) cx hS hf rfl dL_law_416 (fun y1 hf => ?_)
  refine lv_aload_n (pc := 417) hx hb dL_law_417 rfl (lv_at hl 0 rfl) ?_
  refine lv_iload (pc := 418) hx hb dL_law_418 (lv_at hl 4 rfl) ?_
  refine lv_iconst (pc := 420) (v := 2) hx hb dL_law_420 rfl ?_
  refine lv_iadd (pc := 421) hx hb dL_law_421 ?_
  refine j_aI (pc := 422) cx hS hf rfl dL_law_422 (fun y2 hf => ?_)
  obtain ⟨b4, eb, hrc, hf⟩ := jrc_s hf
  refine j_nn (pc := 423) eb [.int y2, .int y1] [] rfl ?_
  obtain ⟨y3, h1, e9, hf⟩ := jB_some hf
  refine j_callV (pc := 423) (st1 := [.int y3]) (As := [.int y1, .int y2]) (rest := []) cx hS rfl hl.1 hm (metX1_text l _ _ _ _ _ _ _ hrc e9) (jle hf) hrc rfl (lw_V q1278 q1279 q1280 q112 q1281) pdX1_text rfl rfl (Nat.le_of_ble_eq_true rfl) ⟨Nat.le_of_ble_eq_true rfl, Nat.le_of_ble_eq_true rfl⟩ dL_law_423 rfl (fun H locs cells slots hS => ?_)
  refine j_aload_n (pc := 426) (r := x2) hx hb dL_law_426 rfl (lv_at hl 2 rfl) ?_
  refine lv_aload_n (pc := 427) hx hb dL_law_427 rfl (lv_at hl 0 rfl) ?_
  refine lv_iload (pc := 428) hx hb dL_law_428 (lv_at hl 4 rfl) ?_
  refine lv_iconst (pc := 430) (v := 1) hx hb dL_law_430 rfl ?_
  refine lv_iadd (pc := 431) hx hb dL_law_431 ?_
  refine j_aI (pc := 432) cx hS hf rfl dL_law_432 (fun y5 hf => ?_)
  refine lv_aload_n (pc := 433) hx hb dL_law_433 rfl (lv_at hl 0 rfl) ?_
  refine lv_iload (pc := 434) hx hb dL_law_434 (lv_at hl 4 rfl) ?_
  refine lv_iconst (pc := 436) (v := 2) hx hb dL_law_436 rfl ?_
  refine lv_iadd (pc := 437) hx hb dL_law_437 ?_
  refine j_aI (pc := 438) cx hS hf rfl dL_law_438 (fun y6 hf => ?_)
  obtain ⟨b8, eb, hrc, hf⟩ := jrc_s hf
  refine j_nn (pc := 439) eb [.int y6, .int y5] [.int y3] rfl ?_
  obtain ⟨y7, h1, e9, hf⟩ := jB_some hf
  refine j_callV (pc := 439) (st1 := [.int y7, .int y3]) (As := [.int y5, .int y6]) (rest := [.int y3]) cx hS rfl hl.1 hm (metX7_text l _ _ _ _ _ _ _ hrc e9) (jle hf) hrc rfl (lw_V q2067 q2068 q2069 q123 q2070) pdX7_text rfl rfl (Nat.le_of_ble_eq_true rfl) ⟨Nat.le_of_ble_eq_true rfl, Nat.le_of_ble_eq_true rfl⟩ dL_law_439 rfl (fun H locs cells slots hS => ?_)
  refine lv_icmp_eq (pc := 442) (tgt := 1477) hx hb dL_law_442 (by decide) (fun hc => ?_) (fun hc => ?_)
  · have hf := jI_t hf hc
    exact wL_law_1477 cx e1 e2 hfl hr1 hA hH0 a0 hk23 _ _ _ _ _ _ _ _ _ _ hf hS hl
  · have hf := jI_f hf hc
    exact wL_law_445 cx e1 e2 hfl hr1 hA hH0 a0 _ _ _ _ _ _ hf hS (lv_sub hl [0] rfl)
theorem wL_law_408 {N : Nat} {r : Int32} (cx : jCx p s m args meth c cL_law "WornSkinLaw" 7 ret D dA H0 hs.2.2.2.2) (e1 : h'.2.2.1 ≤ hs.2.2.1 + 774447) (e2 : h'.2.2.2.1 ≤ hs.2.2.2.1 + 6772764) (hfl : l.stackTraces = false) {b : Nat} (hr1 : r = 1) (hA : args = #[Value.ref b]) (hH0 : H0 = s.heap) (a0 : Nat) : ∀ (h : jH) (H : Heap) (locs : List Loc) (cells slots : Nat) (ls : Array Slot), (fL_law_408 N a0).1 h = some (r, h') → jS D dA H0 hs h H locs cells slots → lv_has ls 7 [(0, .ref a0)] → W p l e room_1 s m args below meth c H locs cells slots (lw_Z below args s) (F0 m 408 ls []) := by
  have hx := cx.1
  have hb := cx.2.1
  have hown := cx.2.2.2.1
  have hts := cx.2.2.2.2.1
  have hm : h'.2.2.1 ≤ hs.2.2.1 + room_1.cells ∧ h'.2.2.2.1 ≤ hs.2.2.2.1 + room_1.slots := ⟨e1, e2⟩
  intro h H locs cells slots ls hf hS hl
  unfold fL_law_408 at hf
  refine lv_iconst (pc := 408) (v := 0) hx hb dL_law_408 rfl ?_
  exact j_lawret (pc := 409) cx hS hf hr1 hA hH0 e1 e2 dL_law_409
theorem wL_law_373 {N : Nat} {k23 : Option Nat → Option Nat → Option Nat → Int32 → jM Int32} {r : Int32} (cx : jCx p s m args meth c cL_law "WornSkinLaw" 7 ret D dA H0 hs.2.2.2.2) (e1 : h'.2.2.1 ≤ hs.2.2.1 + 774447) (e2 : h'.2.2.2.1 ≤ hs.2.2.2.1 + 6772764) (hfl : l.stackTraces = false) {b : Nat} (hr1 : r = 1) (hA : args = #[Value.ref b]) (hH0 : H0 = s.heap) (a0 : Nat) (hk23 : ∀ (x1 : Option Nat) (x2 : Option Nat) (x3 : Option Nat) (x4 : Int32), ∀ (h : jH) (H : Heap) (locs : List Loc) (cells slots : Nat) (ls : Array Slot), (k23 x1 x2 x3 x4).1 h = some (r, h') → jS D dA H0 hs h H locs cells slots → lv_has ls 7 [(0, .ref a0), (1, va_rf x1), (2, va_rf x2), (3, va_rf x3), (4, .int x4)] → W p l e room_1 s m args below meth c H locs cells slots (lw_Z below args s) (F0 m 23 ls [])) : ∀ (x1 : Option Nat) (x2 : Option Nat) (x3 : Option Nat) (x4 : Int32), ∀ (h : jH) (H : Heap) (locs : List Loc) (cells slots : Nat) (ls : Array Slot), (fL_law_373 N k23 a0 x1 x2 x3 x4).1 h = some (r, h') → jS D dA H0 hs h H locs cells slots → lv_has ls 7 [(0, .ref a0), (1, va_rf x1), (2, va_rf x2), (3, va_rf x3), (4, .int x4)] → W p l e room_1 s m args below meth c H locs cells slots (lw_Z below args s) (F0 m 373 ls []) := by
  have hx := cx.1
  have hb := cx.2.1
  have hown := cx.2.2.2.1
  have hts := cx.2.2.2.2.1
  have hm : h'.2.2.1 ≤ hs.2.2.1 + room_1.cells ∧ h'.2.2.2.1 ≤ hs.2.2.2.1 + room_1.slots := ⟨e1, e2⟩
  intro x1 x2 x3 x4 h H locs cells slots ls hf hS hl
  unfold fL_law_373 at hf
  refine j_aload_n (pc := 373) (r := x1) hx hb dL_law_373 rfl (lv_at hl 1 rfl) ?_
  refine lv_aload_n (pc := 374) hx hb dL_law_374 rfl (lv_at hl 0 rfl) ?_
  refine lv_iload (pc := 375) hx hb dL_law_375 (lv_at hl 4 rfl) ?_
  refine lv_iconst (pc := 377) (v := 1) hx hb dL_law_377 rfl ?_
  refine lv_iadd (pc := 378) hx hb dL_law_378 ?_
  refine j_aI (pc := 379) cx hS hf rfl dL_law_379 (fun y1 hf => ?_)
  refine lv_aload_n (pc := 380) hx hb dL_law_380 rfl (lv_at hl 0 rfl) ?_
  refine lv_iload (pc := 381) hx hb dL_law_381 (lv_at hl 4 rfl) ?_
  refine lv_iconst (pc := 383) (v := 2) hx hb dL_law_383 rfl ?_
  refine lv_iadd (pc := 384) hx hb dL_law_384 ?_
  refine j_aI (pc := 385) cx hS hf rfl dL_law_385 (fun y2 hf => ?_)
  obtain ⟨b4, eb, hrc, hf⟩ := jrc_s hf
  refine j_nn (pc := 386) eb [.int y2, .int y1] [] rfl ?_
  obtain ⟨y3, h1, e9, hf⟩ := jB_some hf
  refine j_callV (pc := 386) (st1 := [.int y3]) (As := [.int y1, .int y2]) (rest := []) cx hS rfl hl.1 hm (metX1_skin l _ _ _ _ _ _ _ hrc e9) (jle hf) hrc rfl (lw_V q1145 q1146 q1147 q112 q1148) pdX1_skin rfl rfl (Nat.le_of_ble_eq_true rfl) ⟨Nat.le_of_ble_eq_true rfl, Nat.le_of_ble_eq_true rfl⟩ dL_law_386 rfl (fun H locs cells slots hS => ?_)
  refine j_aload_n (pc := 389) (r := x2) hx hb dL_law_389 rfl (lv_at hl 2 rfl) ?_
  refine lv_aload_n (pc := 390) hx hb dL_law_390 rfl (lv_at hl 0 rfl) ?_
  refine lv_iload (pc := 391) hx hb dL_law_391 (lv_at hl 4 rfl) ?_
  refine lv_iconst (pc := 393) (v := 1) hx hb dL_law_393 rfl ?_
  refine lv_iadd (pc := 394) hx hb dL_law_394 ?_
  refine j_aI (pc := 395) cx hS hf rfl dL_law_395 (fun y5 hf => ?_)
  refine lv_aload_n (pc := 396) hx hb dL_law_396 rfl (lv_at hl 0 rfl) ?_
  refine lv_iload (pc := 397) hx hb dL_law_397 (lv_at hl 4 rfl) ?_
  refine lv_iconst (pc := 399) (v := 2) hx hb dL_law_399 rfl ?_
  refine lv_iadd (pc := 400) hx hb dL_law_400 ?_
  refine j_aI (pc := 401) cx hS hf rfl dL_law_401 (fun y6 hf => ?_)
  obtain ⟨b8, eb, hrc, hf⟩ := jrc_s hf
  refine j_nn (pc := 402) eb [.int y6, .int y5] [.int y3] rfl ?_
  obtain ⟨y7, h1, e9, hf⟩ := jB_some hf
  refine j_callV (pc := 402) (st1 := [.int y7, .int y3]) (As := [.int y5, .int y6]) (rest := [.int y3]) cx hS rfl hl.1 hm (metX7_skin l _ _ _ _ _ _ _ hrc e9) (jle hf) hrc rfl (lw_V q2027 q2028 q2029 q123 q2030) pdX7_skin rfl rfl (Nat.le_of_ble_eq_true rfl) ⟨Nat.le_of_ble_eq_true rfl, Nat.le_of_ble_eq_true rfl⟩ dL_law_402 rfl (fun H locs cells slots hS => ?_)
  refine lv_icmp_eq (pc := 405) (tgt := 1477) hx hb dL_law_405 (by decide) (fun hc => ?_) (fun hc => ?_)
  · have hf := jI_t hf hc
    exact wL_law_1477 cx e1 e2 hfl hr1 hA hH0 a0 hk23 _ _ _ _ _ _ _ _ _ _ hf hS hl
  · have hf := jI_f hf hc
    exact wL_law_408 cx e1 e2 hfl hr1 hA hH0 a0 _ _ _ _ _ _ hf hS (lv_sub hl [0] rfl)
theorem wL_law_371 {N : Nat} {r : Int32} (cx : jCx p s m args meth c cL_law "WornSkinLaw" 7 ret D dA H0 hs.2.2.2.2) (e1 : h'.2.2.1 ≤ hs.2.2.1 + 774447) (e2 : h'.2.2.2.1 ≤ hs.2.2.2.1 + 6772764) (hfl : l.stackTraces = false) {b : Nat} (hr1 : r = 1) (hA : args = #[Value.ref b]) (hH0 : H0 = s.heap) (a0 : Nat) : ∀ (h : jH) (H : Heap) (locs : List Loc) (cells slots : Nat) (ls : Array Slot), (fL_law_371 N a0).1 h = some (r, h') → jS D dA H0 hs h H locs cells slots → lv_has ls 7 [(0, .ref a0)] → W p l e room_1 s m args below meth c H locs cells slots (lw_Z below args s) (F0 m 371 ls []) := by
  have hx := cx.1
  have hb := cx.2.1
  have hown := cx.2.2.2.1
  have hts := cx.2.2.2.2.1
  have hm : h'.2.2.1 ≤ hs.2.2.1 + room_1.cells ∧ h'.2.2.2.1 ≤ hs.2.2.2.1 + room_1.slots := ⟨e1, e2⟩
  intro h H locs cells slots ls hf hS hl
  unfold fL_law_371 at hf
  refine lv_iconst (pc := 371) (v := 0) hx hb dL_law_371 rfl ?_
  exact j_lawret (pc := 372) cx hS hf hr1 hA hH0 e1 e2 dL_law_372
theorem wL_law_360 {N : Nat} {k23 : Option Nat → Option Nat → Option Nat → Int32 → jM Int32} {r : Int32} (cx : jCx p s m args meth c cL_law "WornSkinLaw" 7 ret D dA H0 hs.2.2.2.2) (e1 : h'.2.2.1 ≤ hs.2.2.1 + 774447) (e2 : h'.2.2.2.1 ≤ hs.2.2.2.1 + 6772764) (hfl : l.stackTraces = false) {b : Nat} (hr1 : r = 1) (hA : args = #[Value.ref b]) (hH0 : H0 = s.heap) (a0 : Nat) (hk23 : ∀ (x1 : Option Nat) (x2 : Option Nat) (x3 : Option Nat) (x4 : Int32), ∀ (h : jH) (H : Heap) (locs : List Loc) (cells slots : Nat) (ls : Array Slot), (k23 x1 x2 x3 x4).1 h = some (r, h') → jS D dA H0 hs h H locs cells slots → lv_has ls 7 [(0, .ref a0), (1, va_rf x1), (2, va_rf x2), (3, va_rf x3), (4, .int x4)] → W p l e room_1 s m args below meth c H locs cells slots (lw_Z below args s) (F0 m 23 ls [])) : ∀ (x1 : Option Nat) (x2 : Option Nat) (x3 : Option Nat) (x4 : Int32), ∀ (h : jH) (H : Heap) (locs : List Loc) (cells slots : Nat) (ls : Array Slot), (fL_law_360 N k23 a0 x1 x2 x3 x4).1 h = some (r, h') → jS D dA H0 hs h H locs cells slots → lv_has ls 7 [(0, .ref a0), (1, va_rf x1), (2, va_rf x2), (3, va_rf x3), (4, .int x4)] → W p l e room_1 s m args below meth c H locs cells slots (lw_Z below args s) (F0 m 360 ls []) := by
  have hx := cx.1
  have hb := cx.2.1
  have hown := cx.2.2.2.1
  have hts := cx.2.2.2.2.1
  have hm : h'.2.2.1 ≤ hs.2.2.1 + room_1.cells ∧ h'.2.2.2.1 ≤ hs.2.2.2.1 + room_1.slots := ⟨e1, e2⟩
  intro x1 x2 x3 x4 h H locs cells slots ls hf hS hl
  unfold fL_law_360 at hf
  refine j_aload_n (pc := 360) (r := x1) hx hb dL_law_360 rfl (lv_at hl 1 rfl) ?_
  obtain ⟨b2, eb, hrc, hf⟩ := jrc_s hf
  refine j_nn (pc := 361) eb [] [] rfl ?_
  obtain ⟨y1, h1, e9, hf⟩ := jB_some hf
  refine j_callVW (pc := 361) (st1 := [.int y1]) (As := []) (rest := []) cx hS rfl hl.1 hm (metX1_year l hfl _ _ _ _ _ hrc e9) (jle hf) hrc rfl q1091 q1089 q1090 q1088 q112 pdX1_year rfl rfl (Nat.le_of_ble_eq_true rfl) ⟨Nat.le_of_ble_eq_true rfl, Nat.le_of_ble_eq_true rfl⟩ dL_law_361 rfl (fun H locs cells slots hS => ?_)
  refine j_aload_n (pc := 364) (r := x2) hx hb dL_law_364 rfl (lv_at hl 2 rfl) ?_
  obtain ⟨b4, eb, hrc, hf⟩ := jrc_s hf
  refine j_nn (pc := 365) eb [] [.int y1] rfl ?_
  obtain ⟨y3, h1, e9, hf⟩ := jB_some hf
  refine j_callV (pc := 365) (st1 := [.int y3, .int y1]) (As := []) (rest := [.int y1]) cx hS rfl hl.1 hm (metX7_year l _ _ _ _ _ hrc e9) (jle hf) hrc rfl (lw_V q2011 q2012 q2013 q123 q2014) pdX7_year rfl rfl (Nat.le_of_ble_eq_true rfl) ⟨Nat.le_of_ble_eq_true rfl, Nat.le_of_ble_eq_true rfl⟩ dL_law_365 rfl (fun H locs cells slots hS => ?_)
  refine lv_icmp_eq (pc := 368) (tgt := 1477) hx hb dL_law_368 (by decide) (fun hc => ?_) (fun hc => ?_)
  · have hf := jI_t hf hc
    exact wL_law_1477 cx e1 e2 hfl hr1 hA hH0 a0 hk23 _ _ _ _ _ _ _ _ _ _ hf hS hl
  · have hf := jI_f hf hc
    exact wL_law_371 cx e1 e2 hfl hr1 hA hH0 a0 _ _ _ _ _ _ hf hS (lv_sub hl [0] rfl)
theorem wL_law_358 {N : Nat} {r : Int32} (cx : jCx p s m args meth c cL_law "WornSkinLaw" 7 ret D dA H0 hs.2.2.2.2) (e1 : h'.2.2.1 ≤ hs.2.2.1 + 774447) (e2 : h'.2.2.2.1 ≤ hs.2.2.2.1 + 6772764) (hfl : l.stackTraces = false) {b : Nat} (hr1 : r = 1) (hA : args = #[Value.ref b]) (hH0 : H0 = s.heap) (a0 : Nat) : ∀ (h : jH) (H : Heap) (locs : List Loc) (cells slots : Nat) (ls : Array Slot), (fL_law_358 N a0).1 h = some (r, h') → jS D dA H0 hs h H locs cells slots → lv_has ls 7 [(0, .ref a0)] → W p l e room_1 s m args below meth c H locs cells slots (lw_Z below args s) (F0 m 358 ls []) := by
  have hx := cx.1
  have hb := cx.2.1
  have hown := cx.2.2.2.1
  have hts := cx.2.2.2.2.1
  have hm : h'.2.2.1 ≤ hs.2.2.1 + room_1.cells ∧ h'.2.2.2.1 ≤ hs.2.2.2.1 + room_1.slots := ⟨e1, e2⟩
  intro h H locs cells slots ls hf hS hl
  unfold fL_law_358 at hf
  refine lv_iconst (pc := 358) (v := 0) hx hb dL_law_358 rfl ?_
  exact j_lawret (pc := 359) cx hS hf hr1 hA hH0 e1 e2 dL_law_359
theorem wL_law_347 {N : Nat} {k23 : Option Nat → Option Nat → Option Nat → Int32 → jM Int32} {r : Int32} (cx : jCx p s m args meth c cL_law "WornSkinLaw" 7 ret D dA H0 hs.2.2.2.2) (e1 : h'.2.2.1 ≤ hs.2.2.1 + 774447) (e2 : h'.2.2.2.1 ≤ hs.2.2.2.1 + 6772764) (hfl : l.stackTraces = false) {b : Nat} (hr1 : r = 1) (hA : args = #[Value.ref b]) (hH0 : H0 = s.heap) (a0 : Nat) (hk23 : ∀ (x1 : Option Nat) (x2 : Option Nat) (x3 : Option Nat) (x4 : Int32), ∀ (h : jH) (H : Heap) (locs : List Loc) (cells slots : Nat) (ls : Array Slot), (k23 x1 x2 x3 x4).1 h = some (r, h') → jS D dA H0 hs h H locs cells slots → lv_has ls 7 [(0, .ref a0), (1, va_rf x1), (2, va_rf x2), (3, va_rf x3), (4, .int x4)] → W p l e room_1 s m args below meth c H locs cells slots (lw_Z below args s) (F0 m 23 ls [])) : ∀ (x1 : Option Nat) (x2 : Option Nat) (x3 : Option Nat) (x4 : Int32), ∀ (h : jH) (H : Heap) (locs : List Loc) (cells slots : Nat) (ls : Array Slot), (fL_law_347 N k23 a0 x1 x2 x3 x4).1 h = some (r, h') → jS D dA H0 hs h H locs cells slots → lv_has ls 7 [(0, .ref a0), (1, va_rf x1), (2, va_rf x2), (3, va_rf x3), (4, .int x4)] → W p l e room_1 s m args below meth c H locs cells slots (lw_Z below args s) (F0 m 347 ls []) := by
  have hx := cx.1
  have hb := cx.2.1
  have hown := cx.2.2.2.1
  have hts := cx.2.2.2.2.1
  have hm : h'.2.2.1 ≤ hs.2.2.1 + room_1.cells ∧ h'.2.2.2.1 ≤ hs.2.2.2.1 + room_1.slots := ⟨e1, e2⟩
  intro x1 x2 x3 x4 h H locs cells slots ls hf hS hl
  unfold fL_law_347 at hf
  refine j_aload_n (pc := 347) (r := x1) hx hb dL_law_347 rfl (lv_at hl 1 rfl) ?_
  obtain ⟨b2, eb, hrc, hf⟩ := jrc_s hf
  refine j_nn (pc := 348) eb [] [] rfl ?_
  obtain ⟨y1, h1, e9, hf⟩ := jB_some hf
  refine j_callVW (pc := 348) (st1 := [.int y1]) (As := []) (rest := []) cx hS rfl hl.1 hm (metX1_library l hfl _ _ _ _ _ hrc e9) (jle hf) hrc rfl q473 q471 q472 q470 q112 pdX1_library rfl rfl (Nat.le_of_ble_eq_true rfl) ⟨Nat.le_of_ble_eq_true rfl, Nat.le_of_ble_eq_true rfl⟩ dL_law_348 rfl (fun H locs cells slots hS => ?_)
  refine j_aload_n (pc := 351) (r := x2) hx hb dL_law_351 rfl (lv_at hl 2 rfl) ?_
  obtain ⟨b4, eb, hrc, hf⟩ := jrc_s hf
  refine j_nn (pc := 352) eb [] [.int y1] rfl ?_
  obtain ⟨y3, h1, e9, hf⟩ := jB_some hf
  refine j_callV (pc := 352) (st1 := [.int y3, .int y1]) (As := []) (rest := [.int y1]) cx hS rfl hl.1 hm (metX7_library l _ _ _ _ _ hrc e9) (jle hf) hrc rfl (lw_V q1872 q1873 q1874 q123 q1875) pdX7_library rfl rfl (Nat.le_of_ble_eq_true rfl) ⟨Nat.le_of_ble_eq_true rfl, Nat.le_of_ble_eq_true rfl⟩ dL_law_352 rfl (fun H locs cells slots hS => ?_)
  refine lv_icmp_eq (pc := 355) (tgt := 1477) hx hb dL_law_355 (by decide) (fun hc => ?_) (fun hc => ?_)
  · have hf := jI_t hf hc
    exact wL_law_1477 cx e1 e2 hfl hr1 hA hH0 a0 hk23 _ _ _ _ _ _ _ _ _ _ hf hS hl
  · have hf := jI_f hf hc
    exact wL_law_358 cx e1 e2 hfl hr1 hA hH0 a0 _ _ _ _ _ _ hf hS (lv_sub hl [0] rfl)
theorem wL_law_345 {N : Nat} {r : Int32} (cx : jCx p s m args meth c cL_law "WornSkinLaw" 7 ret D dA H0 hs.2.2.2.2) (e1 : h'.2.2.1 ≤ hs.2.2.1 + 774447) (e2 : h'.2.2.2.1 ≤ hs.2.2.2.1 + 6772764) (hfl : l.stackTraces = false) {b : Nat} (hr1 : r = 1) (hA : args = #[Value.ref b]) (hH0 : H0 = s.heap) (a0 : Nat) : ∀ (h : jH) (H : Heap) (locs : List Loc) (cells slots : Nat) (ls : Array Slot), (fL_law_345 N a0).1 h = some (r, h') → jS D dA H0 hs h H locs cells slots → lv_has ls 7 [(0, .ref a0)] → W p l e room_1 s m args below meth c H locs cells slots (lw_Z below args s) (F0 m 345 ls []) := by
  have hx := cx.1
  have hb := cx.2.1
  have hown := cx.2.2.2.1
  have hts := cx.2.2.2.2.1
  have hm : h'.2.2.1 ≤ hs.2.2.1 + room_1.cells ∧ h'.2.2.2.1 ≤ hs.2.2.2.1 + room_1.slots := ⟨e1, e2⟩
  intro h H locs cells slots ls hf hS hl
  unfold fL_law_345 at hf
  refine lv_iconst (pc := 345) (v := 0) hx hb dL_law_345 rfl ?_
  exact j_lawret (pc := 346) cx hS hf hr1 hA hH0 e1 e2 dL_law_346
theorem wL_law_200 {N : Nat} {k23 : Option Nat → Option Nat → Option Nat → Int32 → jM Int32} {r : Int32} (cx : jCx p s m args meth c cL_law "WornSkinLaw" 7 ret D dA H0 hs.2.2.2.2) (e1 : h'.2.2.1 ≤ hs.2.2.1 + 774447) (e2 : h'.2.2.2.1 ≤ hs.2.2.2.1 + 6772764) (hfl : l.stackTraces = false) {b : Nat} (hr1 : r = 1) (hA : args = #[Value.ref b]) (hH0 : H0 = s.heap) (a0 : Nat) (hk23 : ∀ (x1 : Option Nat) (x2 : Option Nat) (x3 : Option Nat) (x4 : Int32), ∀ (h : jH) (H : Heap) (locs : List Loc) (cells slots : Nat) (ls : Array Slot), (k23 x1 x2 x3 x4).1 h = some (r, h') → jS D dA H0 hs h H locs cells slots → lv_has ls 7 [(0, .ref a0), (1, va_rf x1), (2, va_rf x2), (3, va_rf x3), (4, .int x4)] → W p l e room_1 s m args below meth c H locs cells slots (lw_Z below args s) (F0 m 23 ls [])) : ∀ (x1 : Option Nat) (x2 : Option Nat) (x3 : Option Nat) (x4 : Int32), ∀ (h : jH) (H : Heap) (locs : List Loc) (cells slots : Nat) (ls : Array Slot), (fL_law_200 N k23 a0 x1 x2 x3 x4).1 h = some (r, h') → jS D dA H0 hs h H locs cells slots → lv_has ls 7 [(0, .ref a0), (1, va_rf x1), (2, va_rf x2), (3, va_rf x3), (4, .int x4)] → W p l e room_1 s m args below meth c H locs cells slots (lw_Z below args s) (F0 m 200 ls []) := by
  have hx := cx.1
  have hb := cx.2.1
  have hown := cx.2.2.2.1
  have hts := cx.2.2.2.2.1
  have hm : h'.2.2.1 ≤ hs.2.2.1 + room_1.cells ∧ h'.2.2.2.1 ≤ hs.2.2.2.1 + room_1.slots := ⟨e1, e2⟩
  intro x1 x2 x3 x4 h H locs cells slots ls hf hS hl
  unfold fL_law_200 at hf
  refine j_aload_n (pc := 200) (r := x1) hx hb dL_law_200 rfl (lv_at hl 1 rfl) ?_
  refine lv_aload_n (pc := 201) hx hb dL_law_201 rfl (lv_at hl 0 rfl) ?_
  refine lv_iload (pc := 202) hx hb dL_law_202 (lv_at hl 4 rfl) ?_
  refine lv_iconst (pc := 204) (v := 1) hx hb dL_law_204 rfl ?_
  refine lv_iadd (pc := 205) hx hb dL_law_205 ?_
  refine j_aI (pc := 206) cx hS hf rfl dL_law_206 (fun y1 hf => ?_)
  refine lv_i2l (pc := 207) (v := y1.toInt64) hx hb dL_law_207 rfl ?_
  refine lv_bipush (pc := 208) (v := 32) hx hb dL_law_208 rfl ?_
  refine lv_lshl (pc := 210) (v := ((y1.toInt64) <<< ((32 : Int32).toInt64 &&& 63))) hx hb dL_law_210 rfl ?_
  refine lv_aload_n (pc := 211) hx hb dL_law_211 rfl (lv_at hl 0 rfl) ?_
  refine lv_iload (pc := 212) hx hb dL_law_212 (lv_at hl 4 rfl) ?_
  refine lv_iconst (pc := 214) (v := 2) hx hb dL_law_214 rfl ?_
  refine lv_iadd (pc := 215) hx hb dL_law_215 ?_
  refine j_aI (pc := 216) cx hS hf rfl dL_law_216 (fun y2 hf => ?_)
  refine lv_i2l (pc := 217) (v := y2.toInt64) hx hb dL_law_217 rfl ?_
  refine lv_ldc2 (pc := 218) (v := 4294967295) hx hb hown (hts _ q2308) dL_law_218 ?_
  refine lv_land (pc := 221) hx hb dL_law_221 ?_
  refine lv_lor (pc := 222) hx hb dL_law_222 ?_
  refine lv_aload_n (pc := 223) hx hb dL_law_223 rfl (lv_at hl 0 rfl) ?_
  refine lv_iload (pc := 224) hx hb dL_law_224 (lv_at hl 4 rfl) ?_
  refine lv_iconst (pc := 226) (v := 3) hx hb dL_law_226 rfl ?_
  refine lv_iadd (pc := 227) hx hb dL_law_227 ?_
  refine j_aI (pc := 228) cx hS hf rfl dL_law_228 (fun y3 hf => ?_)
  refine lv_i2l (pc := 229) (v := y3.toInt64) hx hb dL_law_229 rfl ?_
  refine lv_bipush (pc := 230) (v := 32) hx hb dL_law_230 rfl ?_
  refine lv_lshl (pc := 232) (v := ((y3.toInt64) <<< ((32 : Int32).toInt64 &&& 63))) hx hb dL_law_232 rfl ?_
  refine lv_aload_n (pc := 233) hx hb dL_law_233 rfl (lv_at hl 0 rfl) ?_
  refine lv_iload (pc := 234) hx hb dL_law_234 (lv_at hl 4 rfl) ?_
  refine lv_iconst (pc := 236) (v := 4) hx hb dL_law_236 rfl ?_
  refine lv_iadd (pc := 237) hx hb dL_law_237 ?_
  refine j_aI (pc := 238) cx hS hf rfl dL_law_238 (fun y4 hf => ?_)
  refine lv_i2l (pc := 239) (v := y4.toInt64) hx hb dL_law_239 rfl ?_
  refine lv_ldc2 (pc := 240) (v := 4294967295) hx hb hown (hts _ q2308) dL_law_240 ?_
  refine lv_land (pc := 243) hx hb dL_law_243 ?_
  refine lv_lor (pc := 244) hx hb dL_law_244 ?_
  refine lv_aload_n (pc := 245) hx hb dL_law_245 rfl (lv_at hl 0 rfl) ?_
  refine lv_iload (pc := 246) hx hb dL_law_246 (lv_at hl 4 rfl) ?_
  refine lv_iconst (pc := 248) (v := 5) hx hb dL_law_248 rfl ?_
  refine lv_iadd (pc := 249) hx hb dL_law_249 ?_
  refine j_aI (pc := 250) cx hS hf rfl dL_law_250 (fun y5 hf => ?_)
  refine lv_i2l (pc := 251) (v := y5.toInt64) hx hb dL_law_251 rfl ?_
  refine lv_bipush (pc := 252) (v := 32) hx hb dL_law_252 rfl ?_
  refine lv_lshl (pc := 254) (v := ((y5.toInt64) <<< ((32 : Int32).toInt64 &&& 63))) hx hb dL_law_254 rfl ?_
  refine lv_aload_n (pc := 255) hx hb dL_law_255 rfl (lv_at hl 0 rfl) ?_
  refine lv_iload (pc := 256) hx hb dL_law_256 (lv_at hl 4 rfl) ?_
  refine lv_bipush (pc := 258) (v := 6) hx hb dL_law_258 rfl ?_
  refine lv_iadd (pc := 260) hx hb dL_law_260 ?_
  refine j_aI (pc := 261) cx hS hf rfl dL_law_261 (fun y6 hf => ?_)
  refine lv_i2l (pc := 262) (v := y6.toInt64) hx hb dL_law_262 rfl ?_
  refine lv_ldc2 (pc := 263) (v := 4294967295) hx hb hown (hts _ q2308) dL_law_263 ?_
  refine lv_land (pc := 266) hx hb dL_law_266 ?_
  refine lv_lor (pc := 267) hx hb dL_law_267 ?_
  obtain ⟨b8, eb, hrc, hf⟩ := jrc_s hf
  refine j_nn (pc := 268) eb [.long (((y5.toInt64) <<< ((32 : Int32).toInt64 &&& 63)) ||| ((y6.toInt64) &&& 4294967295)), .long (((y3.toInt64) <<< ((32 : Int32).toInt64 &&& 63)) ||| ((y4.toInt64) &&& 4294967295)), .long (((y1.toInt64) <<< ((32 : Int32).toInt64 &&& 63)) ||| ((y2.toInt64) &&& 4294967295))] [] rfl ?_
  obtain ⟨y7, h1, e9, hf⟩ := jB_some hf
  refine j_callV (pc := 268) (st1 := [.int y7]) (As := [.long (((y1.toInt64) <<< ((32 : Int32).toInt64 &&& 63)) ||| ((y2.toInt64) &&& 4294967295)), .long (((y3.toInt64) <<< ((32 : Int32).toInt64 &&& 63)) ||| ((y4.toInt64) &&& 4294967295)), .long (((y5.toInt64) <<< ((32 : Int32).toInt64 &&& 63)) ||| ((y6.toInt64) &&& 4294967295))]) (rest := []) cx hS rfl hl.1 hm (metX1_feed l _ _ _ _ _ _ _ _ hrc e9) (jle hf) hrc rfl (lw_V q458 q459 q460 q112 q461) pdX1_feed rfl rfl (Nat.le_of_ble_eq_true rfl) ⟨Nat.le_of_ble_eq_true rfl, Nat.le_of_ble_eq_true rfl⟩ dL_law_268 rfl (fun H locs cells slots hS => ?_)
  refine j_aload_n (pc := 271) (r := x2) hx hb dL_law_271 rfl (lv_at hl 2 rfl) ?_
  refine lv_aload_n (pc := 272) hx hb dL_law_272 rfl (lv_at hl 0 rfl) ?_
  refine lv_iload (pc := 273) hx hb dL_law_273 (lv_at hl 4 rfl) ?_
  refine lv_iconst (pc := 275) (v := 1) hx hb dL_law_275 rfl ?_
  refine lv_iadd (pc := 276) hx hb dL_law_276 ?_
  refine j_aI (pc := 277) cx hS hf rfl dL_law_277 (fun y9 hf => ?_)
  refine lv_i2l (pc := 278) (v := y9.toInt64) hx hb dL_law_278 rfl ?_
  refine lv_bipush (pc := 279) (v := 32) hx hb dL_law_279 rfl ?_
  refine lv_lshl (pc := 281) (v := ((y9.toInt64) <<< ((32 : Int32).toInt64 &&& 63))) hx hb dL_law_281 rfl ?_
  refine lv_aload_n (pc := 282) hx hb dL_law_282 rfl (lv_at hl 0 rfl) ?_
  refine lv_iload (pc := 283) hx hb dL_law_283 (lv_at hl 4 rfl) ?_
  refine lv_iconst (pc := 285) (v := 2) hx hb dL_law_285 rfl ?_
  refine lv_iadd (pc := 286) hx hb dL_law_286 ?_
  refine j_aI (pc := 287) cx hS hf rfl dL_law_287 (fun y10 hf => ?_)
  refine lv_i2l (pc := 288) (v := y10.toInt64) hx hb dL_law_288 rfl ?_
  refine lv_ldc2 (pc := 289) (v := 4294967295) hx hb hown (hts _ q2308) dL_law_289 ?_
  refine lv_land (pc := 292) hx hb dL_law_292 ?_
  refine lv_lor (pc := 293) hx hb dL_law_293 ?_
  refine lv_aload_n (pc := 294) hx hb dL_law_294 rfl (lv_at hl 0 rfl) ?_
  refine lv_iload (pc := 295) hx hb dL_law_295 (lv_at hl 4 rfl) ?_
  refine lv_iconst (pc := 297) (v := 3) hx hb dL_law_297 rfl ?_
  refine lv_iadd (pc := 298) hx hb dL_law_298 ?_
  refine j_aI (pc := 299) cx hS hf rfl dL_law_299 (fun y11 hf => ?_)
  refine lv_i2l (pc := 300) (v := y11.toInt64) hx hb dL_law_300 rfl ?_
  refine lv_bipush (pc := 301) (v := 32) hx hb dL_law_301 rfl ?_
  refine lv_lshl (pc := 303) (v := ((y11.toInt64) <<< ((32 : Int32).toInt64 &&& 63))) hx hb dL_law_303 rfl ?_
  refine lv_aload_n (pc := 304) hx hb dL_law_304 rfl (lv_at hl 0 rfl) ?_
  refine lv_iload (pc := 305) hx hb dL_law_305 (lv_at hl 4 rfl) ?_
  refine lv_iconst (pc := 307) (v := 4) hx hb dL_law_307 rfl ?_
  refine lv_iadd (pc := 308) hx hb dL_law_308 ?_
  refine j_aI (pc := 309) cx hS hf rfl dL_law_309 (fun y12 hf => ?_)
  refine lv_i2l (pc := 310) (v := y12.toInt64) hx hb dL_law_310 rfl ?_
  refine lv_ldc2 (pc := 311) (v := 4294967295) hx hb hown (hts _ q2308) dL_law_311 ?_
  refine lv_land (pc := 314) hx hb dL_law_314 ?_
  refine lv_lor (pc := 315) hx hb dL_law_315 ?_
  refine lv_aload_n (pc := 316) hx hb dL_law_316 rfl (lv_at hl 0 rfl) ?_
  refine lv_iload (pc := 317) hx hb dL_law_317 (lv_at hl 4 rfl) ?_
  refine lv_iconst (pc := 319) (v := 5) hx hb dL_law_319 rfl ?_
  refine lv_iadd (pc := 320) hx hb dL_law_320 ?_
  refine j_aI (pc := 321) cx hS hf rfl dL_law_321 (fun y13 hf => ?_)
  refine lv_i2l (pc := 322) (v := y13.toInt64) hx hb dL_law_322 rfl ?_
  refine lv_bipush (pc := 323) (v := 32) hx hb dL_law_323 rfl ?_
  refine lv_lshl (pc := 325) (v := ((y13.toInt64) <<< ((32 : Int32).toInt64 &&& 63))) hx hb dL_law_325 rfl ?_
  refine lv_aload_n (pc := 326) hx hb dL_law_326 rfl (lv_at hl 0 rfl) ?_
  refine lv_iload (pc := 327) hx hb dL_law_327 (lv_at hl 4 rfl) ?_
  refine lv_bipush (pc := 329) (v := 6) hx hb dL_law_329 rfl ?_
  refine lv_iadd (pc := 331) hx hb dL_law_331 ?_
  refine j_aI (pc := 332) cx hS hf rfl dL_law_332 (fun y14 hf => ?_)
  refine lv_i2l (pc := 333) (v := y14.toInt64) hx hb dL_law_333 rfl ?_
  refine lv_ldc2 (pc := 334) (v := 4294967295) hx hb hown (hts _ q2308) dL_law_334 ?_
  refine lv_land (pc := 337) hx hb dL_law_337 ?_
  refine lv_lor (pc := 338) hx hb dL_law_338 ?_
  obtain ⟨b16, eb, hrc, hf⟩ := jrc_s hf
  refine j_nn (pc := 339) eb [.long (((y13.toInt64) <<< ((32 : Int32).toInt64 &&& 63)) ||| ((y14.toInt64) &&& 4294967295)), .long (((y11.toInt64) <<< ((32 : Int32).toInt64 &&& 63)) ||| ((y12.toInt64) &&& 4294967295)), .long (((y9.toInt64) <<< ((32 : Int32).toInt64 &&& 63)) ||| ((y10.toInt64) &&& 4294967295))] [.int y7] rfl ?_
  obtain ⟨y15, h1, e9, hf⟩ := jB_some hf
  refine j_callV (pc := 339) (st1 := [.int y15, .int y7]) (As := [.long (((y9.toInt64) <<< ((32 : Int32).toInt64 &&& 63)) ||| ((y10.toInt64) &&& 4294967295)), .long (((y11.toInt64) <<< ((32 : Int32).toInt64 &&& 63)) ||| ((y12.toInt64) &&& 4294967295)), .long (((y13.toInt64) <<< ((32 : Int32).toInt64 &&& 63)) ||| ((y14.toInt64) &&& 4294967295))]) (rest := [.int y7]) cx hS rfl hl.1 hm (metX7_feed l _ _ _ _ _ _ _ _ hrc e9) (jle hf) hrc rfl (lw_V q1867 q1868 q1869 q123 q1870) pdX7_feed rfl rfl (Nat.le_of_ble_eq_true rfl) ⟨Nat.le_of_ble_eq_true rfl, Nat.le_of_ble_eq_true rfl⟩ dL_law_339 rfl (fun H locs cells slots hS => ?_)
  refine lv_icmp_eq (pc := 342) (tgt := 1477) hx hb dL_law_342 (by decide) (fun hc => ?_) (fun hc => ?_)
  · have hf := jI_t hf hc
    exact wL_law_1477 cx e1 e2 hfl hr1 hA hH0 a0 hk23 _ _ _ _ _ _ _ _ _ _ hf hS hl
  · have hf := jI_f hf hc
    exact wL_law_345 cx e1 e2 hfl hr1 hA hH0 a0 _ _ _ _ _ _ hf hS (lv_sub hl [0] rfl)
theorem wL_law_23 {N : Nat} {r : Int32} (cx : jCx p s m args meth c cL_law "WornSkinLaw" 7 ret D dA H0 hs.2.2.2.2) (e1 : h'.2.2.1 ≤ hs.2.2.1 + 774447) (e2 : h'.2.2.2.1 ≤ hs.2.2.2.1 + 6772764) (hfl : l.stackTraces = false) {b : Nat} (hr1 : r = 1) (hA : args = #[Value.ref b]) (hH0 : H0 = s.heap) (a0 : Nat) : ∀ (n : Nat) (x1 : Option Nat) (x2 : Option Nat) (x3 : Option Nat) (x4 : Int32), ∀ (h : jH) (H : Heap) (locs : List Loc) (cells slots : Nat) (ls : Array Slot), (fL_law_23 N a0 n x1 x2 x3 x4).1 h = some (r, h') → jS D dA H0 hs h H locs cells slots → lv_has ls 7 [(0, .ref a0), (1, va_rf x1), (2, va_rf x2), (3, va_rf x3), (4, .int x4)] → W p l e room_1 s m args below meth c H locs cells slots (lw_Z below args s) (F0 m 23 ls []) := by
  have hx := cx.1
  have hb := cx.2.1
  have hown := cx.2.2.2.1
  have hts := cx.2.2.2.2.1
  have hm : h'.2.2.1 ≤ hs.2.2.1 + room_1.cells ∧ h'.2.2.2.1 ≤ hs.2.2.2.1 + room_1.slots := ⟨e1, e2⟩
  intro n
  induction n with
  | zero =>
    intro x1 x2 x3 x4 h H locs cells slots ls hf hS hl
    exact jE_f hf
  | succ n ih =>
    intro x1 x2 x3 x4 h H locs cells slots ls hf hS hl
    unfold fL_law_23 at hf
    refine lv_iload (pc := 23) hx hb dL_law_23 (lv_at hl 4 rfl) ?_
    refine lv_aload_n (pc := 25) hx hb dL_law_25 rfl (lv_at hl 0 rfl) ?_
    refine j_ln (pc := 26) cx hS hf dL_law_26 (fun y1 hf => ?_)
    refine lv_bipush (pc := 27) (v := 7) hx hb dL_law_27 rfl ?_
    refine lv_isub (pc := 29) hx hb dL_law_29 ?_
    refine lv_icmp_gt (pc := 30) (tgt := 1483) hx hb dL_law_30 (by decide) (fun hc => ?_) (fun hc => ?_)
    · have hf := jI_t hf hc
      exact wL_law_1483 cx e1 e2 hfl hr1 hA hH0 a0 _ _ _ _ _ _ hf hS (lv_sub hl [0] rfl)
    · have hf := jI_f hf hc
      refine lv_aload_n (pc := 33) hx hb dL_law_33 rfl (lv_at hl 0 rfl) ?_
      refine lv_iload (pc := 34) hx hb dL_law_34 (lv_at hl 4 rfl) ?_
      refine j_aI (pc := 36) cx hS hf rfl dL_law_36 (fun y2 hf => ?_)
      refine lv_bipush (pc := 37) (v := 63) hx hb dL_law_37 rfl ?_
      refine lv_iand (pc := 39) hx hb dL_law_39 ?_
      by_cases hc0 : (y2 &&& 63) = 0
      · have hf := jI_t hf hc0
        refine lv_tableIn (pc := 40) (off := 160) (tgt := 200) hx hb dL_law_40 (by rw [hc0]; decide) (by rw [hc0]; decide) (by rw [hc0]; rfl) (by decide) ?_
        exact wL_law_200 cx e1 e2 hfl hr1 hA hH0 a0 ih _ _ _ _ _ _ _ _ _ _ hf hS hl
      have hf := jI_f hf hc0
      by_cases hc1 : (y2 &&& 63) = 1
      · have hf := jI_t hf hc1
        refine lv_tableIn (pc := 40) (off := 307) (tgt := 347) hx hb dL_law_40 (by rw [hc1]; decide) (by rw [hc1]; decide) (by rw [hc1]; rfl) (by decide) ?_
        exact wL_law_347 cx e1 e2 hfl hr1 hA hH0 a0 ih _ _ _ _ _ _ _ _ _ _ hf hS hl
      have hf := jI_f hf hc1
      by_cases hc2 : (y2 &&& 63) = 2
      · have hf := jI_t hf hc2
        refine lv_tableIn (pc := 40) (off := 320) (tgt := 360) hx hb dL_law_40 (by rw [hc2]; decide) (by rw [hc2]; decide) (by rw [hc2]; rfl) (by decide) ?_
        exact wL_law_360 cx e1 e2 hfl hr1 hA hH0 a0 ih _ _ _ _ _ _ _ _ _ _ hf hS hl
      have hf := jI_f hf hc2
      by_cases hc3 : (y2 &&& 63) = 3
      · have hf := jI_t hf hc3
        refine lv_tableIn (pc := 40) (off := 333) (tgt := 373) hx hb dL_law_40 (by rw [hc3]; decide) (by rw [hc3]; decide) (by rw [hc3]; rfl) (by decide) ?_
        exact wL_law_373 cx e1 e2 hfl hr1 hA hH0 a0 ih _ _ _ _ _ _ _ _ _ _ hf hS hl
      have hf := jI_f hf hc3
      by_cases hc4 : (y2 &&& 63) = 4
      · have hf := jI_t hf hc4
        refine lv_tableIn (pc := 40) (off := 370) (tgt := 410) hx hb dL_law_40 (by rw [hc4]; decide) (by rw [hc4]; decide) (by rw [hc4]; rfl) (by decide) ?_
        exact wL_law_410 cx e1 e2 hfl hr1 hA hH0 a0 ih _ _ _ _ _ _ _ _ _ _ hf hS hl
      have hf := jI_f hf hc4
      by_cases hc5 : (y2 &&& 63) = 5
      · have hf := jI_t hf hc5
        refine lv_tableIn (pc := 40) (off := 407) (tgt := 447) hx hb dL_law_40 (by rw [hc5]; decide) (by rw [hc5]; decide) (by rw [hc5]; rfl) (by decide) ?_
        exact wL_law_447 cx e1 e2 hfl hr1 hA hH0 a0 ih _ _ _ _ _ _ _ _ _ _ hf hS hl
      have hf := jI_f hf hc5
      by_cases hc6 : (y2 &&& 63) = 6
      · have hf := jI_t hf hc6
        refine lv_tableIn (pc := 40) (off := 444) (tgt := 484) hx hb dL_law_40 (by rw [hc6]; decide) (by rw [hc6]; decide) (by rw [hc6]; rfl) (by decide) ?_
        exact wL_law_484 cx e1 e2 hfl hr1 hA hH0 a0 ih _ _ _ _ _ _ _ _ _ _ hf hS hl
      have hf := jI_f hf hc6
      by_cases hc7 : (y2 &&& 63) = 7
      · have hf := jI_t hf hc7
        refine lv_tableIn (pc := 40) (off := 493) (tgt := 533) hx hb dL_law_40 (by rw [hc7]; decide) (by rw [hc7]; decide) (by rw [hc7]; rfl) (by decide) ?_
        exact wL_law_533 cx e1 e2 hfl hr1 hA hH0 a0 ih _ _ _ _ _ _ _ _ _ _ hf hS hl
      have hf := jI_f hf hc7
      by_cases hc8 : (y2 &&& 63) = 8
      · have hf := jI_t hf hc8
        refine lv_tableIn (pc := 40) (off := 530) (tgt := 570) hx hb dL_law_40 (by rw [hc8]; decide) (by rw [hc8]; decide) (by rw [hc8]; rfl) (by decide) ?_
        exact wL_law_570 cx e1 e2 hfl hr1 hA hH0 a0 ih _ _ _ _ _ _ _ _ _ _ hf hS hl
      have hf := jI_f hf hc8
      by_cases hc9 : (y2 &&& 63) = 9
      · have hf := jI_t hf hc9
        refine lv_tableIn (pc := 40) (off := 579) (tgt := 619) hx hb dL_law_40 (by rw [hc9]; decide) (by rw [hc9]; decide) (by rw [hc9]; rfl) (by decide) ?_
        exact wL_law_619 cx e1 e2 hfl hr1 hA hH0 a0 ih _ _ _ _ _ _ _ _ _ _ hf hS hl
      have hf := jI_f hf hc9
      by_cases hc10 : (y2 &&& 63) = 10
      · have hf := jI_t hf hc10
        refine lv_tableIn (pc := 40) (off := 604) (tgt := 644) hx hb dL_law_40 (by rw [hc10]; decide) (by rw [hc10]; decide) (by rw [hc10]; rfl) (by decide) ?_
        exact wL_law_644 cx e1 e2 hfl hr1 hA hH0 a0 ih _ _ _ _ _ _ _ _ _ _ hf hS hl
      have hf := jI_f hf hc10
      by_cases hc11 : (y2 &&& 63) = 11
      · have hf := jI_t hf hc11
        refine lv_tableIn (pc := 40) (off := 629) (tgt := 669) hx hb dL_law_40 (by rw [hc11]; decide) (by rw [hc11]; decide) (by rw [hc11]; rfl) (by decide) ?_
        exact wL_law_669 cx e1 e2 hfl hr1 hA hH0 a0 ih _ _ _ _ _ _ _ _ _ _ hf hS hl
      have hf := jI_f hf hc11
      by_cases hc12 : (y2 &&& 63) = 12
      · have hf := jI_t hf hc12
        refine lv_tableIn (pc := 40) (off := 642) (tgt := 682) hx hb dL_law_40 (by rw [hc12]; decide) (by rw [hc12]; decide) (by rw [hc12]; rfl) (by decide) ?_
        exact wL_law_682 cx e1 e2 hfl hr1 hA hH0 a0 ih _ _ _ _ _ _ _ _ _ _ hf hS hl
      have hf := jI_f hf hc12
      by_cases hc13 : (y2 &&& 63) = 13
      · have hf := jI_t hf hc13
        refine lv_tableIn (pc := 40) (off := 655) (tgt := 695) hx hb dL_law_40 (by rw [hc13]; decide) (by rw [hc13]; decide) (by rw [hc13]; rfl) (by decide) ?_
        exact wL_law_695 cx e1 e2 hfl hr1 hA hH0 a0 ih _ _ _ _ _ _ _ _ _ _ hf hS hl
      have hf := jI_f hf hc13
      by_cases hc14 : (y2 &&& 63) = 14
      · have hf := jI_t hf hc14
        refine lv_tableIn (pc := 40) (off := 680) (tgt := 720) hx hb dL_law_40 (by rw [hc14]; decide) (by rw [hc14]; decide) (by rw [hc14]; rfl) (by decide) ?_
        exact wL_law_720 cx e1 e2 hfl hr1 hA hH0 a0 ih _ _ _ _ _ _ _ _ _ _ hf hS hl
      have hf := jI_f hf hc14
      by_cases hc15 : (y2 &&& 63) = 15
      · have hf := jI_t hf hc15
        refine lv_tableIn (pc := 40) (off := 729) (tgt := 769) hx hb dL_law_40 (by rw [hc15]; decide) (by rw [hc15]; decide) (by rw [hc15]; rfl) (by decide) ?_
        exact wL_law_769 cx e1 e2 hfl hr1 hA hH0 a0 ih _ _ _ _ _ _ _ _ _ _ hf hS hl
      have hf := jI_f hf hc15
      by_cases hc16 : (y2 &&& 63) = 16
      · have hf := jI_t hf hc16
        refine lv_tableIn (pc := 40) (off := 754) (tgt := 794) hx hb dL_law_40 (by rw [hc16]; decide) (by rw [hc16]; decide) (by rw [hc16]; rfl) (by decide) ?_
        exact wL_law_794 cx e1 e2 hfl hr1 hA hH0 a0 ih _ _ _ _ _ _ _ _ _ _ hf hS hl
      have hf := jI_f hf hc16
      by_cases hc17 : (y2 &&& 63) = 17
      · have hf := jI_t hf hc17
        refine lv_tableIn (pc := 40) (off := 779) (tgt := 819) hx hb dL_law_40 (by rw [hc17]; decide) (by rw [hc17]; decide) (by rw [hc17]; rfl) (by decide) ?_
        exact wL_law_819 cx e1 e2 hfl hr1 hA hH0 a0 ih _ _ _ _ _ _ _ _ _ _ hf hS hl
      have hf := jI_f hf hc17
      by_cases hc18 : (y2 &&& 63) = 18
      · have hf := jI_t hf hc18
        refine lv_tableIn (pc := 40) (off := 792) (tgt := 832) hx hb dL_law_40 (by rw [hc18]; decide) (by rw [hc18]; decide) (by rw [hc18]; rfl) (by decide) ?_
        exact wL_law_832 cx e1 e2 hfl hr1 hA hH0 a0 ih _ _ _ _ _ _ _ _ _ _ hf hS hl
      have hf := jI_f hf hc18
      by_cases hc19 : (y2 &&& 63) = 19
      · have hf := jI_t hf hc19
        refine lv_tableIn (pc := 40) (off := 829) (tgt := 869) hx hb dL_law_40 (by rw [hc19]; decide) (by rw [hc19]; decide) (by rw [hc19]; rfl) (by decide) ?_
        exact wL_law_869 cx e1 e2 hfl hr1 hA hH0 a0 ih _ _ _ _ _ _ _ _ _ _ hf hS hl
      have hf := jI_f hf hc19
      by_cases hc20 : (y2 &&& 63) = 20
      · have hf := jI_t hf hc20
        refine lv_tableIn (pc := 40) (off := 866) (tgt := 906) hx hb dL_law_40 (by rw [hc20]; decide) (by rw [hc20]; decide) (by rw [hc20]; rfl) (by decide) ?_
        exact wL_law_906 cx e1 e2 hfl hr1 hA hH0 a0 ih _ _ _ _ _ _ _ _ _ _ hf hS hl
      have hf := jI_f hf hc20
      by_cases hc21 : (y2 &&& 63) = 21
      · have hf := jI_t hf hc21
        refine lv_tableIn (pc := 40) (off := 891) (tgt := 931) hx hb dL_law_40 (by rw [hc21]; decide) (by rw [hc21]; decide) (by rw [hc21]; rfl) (by decide) ?_
        exact wL_law_931 cx e1 e2 hfl hr1 hA hH0 a0 ih _ _ _ _ _ _ _ _ _ _ hf hS hl
      have hf := jI_f hf hc21
      by_cases hc22 : (y2 &&& 63) = 22
      · have hf := jI_t hf hc22
        refine lv_tableIn (pc := 40) (off := 928) (tgt := 968) hx hb dL_law_40 (by rw [hc22]; decide) (by rw [hc22]; decide) (by rw [hc22]; rfl) (by decide) ?_
        exact wL_law_968 cx e1 e2 hfl hr1 hA hH0 a0 ih _ _ _ _ _ _ _ _ _ _ hf hS hl
      have hf := jI_f hf hc22
      by_cases hc23 : (y2 &&& 63) = 23
      · have hf := jI_t hf hc23
        refine lv_tableIn (pc := 40) (off := 953) (tgt := 993) hx hb dL_law_40 (by rw [hc23]; decide) (by rw [hc23]; decide) (by rw [hc23]; rfl) (by decide) ?_
        exact wL_law_993 cx e1 e2 hfl hr1 hA hH0 a0 ih _ _ _ _ _ _ _ _ _ _ hf hS hl
      have hf := jI_f hf hc23
      by_cases hc24 : (y2 &&& 63) = 24
      · have hf := jI_t hf hc24
        refine lv_tableIn (pc := 40) (off := 978) (tgt := 1018) hx hb dL_law_40 (by rw [hc24]; decide) (by rw [hc24]; decide) (by rw [hc24]; rfl) (by decide) ?_
        exact wL_law_1018 cx e1 e2 hfl hr1 hA hH0 a0 ih _ _ _ _ _ _ _ _ _ _ hf hS hl
      have hf := jI_f hf hc24
      by_cases hc25 : (y2 &&& 63) = 25
      · have hf := jI_t hf hc25
        refine lv_tableIn (pc := 40) (off := 1003) (tgt := 1043) hx hb dL_law_40 (by rw [hc25]; decide) (by rw [hc25]; decide) (by rw [hc25]; rfl) (by decide) ?_
        exact wL_law_1043 cx e1 e2 hfl hr1 hA hH0 a0 ih _ _ _ _ _ _ _ _ _ _ hf hS hl
      have hf := jI_f hf hc25
      by_cases hc26 : (y2 &&& 63) = 26
      · have hf := jI_t hf hc26
        refine lv_tableIn (pc := 40) (off := 1016) (tgt := 1056) hx hb dL_law_40 (by rw [hc26]; decide) (by rw [hc26]; decide) (by rw [hc26]; rfl) (by decide) ?_
        exact wL_law_1056 cx e1 e2 hfl hr1 hA hH0 a0 ih _ _ _ _ _ _ _ _ _ _ hf hS hl
      have hf := jI_f hf hc26
      by_cases hc27 : (y2 &&& 63) = 27
      · have hf := jI_t hf hc27
        refine lv_tableIn (pc := 40) (off := 1029) (tgt := 1069) hx hb dL_law_40 (by rw [hc27]; decide) (by rw [hc27]; decide) (by rw [hc27]; rfl) (by decide) ?_
        exact wL_law_1069 cx e1 e2 hfl hr1 hA hH0 a0 ih _ _ _ _ _ _ _ _ _ _ hf hS hl
      have hf := jI_f hf hc27
      by_cases hc28 : (y2 &&& 63) = 28
      · have hf := jI_t hf hc28
        refine lv_tableIn (pc := 40) (off := 1054) (tgt := 1094) hx hb dL_law_40 (by rw [hc28]; decide) (by rw [hc28]; decide) (by rw [hc28]; rfl) (by decide) ?_
        exact wL_law_1094 cx e1 e2 hfl hr1 hA hH0 a0 ih _ _ _ _ _ _ _ _ _ _ hf hS hl
      have hf := jI_f hf hc28
      by_cases hc29 : (y2 &&& 63) = 29
      · have hf := jI_t hf hc29
        refine lv_tableIn (pc := 40) (off := 1131) (tgt := 1171) hx hb dL_law_40 (by rw [hc29]; decide) (by rw [hc29]; decide) (by rw [hc29]; rfl) (by decide) ?_
        exact wL_law_1171 cx e1 e2 hfl hr1 hA hH0 a0 ih _ _ _ _ _ _ _ _ _ _ hf hS hl
      have hf := jI_f hf hc29
      by_cases hc30 : (y2 &&& 63) = 30
      · have hf := jI_t hf hc30
        refine lv_tableIn (pc := 40) (off := 1144) (tgt := 1184) hx hb dL_law_40 (by rw [hc30]; decide) (by rw [hc30]; decide) (by rw [hc30]; rfl) (by decide) ?_
        exact wL_law_1184 cx e1 e2 hfl hr1 hA hH0 a0 ih _ _ _ _ _ _ _ _ _ _ hf hS hl
      have hf := jI_f hf hc30
      by_cases hc31 : (y2 &&& 63) = 31
      · have hf := jI_t hf hc31
        refine lv_tableIn (pc := 40) (off := 1169) (tgt := 1209) hx hb dL_law_40 (by rw [hc31]; decide) (by rw [hc31]; decide) (by rw [hc31]; rfl) (by decide) ?_
        exact wL_law_1209 cx e1 e2 hfl hr1 hA hH0 a0 ih _ _ _ _ _ _ _ _ _ _ hf hS hl
      have hf := jI_f hf hc31
      by_cases hc32 : (y2 &&& 63) = 32
      · have hf := jI_t hf hc32
        refine lv_tableIn (pc := 40) (off := 1218) (tgt := 1258) hx hb dL_law_40 (by rw [hc32]; decide) (by rw [hc32]; decide) (by rw [hc32]; rfl) (by decide) ?_
        exact wL_law_1258 cx e1 e2 hfl hr1 hA hH0 a0 ih _ _ _ _ _ _ _ _ _ _ hf hS hl
      have hf := jI_f hf hc32
      by_cases hc33 : (y2 &&& 63) = 33
      · have hf := jI_t hf hc33
        refine lv_tableIn (pc := 40) (off := 1310) (tgt := 1350) hx hb dL_law_40 (by rw [hc33]; decide) (by rw [hc33]; decide) (by rw [hc33]; rfl) (by decide) ?_
        exact wL_law_1350 cx e1 e2 hfl hr1 hA hH0 a0 ih _ _ _ _ _ _ _ _ _ _ hf hS hl
      have hf := jI_f hf hc33
      by_cases hc34 : (y2 &&& 63) = 34
      · have hf := jI_t hf hc34
        refine lv_tableIn (pc := 40) (off := 1359) (tgt := 1399) hx hb dL_law_40 (by rw [hc34]; decide) (by rw [hc34]; decide) (by rw [hc34]; rfl) (by decide) ?_
        exact wL_law_1399 cx e1 e2 hfl hr1 hA hH0 a0 ih _ _ _ _ _ _ _ _ _ _ hf hS hl
      have hf := jI_f hf hc34
      by_cases hc35 : (y2 &&& 63) = 35
      · have hf := jI_t hf hc35
        refine lv_tableIn (pc := 40) (off := 1412) (tgt := 1452) hx hb dL_law_40 (by rw [hc35]; decide) (by rw [hc35]; decide) (by rw [hc35]; rfl) (by decide) ?_
        exact wL_law_1452 cx e1 e2 hfl hr1 hA hH0 a0 ih _ _ _ _ _ _ _ _ _ _ hf hS hl
      have hf := jI_f hf hc35
      refine lv_tableOut (pc := 40) (tgt := 1477) hx hb dL_law_40 (by have i0 := lv_neT hc0 (by decide : (0 : Int32).toInt = 0); have i1 := lv_neT hc1 (by decide : (1 : Int32).toInt = 1); have i2 := lv_neT hc2 (by decide : (2 : Int32).toInt = 2); have i3 := lv_neT hc3 (by decide : (3 : Int32).toInt = 3); have i4 := lv_neT hc4 (by decide : (4 : Int32).toInt = 4); have i5 := lv_neT hc5 (by decide : (5 : Int32).toInt = 5); have i6 := lv_neT hc6 (by decide : (6 : Int32).toInt = 6); have i7 := lv_neT hc7 (by decide : (7 : Int32).toInt = 7); have i8 := lv_neT hc8 (by decide : (8 : Int32).toInt = 8); have i9 := lv_neT hc9 (by decide : (9 : Int32).toInt = 9); have i10 := lv_neT hc10 (by decide : (10 : Int32).toInt = 10); have i11 := lv_neT hc11 (by decide : (11 : Int32).toInt = 11); have i12 := lv_neT hc12 (by decide : (12 : Int32).toInt = 12); have i13 := lv_neT hc13 (by decide : (13 : Int32).toInt = 13); have i14 := lv_neT hc14 (by decide : (14 : Int32).toInt = 14); have i15 := lv_neT hc15 (by decide : (15 : Int32).toInt = 15); have i16 := lv_neT hc16 (by decide : (16 : Int32).toInt = 16); have i17 := lv_neT hc17 (by decide : (17 : Int32).toInt = 17); have i18 := lv_neT hc18 (by decide : (18 : Int32).toInt = 18); have i19 := lv_neT hc19 (by decide : (19 : Int32).toInt = 19); have i20 := lv_neT hc20 (by decide : (20 : Int32).toInt = 20); have i21 := lv_neT hc21 (by decide : (21 : Int32).toInt = 21); have i22 := lv_neT hc22 (by decide : (22 : Int32).toInt = 22); have i23 := lv_neT hc23 (by decide : (23 : Int32).toInt = 23); have i24 := lv_neT hc24 (by decide : (24 : Int32).toInt = 24); have i25 := lv_neT hc25 (by decide : (25 : Int32).toInt = 25); have i26 := lv_neT hc26 (by decide : (26 : Int32).toInt = 26); have i27 := lv_neT hc27 (by decide : (27 : Int32).toInt = 27); have i28 := lv_neT hc28 (by decide : (28 : Int32).toInt = 28); have i29 := lv_neT hc29 (by decide : (29 : Int32).toInt = 29); have i30 := lv_neT hc30 (by decide : (30 : Int32).toInt = 30); have i31 := lv_neT hc31 (by decide : (31 : Int32).toInt = 31); have i32 := lv_neT hc32 (by decide : (32 : Int32).toInt = 32); have i33 := lv_neT hc33 (by decide : (33 : Int32).toInt = 33); have i34 := lv_neT hc34 (by decide : (34 : Int32).toInt = 34); have i35 := lv_neT hc35 (by decide : (35 : Int32).toInt = 35); omega) (by decide) ?_
      exact wL_law_1477 cx e1 e2 hfl hr1 hA hH0 a0 ih _ _ _ _ _ _ _ _ _ _ hf hS hl
theorem wL_law_0 {N : Nat} {r : Int32} (cx : jCx p s m args meth c cL_law "WornSkinLaw" 7 ret D dA H0 hs.2.2.2.2) (e1 : h'.2.2.1 ≤ hs.2.2.1 + 774447) (e2 : h'.2.2.2.1 ≤ hs.2.2.2.1 + 6772764) (hfl : l.stackTraces = false) {b : Nat} (hr1 : r = 1) (hA : args = #[Value.ref b]) (hH0 : H0 = s.heap) (a0 : Nat) : ∀ (x1 : Option Nat), ∀ (h : jH) (H : Heap) (locs : List Loc) (cells slots : Nat) (ls : Array Slot), (fL_law N a0 x1).1 h = some (r, h') → jS D dA H0 hs h H locs cells slots → lv_has ls 7 [(0, .ref a0), (1, va_rf x1)] → W p l e room_1 s m args below meth c H locs cells slots (lw_Z below args s) (F0 m 0 ls []) := by
  have hx := cx.1
  have hb := cx.2.1
  have hown := cx.2.2.2.1
  have hts := cx.2.2.2.2.1
  have hm : h'.2.2.1 ≤ hs.2.2.1 + room_1.cells ∧ h'.2.2.2.1 ≤ hs.2.2.2.1 + room_1.slots := ⟨e1, e2⟩
  intro x1 h H locs cells slots ls hf hS hl
  unfold fL_law at hf
  refine j_new (pc := 0) cx hS hf cn_X1 q165 dL_law_0 hm (fun q1 h H cells slots hf hS => ?_)
  refine lv_dup (pc := 3) hx hb dL_law_3 rfl ?_
  obtain ⟨_, h1, e9, hf⟩ := jB_some hf
  refine j_callI (pc := 4) (st1 := [.ref q1]) (As := []) (rest := [.ref q1]) cx hS rfl hl.1 hm (metX1_init l _ _ _ _ _ e9) (jle hf) rfl q169 q168 q167 q112 pdX1_init rfl rfl (Nat.le_of_ble_eq_true rfl) ⟨Nat.le_of_ble_eq_true rfl, Nat.le_of_ble_eq_true rfl⟩ dL_law_4 rfl (fun H locs cells slots hS => ?_)
  refine lv_astore_n (pc := 7) (i := 1) (lv' := [(1, .ref q1), (0, .ref a0)]) hx hb dL_law_7 rfl hl (Nat.le_of_ble_eq_true rfl) rfl (fun ls hl => ?_)
  refine j_new (pc := 8) cx hS hf cn_X7 q1678 dL_law_8 hm (fun q3 h H cells slots hf hS => ?_)
  refine lv_dup (pc := 11) hx hb dL_law_11 rfl ?_
  obtain ⟨_, h1, e9, hf⟩ := jB_some hf
  refine j_callI (pc := 12) (st1 := [.ref q3]) (As := []) (rest := [.ref q3]) cx hS rfl hl.1 hm (metX7_init l _ _ _ _ e9) (jle hf) rfl q1682 q1681 q1680 q123 pdX7_init rfl rfl (Nat.le_of_ble_eq_true rfl) ⟨Nat.le_of_ble_eq_true rfl, Nat.le_of_ble_eq_true rfl⟩ dL_law_12 rfl (fun H locs cells slots hS => ?_)
  refine lv_astore_n (pc := 15) (i := 2) (lv' := [(2, .ref q3), (1, .ref q1), (0, .ref a0)]) hx hb dL_law_15 rfl hl (Nat.le_of_ble_eq_true rfl) rfl (fun ls hl => ?_)
  refine lv_iconst (pc := 16) (v := 1) hx hb dL_law_16 rfl ?_
  refine j_naG (pc := 17) cx hS hf (ty := .long) rfl rfl (fun _ => rfl) (by decide) q248 dL_law_17 (fun _ hh => by cases hh) hm (fun q5 h H cells slots hf hS => ?_)
  refine lv_astore_n (pc := 19) (i := 3) (lv' := [(3, .ref q5), (2, .ref q3), (1, .ref q1), (0, .ref a0)]) hx hb dL_law_19 rfl hl (Nat.le_of_ble_eq_true rfl) rfl (fun ls hl => ?_)
  refine lv_iconst (pc := 20) (v := 0) hx hb dL_law_20 rfl ?_
  refine lv_istore (pc := 21) (i := 4) (lv' := [(4, .int 0), (3, .ref q5), (2, .ref q3), (1, .ref q1), (0, .ref a0)]) hx hb dL_law_21 hl (Nat.le_of_ble_eq_true rfl) rfl (fun ls hl => ?_)
  exact wL_law_23 cx e1 e2 hfl hr1 hA hH0 a0 N _ _ _ _ _ _ _ _ _ _ hf hS (lv_sub hl [4, 3, 2, 1, 0] rfl)
end
