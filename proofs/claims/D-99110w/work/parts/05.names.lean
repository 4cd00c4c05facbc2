/-! OneCoinModel -/
set_option maxRecDepth 100000
def RX6 : String := "OneCoinModel"
def TX6 : u_T := fun k => match k with
  | 0 => ("OneCoinModel", "now", "[I", true)
  | 1 => ("OneCoinModel", "aside", "[I", true)
  | 2 => ("OneCoinModel", "kept", "[I", true)
  | 3 => ("OneCoinModel", "spotX", "[I", true)
  | 4 => ("OneCoinModel", "spotY", "[I", true)
  | 5 => ("OneCoinModel", "people", "I", false)
  | 6 => ("OneCoinModel", "tape", "[B", true)
  | 7 => ("OneCoinModel", "taped", "I", false)
  | 8 => ("OneCoinModel", "place0", "I", false)
  | 9 => ("OneCoinModel", "length0", "I", false)
  | 10 => ("OneCoinModel", "fault", "I", false)
  | 11 => ("OneCoinModel", "number0", "I", false)
  | 12 => ("OneCoinModel", "open", "I", false)
  | 13 => ("OneCoinModel", "codeMany", "I", false)
  | 14 => ("OneCoinModel", "waiting", "I", false)
  | 15 => ("OneCoinModel", "saidMany", "I", false)
  | 16 => ("OneCoinModel", "clauses", "I", false)
  | 17 => ("OneCoinModel", "said", "[I", true)
  | 18 => ("OneCoinModel", "waitsAt", "[I", true)
  | 19 => ("OneCoinModel", "saidLetter", "[I", true)
  | 20 => ("OneCoinModel", "saidFrom", "[I", true)
  | 21 => ("OneCoinModel", "saidHalf", "[I", true)
  | 22 => ("OneCoinModel", "saidTo", "[I", true)
  | 23 => ("OneCoinModel", "codes", "[I", true)
  | 24 => ("OneCoinModel", "clauseOf", "[I", true)
  | 25 => ("OneCoinModel", "codeFrom", "[I", true)
  | 26 => ("OneCoinModel", "codeHalf", "[I", true)
  | 27 => ("OneCoinModel", "codeTo", "[I", true)
  | 28 => ("OneCoinModel", "stack", "[I", true)
  | 29 => ("OneCoinModel", "facts", "[I", true)
  | 30 => ("OneCoinModel", "newDebt", "[I", true)
  | 31 => ("OneCoinModel", "lines", "I", false)
  | 32 => ("OneCoinModel", "paid", "I", false)
  | 33 => ("OneCoinModel", "rained", "I", false)
  | 34 => ("OneCoinModel", "grown", "I", false)
  | 35 => ("OneCoinModel", "arrived", "I", false)
  | 36 => ("OneCoinModel", "newStep", "[I", true)
  | 37 => ("OneCoinModel", "roundFrom", "[I", true)
  | 38 => ("OneCoinModel", "roundAt", "[I", true)
  | 39 => ("OneCoinModel", "roundTimes", "[I", true)
  | 40 => ("OneCoinModel", "newMany", "I", false)
  | 41 => ("OneCoinModel", "rounds", "I", false)
  | 42 => ("OneCoinModel", "itemFrom", "I", false)
  | 43 => ("OneCoinModel", "itemTimes", "I", false)
  | 44 => ("OneCoinModel", "walkedMany", "I", false)
  | 45 => ("OneCoinModel", "walkedHours", "I", false)
  | 46 => ("OneCoinModel", "leftDebt", "[I", true)
  | 47 => ("OneCoinModel", "tourStep", "[I", true)
  | 48 => ("OneCoinModel", "coinFrom", "[I", true)
  | 49 => ("OneCoinModel", "coinTo", "[I", true)
  | 50 => ("OneCoinModel", "coinMany", "I", false)
  | 51 => ("OneCoinModel", "moreBy", "[B", true)
  | 52 => ("OneCoinModel", "stepsTo", "[I", true)
  | 53 => ("OneCoinModel", "hoursTo", "[I", true)
  | 54 => ("OneCoinModel", "lackOf", "[I", true)
  | 55 => ("OneCoinModel", "wantOf", "[I", true)
  | 56 => ("OneCoinModel", "rowNow", "[I", true)
  | 57 => ("OneCoinModel", "rowBest", "[I", true)
  | 58 => ("OneCoinModel", "lacks", "I", false)
  | 59 => ("OneCoinModel", "sumOf", "[I", true)
  | 60 => ("OneCoinModel", "groupsOf", "[I", true)
  | _ => ("OneCoinModel", "isKept", "Z", false)
def tyX6 : Nat → FieldType := fun k => match k with
  | 0 => .array .int
  | 1 => .array .int
  | 2 => .array .int
  | 3 => .array .int
  | 4 => .array .int
  | 5 => .int
  | 6 => .array .byte
  | 7 => .int
  | 8 => .int
  | 9 => .int
  | 10 => .int
  | 11 => .int
  | 12 => .int
  | 13 => .int
  | 14 => .int
  | 15 => .int
  | 16 => .int
  | 17 => .array .int
  | 18 => .array .int
  | 19 => .array .int
  | 20 => .array .int
  | 21 => .array .int
  | 22 => .array .int
  | 23 => .array .int
  | 24 => .array .int
  | 25 => .array .int
  | 26 => .array .int
  | 27 => .array .int
  | 28 => .array .int
  | 29 => .array .int
  | 30 => .array .int
  | 31 => .int
  | 32 => .int
  | 33 => .int
  | 34 => .int
  | 35 => .int
  | 36 => .array .int
  | 37 => .array .int
  | 38 => .array .int
  | 39 => .array .int
  | 40 => .int
  | 41 => .int
  | 42 => .int
  | 43 => .int
  | 44 => .int
  | 45 => .int
  | 46 => .array .int
  | 47 => .array .int
  | 48 => .array .int
  | 49 => .array .int
  | 50 => .int
  | 51 => .array .byte
  | 52 => .array .int
  | 53 => .array .int
  | 54 => .array .int
  | 55 => .array .int
  | 56 => .array .int
  | 57 => .array .int
  | 58 => .int
  | 59 => .array .int
  | 60 => .array .int
  | _ => .boolean
abbrev wsX60 : List Cond := u_ws RX6 TX6 62
set_option maxRecDepth 100000 in
theorem nmX6 : ∀ a, a < 62 → ∀ b, b < 62 → a ≠ b → (TX6 a).2.1 ≠ (TX6 b).2.1 := by decide +kernel
set_option maxRecDepth 100000 in
theorem tyX6_ok : ∀ k, k < 62 → parseFieldDescriptor (TX6 k).2.2.1 = some (tyX6 k) := by decide +kernel
abbrev cX6_init : ByteArray := prog_20_method_1_code
def yX6_init : MethodName := ⟨RX6, "<init>", "()V"⟩
def dkwX6_init_14 : List UInt8 := [17, 0, 153, 16, 254, 79, 177]
abbrev dktX6_init_14 : List UInt8 := dkwX6_init_14 ++ []
def dkwX6_init_13 : List UInt8 := [180, 0, 7, 17, 0, 158, 4, 79, 42, 180, 0, 7, 17, 0, 151, 16, 254, 79, 42, 180, 0, 7]
abbrev dktX6_init_13 : List UInt8 := dkwX6_init_13 ++ dktX6_init_14
def dkwX6_init_12 : List UInt8 := [188, 10, 181, 0, 114, 42, 17, 4, 0, 188, 10, 181, 0, 117, 42, 17, 4, 0, 188, 10, 181, 0, 120, 42]
abbrev dktX6_init_12 : List UInt8 := dkwX6_init_12 ++ dktX6_init_13
def dkwX6_init_11 : List UInt8 := [188, 10, 181, 0, 105, 42, 16, 6, 188, 10, 181, 0, 108, 42, 16, 6, 188, 10, 181, 0, 111, 42, 16, 6]
abbrev dktX6_init_11 : List UInt8 := dkwX6_init_11 ++ dktX6_init_12
def dkwX6_init_10 : List UInt8 := [188, 8, 181, 0, 96, 42, 16, 100, 188, 10, 181, 0, 99, 42, 16, 100, 188, 10, 181, 0, 102, 42, 16, 6]
abbrev dktX6_init_10 : List UInt8 := dkwX6_init_10 ++ dktX6_init_11
def dkwX6_init_9 : List UInt8 := [188, 10, 181, 0, 86, 42, 16, 12, 188, 10, 181, 0, 89, 42, 16, 12, 188, 10, 181, 0, 92, 42, 18, 95]
abbrev dktX6_init_9 : List UInt8 := dkwX6_init_9 ++ dktX6_init_10
def dkwX6_init_8 : List UInt8 := [188, 10, 181, 0, 77, 42, 5, 188, 10, 181, 0, 80, 42, 16, 100, 188, 10, 181, 0, 83, 42, 16, 60]
abbrev dktX6_init_8 : List UInt8 := dkwX6_init_8 ++ dktX6_init_9
def dkwX6_init_7 : List UInt8 := [16, 100, 188, 10, 181, 0, 68, 42, 16, 60, 188, 10, 181, 0, 71, 42, 5, 188, 10, 181, 0, 74, 42, 5]
abbrev dktX6_init_7 : List UInt8 := dkwX6_init_7 ++ dktX6_init_8
def dkwX6_init_6 : List UInt8 := [188, 10, 181, 0, 59, 42, 17, 1, 4, 188, 10, 181, 0, 62, 42, 16, 8, 188, 10, 181, 0, 65, 42]
abbrev dktX6_init_6 : List UInt8 := dkwX6_init_6 ++ dktX6_init_7
def dkwX6_init_5 : List UInt8 := [188, 10, 181, 0, 50, 42, 16, 16, 188, 10, 181, 0, 53, 42, 16, 16, 188, 10, 181, 0, 56, 42, 16, 16]
abbrev dktX6_init_5 : List UInt8 := dkwX6_init_5 ++ dktX6_init_6
def dkwX6_init_4 : List UInt8 := [181, 0, 41, 42, 16, 16, 188, 10, 181, 0, 44, 42, 17, 1, 4, 188, 10, 181, 0, 47, 42, 16, 16]
abbrev dktX6_init_4 : List UInt8 := dkwX6_init_4 ++ dktX6_init_5
def dkwX6_init_3 : List UInt8 := [181, 0, 32, 42, 16, 16, 188, 10, 181, 0, 35, 42, 16, 16, 188, 10, 181, 0, 38, 42, 16, 16, 188, 10]
abbrev dktX6_init_3 : List UInt8 := dkwX6_init_3 ++ dktX6_init_4
def dkwX6_init_2 : List UInt8 := [42, 17, 1, 4, 188, 8, 181, 0, 25, 42, 17, 1, 4, 188, 10, 181, 0, 29, 42, 17, 1, 4, 188, 10]
abbrev dktX6_init_2 : List UInt8 := dkwX6_init_2 ++ dktX6_init_3
def dkwX6_init_1 : List UInt8 := [17, 0, 159, 188, 10, 181, 0, 16, 42, 16, 10, 188, 10, 181, 0, 19, 42, 16, 10, 188, 10, 181, 0, 22]
abbrev dktX6_init_1 : List UInt8 := dkwX6_init_1 ++ dktX6_init_2
def dkwX6_init_0 : List UInt8 := [42, 183, 0, 1, 42, 17, 0, 159, 188, 10, 181, 0, 7, 42, 17, 0, 159, 188, 10, 181, 0, 13, 42]
abbrev dktX6_init_0 : List UInt8 := dkwX6_init_0 ++ dktX6_init_1
theorem dksX6_init_0 : cX6_init.data.toList.drop 0 = dktX6_init_0 := by decide +kernel
theorem dksX6_init_1 : cX6_init.data.toList.drop 23 = dktX6_init_1 := dk_seg dksX6_init_0 23 rfl rfl
theorem dksX6_init_2 : cX6_init.data.toList.drop 47 = dktX6_init_2 := dk_seg dksX6_init_1 24 rfl rfl
theorem dksX6_init_3 : cX6_init.data.toList.drop 71 = dktX6_init_3 := dk_seg dksX6_init_2 24 rfl rfl
theorem dksX6_init_4 : cX6_init.data.toList.drop 95 = dktX6_init_4 := dk_seg dksX6_init_3 24 rfl rfl
theorem dksX6_init_5 : cX6_init.data.toList.drop 118 = dktX6_init_5 := dk_seg dksX6_init_4 23 rfl rfl
theorem dksX6_init_6 : cX6_init.data.toList.drop 142 = dktX6_init_6 := dk_seg dksX6_init_5 24 rfl rfl
theorem dksX6_init_7 : cX6_init.data.toList.drop 165 = dktX6_init_7 := dk_seg dksX6_init_6 23 rfl rfl
theorem dksX6_init_8 : cX6_init.data.toList.drop 189 = dktX6_init_8 := dk_seg dksX6_init_7 24 rfl rfl
theorem dksX6_init_9 : cX6_init.data.toList.drop 212 = dktX6_init_9 := dk_seg dksX6_init_8 23 rfl rfl
theorem dksX6_init_10 : cX6_init.data.toList.drop 236 = dktX6_init_10 := dk_seg dksX6_init_9 24 rfl rfl
theorem dksX6_init_11 : cX6_init.data.toList.drop 260 = dktX6_init_11 := dk_seg dksX6_init_10 24 rfl rfl
theorem dksX6_init_12 : cX6_init.data.toList.drop 284 = dktX6_init_12 := dk_seg dksX6_init_11 24 rfl rfl
theorem dksX6_init_13 : cX6_init.data.toList.drop 308 = dktX6_init_13 := dk_seg dksX6_init_12 24 rfl rfl
theorem dksX6_init_14 : cX6_init.data.toList.drop 330 = dktX6_init_14 := dk_seg dksX6_init_13 22 rfl rfl
theorem dX6_init_0 : decode cX6_init 0 = .ok (.aload_n 0, 1) := dk_42 (dk_at dksX6_init_0 0 rfl rfl)
theorem dX6_init_1 : decode cX6_init 1 = .ok (.invokespecial 1, 3) := dk_183 0 1 (dk_at dksX6_init_0 1 rfl rfl)
theorem dX6_init_4 : decode cX6_init 4 = .ok (.aload_n 0, 1) := dk_42 (dk_at dksX6_init_0 4 rfl rfl)
theorem dX6_init_5 : decode cX6_init 5 = .ok (.sipush 159, 3) := dk_17 0 159 (dk_at dksX6_init_0 5 rfl rfl)
theorem dX6_init_8 : decode cX6_init 8 = .ok (.newarray .int, 2) := dk_188_10 (dk_at dksX6_init_0 8 rfl rfl)
theorem dX6_init_10 : decode cX6_init 10 = .ok (.putfield 7, 3) := dk_181 0 7 (dk_at dksX6_init_0 10 rfl rfl)
theorem dX6_init_13 : decode cX6_init 13 = .ok (.aload_n 0, 1) := dk_42 (dk_at dksX6_init_0 13 rfl rfl)
theorem dX6_init_14 : decode cX6_init 14 = .ok (.sipush 159, 3) := dk_17 0 159 (dk_at dksX6_init_0 14 rfl rfl)
theorem dX6_init_17 : decode cX6_init 17 = .ok (.newarray .int, 2) := dk_188_10 (dk_at dksX6_init_0 17 rfl rfl)
theorem dX6_init_19 : decode cX6_init 19 = .ok (.putfield 13, 3) := dk_181 0 13 (dk_at dksX6_init_0 19 rfl rfl)
theorem dX6_init_22 : decode cX6_init 22 = .ok (.aload_n 0, 1) := dk_42 (dk_at dksX6_init_0 22 rfl rfl)
theorem dX6_init_23 : decode cX6_init 23 = .ok (.sipush 159, 3) := dk_17 0 159 (dk_at dksX6_init_1 0 rfl rfl)
theorem dX6_init_26 : decode cX6_init 26 = .ok (.newarray .int, 2) := dk_188_10 (dk_at dksX6_init_1 3 rfl rfl)
theorem dX6_init_28 : decode cX6_init 28 = .ok (.putfield 16, 3) := dk_181 0 16 (dk_at dksX6_init_1 5 rfl rfl)
theorem dX6_init_31 : decode cX6_init 31 = .ok (.aload_n 0, 1) := dk_42 (dk_at dksX6_init_1 8 rfl rfl)
theorem dX6_init_32 : decode cX6_init 32 = .ok (.bipush 10, 2) := dk_16 10 (dk_at dksX6_init_1 9 rfl rfl)
theorem dX6_init_34 : decode cX6_init 34 = .ok (.newarray .int, 2) := dk_188_10 (dk_at dksX6_init_1 11 rfl rfl)
theorem dX6_init_36 : decode cX6_init 36 = .ok (.putfield 19, 3) := dk_181 0 19 (dk_at dksX6_init_1 13 rfl rfl)
theorem dX6_init_39 : decode cX6_init 39 = .ok (.aload_n 0, 1) := dk_42 (dk_at dksX6_init_1 16 rfl rfl)
theorem dX6_init_40 : decode cX6_init 40 = .ok (.bipush 10, 2) := dk_16 10 (dk_at dksX6_init_1 17 rfl rfl)
theorem dX6_init_42 : decode cX6_init 42 = .ok (.newarray .int, 2) := dk_188_10 (dk_at dksX6_init_1 19 rfl rfl)
theorem dX6_init_44 : decode cX6_init 44 = .ok (.putfield 22, 3) := dk_181 0 22 (dk_at dksX6_init_1 21 rfl rfl)
theorem dX6_init_47 : decode cX6_init 47 = .ok (.aload_n 0, 1) := dk_42 (dk_at dksX6_init_2 0 rfl rfl)
theorem dX6_init_48 : decode cX6_init 48 = .ok (.sipush 260, 3) := dk_17 1 4 (dk_at dksX6_init_2 1 rfl rfl)
theorem dX6_init_51 : decode cX6_init 51 = .ok (.newarray .byte, 2) := dk_188_8 (dk_at dksX6_init_2 4 rfl rfl)
theorem dX6_init_53 : decode cX6_init 53 = .ok (.putfield 25, 3) := dk_181 0 25 (dk_at dksX6_init_2 6 rfl rfl)
theorem dX6_init_56 : decode cX6_init 56 = .ok (.aload_n 0, 1) := dk_42 (dk_at dksX6_init_2 9 rfl rfl)
theorem dX6_init_57 : decode cX6_init 57 = .ok (.sipush 260, 3) := dk_17 1 4 (dk_at dksX6_init_2 10 rfl rfl)
theorem dX6_init_60 : decode cX6_init 60 = .ok (.newarray .int, 2) := dk_188_10 (dk_at dksX6_init_2 13 rfl rfl)
theorem dX6_init_62 : decode cX6_init 62 = .ok (.putfield 29, 3) := dk_181 0 29 (dk_at dksX6_init_2 15 rfl rfl)
theorem dX6_init_65 : decode cX6_init 65 = .ok (.aload_n 0, 1) := dk_42 (dk_at dksX6_init_2 18 rfl rfl)
theorem dX6_init_66 : decode cX6_init 66 = .ok (.sipush 260, 3) := dk_17 1 4 (dk_at dksX6_init_2 19 rfl rfl)
theorem dX6_init_69 : decode cX6_init 69 = .ok (.newarray .int, 2) := dk_188_10 (dk_at dksX6_init_2 22 rfl rfl)
theorem dX6_init_71 : decode cX6_init 71 = .ok (.putfield 32, 3) := dk_181 0 32 (dk_at dksX6_init_3 0 rfl rfl)
theorem dX6_init_74 : decode cX6_init 74 = .ok (.aload_n 0, 1) := dk_42 (dk_at dksX6_init_3 3 rfl rfl)
theorem dX6_init_75 : decode cX6_init 75 = .ok (.bipush 16, 2) := dk_16 16 (dk_at dksX6_init_3 4 rfl rfl)
theorem dX6_init_77 : decode cX6_init 77 = .ok (.newarray .int, 2) := dk_188_10 (dk_at dksX6_init_3 6 rfl rfl)
theorem dX6_init_79 : decode cX6_init 79 = .ok (.putfield 35, 3) := dk_181 0 35 (dk_at dksX6_init_3 8 rfl rfl)
theorem dX6_init_82 : decode cX6_init 82 = .ok (.aload_n 0, 1) := dk_42 (dk_at dksX6_init_3 11 rfl rfl)
theorem dX6_init_83 : decode cX6_init 83 = .ok (.bipush 16, 2) := dk_16 16 (dk_at dksX6_init_3 12 rfl rfl)
theorem dX6_init_85 : decode cX6_init 85 = .ok (.newarray .int, 2) := dk_188_10 (dk_at dksX6_init_3 14 rfl rfl)
theorem dX6_init_87 : decode cX6_init 87 = .ok (.putfield 38, 3) := dk_181 0 38 (dk_at dksX6_init_3 16 rfl rfl)
theorem dX6_init_90 : decode cX6_init 90 = .ok (.aload_n 0, 1) := dk_42 (dk_at dksX6_init_3 19 rfl rfl)
theorem dX6_init_91 : decode cX6_init 91 = .ok (.bipush 16, 2) := dk_16 16 (dk_at dksX6_init_3 20 rfl rfl)
theorem dX6_init_93 : decode cX6_init 93 = .ok (.newarray .int, 2) := dk_188_10 (dk_at dksX6_init_3 22 rfl rfl)
theorem dX6_init_95 : decode cX6_init 95 = .ok (.putfield 41, 3) := dk_181 0 41 (dk_at dksX6_init_4 0 rfl rfl)
theorem dX6_init_98 : decode cX6_init 98 = .ok (.aload_n 0, 1) := dk_42 (dk_at dksX6_init_4 3 rfl rfl)
theorem dX6_init_99 : decode cX6_init 99 = .ok (.bipush 16, 2) := dk_16 16 (dk_at dksX6_init_4 4 rfl rfl)
theorem dX6_init_101 : decode cX6_init 101 = .ok (.newarray .int, 2) := dk_188_10 (dk_at dksX6_init_4 6 rfl rfl)
theorem dX6_init_103 : decode cX6_init 103 = .ok (.putfield 44, 3) := dk_181 0 44 (dk_at dksX6_init_4 8 rfl rfl)
theorem dX6_init_106 : decode cX6_init 106 = .ok (.aload_n 0, 1) := dk_42 (dk_at dksX6_init_4 11 rfl rfl)
theorem dX6_init_107 : decode cX6_init 107 = .ok (.sipush 260, 3) := dk_17 1 4 (dk_at dksX6_init_4 12 rfl rfl)
theorem dX6_init_110 : decode cX6_init 110 = .ok (.newarray .int, 2) := dk_188_10 (dk_at dksX6_init_4 15 rfl rfl)
theorem dX6_init_112 : decode cX6_init 112 = .ok (.putfield 47, 3) := dk_181 0 47 (dk_at dksX6_init_4 17 rfl rfl)
theorem dX6_init_115 : decode cX6_init 115 = .ok (.aload_n 0, 1) := dk_42 (dk_at dksX6_init_4 20 rfl rfl)
theorem dX6_init_116 : decode cX6_init 116 = .ok (.bipush 16, 2) := dk_16 16 (dk_at dksX6_init_4 21 rfl rfl)
theorem dX6_init_118 : decode cX6_init 118 = .ok (.newarray .int, 2) := dk_188_10 (dk_at dksX6_init_5 0 rfl rfl)
theorem dX6_init_120 : decode cX6_init 120 = .ok (.putfield 50, 3) := dk_181 0 50 (dk_at dksX6_init_5 2 rfl rfl)
theorem dX6_init_123 : decode cX6_init 123 = .ok (.aload_n 0, 1) := dk_42 (dk_at dksX6_init_5 5 rfl rfl)
theorem dX6_init_124 : decode cX6_init 124 = .ok (.bipush 16, 2) := dk_16 16 (dk_at dksX6_init_5 6 rfl rfl)
theorem dX6_init_126 : decode cX6_init 126 = .ok (.newarray .int, 2) := dk_188_10 (dk_at dksX6_init_5 8 rfl rfl)
theorem dX6_init_128 : decode cX6_init 128 = .ok (.putfield 53, 3) := dk_181 0 53 (dk_at dksX6_init_5 10 rfl rfl)
theorem dX6_init_131 : decode cX6_init 131 = .ok (.aload_n 0, 1) := dk_42 (dk_at dksX6_init_5 13 rfl rfl)
theorem dX6_init_132 : decode cX6_init 132 = .ok (.bipush 16, 2) := dk_16 16 (dk_at dksX6_init_5 14 rfl rfl)
theorem dX6_init_134 : decode cX6_init 134 = .ok (.newarray .int, 2) := dk_188_10 (dk_at dksX6_init_5 16 rfl rfl)
theorem dX6_init_136 : decode cX6_init 136 = .ok (.putfield 56, 3) := dk_181 0 56 (dk_at dksX6_init_5 18 rfl rfl)
theorem dX6_init_139 : decode cX6_init 139 = .ok (.aload_n 0, 1) := dk_42 (dk_at dksX6_init_5 21 rfl rfl)
theorem dX6_init_140 : decode cX6_init 140 = .ok (.bipush 16, 2) := dk_16 16 (dk_at dksX6_init_5 22 rfl rfl)
theorem dX6_init_142 : decode cX6_init 142 = .ok (.newarray .int, 2) := dk_188_10 (dk_at dksX6_init_6 0 rfl rfl)
theorem dX6_init_144 : decode cX6_init 144 = .ok (.putfield 59, 3) := dk_181 0 59 (dk_at dksX6_init_6 2 rfl rfl)
theorem dX6_init_147 : decode cX6_init 147 = .ok (.aload_n 0, 1) := dk_42 (dk_at dksX6_init_6 5 rfl rfl)
theorem dX6_init_148 : decode cX6_init 148 = .ok (.sipush 260, 3) := dk_17 1 4 (dk_at dksX6_init_6 6 rfl rfl)
theorem dX6_init_151 : decode cX6_init 151 = .ok (.newarray .int, 2) := dk_188_10 (dk_at dksX6_init_6 9 rfl rfl)
theorem dX6_init_153 : decode cX6_init 153 = .ok (.putfield 62, 3) := dk_181 0 62 (dk_at dksX6_init_6 11 rfl rfl)
theorem dX6_init_156 : decode cX6_init 156 = .ok (.aload_n 0, 1) := dk_42 (dk_at dksX6_init_6 14 rfl rfl)
theorem dX6_init_157 : decode cX6_init 157 = .ok (.bipush 8, 2) := dk_16 8 (dk_at dksX6_init_6 15 rfl rfl)
theorem dX6_init_159 : decode cX6_init 159 = .ok (.newarray .int, 2) := dk_188_10 (dk_at dksX6_init_6 17 rfl rfl)
theorem dX6_init_161 : decode cX6_init 161 = .ok (.putfield 65, 3) := dk_181 0 65 (dk_at dksX6_init_6 19 rfl rfl)
theorem dX6_init_164 : decode cX6_init 164 = .ok (.aload_n 0, 1) := dk_42 (dk_at dksX6_init_6 22 rfl rfl)
theorem dX6_init_165 : decode cX6_init 165 = .ok (.bipush 100, 2) := dk_16 100 (dk_at dksX6_init_7 0 rfl rfl)
theorem dX6_init_167 : decode cX6_init 167 = .ok (.newarray .int, 2) := dk_188_10 (dk_at dksX6_init_7 2 rfl rfl)
theorem dX6_init_169 : decode cX6_init 169 = .ok (.putfield 68, 3) := dk_181 0 68 (dk_at dksX6_init_7 4 rfl rfl)
theorem dX6_init_172 : decode cX6_init 172 = .ok (.aload_n 0, 1) := dk_42 (dk_at dksX6_init_7 7 rfl rfl)
theorem dX6_init_173 : decode cX6_init 173 = .ok (.bipush 60, 2) := dk_16 60 (dk_at dksX6_init_7 8 rfl rfl)
theorem dX6_init_175 : decode cX6_init 175 = .ok (.newarray .int, 2) := dk_188_10 (dk_at dksX6_init_7 10 rfl rfl)
theorem dX6_init_177 : decode cX6_init 177 = .ok (.putfield 71, 3) := dk_181 0 71 (dk_at dksX6_init_7 12 rfl rfl)
theorem dX6_init_180 : decode cX6_init 180 = .ok (.aload_n 0, 1) := dk_42 (dk_at dksX6_init_7 15 rfl rfl)
theorem dX6_init_181 : decode cX6_init 181 = .ok (.iconst 2, 1) := dk_5 (dk_at dksX6_init_7 16 rfl rfl)
theorem dX6_init_182 : decode cX6_init 182 = .ok (.newarray .int, 2) := dk_188_10 (dk_at dksX6_init_7 17 rfl rfl)
theorem dX6_init_184 : decode cX6_init 184 = .ok (.putfield 74, 3) := dk_181 0 74 (dk_at dksX6_init_7 19 rfl rfl)
theorem dX6_init_187 : decode cX6_init 187 = .ok (.aload_n 0, 1) := dk_42 (dk_at dksX6_init_7 22 rfl rfl)
theorem dX6_init_188 : decode cX6_init 188 = .ok (.iconst 2, 1) := dk_5 (dk_at dksX6_init_7 23 rfl rfl)
theorem dX6_init_189 : decode cX6_init 189 = .ok (.newarray .int, 2) := dk_188_10 (dk_at dksX6_init_8 0 rfl rfl)
theorem dX6_init_191 : decode cX6_init 191 = .ok (.putfield 77, 3) := dk_181 0 77 (dk_at dksX6_init_8 2 rfl rfl)
theorem dX6_init_194 : decode cX6_init 194 = .ok (.aload_n 0, 1) := dk_42 (dk_at dksX6_init_8 5 rfl rfl)
theorem dX6_init_195 : decode cX6_init 195 = .ok (.iconst 2, 1) := dk_5 (dk_at dksX6_init_8 6 rfl rfl)
theorem dX6_init_196 : decode cX6_init 196 = .ok (.newarray .int, 2) := dk_188_10 (dk_at dksX6_init_8 7 rfl rfl)
theorem dX6_init_198 : decode cX6_init 198 = .ok (.putfield 80, 3) := dk_181 0 80 (dk_at dksX6_init_8 9 rfl rfl)
theorem dX6_init_201 : decode cX6_init 201 = .ok (.aload_n 0, 1) := dk_42 (dk_at dksX6_init_8 12 rfl rfl)
theorem dX6_init_202 : decode cX6_init 202 = .ok (.bipush 100, 2) := dk_16 100 (dk_at dksX6_init_8 13 rfl rfl)
theorem dX6_init_204 : decode cX6_init 204 = .ok (.newarray .int, 2) := dk_188_10 (dk_at dksX6_init_8 15 rfl rfl)
theorem dX6_init_206 : decode cX6_init 206 = .ok (.putfield 83, 3) := dk_181 0 83 (dk_at dksX6_init_8 17 rfl rfl)
theorem dX6_init_209 : decode cX6_init 209 = .ok (.aload_n 0, 1) := dk_42 (dk_at dksX6_init_8 20 rfl rfl)
theorem dX6_init_210 : decode cX6_init 210 = .ok (.bipush 60, 2) := dk_16 60 (dk_at dksX6_init_8 21 rfl rfl)
theorem dX6_init_212 : decode cX6_init 212 = .ok (.newarray .int, 2) := dk_188_10 (dk_at dksX6_init_9 0 rfl rfl)
theorem dX6_init_214 : decode cX6_init 214 = .ok (.putfield 86, 3) := dk_181 0 86 (dk_at dksX6_init_9 2 rfl rfl)
theorem dX6_init_217 : decode cX6_init 217 = .ok (.aload_n 0, 1) := dk_42 (dk_at dksX6_init_9 5 rfl rfl)
theorem dX6_init_218 : decode cX6_init 218 = .ok (.bipush 12, 2) := dk_16 12 (dk_at dksX6_init_9 6 rfl rfl)
theorem dX6_init_220 : decode cX6_init 220 = .ok (.newarray .int, 2) := dk_188_10 (dk_at dksX6_init_9 8 rfl rfl)
theorem dX6_init_222 : decode cX6_init 222 = .ok (.putfield 89, 3) := dk_181 0 89 (dk_at dksX6_init_9 10 rfl rfl)
theorem dX6_init_225 : decode cX6_init 225 = .ok (.aload_n 0, 1) := dk_42 (dk_at dksX6_init_9 13 rfl rfl)
theorem dX6_init_226 : decode cX6_init 226 = .ok (.bipush 12, 2) := dk_16 12 (dk_at dksX6_init_9 14 rfl rfl)
theorem dX6_init_228 : decode cX6_init 228 = .ok (.newarray .int, 2) := dk_188_10 (dk_at dksX6_init_9 16 rfl rfl)
theorem dX6_init_230 : decode cX6_init 230 = .ok (.putfield 92, 3) := dk_181 0 92 (dk_at dksX6_init_9 18 rfl rfl)
theorem dX6_init_233 : decode cX6_init 233 = .ok (.aload_n 0, 1) := dk_42 (dk_at dksX6_init_9 21 rfl rfl)
theorem dX6_init_234 : decode cX6_init 234 = .ok (.ldc 95, 2) := dk_18 95 (dk_at dksX6_init_9 22 rfl rfl)
theorem dX6_init_236 : decode cX6_init 236 = .ok (.newarray .byte, 2) := dk_188_8 (dk_at dksX6_init_10 0 rfl rfl)
theorem dX6_init_238 : decode cX6_init 238 = .ok (.putfield 96, 3) := dk_181 0 96 (dk_at dksX6_init_10 2 rfl rfl)
theorem dX6_init_241 : decode cX6_init 241 = .ok (.aload_n 0, 1) := dk_42 (dk_at dksX6_init_10 5 rfl rfl)
theorem dX6_init_242 : decode cX6_init 242 = .ok (.bipush 100, 2) := dk_16 100 (dk_at dksX6_init_10 6 rfl rfl)
theorem dX6_init_244 : decode cX6_init 244 = .ok (.newarray .int, 2) := dk_188_10 (dk_at dksX6_init_10 8 rfl rfl)
theorem dX6_init_246 : decode cX6_init 246 = .ok (.putfield 99, 3) := dk_181 0 99 (dk_at dksX6_init_10 10 rfl rfl)
theorem dX6_init_249 : decode cX6_init 249 = .ok (.aload_n 0, 1) := dk_42 (dk_at dksX6_init_10 13 rfl rfl)
theorem dX6_init_250 : decode cX6_init 250 = .ok (.bipush 100, 2) := dk_16 100 (dk_at dksX6_init_10 14 rfl rfl)
theorem dX6_init_252 : decode cX6_init 252 = .ok (.newarray .int, 2) := dk_188_10 (dk_at dksX6_init_10 16 rfl rfl)
theorem dX6_init_254 : decode cX6_init 254 = .ok (.putfield 102, 3) := dk_181 0 102 (dk_at dksX6_init_10 18 rfl rfl)
theorem dX6_init_257 : decode cX6_init 257 = .ok (.aload_n 0, 1) := dk_42 (dk_at dksX6_init_10 21 rfl rfl)
theorem dX6_init_258 : decode cX6_init 258 = .ok (.bipush 6, 2) := dk_16 6 (dk_at dksX6_init_10 22 rfl rfl)
theorem dX6_init_260 : decode cX6_init 260 = .ok (.newarray .int, 2) := dk_188_10 (dk_at dksX6_init_11 0 rfl rfl)
theorem dX6_init_262 : decode cX6_init 262 = .ok (.putfield 105, 3) := dk_181 0 105 (dk_at dksX6_init_11 2 rfl rfl)
theorem dX6_init_265 : decode cX6_init 265 = .ok (.aload_n 0, 1) := dk_42 (dk_at dksX6_init_11 5 rfl rfl)
theorem dX6_init_266 : decode cX6_init 266 = .ok (.bipush 6, 2) := dk_16 6 (dk_at dksX6_init_11 6 rfl rfl)
theorem dX6_init_268 : decode cX6_init 268 = .ok (.newarray .int, 2) := dk_188_10 (dk_at dksX6_init_11 8 rfl rfl)
theorem dX6_init_270 : decode cX6_init 270 = .ok (.putfield 108, 3) := dk_181 0 108 (dk_at dksX6_init_11 10 rfl rfl)
theorem dX6_init_273 : decode cX6_init 273 = .ok (.aload_n 0, 1) := dk_42 (dk_at dksX6_init_11 13 rfl rfl)
theorem dX6_init_274 : decode cX6_init 274 = .ok (.bipush 6, 2) := dk_16 6 (dk_at dksX6_init_11 14 rfl rfl)
theorem dX6_init_276 : decode cX6_init 276 = .ok (.newarray .int, 2) := dk_188_10 (dk_at dksX6_init_11 16 rfl rfl)
theorem dX6_init_278 : decode cX6_init 278 = .ok (.putfield 111, 3) := dk_181 0 111 (dk_at dksX6_init_11 18 rfl rfl)
theorem dX6_init_281 : decode cX6_init 281 = .ok (.aload_n 0, 1) := dk_42 (dk_at dksX6_init_11 21 rfl rfl)
theorem dX6_init_282 : decode cX6_init 282 = .ok (.bipush 6, 2) := dk_16 6 (dk_at dksX6_init_11 22 rfl rfl)
theorem dX6_init_284 : decode cX6_init 284 = .ok (.newarray .int, 2) := dk_188_10 (dk_at dksX6_init_12 0 rfl rfl)
theorem dX6_init_286 : decode cX6_init 286 = .ok (.putfield 114, 3) := dk_181 0 114 (dk_at dksX6_init_12 2 rfl rfl)
theorem dX6_init_289 : decode cX6_init 289 = .ok (.aload_n 0, 1) := dk_42 (dk_at dksX6_init_12 5 rfl rfl)
theorem dX6_init_290 : decode cX6_init 290 = .ok (.sipush 1024, 3) := dk_17 4 0 (dk_at dksX6_init_12 6 rfl rfl)
theorem dX6_init_293 : decode cX6_init 293 = .ok (.newarray .int, 2) := dk_188_10 (dk_at dksX6_init_12 9 rfl rfl)
theorem dX6_init_295 : decode cX6_init 295 = .ok (.putfield 117, 3) := dk_181 0 117 (dk_at dksX6_init_12 11 rfl rfl)
theorem dX6_init_298 : decode cX6_init 298 = .ok (.aload_n 0, 1) := dk_42 (dk_at dksX6_init_12 14 rfl rfl)
theorem dX6_init_299 : decode cX6_init 299 = .ok (.sipush 1024, 3) := dk_17 4 0 (dk_at dksX6_init_12 15 rfl rfl)
theorem dX6_init_302 : decode cX6_init 302 = .ok (.newarray .int, 2) := dk_188_10 (dk_at dksX6_init_12 18 rfl rfl)
theorem dX6_init_304 : decode cX6_init 304 = .ok (.putfield 120, 3) := dk_181 0 120 (dk_at dksX6_init_12 20 rfl rfl)
theorem dX6_init_307 : decode cX6_init 307 = .ok (.aload_n 0, 1) := dk_42 (dk_at dksX6_init_12 23 rfl rfl)
theorem dX6_init_308 : decode cX6_init 308 = .ok (.getfield 7, 3) := dk_180 0 7 (dk_at dksX6_init_13 0 rfl rfl)
theorem dX6_init_311 : decode cX6_init 311 = .ok (.sipush 158, 3) := dk_17 0 158 (dk_at dksX6_init_13 3 rfl rfl)
theorem dX6_init_314 : decode cX6_init 314 = .ok (.iconst 1, 1) := dk_4 (dk_at dksX6_init_13 6 rfl rfl)
theorem dX6_init_315 : decode cX6_init 315 = .ok (.iastore, 1) := dk_79 (dk_at dksX6_init_13 7 rfl rfl)
theorem dX6_init_316 : decode cX6_init 316 = .ok (.aload_n 0, 1) := dk_42 (dk_at dksX6_init_13 8 rfl rfl)
theorem dX6_init_317 : decode cX6_init 317 = .ok (.getfield 7, 3) := dk_180 0 7 (dk_at dksX6_init_13 9 rfl rfl)
theorem dX6_init_320 : decode cX6_init 320 = .ok (.sipush 151, 3) := dk_17 0 151 (dk_at dksX6_init_13 12 rfl rfl)
theorem dX6_init_323 : decode cX6_init 323 = .ok (.bipush (-2), 2) := dk_16 254 (dk_at dksX6_init_13 15 rfl rfl)
theorem dX6_init_325 : decode cX6_init 325 = .ok (.iastore, 1) := dk_79 (dk_at dksX6_init_13 17 rfl rfl)
theorem dX6_init_326 : decode cX6_init 326 = .ok (.aload_n 0, 1) := dk_42 (dk_at dksX6_init_13 18 rfl rfl)
theorem dX6_init_327 : decode cX6_init 327 = .ok (.getfield 7, 3) := dk_180 0 7 (dk_at dksX6_init_13 19 rfl rfl)
theorem dX6_init_330 : decode cX6_init 330 = .ok (.sipush 153, 3) := dk_17 0 153 (dk_at dksX6_init_14 0 rfl rfl)
theorem dX6_init_333 : decode cX6_init 333 = .ok (.bipush (-2), 2) := dk_16 254 (dk_at dksX6_init_14 3 rfl rfl)
theorem dX6_init_335 : decode cX6_init 335 = .ok (.iastore, 1) := dk_79 (dk_at dksX6_init_14 5 rfl rfl)
theorem dX6_init_336 : decode cX6_init 336 = .ok (.return_, 1) := dk_177 (dk_at dksX6_init_14 6 rfl rfl)
abbrev cX6_person : ByteArray := prog_20_method_16_code
def yX6_person : MethodName := ⟨RX6, "person", "(III)Z"⟩
def dkwX6_person_2 : List UInt8 := [27, 28, 79, 42, 180, 0, 22, 27, 29, 79, 4, 172]
abbrev dktX6_person_2 : List UInt8 := dkwX6_person_2 ++ []
def dkwX6_person_1 : List UInt8 := [184, 0, 123, 154, 0, 5, 3, 172, 42, 42, 180, 0, 127, 4, 27, 120, 128, 181, 0, 127, 42, 180, 0, 19]
abbrev dktX6_person_1 : List UInt8 := dkwX6_person_1 ++ dktX6_person_2
def dkwX6_person_0 : List UInt8 := [27, 3, 16, 9, 184, 0, 123, 153, 0, 23, 28, 3, 16, 9, 184, 0, 123, 153, 0, 13, 29, 3, 16, 9]
abbrev dktX6_person_0 : List UInt8 := dkwX6_person_0 ++ dktX6_person_1
theorem dksX6_person_0 : cX6_person.data.toList.drop 0 = dktX6_person_0 := by decide +kernel
theorem dksX6_person_1 : cX6_person.data.toList.drop 24 = dktX6_person_1 := dk_seg dksX6_person_0 24 rfl rfl
theorem dksX6_person_2 : cX6_person.data.toList.drop 48 = dktX6_person_2 := dk_seg dksX6_person_1 24 rfl rfl
theorem dX6_person_0 : decode cX6_person 0 = .ok (.iload_n 1, 1) := dk_27 (dk_at dksX6_person_0 0 rfl rfl)
theorem dX6_person_1 : decode cX6_person 1 = .ok (.iconst 0, 1) := dk_3 (dk_at dksX6_person_0 1 rfl rfl)
theorem dX6_person_2 : decode cX6_person 2 = .ok (.bipush 9, 2) := dk_16 9 (dk_at dksX6_person_0 2 rfl rfl)
theorem dX6_person_4 : decode cX6_person 4 = .ok (.invokestatic 123, 3) := dk_184 0 123 (dk_at dksX6_person_0 4 rfl rfl)
theorem dX6_person_7 : decode cX6_person 7 = .ok (.ifCond .eq 23, 3) := dk_153 0 23 (dk_at dksX6_person_0 7 rfl rfl)
theorem dX6_person_10 : decode cX6_person 10 = .ok (.iload_n 2, 1) := dk_28 (dk_at dksX6_person_0 10 rfl rfl)
theorem dX6_person_11 : decode cX6_person 11 = .ok (.iconst 0, 1) := dk_3 (dk_at dksX6_person_0 11 rfl rfl)
theorem dX6_person_12 : decode cX6_person 12 = .ok (.bipush 9, 2) := dk_16 9 (dk_at dksX6_person_0 12 rfl rfl)
theorem dX6_person_14 : decode cX6_person 14 = .ok (.invokestatic 123, 3) := dk_184 0 123 (dk_at dksX6_person_0 14 rfl rfl)
theorem dX6_person_17 : decode cX6_person 17 = .ok (.ifCond .eq 13, 3) := dk_153 0 13 (dk_at dksX6_person_0 17 rfl rfl)
theorem dX6_person_20 : decode cX6_person 20 = .ok (.iload_n 3, 1) := dk_29 (dk_at dksX6_person_0 20 rfl rfl)
theorem dX6_person_21 : decode cX6_person 21 = .ok (.iconst 0, 1) := dk_3 (dk_at dksX6_person_0 21 rfl rfl)
theorem dX6_person_22 : decode cX6_person 22 = .ok (.bipush 9, 2) := dk_16 9 (dk_at dksX6_person_0 22 rfl rfl)
theorem dX6_person_24 : decode cX6_person 24 = .ok (.invokestatic 123, 3) := dk_184 0 123 (dk_at dksX6_person_1 0 rfl rfl)
theorem dX6_person_27 : decode cX6_person 27 = .ok (.ifCond .ne 5, 3) := dk_154 0 5 (dk_at dksX6_person_1 3 rfl rfl)
theorem dX6_person_30 : decode cX6_person 30 = .ok (.iconst 0, 1) := dk_3 (dk_at dksX6_person_1 6 rfl rfl)
theorem dX6_person_31 : decode cX6_person 31 = .ok (.ireturn, 1) := dk_172 (dk_at dksX6_person_1 7 rfl rfl)
theorem dX6_person_32 : decode cX6_person 32 = .ok (.aload_n 0, 1) := dk_42 (dk_at dksX6_person_1 8 rfl rfl)
theorem dX6_person_33 : decode cX6_person 33 = .ok (.aload_n 0, 1) := dk_42 (dk_at dksX6_person_1 9 rfl rfl)
theorem dX6_person_34 : decode cX6_person 34 = .ok (.getfield 127, 3) := dk_180 0 127 (dk_at dksX6_person_1 10 rfl rfl)
theorem dX6_person_37 : decode cX6_person 37 = .ok (.iconst 1, 1) := dk_4 (dk_at dksX6_person_1 13 rfl rfl)
theorem dX6_person_38 : decode cX6_person 38 = .ok (.iload_n 1, 1) := dk_27 (dk_at dksX6_person_1 14 rfl rfl)
theorem dX6_person_39 : decode cX6_person 39 = .ok (.ishl, 1) := dk_120 (dk_at dksX6_person_1 15 rfl rfl)
theorem dX6_person_40 : decode cX6_person 40 = .ok (.ior, 1) := dk_128 (dk_at dksX6_person_1 16 rfl rfl)
theorem dX6_person_41 : decode cX6_person 41 = .ok (.putfield 127, 3) := dk_181 0 127 (dk_at dksX6_person_1 17 rfl rfl)
theorem dX6_person_44 : decode cX6_person 44 = .ok (.aload_n 0, 1) := dk_42 (dk_at dksX6_person_1 20 rfl rfl)
theorem dX6_person_45 : decode cX6_person 45 = .ok (.getfield 19, 3) := dk_180 0 19 (dk_at dksX6_person_1 21 rfl rfl)
theorem dX6_person_48 : decode cX6_person 48 = .ok (.iload_n 1, 1) := dk_27 (dk_at dksX6_person_2 0 rfl rfl)
theorem dX6_person_49 : decode cX6_person 49 = .ok (.iload_n 2, 1) := dk_28 (dk_at dksX6_person_2 1 rfl rfl)
theorem dX6_person_50 : decode cX6_person 50 = .ok (.iastore, 1) := dk_79 (dk_at dksX6_person_2 2 rfl rfl)
theorem dX6_person_51 : decode cX6_person 51 = .ok (.aload_n 0, 1) := dk_42 (dk_at dksX6_person_2 3 rfl rfl)
theorem dX6_person_52 : decode cX6_person 52 = .ok (.getfield 22, 3) := dk_180 0 22 (dk_at dksX6_person_2 4 rfl rfl)
theorem dX6_person_55 : decode cX6_person 55 = .ok (.iload_n 1, 1) := dk_27 (dk_at dksX6_person_2 7 rfl rfl)
theorem dX6_person_56 : decode cX6_person 56 = .ok (.iload_n 3, 1) := dk_29 (dk_at dksX6_person_2 8 rfl rfl)
theorem dX6_person_57 : decode cX6_person 57 = .ok (.iastore, 1) := dk_79 (dk_at dksX6_person_2 9 rfl rfl)
theorem dX6_person_58 : decode cX6_person 58 = .ok (.iconst 1, 1) := dk_4 (dk_at dksX6_person_2 10 rfl rfl)
theorem dX6_person_59 : decode cX6_person 59 = .ok (.ireturn, 1) := dk_172 (dk_at dksX6_person_2 11 rfl rfl)
abbrev cX6_in : ByteArray := prog_20_method_2_code
def yX6_in : MethodName := ⟨RX6, "in", "(III)Z"⟩
def dkwX6_in_0 : List UInt8 := [26, 27, 161, 0, 12, 26, 28, 163, 0, 7, 4, 167, 0, 4, 3, 172]
abbrev dktX6_in_0 : List UInt8 := dkwX6_in_0 ++ []
theorem dksX6_in_0 : cX6_in.data.toList.drop 0 = dktX6_in_0 := by decide +kernel
theorem dX6_in_0 : decode cX6_in 0 = .ok (.iload_n 0, 1) := dk_26 (dk_at dksX6_in_0 0 rfl rfl)
theorem dX6_in_1 : decode cX6_in 1 = .ok (.iload_n 1, 1) := dk_27 (dk_at dksX6_in_0 1 rfl rfl)
theorem dX6_in_2 : decode cX6_in 2 = .ok (.if_icmp .lt 12, 3) := dk_161 0 12 (dk_at dksX6_in_0 2 rfl rfl)
theorem dX6_in_5 : decode cX6_in 5 = .ok (.iload_n 0, 1) := dk_26 (dk_at dksX6_in_0 5 rfl rfl)
theorem dX6_in_6 : decode cX6_in 6 = .ok (.iload_n 2, 1) := dk_28 (dk_at dksX6_in_0 6 rfl rfl)
theorem dX6_in_7 : decode cX6_in 7 = .ok (.if_icmp .gt 7, 3) := dk_163 0 7 (dk_at dksX6_in_0 7 rfl rfl)
theorem dX6_in_10 : decode cX6_in 10 = .ok (.iconst 1, 1) := dk_4 (dk_at dksX6_in_0 10 rfl rfl)
theorem dX6_in_11 : decode cX6_in 11 = .ok (.goto 4, 3) := dk_167 0 4 (dk_at dksX6_in_0 11 rfl rfl)
theorem dX6_in_14 : decode cX6_in 14 = .ok (.iconst 0, 1) := dk_3 (dk_at dksX6_in_0 14 rfl rfl)
theorem dX6_in_15 : decode cX6_in 15 = .ok (.ireturn, 1) := dk_172 (dk_at dksX6_in_0 15 rfl rfl)
abbrev cX6_debt : ByteArray := prog_20_method_17_code
def yX6_debt : MethodName := ⟨RX6, "debt", "(III)Z"⟩
def dkwX6_debt_1 : List UInt8 := [180, 0, 7, 3, 16, 10, 27, 104, 96, 28, 96, 29, 79, 4, 172]
abbrev dktX6_debt_1 : List UInt8 := dkwX6_debt_1 ++ []
def dkwX6_debt_0 : List UInt8 := [42, 27, 28, 182, 0, 153, 153, 0, 13, 29, 3, 16, 99, 184, 0, 123, 154, 0, 5, 3, 172, 42]
abbrev dktX6_debt_0 : List UInt8 := dkwX6_debt_0 ++ dktX6_debt_1
theorem dksX6_debt_0 : cX6_debt.data.toList.drop 0 = dktX6_debt_0 := by decide +kernel
theorem dksX6_debt_1 : cX6_debt.data.toList.drop 22 = dktX6_debt_1 := dk_seg dksX6_debt_0 22 rfl rfl
theorem dX6_debt_0 : decode cX6_debt 0 = .ok (.aload_n 0, 1) := dk_42 (dk_at dksX6_debt_0 0 rfl rfl)
theorem dX6_debt_1 : decode cX6_debt 1 = .ok (.iload_n 1, 1) := dk_27 (dk_at dksX6_debt_0 1 rfl rfl)
theorem dX6_debt_2 : decode cX6_debt 2 = .ok (.iload_n 2, 1) := dk_28 (dk_at dksX6_debt_0 2 rfl rfl)
theorem dX6_debt_3 : decode cX6_debt 3 = .ok (.invokevirtual 153, 3) := dk_182 0 153 (dk_at dksX6_debt_0 3 rfl rfl)
theorem dX6_debt_6 : decode cX6_debt 6 = .ok (.ifCond .eq 13, 3) := dk_153 0 13 (dk_at dksX6_debt_0 6 rfl rfl)
theorem dX6_debt_9 : decode cX6_debt 9 = .ok (.iload_n 3, 1) := dk_29 (dk_at dksX6_debt_0 9 rfl rfl)
theorem dX6_debt_10 : decode cX6_debt 10 = .ok (.iconst 0, 1) := dk_3 (dk_at dksX6_debt_0 10 rfl rfl)
theorem dX6_debt_11 : decode cX6_debt 11 = .ok (.bipush 99, 2) := dk_16 99 (dk_at dksX6_debt_0 11 rfl rfl)
theorem dX6_debt_13 : decode cX6_debt 13 = .ok (.invokestatic 123, 3) := dk_184 0 123 (dk_at dksX6_debt_0 13 rfl rfl)
theorem dX6_debt_16 : decode cX6_debt 16 = .ok (.ifCond .ne 5, 3) := dk_154 0 5 (dk_at dksX6_debt_0 16 rfl rfl)
theorem dX6_debt_19 : decode cX6_debt 19 = .ok (.iconst 0, 1) := dk_3 (dk_at dksX6_debt_0 19 rfl rfl)
theorem dX6_debt_20 : decode cX6_debt 20 = .ok (.ireturn, 1) := dk_172 (dk_at dksX6_debt_0 20 rfl rfl)
theorem dX6_debt_21 : decode cX6_debt 21 = .ok (.aload_n 0, 1) := dk_42 (dk_at dksX6_debt_0 21 rfl rfl)
theorem dX6_debt_22 : decode cX6_debt 22 = .ok (.getfield 7, 3) := dk_180 0 7 (dk_at dksX6_debt_1 0 rfl rfl)
theorem dX6_debt_25 : decode cX6_debt 25 = .ok (.iconst 0, 1) := dk_3 (dk_at dksX6_debt_1 3 rfl rfl)
theorem dX6_debt_26 : decode cX6_debt 26 = .ok (.bipush 10, 2) := dk_16 10 (dk_at dksX6_debt_1 4 rfl rfl)
theorem dX6_debt_28 : decode cX6_debt 28 = .ok (.iload_n 1, 1) := dk_27 (dk_at dksX6_debt_1 6 rfl rfl)
theorem dX6_debt_29 : decode cX6_debt 29 = .ok (.imul, 1) := dk_104 (dk_at dksX6_debt_1 7 rfl rfl)
theorem dX6_debt_30 : decode cX6_debt 30 = .ok (.iadd, 1) := dk_96 (dk_at dksX6_debt_1 8 rfl rfl)
theorem dX6_debt_31 : decode cX6_debt 31 = .ok (.iload_n 2, 1) := dk_28 (dk_at dksX6_debt_1 9 rfl rfl)
theorem dX6_debt_32 : decode cX6_debt 32 = .ok (.iadd, 1) := dk_96 (dk_at dksX6_debt_1 10 rfl rfl)
theorem dX6_debt_33 : decode cX6_debt 33 = .ok (.iload_n 3, 1) := dk_29 (dk_at dksX6_debt_1 11 rfl rfl)
theorem dX6_debt_34 : decode cX6_debt 34 = .ok (.iastore, 1) := dk_79 (dk_at dksX6_debt_1 12 rfl rfl)
theorem dX6_debt_35 : decode cX6_debt 35 = .ok (.iconst 1, 1) := dk_4 (dk_at dksX6_debt_1 13 rfl rfl)
theorem dX6_debt_36 : decode cX6_debt 36 = .ok (.ireturn, 1) := dk_172 (dk_at dksX6_debt_1 14 rfl rfl)
abbrev cX6_areTwo : ByteArray := prog_20_method_10_code
def yX6_areTwo : MethodName := ⟨RX6, "areTwo", "(II)Z"⟩
def dkwX6_areTwo_1 : List UInt8 := [167, 0, 4, 3, 172]
abbrev dktX6_areTwo_1 : List UInt8 := dkwX6_areTwo_1 ++ []
def dkwX6_areTwo_0 : List UInt8 := [42, 27, 182, 0, 135, 153, 0, 20, 42, 28, 182, 0, 135, 153, 0, 12, 27, 28, 159, 0, 7, 4]
abbrev dktX6_areTwo_0 : List UInt8 := dkwX6_areTwo_0 ++ dktX6_areTwo_1
theorem dksX6_areTwo_0 : cX6_areTwo.data.toList.drop 0 = dktX6_areTwo_0 := by decide +kernel
theorem dksX6_areTwo_1 : cX6_areTwo.data.toList.drop 22 = dktX6_areTwo_1 := dk_seg dksX6_areTwo_0 22 rfl rfl
theorem dX6_areTwo_0 : decode cX6_areTwo 0 = .ok (.aload_n 0, 1) := dk_42 (dk_at dksX6_areTwo_0 0 rfl rfl)
theorem dX6_areTwo_1 : decode cX6_areTwo 1 = .ok (.iload_n 1, 1) := dk_27 (dk_at dksX6_areTwo_0 1 rfl rfl)
theorem dX6_areTwo_2 : decode cX6_areTwo 2 = .ok (.invokevirtual 135, 3) := dk_182 0 135 (dk_at dksX6_areTwo_0 2 rfl rfl)
theorem dX6_areTwo_5 : decode cX6_areTwo 5 = .ok (.ifCond .eq 20, 3) := dk_153 0 20 (dk_at dksX6_areTwo_0 5 rfl rfl)
theorem dX6_areTwo_8 : decode cX6_areTwo 8 = .ok (.aload_n 0, 1) := dk_42 (dk_at dksX6_areTwo_0 8 rfl rfl)
theorem dX6_areTwo_9 : decode cX6_areTwo 9 = .ok (.iload_n 2, 1) := dk_28 (dk_at dksX6_areTwo_0 9 rfl rfl)
theorem dX6_areTwo_10 : decode cX6_areTwo 10 = .ok (.invokevirtual 135, 3) := dk_182 0 135 (dk_at dksX6_areTwo_0 10 rfl rfl)
theorem dX6_areTwo_13 : decode cX6_areTwo 13 = .ok (.ifCond .eq 12, 3) := dk_153 0 12 (dk_at dksX6_areTwo_0 13 rfl rfl)
theorem dX6_areTwo_16 : decode cX6_areTwo 16 = .ok (.iload_n 1, 1) := dk_27 (dk_at dksX6_areTwo_0 16 rfl rfl)
theorem dX6_areTwo_17 : decode cX6_areTwo 17 = .ok (.iload_n 2, 1) := dk_28 (dk_at dksX6_areTwo_0 17 rfl rfl)
theorem dX6_areTwo_18 : decode cX6_areTwo 18 = .ok (.if_icmp .eq 7, 3) := dk_159 0 7 (dk_at dksX6_areTwo_0 18 rfl rfl)
theorem dX6_areTwo_21 : decode cX6_areTwo 21 = .ok (.iconst 1, 1) := dk_4 (dk_at dksX6_areTwo_0 21 rfl rfl)
theorem dX6_areTwo_22 : decode cX6_areTwo 22 = .ok (.goto 4, 3) := dk_167 0 4 (dk_at dksX6_areTwo_1 0 rfl rfl)
theorem dX6_areTwo_25 : decode cX6_areTwo 25 = .ok (.iconst 0, 1) := dk_3 (dk_at dksX6_areTwo_1 3 rfl rfl)
theorem dX6_areTwo_26 : decode cX6_areTwo 26 = .ok (.ireturn, 1) := dk_172 (dk_at dksX6_areTwo_1 4 rfl rfl)
abbrev cX6_isPerson : ByteArray := prog_20_method_9_code
def yX6_isPerson : MethodName := ⟨RX6, "isPerson", "(I)Z"⟩
def dkwX6_isPerson_1 : List UInt8 := [167, 0, 4, 3, 172]
abbrev dktX6_isPerson_1 : List UInt8 := dkwX6_isPerson_1 ++ []
def dkwX6_isPerson_0 : List UInt8 := [27, 3, 16, 9, 184, 0, 123, 153, 0, 18, 42, 180, 0, 127, 27, 184, 0, 131, 153, 0, 7, 4]
abbrev dktX6_isPerson_0 : List UInt8 := dkwX6_isPerson_0 ++ dktX6_isPerson_1
theorem dksX6_isPerson_0 : cX6_isPerson.data.toList.drop 0 = dktX6_isPerson_0 := by decide +kernel
theorem dksX6_isPerson_1 : cX6_isPerson.data.toList.drop 22 = dktX6_isPerson_1 := dk_seg dksX6_isPerson_0 22 rfl rfl
theorem dX6_isPerson_0 : decode cX6_isPerson 0 = .ok (.iload_n 1, 1) := dk_27 (dk_at dksX6_isPerson_0 0 rfl rfl)
theorem dX6_isPerson_1 : decode cX6_isPerson 1 = .ok (.iconst 0, 1) := dk_3 (dk_at dksX6_isPerson_0 1 rfl rfl)
theorem dX6_isPerson_2 : decode cX6_isPerson 2 = .ok (.bipush 9, 2) := dk_16 9 (dk_at dksX6_isPerson_0 2 rfl rfl)
theorem dX6_isPerson_4 : decode cX6_isPerson 4 = .ok (.invokestatic 123, 3) := dk_184 0 123 (dk_at dksX6_isPerson_0 4 rfl rfl)
theorem dX6_isPerson_7 : decode cX6_isPerson 7 = .ok (.ifCond .eq 18, 3) := dk_153 0 18 (dk_at dksX6_isPerson_0 7 rfl rfl)
theorem dX6_isPerson_10 : decode cX6_isPerson 10 = .ok (.aload_n 0, 1) := dk_42 (dk_at dksX6_isPerson_0 10 rfl rfl)
theorem dX6_isPerson_11 : decode cX6_isPerson 11 = .ok (.getfield 127, 3) := dk_180 0 127 (dk_at dksX6_isPerson_0 11 rfl rfl)
theorem dX6_isPerson_14 : decode cX6_isPerson 14 = .ok (.iload_n 1, 1) := dk_27 (dk_at dksX6_isPerson_0 14 rfl rfl)
theorem dX6_isPerson_15 : decode cX6_isPerson 15 = .ok (.invokestatic 131, 3) := dk_184 0 131 (dk_at dksX6_isPerson_0 15 rfl rfl)
theorem dX6_isPerson_18 : decode cX6_isPerson 18 = .ok (.ifCond .eq 7, 3) := dk_153 0 7 (dk_at dksX6_isPerson_0 18 rfl rfl)
theorem dX6_isPerson_21 : decode cX6_isPerson 21 = .ok (.iconst 1, 1) := dk_4 (dk_at dksX6_isPerson_0 21 rfl rfl)
theorem dX6_isPerson_22 : decode cX6_isPerson 22 = .ok (.goto 4, 3) := dk_167 0 4 (dk_at dksX6_isPerson_1 0 rfl rfl)
theorem dX6_isPerson_25 : decode cX6_isPerson 25 = .ok (.iconst 0, 1) := dk_3 (dk_at dksX6_isPerson_1 3 rfl rfl)
theorem dX6_isPerson_26 : decode cX6_isPerson 26 = .ok (.ireturn, 1) := dk_172 (dk_at dksX6_isPerson_1 4 rfl rfl)
abbrev cX6_has : ByteArray := prog_20_method_6_code
def yX6_has : MethodName := ⟨RX6, "has", "(II)Z"⟩
def dkwX6_has_0 : List UInt8 := [26, 27, 122, 4, 126, 4, 160, 0, 7, 4, 167, 0, 4, 3, 172]
abbrev dktX6_has_0 : List UInt8 := dkwX6_has_0 ++ []
theorem dksX6_has_0 : cX6_has.data.toList.drop 0 = dktX6_has_0 := by decide +kernel
theorem dX6_has_0 : decode cX6_has 0 = .ok (.iload_n 0, 1) := dk_26 (dk_at dksX6_has_0 0 rfl rfl)
theorem dX6_has_1 : decode cX6_has 1 = .ok (.iload_n 1, 1) := dk_27 (dk_at dksX6_has_0 1 rfl rfl)
theorem dX6_has_2 : decode cX6_has 2 = .ok (.ishr, 1) := dk_122 (dk_at dksX6_has_0 2 rfl rfl)
theorem dX6_has_3 : decode cX6_has 3 = .ok (.iconst 1, 1) := dk_4 (dk_at dksX6_has_0 3 rfl rfl)
theorem dX6_has_4 : decode cX6_has 4 = .ok (.iand, 1) := dk_126 (dk_at dksX6_has_0 4 rfl rfl)
theorem dX6_has_5 : decode cX6_has 5 = .ok (.iconst 1, 1) := dk_4 (dk_at dksX6_has_0 5 rfl rfl)
theorem dX6_has_6 : decode cX6_has 6 = .ok (.if_icmp .ne 7, 3) := dk_160 0 7 (dk_at dksX6_has_0 6 rfl rfl)
theorem dX6_has_9 : decode cX6_has 9 = .ok (.iconst 1, 1) := dk_4 (dk_at dksX6_has_0 9 rfl rfl)
theorem dX6_has_10 : decode cX6_has 10 = .ok (.goto 4, 3) := dk_167 0 4 (dk_at dksX6_has_0 10 rfl rfl)
theorem dX6_has_13 : decode cX6_has 13 = .ok (.iconst 0, 1) := dk_3 (dk_at dksX6_has_0 13 rfl rfl)
theorem dX6_has_14 : decode cX6_has 14 = .ok (.ireturn, 1) := dk_172 (dk_at dksX6_has_0 14 rfl rfl)
abbrev cX6_coin : ByteArray := prog_20_method_19_code
def yX6_coin : MethodName := ⟨RX6, "coin", "(I)Z"⟩
def dkwX6_coin_0 : List UInt8 := [42, 27, 182, 0, 135, 154, 0, 5, 3, 172, 42, 27, 182, 0, 156, 4, 172]
abbrev dktX6_coin_0 : List UInt8 := dkwX6_coin_0 ++ []
theorem dksX6_coin_0 : cX6_coin.data.toList.drop 0 = dktX6_coin_0 := by decide +kernel
theorem dX6_coin_0 : decode cX6_coin 0 = .ok (.aload_n 0, 1) := dk_42 (dk_at dksX6_coin_0 0 rfl rfl)
theorem dX6_coin_1 : decode cX6_coin 1 = .ok (.iload_n 1, 1) := dk_27 (dk_at dksX6_coin_0 1 rfl rfl)
theorem dX6_coin_2 : decode cX6_coin 2 = .ok (.invokevirtual 135, 3) := dk_182 0 135 (dk_at dksX6_coin_0 2 rfl rfl)
theorem dX6_coin_5 : decode cX6_coin 5 = .ok (.ifCond .ne 5, 3) := dk_154 0 5 (dk_at dksX6_coin_0 5 rfl rfl)
theorem dX6_coin_8 : decode cX6_coin 8 = .ok (.iconst 0, 1) := dk_3 (dk_at dksX6_coin_0 8 rfl rfl)
theorem dX6_coin_9 : decode cX6_coin 9 = .ok (.ireturn, 1) := dk_172 (dk_at dksX6_coin_0 9 rfl rfl)
theorem dX6_coin_10 : decode cX6_coin 10 = .ok (.aload_n 0, 1) := dk_42 (dk_at dksX6_coin_0 10 rfl rfl)
theorem dX6_coin_11 : decode cX6_coin 11 = .ok (.iload_n 1, 1) := dk_27 (dk_at dksX6_coin_0 11 rfl rfl)
theorem dX6_coin_12 : decode cX6_coin 12 = .ok (.invokevirtual 156, 3) := dk_182 0 156 (dk_at dksX6_coin_0 12 rfl rfl)
theorem dX6_coin_15 : decode cX6_coin 15 = .ok (.iconst 1, 1) := dk_4 (dk_at dksX6_coin_0 15 rfl rfl)
theorem dX6_coin_16 : decode cX6_coin 16 = .ok (.ireturn, 1) := dk_172 (dk_at dksX6_coin_0 16 rfl rfl)
abbrev cX6_rests : ByteArray := prog_20_method_18_code
def yX6_rests : MethodName := ⟨RX6, "rests", "(I)V"⟩
def dkwX6_rests_1 : List UInt8 := [17, 0, 154, 3, 79, 177]
abbrev dktX6_rests_1 : List UInt8 := dkwX6_rests_1 ++ []
def dkwX6_rests_0 : List UInt8 := [42, 180, 0, 7, 17, 0, 151, 27, 79, 42, 180, 0, 7, 17, 0, 153, 16, 254, 79, 42, 180, 0, 7]
abbrev dktX6_rests_0 : List UInt8 := dkwX6_rests_0 ++ dktX6_rests_1
theorem dksX6_rests_0 : cX6_rests.data.toList.drop 0 = dktX6_rests_0 := by decide +kernel
theorem dksX6_rests_1 : cX6_rests.data.toList.drop 23 = dktX6_rests_1 := dk_seg dksX6_rests_0 23 rfl rfl
theorem dX6_rests_0 : decode cX6_rests 0 = .ok (.aload_n 0, 1) := dk_42 (dk_at dksX6_rests_0 0 rfl rfl)
theorem dX6_rests_1 : decode cX6_rests 1 = .ok (.getfield 7, 3) := dk_180 0 7 (dk_at dksX6_rests_0 1 rfl rfl)
theorem dX6_rests_4 : decode cX6_rests 4 = .ok (.sipush 151, 3) := dk_17 0 151 (dk_at dksX6_rests_0 4 rfl rfl)
theorem dX6_rests_7 : decode cX6_rests 7 = .ok (.iload_n 1, 1) := dk_27 (dk_at dksX6_rests_0 7 rfl rfl)
theorem dX6_rests_8 : decode cX6_rests 8 = .ok (.iastore, 1) := dk_79 (dk_at dksX6_rests_0 8 rfl rfl)
theorem dX6_rests_9 : decode cX6_rests 9 = .ok (.aload_n 0, 1) := dk_42 (dk_at dksX6_rests_0 9 rfl rfl)
theorem dX6_rests_10 : decode cX6_rests 10 = .ok (.getfield 7, 3) := dk_180 0 7 (dk_at dksX6_rests_0 10 rfl rfl)
theorem dX6_rests_13 : decode cX6_rests 13 = .ok (.sipush 153, 3) := dk_17 0 153 (dk_at dksX6_rests_0 13 rfl rfl)
theorem dX6_rests_16 : decode cX6_rests 16 = .ok (.bipush (-2), 2) := dk_16 254 (dk_at dksX6_rests_0 16 rfl rfl)
theorem dX6_rests_18 : decode cX6_rests 18 = .ok (.iastore, 1) := dk_79 (dk_at dksX6_rests_0 18 rfl rfl)
theorem dX6_rests_19 : decode cX6_rests 19 = .ok (.aload_n 0, 1) := dk_42 (dk_at dksX6_rests_0 19 rfl rfl)
theorem dX6_rests_20 : decode cX6_rests 20 = .ok (.getfield 7, 3) := dk_180 0 7 (dk_at dksX6_rests_0 20 rfl rfl)
theorem dX6_rests_23 : decode cX6_rests 23 = .ok (.sipush 154, 3) := dk_17 0 154 (dk_at dksX6_rests_1 0 rfl rfl)
theorem dX6_rests_26 : decode cX6_rests 26 = .ok (.iconst 0, 1) := dk_3 (dk_at dksX6_rests_1 3 rfl rfl)
theorem dX6_rests_27 : decode cX6_rests 27 = .ok (.iastore, 1) := dk_79 (dk_at dksX6_rests_1 4 rfl rfl)
theorem dX6_rests_28 : decode cX6_rests 28 = .ok (.return_, 1) := dk_177 (dk_at dksX6_rests_1 5 rfl rfl)
abbrev cX6_feed : ByteArray := prog_20_method_21_code
def yX6_feed : MethodName := ⟨RX6, "feed", "(IIIII)I"⟩
def dkwX6_feed_2 : List UInt8 := [172]
abbrev dktX6_feed_2 : List UInt8 := dkwX6_feed_2 ++ []
def dkwX6_feed_1 : List UInt8 := [182, 0, 163, 42, 29, 182, 0, 163, 42, 21, 4, 182, 0, 163, 42, 21, 5, 182, 0, 163, 42, 180, 0, 160]
abbrev dktX6_feed_1 : List UInt8 := dkwX6_feed_1 ++ dktX6_feed_2
def dkwX6_feed_0 : List UInt8 := [42, 180, 0, 160, 16, 20, 96, 17, 1, 4, 164, 0, 5, 2, 172, 42, 27, 182, 0, 163, 42, 28]
abbrev dktX6_feed_0 : List UInt8 := dkwX6_feed_0 ++ dktX6_feed_1
theorem dksX6_feed_0 : cX6_feed.data.toList.drop 0 = dktX6_feed_0 := by decide +kernel
theorem dksX6_feed_1 : cX6_feed.data.toList.drop 22 = dktX6_feed_1 := dk_seg dksX6_feed_0 22 rfl rfl
theorem dksX6_feed_2 : cX6_feed.data.toList.drop 46 = dktX6_feed_2 := dk_seg dksX6_feed_1 24 rfl rfl
theorem dX6_feed_0 : decode cX6_feed 0 = .ok (.aload_n 0, 1) := dk_42 (dk_at dksX6_feed_0 0 rfl rfl)
theorem dX6_feed_1 : decode cX6_feed 1 = .ok (.getfield 160, 3) := dk_180 0 160 (dk_at dksX6_feed_0 1 rfl rfl)
theorem dX6_feed_4 : decode cX6_feed 4 = .ok (.bipush 20, 2) := dk_16 20 (dk_at dksX6_feed_0 4 rfl rfl)
theorem dX6_feed_6 : decode cX6_feed 6 = .ok (.iadd, 1) := dk_96 (dk_at dksX6_feed_0 6 rfl rfl)
theorem dX6_feed_7 : decode cX6_feed 7 = .ok (.sipush 260, 3) := dk_17 1 4 (dk_at dksX6_feed_0 7 rfl rfl)
theorem dX6_feed_10 : decode cX6_feed 10 = .ok (.if_icmp .le 5, 3) := dk_164 0 5 (dk_at dksX6_feed_0 10 rfl rfl)
theorem dX6_feed_13 : decode cX6_feed 13 = .ok (.iconst (-1), 1) := dk_2 (dk_at dksX6_feed_0 13 rfl rfl)
theorem dX6_feed_14 : decode cX6_feed 14 = .ok (.ireturn, 1) := dk_172 (dk_at dksX6_feed_0 14 rfl rfl)
theorem dX6_feed_15 : decode cX6_feed 15 = .ok (.aload_n 0, 1) := dk_42 (dk_at dksX6_feed_0 15 rfl rfl)
theorem dX6_feed_16 : decode cX6_feed 16 = .ok (.iload_n 1, 1) := dk_27 (dk_at dksX6_feed_0 16 rfl rfl)
theorem dX6_feed_17 : decode cX6_feed 17 = .ok (.invokevirtual 163, 3) := dk_182 0 163 (dk_at dksX6_feed_0 17 rfl rfl)
theorem dX6_feed_20 : decode cX6_feed 20 = .ok (.aload_n 0, 1) := dk_42 (dk_at dksX6_feed_0 20 rfl rfl)
theorem dX6_feed_21 : decode cX6_feed 21 = .ok (.iload_n 2, 1) := dk_28 (dk_at dksX6_feed_0 21 rfl rfl)
theorem dX6_feed_22 : decode cX6_feed 22 = .ok (.invokevirtual 163, 3) := dk_182 0 163 (dk_at dksX6_feed_1 0 rfl rfl)
theorem dX6_feed_25 : decode cX6_feed 25 = .ok (.aload_n 0, 1) := dk_42 (dk_at dksX6_feed_1 3 rfl rfl)
theorem dX6_feed_26 : decode cX6_feed 26 = .ok (.iload_n 3, 1) := dk_29 (dk_at dksX6_feed_1 4 rfl rfl)
theorem dX6_feed_27 : decode cX6_feed 27 = .ok (.invokevirtual 163, 3) := dk_182 0 163 (dk_at dksX6_feed_1 5 rfl rfl)
theorem dX6_feed_30 : decode cX6_feed 30 = .ok (.aload_n 0, 1) := dk_42 (dk_at dksX6_feed_1 8 rfl rfl)
theorem dX6_feed_31 : decode cX6_feed 31 = .ok (.iload 4, 2) := dk_21 4 (dk_at dksX6_feed_1 9 rfl rfl)
theorem dX6_feed_33 : decode cX6_feed 33 = .ok (.invokevirtual 163, 3) := dk_182 0 163 (dk_at dksX6_feed_1 11 rfl rfl)
theorem dX6_feed_36 : decode cX6_feed 36 = .ok (.aload_n 0, 1) := dk_42 (dk_at dksX6_feed_1 14 rfl rfl)
theorem dX6_feed_37 : decode cX6_feed 37 = .ok (.iload 5, 2) := dk_21 5 (dk_at dksX6_feed_1 15 rfl rfl)
theorem dX6_feed_39 : decode cX6_feed 39 = .ok (.invokevirtual 163, 3) := dk_182 0 163 (dk_at dksX6_feed_1 17 rfl rfl)
theorem dX6_feed_42 : decode cX6_feed 42 = .ok (.aload_n 0, 1) := dk_42 (dk_at dksX6_feed_1 20 rfl rfl)
theorem dX6_feed_43 : decode cX6_feed 43 = .ok (.getfield 160, 3) := dk_180 0 160 (dk_at dksX6_feed_1 21 rfl rfl)
theorem dX6_feed_46 : decode cX6_feed 46 = .ok (.ireturn, 1) := dk_172 (dk_at dksX6_feed_2 0 rfl rfl)
abbrev cX6_types : ByteArray := prog_20_method_20_code
def yX6_types : MethodName := ⟨RX6, "types", "(I)V"⟩
def dkwX6_types_1 : List UInt8 := [180, 0, 160, 4, 96, 181, 0, 160, 132, 2, 255, 167, 255, 223, 177]
abbrev dktX6_types_1 : List UInt8 := dkwX6_types_1 ++ []
def dkwX6_types_0 : List UInt8 := [6, 61, 28, 155, 0, 35, 42, 180, 0, 25, 42, 180, 0, 160, 27, 16, 8, 28, 104, 122, 145, 84, 42, 42]
abbrev dktX6_types_0 : List UInt8 := dkwX6_types_0 ++ dktX6_types_1
theorem dksX6_types_0 : cX6_types.data.toList.drop 0 = dktX6_types_0 := by decide +kernel
theorem dksX6_types_1 : cX6_types.data.toList.drop 24 = dktX6_types_1 := dk_seg dksX6_types_0 24 rfl rfl
theorem dX6_types_0 : decode cX6_types 0 = .ok (.iconst 3, 1) := dk_6 (dk_at dksX6_types_0 0 rfl rfl)
theorem dX6_types_1 : decode cX6_types 1 = .ok (.istore_n 2, 1) := dk_61 (dk_at dksX6_types_0 1 rfl rfl)
theorem dX6_types_2 : decode cX6_types 2 = .ok (.iload_n 2, 1) := dk_28 (dk_at dksX6_types_0 2 rfl rfl)
theorem dX6_types_3 : decode cX6_types 3 = .ok (.ifCond .lt 35, 3) := dk_155 0 35 (dk_at dksX6_types_0 3 rfl rfl)
theorem dX6_types_6 : decode cX6_types 6 = .ok (.aload_n 0, 1) := dk_42 (dk_at dksX6_types_0 6 rfl rfl)
theorem dX6_types_7 : decode cX6_types 7 = .ok (.getfield 25, 3) := dk_180 0 25 (dk_at dksX6_types_0 7 rfl rfl)
theorem dX6_types_10 : decode cX6_types 10 = .ok (.aload_n 0, 1) := dk_42 (dk_at dksX6_types_0 10 rfl rfl)
theorem dX6_types_11 : decode cX6_types 11 = .ok (.getfield 160, 3) := dk_180 0 160 (dk_at dksX6_types_0 11 rfl rfl)
theorem dX6_types_14 : decode cX6_types 14 = .ok (.iload_n 1, 1) := dk_27 (dk_at dksX6_types_0 14 rfl rfl)
theorem dX6_types_15 : decode cX6_types 15 = .ok (.bipush 8, 2) := dk_16 8 (dk_at dksX6_types_0 15 rfl rfl)
theorem dX6_types_17 : decode cX6_types 17 = .ok (.iload_n 2, 1) := dk_28 (dk_at dksX6_types_0 17 rfl rfl)
theorem dX6_types_18 : decode cX6_types 18 = .ok (.imul, 1) := dk_104 (dk_at dksX6_types_0 18 rfl rfl)
theorem dX6_types_19 : decode cX6_types 19 = .ok (.ishr, 1) := dk_122 (dk_at dksX6_types_0 19 rfl rfl)
theorem dX6_types_20 : decode cX6_types 20 = .ok (.i2b, 1) := dk_145 (dk_at dksX6_types_0 20 rfl rfl)
theorem dX6_types_21 : decode cX6_types 21 = .ok (.bastore, 1) := dk_84 (dk_at dksX6_types_0 21 rfl rfl)
theorem dX6_types_22 : decode cX6_types 22 = .ok (.aload_n 0, 1) := dk_42 (dk_at dksX6_types_0 22 rfl rfl)
theorem dX6_types_23 : decode cX6_types 23 = .ok (.aload_n 0, 1) := dk_42 (dk_at dksX6_types_0 23 rfl rfl)
theorem dX6_types_24 : decode cX6_types 24 = .ok (.getfield 160, 3) := dk_180 0 160 (dk_at dksX6_types_1 0 rfl rfl)
theorem dX6_types_27 : decode cX6_types 27 = .ok (.iconst 1, 1) := dk_4 (dk_at dksX6_types_1 3 rfl rfl)
theorem dX6_types_28 : decode cX6_types 28 = .ok (.iadd, 1) := dk_96 (dk_at dksX6_types_1 4 rfl rfl)
theorem dX6_types_29 : decode cX6_types 29 = .ok (.putfield 160, 3) := dk_181 0 160 (dk_at dksX6_types_1 5 rfl rfl)
theorem dX6_types_32 : decode cX6_types 32 = .ok (.iinc 2 (-1), 3) := dk_132 2 255 (dk_at dksX6_types_1 8 rfl rfl)
theorem dX6_types_35 : decode cX6_types 35 = .ok (.goto (-33), 3) := dk_167 255 223 (dk_at dksX6_types_1 11 rfl rfl)
theorem dX6_types_38 : decode cX6_types 38 = .ok (.return_, 1) := dk_177 (dk_at dksX6_types_1 14 rfl rfl)
abbrev cX6_law : ByteArray := prog_20_method_42_code
def yX6_law : MethodName := ⟨RX6, "law", "(I)I"⟩
def dkwX6_law_8 : List UInt8 := [29, 46, 79, 132, 3, 1, 167, 255, 197, 42, 180, 0, 243, 172]
abbrev dktX6_law_8 : List UInt8 := dkwX6_law_8 ++ []
def dkwX6_law_7 : List UInt8 := [29, 46, 79, 42, 180, 0, 56, 29, 42, 180, 0, 41, 29, 46, 79, 42, 180, 0, 59, 29, 42, 180, 0, 44]
abbrev dktX6_law_7 : List UInt8 := dkwX6_law_7 ++ dktX6_law_8
def dkwX6_law_6 : List UInt8 := [162, 0, 57, 42, 180, 0, 50, 29, 42, 180, 0, 35, 29, 46, 79, 42, 180, 0, 53, 29, 42, 180, 0, 38]
abbrev dktX6_law_6 : List UInt8 := dkwX6_law_6 ++ dktX6_law_7
def dkwX6_law_5 : List UInt8 := [180, 0, 47, 29, 42, 180, 0, 29, 29, 46, 79, 132, 3, 1, 167, 255, 233, 3, 62, 29, 42, 180, 0, 243]
abbrev dktX6_law_5 : List UInt8 := dkwX6_law_5 ++ dktX6_law_6
def dkwX6_law_4 : List UInt8 := [42, 180, 0, 176, 172, 42, 42, 180, 0, 243, 181, 0, 255, 3, 62, 29, 42, 180, 0, 189, 162, 0, 21, 42]
abbrev dktX6_law_4 : List UInt8 := dkwX6_law_4 ++ dktX6_law_5
def dkwX6_law_3 : List UInt8 := [182, 0, 249, 153, 0, 7, 4, 167, 0, 4, 3, 61, 167, 255, 219, 42, 3, 181, 0, 160, 28, 154, 0, 8]
abbrev dktX6_law_3 : List UInt8 := dkwX6_law_3 ++ dktX6_law_4
def dkwX6_law_2 : List UInt8 := [153, 0, 39, 42, 180, 0, 166, 42, 180, 0, 169, 162, 0, 28, 42, 16, 59, 182, 0, 252, 153, 0, 14, 42]
abbrev dktX6_law_2 : List UInt8 := dkwX6_law_2 ++ dktX6_law_3
def dkwX6_law_1 : List UInt8 := [181, 0, 166, 42, 27, 181, 0, 169, 42, 3, 181, 0, 189, 42, 3, 181, 0, 243, 42, 182, 0, 249, 61, 28]
abbrev dktX6_law_1 : List UInt8 := dkwX6_law_1 ++ dktX6_law_2
def dkwX6_law_0 : List UInt8 := [27, 4, 17, 0, 240, 184, 0, 123, 153, 0, 11, 27, 42, 180, 0, 160, 164, 0, 5, 2, 172, 42, 3]
abbrev dktX6_law_0 : List UInt8 := dkwX6_law_0 ++ dktX6_law_1
theorem dksX6_law_0 : cX6_law.data.toList.drop 0 = dktX6_law_0 := by decide +kernel
theorem dksX6_law_1 : cX6_law.data.toList.drop 23 = dktX6_law_1 := dk_seg dksX6_law_0 23 rfl rfl
theorem dksX6_law_2 : cX6_law.data.toList.drop 47 = dktX6_law_2 := dk_seg dksX6_law_1 24 rfl rfl
theorem dksX6_law_3 : cX6_law.data.toList.drop 71 = dktX6_law_3 := dk_seg dksX6_law_2 24 rfl rfl
theorem dksX6_law_4 : cX6_law.data.toList.drop 95 = dktX6_law_4 := dk_seg dksX6_law_3 24 rfl rfl
theorem dksX6_law_5 : cX6_law.data.toList.drop 119 = dktX6_law_5 := dk_seg dksX6_law_4 24 rfl rfl
theorem dksX6_law_6 : cX6_law.data.toList.drop 143 = dktX6_law_6 := dk_seg dksX6_law_5 24 rfl rfl
theorem dksX6_law_7 : cX6_law.data.toList.drop 167 = dktX6_law_7 := dk_seg dksX6_law_6 24 rfl rfl
theorem dksX6_law_8 : cX6_law.data.toList.drop 191 = dktX6_law_8 := dk_seg dksX6_law_7 24 rfl rfl
theorem dX6_law_0 : decode cX6_law 0 = .ok (.iload_n 1, 1) := dk_27 (dk_at dksX6_law_0 0 rfl rfl)
theorem dX6_law_1 : decode cX6_law 1 = .ok (.iconst 1, 1) := dk_4 (dk_at dksX6_law_0 1 rfl rfl)
theorem dX6_law_2 : decode cX6_law 2 = .ok (.sipush 240, 3) := dk_17 0 240 (dk_at dksX6_law_0 2 rfl rfl)
theorem dX6_law_5 : decode cX6_law 5 = .ok (.invokestatic 123, 3) := dk_184 0 123 (dk_at dksX6_law_0 5 rfl rfl)
theorem dX6_law_8 : decode cX6_law 8 = .ok (.ifCond .eq 11, 3) := dk_153 0 11 (dk_at dksX6_law_0 8 rfl rfl)
theorem dX6_law_11 : decode cX6_law 11 = .ok (.iload_n 1, 1) := dk_27 (dk_at dksX6_law_0 11 rfl rfl)
theorem dX6_law_12 : decode cX6_law 12 = .ok (.aload_n 0, 1) := dk_42 (dk_at dksX6_law_0 12 rfl rfl)
theorem dX6_law_13 : decode cX6_law 13 = .ok (.getfield 160, 3) := dk_180 0 160 (dk_at dksX6_law_0 13 rfl rfl)
theorem dX6_law_16 : decode cX6_law 16 = .ok (.if_icmp .le 5, 3) := dk_164 0 5 (dk_at dksX6_law_0 16 rfl rfl)
theorem dX6_law_19 : decode cX6_law 19 = .ok (.iconst (-1), 1) := dk_2 (dk_at dksX6_law_0 19 rfl rfl)
theorem dX6_law_20 : decode cX6_law 20 = .ok (.ireturn, 1) := dk_172 (dk_at dksX6_law_0 20 rfl rfl)
theorem dX6_law_21 : decode cX6_law 21 = .ok (.aload_n 0, 1) := dk_42 (dk_at dksX6_law_0 21 rfl rfl)
theorem dX6_law_22 : decode cX6_law 22 = .ok (.iconst 0, 1) := dk_3 (dk_at dksX6_law_0 22 rfl rfl)
theorem dX6_law_23 : decode cX6_law 23 = .ok (.putfield 166, 3) := dk_181 0 166 (dk_at dksX6_law_1 0 rfl rfl)
theorem dX6_law_26 : decode cX6_law 26 = .ok (.aload_n 0, 1) := dk_42 (dk_at dksX6_law_1 3 rfl rfl)
theorem dX6_law_27 : decode cX6_law 27 = .ok (.iload_n 1, 1) := dk_27 (dk_at dksX6_law_1 4 rfl rfl)
theorem dX6_law_28 : decode cX6_law 28 = .ok (.putfield 169, 3) := dk_181 0 169 (dk_at dksX6_law_1 5 rfl rfl)
theorem dX6_law_31 : decode cX6_law 31 = .ok (.aload_n 0, 1) := dk_42 (dk_at dksX6_law_1 8 rfl rfl)
theorem dX6_law_32 : decode cX6_law 32 = .ok (.iconst 0, 1) := dk_3 (dk_at dksX6_law_1 9 rfl rfl)
theorem dX6_law_33 : decode cX6_law 33 = .ok (.putfield 189, 3) := dk_181 0 189 (dk_at dksX6_law_1 10 rfl rfl)
theorem dX6_law_36 : decode cX6_law 36 = .ok (.aload_n 0, 1) := dk_42 (dk_at dksX6_law_1 13 rfl rfl)
theorem dX6_law_37 : decode cX6_law 37 = .ok (.iconst 0, 1) := dk_3 (dk_at dksX6_law_1 14 rfl rfl)
theorem dX6_law_38 : decode cX6_law 38 = .ok (.putfield 243, 3) := dk_181 0 243 (dk_at dksX6_law_1 15 rfl rfl)
theorem dX6_law_41 : decode cX6_law 41 = .ok (.aload_n 0, 1) := dk_42 (dk_at dksX6_law_1 18 rfl rfl)
theorem dX6_law_42 : decode cX6_law 42 = .ok (.invokevirtual 249, 3) := dk_182 0 249 (dk_at dksX6_law_1 19 rfl rfl)
theorem dX6_law_45 : decode cX6_law 45 = .ok (.istore_n 2, 1) := dk_61 (dk_at dksX6_law_1 22 rfl rfl)
theorem dX6_law_46 : decode cX6_law 46 = .ok (.iload_n 2, 1) := dk_28 (dk_at dksX6_law_1 23 rfl rfl)
theorem dX6_law_47 : decode cX6_law 47 = .ok (.ifCond .eq 39, 3) := dk_153 0 39 (dk_at dksX6_law_2 0 rfl rfl)
theorem dX6_law_50 : decode cX6_law 50 = .ok (.aload_n 0, 1) := dk_42 (dk_at dksX6_law_2 3 rfl rfl)
theorem dX6_law_51 : decode cX6_law 51 = .ok (.getfield 166, 3) := dk_180 0 166 (dk_at dksX6_law_2 4 rfl rfl)
theorem dX6_law_54 : decode cX6_law 54 = .ok (.aload_n 0, 1) := dk_42 (dk_at dksX6_law_2 7 rfl rfl)
theorem dX6_law_55 : decode cX6_law 55 = .ok (.getfield 169, 3) := dk_180 0 169 (dk_at dksX6_law_2 8 rfl rfl)
theorem dX6_law_58 : decode cX6_law 58 = .ok (.if_icmp .ge 28, 3) := dk_162 0 28 (dk_at dksX6_law_2 11 rfl rfl)
theorem dX6_law_61 : decode cX6_law 61 = .ok (.aload_n 0, 1) := dk_42 (dk_at dksX6_law_2 14 rfl rfl)
theorem dX6_law_62 : decode cX6_law 62 = .ok (.bipush 59, 2) := dk_16 59 (dk_at dksX6_law_2 15 rfl rfl)
theorem dX6_law_64 : decode cX6_law 64 = .ok (.invokevirtual 252, 3) := dk_182 0 252 (dk_at dksX6_law_2 17 rfl rfl)
theorem dX6_law_67 : decode cX6_law 67 = .ok (.ifCond .eq 14, 3) := dk_153 0 14 (dk_at dksX6_law_2 20 rfl rfl)
theorem dX6_law_70 : decode cX6_law 70 = .ok (.aload_n 0, 1) := dk_42 (dk_at dksX6_law_2 23 rfl rfl)
theorem dX6_law_71 : decode cX6_law 71 = .ok (.invokevirtual 249, 3) := dk_182 0 249 (dk_at dksX6_law_3 0 rfl rfl)
theorem dX6_law_74 : decode cX6_law 74 = .ok (.ifCond .eq 7, 3) := dk_153 0 7 (dk_at dksX6_law_3 3 rfl rfl)
theorem dX6_law_77 : decode cX6_law 77 = .ok (.iconst 1, 1) := dk_4 (dk_at dksX6_law_3 6 rfl rfl)
theorem dX6_law_78 : decode cX6_law 78 = .ok (.goto 4, 3) := dk_167 0 4 (dk_at dksX6_law_3 7 rfl rfl)
theorem dX6_law_81 : decode cX6_law 81 = .ok (.iconst 0, 1) := dk_3 (dk_at dksX6_law_3 10 rfl rfl)
theorem dX6_law_82 : decode cX6_law 82 = .ok (.istore_n 2, 1) := dk_61 (dk_at dksX6_law_3 11 rfl rfl)
theorem dX6_law_83 : decode cX6_law 83 = .ok (.goto (-37), 3) := dk_167 255 219 (dk_at dksX6_law_3 12 rfl rfl)
theorem dX6_law_86 : decode cX6_law 86 = .ok (.aload_n 0, 1) := dk_42 (dk_at dksX6_law_3 15 rfl rfl)
theorem dX6_law_87 : decode cX6_law 87 = .ok (.iconst 0, 1) := dk_3 (dk_at dksX6_law_3 16 rfl rfl)
theorem dX6_law_88 : decode cX6_law 88 = .ok (.putfield 160, 3) := dk_181 0 160 (dk_at dksX6_law_3 17 rfl rfl)
theorem dX6_law_91 : decode cX6_law 91 = .ok (.iload_n 2, 1) := dk_28 (dk_at dksX6_law_3 20 rfl rfl)
theorem dX6_law_92 : decode cX6_law 92 = .ok (.ifCond .ne 8, 3) := dk_154 0 8 (dk_at dksX6_law_3 21 rfl rfl)
theorem dX6_law_95 : decode cX6_law 95 = .ok (.aload_n 0, 1) := dk_42 (dk_at dksX6_law_4 0 rfl rfl)
theorem dX6_law_96 : decode cX6_law 96 = .ok (.getfield 176, 3) := dk_180 0 176 (dk_at dksX6_law_4 1 rfl rfl)
theorem dX6_law_99 : decode cX6_law 99 = .ok (.ireturn, 1) := dk_172 (dk_at dksX6_law_4 4 rfl rfl)
theorem dX6_law_100 : decode cX6_law 100 = .ok (.aload_n 0, 1) := dk_42 (dk_at dksX6_law_4 5 rfl rfl)
theorem dX6_law_101 : decode cX6_law 101 = .ok (.aload_n 0, 1) := dk_42 (dk_at dksX6_law_4 6 rfl rfl)
theorem dX6_law_102 : decode cX6_law 102 = .ok (.getfield 243, 3) := dk_180 0 243 (dk_at dksX6_law_4 7 rfl rfl)
theorem dX6_law_105 : decode cX6_law 105 = .ok (.putfield 255, 3) := dk_181 0 255 (dk_at dksX6_law_4 10 rfl rfl)
theorem dX6_law_108 : decode cX6_law 108 = .ok (.iconst 0, 1) := dk_3 (dk_at dksX6_law_4 13 rfl rfl)
theorem dX6_law_109 : decode cX6_law 109 = .ok (.istore_n 3, 1) := dk_62 (dk_at dksX6_law_4 14 rfl rfl)
theorem dX6_law_110 : decode cX6_law 110 = .ok (.iload_n 3, 1) := dk_29 (dk_at dksX6_law_4 15 rfl rfl)
theorem dX6_law_111 : decode cX6_law 111 = .ok (.aload_n 0, 1) := dk_42 (dk_at dksX6_law_4 16 rfl rfl)
theorem dX6_law_112 : decode cX6_law 112 = .ok (.getfield 189, 3) := dk_180 0 189 (dk_at dksX6_law_4 17 rfl rfl)
theorem dX6_law_115 : decode cX6_law 115 = .ok (.if_icmp .ge 21, 3) := dk_162 0 21 (dk_at dksX6_law_4 20 rfl rfl)
theorem dX6_law_118 : decode cX6_law 118 = .ok (.aload_n 0, 1) := dk_42 (dk_at dksX6_law_4 23 rfl rfl)
theorem dX6_law_119 : decode cX6_law 119 = .ok (.getfield 47, 3) := dk_180 0 47 (dk_at dksX6_law_5 0 rfl rfl)
theorem dX6_law_122 : decode cX6_law 122 = .ok (.iload_n 3, 1) := dk_29 (dk_at dksX6_law_5 3 rfl rfl)
theorem dX6_law_123 : decode cX6_law 123 = .ok (.aload_n 0, 1) := dk_42 (dk_at dksX6_law_5 4 rfl rfl)
theorem dX6_law_124 : decode cX6_law 124 = .ok (.getfield 29, 3) := dk_180 0 29 (dk_at dksX6_law_5 5 rfl rfl)
theorem dX6_law_127 : decode cX6_law 127 = .ok (.iload_n 3, 1) := dk_29 (dk_at dksX6_law_5 8 rfl rfl)
theorem dX6_law_128 : decode cX6_law 128 = .ok (.iaload, 1) := dk_46 (dk_at dksX6_law_5 9 rfl rfl)
theorem dX6_law_129 : decode cX6_law 129 = .ok (.iastore, 1) := dk_79 (dk_at dksX6_law_5 10 rfl rfl)
theorem dX6_law_130 : decode cX6_law 130 = .ok (.iinc 3 1, 3) := dk_132 3 1 (dk_at dksX6_law_5 11 rfl rfl)
theorem dX6_law_133 : decode cX6_law 133 = .ok (.goto (-23), 3) := dk_167 255 233 (dk_at dksX6_law_5 14 rfl rfl)
theorem dX6_law_136 : decode cX6_law 136 = .ok (.iconst 0, 1) := dk_3 (dk_at dksX6_law_5 17 rfl rfl)
theorem dX6_law_137 : decode cX6_law 137 = .ok (.istore_n 3, 1) := dk_62 (dk_at dksX6_law_5 18 rfl rfl)
theorem dX6_law_138 : decode cX6_law 138 = .ok (.iload_n 3, 1) := dk_29 (dk_at dksX6_law_5 19 rfl rfl)
theorem dX6_law_139 : decode cX6_law 139 = .ok (.aload_n 0, 1) := dk_42 (dk_at dksX6_law_5 20 rfl rfl)
theorem dX6_law_140 : decode cX6_law 140 = .ok (.getfield 243, 3) := dk_180 0 243 (dk_at dksX6_law_5 21 rfl rfl)
theorem dX6_law_143 : decode cX6_law 143 = .ok (.if_icmp .ge 57, 3) := dk_162 0 57 (dk_at dksX6_law_6 0 rfl rfl)
theorem dX6_law_146 : decode cX6_law 146 = .ok (.aload_n 0, 1) := dk_42 (dk_at dksX6_law_6 3 rfl rfl)
theorem dX6_law_147 : decode cX6_law 147 = .ok (.getfield 50, 3) := dk_180 0 50 (dk_at dksX6_law_6 4 rfl rfl)
theorem dX6_law_150 : decode cX6_law 150 = .ok (.iload_n 3, 1) := dk_29 (dk_at dksX6_law_6 7 rfl rfl)
theorem dX6_law_151 : decode cX6_law 151 = .ok (.aload_n 0, 1) := dk_42 (dk_at dksX6_law_6 8 rfl rfl)
theorem dX6_law_152 : decode cX6_law 152 = .ok (.getfield 35, 3) := dk_180 0 35 (dk_at dksX6_law_6 9 rfl rfl)
theorem dX6_law_155 : decode cX6_law 155 = .ok (.iload_n 3, 1) := dk_29 (dk_at dksX6_law_6 12 rfl rfl)
theorem dX6_law_156 : decode cX6_law 156 = .ok (.iaload, 1) := dk_46 (dk_at dksX6_law_6 13 rfl rfl)
theorem dX6_law_157 : decode cX6_law 157 = .ok (.iastore, 1) := dk_79 (dk_at dksX6_law_6 14 rfl rfl)
theorem dX6_law_158 : decode cX6_law 158 = .ok (.aload_n 0, 1) := dk_42 (dk_at dksX6_law_6 15 rfl rfl)
theorem dX6_law_159 : decode cX6_law 159 = .ok (.getfield 53, 3) := dk_180 0 53 (dk_at dksX6_law_6 16 rfl rfl)
theorem dX6_law_162 : decode cX6_law 162 = .ok (.iload_n 3, 1) := dk_29 (dk_at dksX6_law_6 19 rfl rfl)
theorem dX6_law_163 : decode cX6_law 163 = .ok (.aload_n 0, 1) := dk_42 (dk_at dksX6_law_6 20 rfl rfl)
theorem dX6_law_164 : decode cX6_law 164 = .ok (.getfield 38, 3) := dk_180 0 38 (dk_at dksX6_law_6 21 rfl rfl)
theorem dX6_law_167 : decode cX6_law 167 = .ok (.iload_n 3, 1) := dk_29 (dk_at dksX6_law_7 0 rfl rfl)
theorem dX6_law_168 : decode cX6_law 168 = .ok (.iaload, 1) := dk_46 (dk_at dksX6_law_7 1 rfl rfl)
theorem dX6_law_169 : decode cX6_law 169 = .ok (.iastore, 1) := dk_79 (dk_at dksX6_law_7 2 rfl rfl)
theorem dX6_law_170 : decode cX6_law 170 = .ok (.aload_n 0, 1) := dk_42 (dk_at dksX6_law_7 3 rfl rfl)
theorem dX6_law_171 : decode cX6_law 171 = .ok (.getfield 56, 3) := dk_180 0 56 (dk_at dksX6_law_7 4 rfl rfl)
theorem dX6_law_174 : decode cX6_law 174 = .ok (.iload_n 3, 1) := dk_29 (dk_at dksX6_law_7 7 rfl rfl)
theorem dX6_law_175 : decode cX6_law 175 = .ok (.aload_n 0, 1) := dk_42 (dk_at dksX6_law_7 8 rfl rfl)
theorem dX6_law_176 : decode cX6_law 176 = .ok (.getfield 41, 3) := dk_180 0 41 (dk_at dksX6_law_7 9 rfl rfl)
theorem dX6_law_179 : decode cX6_law 179 = .ok (.iload_n 3, 1) := dk_29 (dk_at dksX6_law_7 12 rfl rfl)
theorem dX6_law_180 : decode cX6_law 180 = .ok (.iaload, 1) := dk_46 (dk_at dksX6_law_7 13 rfl rfl)
theorem dX6_law_181 : decode cX6_law 181 = .ok (.iastore, 1) := dk_79 (dk_at dksX6_law_7 14 rfl rfl)
theorem dX6_law_182 : decode cX6_law 182 = .ok (.aload_n 0, 1) := dk_42 (dk_at dksX6_law_7 15 rfl rfl)
theorem dX6_law_183 : decode cX6_law 183 = .ok (.getfield 59, 3) := dk_180 0 59 (dk_at dksX6_law_7 16 rfl rfl)
theorem dX6_law_186 : decode cX6_law 186 = .ok (.iload_n 3, 1) := dk_29 (dk_at dksX6_law_7 19 rfl rfl)
theorem dX6_law_187 : decode cX6_law 187 = .ok (.aload_n 0, 1) := dk_42 (dk_at dksX6_law_7 20 rfl rfl)
theorem dX6_law_188 : decode cX6_law 188 = .ok (.getfield 44, 3) := dk_180 0 44 (dk_at dksX6_law_7 21 rfl rfl)
theorem dX6_law_191 : decode cX6_law 191 = .ok (.iload_n 3, 1) := dk_29 (dk_at dksX6_law_8 0 rfl rfl)
theorem dX6_law_192 : decode cX6_law 192 = .ok (.iaload, 1) := dk_46 (dk_at dksX6_law_8 1 rfl rfl)
theorem dX6_law_193 : decode cX6_law 193 = .ok (.iastore, 1) := dk_79 (dk_at dksX6_law_8 2 rfl rfl)
theorem dX6_law_194 : decode cX6_law 194 = .ok (.iinc 3 1, 3) := dk_132 3 1 (dk_at dksX6_law_8 3 rfl rfl)
theorem dX6_law_197 : decode cX6_law 197 = .ok (.goto (-59), 3) := dk_167 255 197 (dk_at dksX6_law_8 6 rfl rfl)
theorem dX6_law_200 : decode cX6_law 200 = .ok (.aload_n 0, 1) := dk_42 (dk_at dksX6_law_8 9 rfl rfl)
theorem dX6_law_201 : decode cX6_law 201 = .ok (.getfield 243, 3) := dk_180 0 243 (dk_at dksX6_law_8 10 rfl rfl)
theorem dX6_law_204 : decode cX6_law 204 = .ok (.ireturn, 1) := dk_172 (dk_at dksX6_law_8 13 rfl rfl)
abbrev cX6_readsRule : ByteArray := prog_20_method_41_code
def yX6_readsRule : MethodName := ⟨RX6, "readsRule", "()Z"⟩
def dkwX6_readsRule_6 : List UInt8 := [180, 0, 44, 42, 180, 0, 243, 42, 180, 0, 189, 79, 42, 42, 180, 0, 243, 4, 96, 181, 0, 243, 4, 172]
abbrev dktX6_readsRule_6 : List UInt8 := dkwX6_readsRule_6 ++ []
def dkwX6_readsRule_5 : List UInt8 := [180, 0, 41, 42, 180, 0, 243, 42, 180, 0, 189, 79, 42, 182, 0, 246, 154, 0, 5, 3, 172, 42]
abbrev dktX6_readsRule_5 : List UInt8 := dkwX6_readsRule_5 ++ dktX6_readsRule_6
def dkwX6_readsRule_4 : List UInt8 := [181, 0, 193, 42, 3, 181, 0, 196, 27, 16, 115, 159, 0, 12, 42, 182, 0, 228, 154, 0, 5, 3, 172, 42]
abbrev dktX6_readsRule_4 : List UInt8 := dkwX6_readsRule_4 ++ dktX6_readsRule_5
def dkwX6_readsRule_3 : List UInt8 := [180, 0, 166, 4, 96, 181, 0, 166, 42, 180, 0, 38, 42, 180, 0, 243, 42, 180, 0, 189, 79, 42, 3]
abbrev dktX6_readsRule_3 : List UInt8 := dkwX6_readsRule_3 ++ dktX6_readsRule_4
def dkwX6_readsRule_2 : List UInt8 := [42, 7, 42, 180, 0, 166, 182, 0, 179, 172, 42, 180, 0, 35, 42, 180, 0, 243, 27, 79, 42, 42]
abbrev dktX6_readsRule_2 : List UInt8 := dkwX6_readsRule_2 ++ dktX6_readsRule_3
def dkwX6_readsRule_1 : List UInt8 := [16, 115, 159, 0, 13, 42, 4, 42, 180, 0, 166, 182, 0, 179, 172, 42, 180, 0, 243, 16, 16, 160, 0, 13]
abbrev dktX6_readsRule_1 : List UInt8 := dkwX6_readsRule_1 ++ dktX6_readsRule_2
def dkwX6_readsRule_0 : List UInt8 := [42, 182, 0, 172, 60, 27, 16, 101, 159, 0, 31, 27, 16, 105, 159, 0, 25, 27, 16, 114, 159, 0, 19, 27]
abbrev dktX6_readsRule_0 : List UInt8 := dkwX6_readsRule_0 ++ dktX6_readsRule_1
theorem dksX6_readsRule_0 : cX6_readsRule.data.toList.drop 0 = dktX6_readsRule_0 := by decide +kernel
theorem dksX6_readsRule_1 : cX6_readsRule.data.toList.drop 24 = dktX6_readsRule_1 := dk_seg dksX6_readsRule_0 24 rfl rfl
theorem dksX6_readsRule_2 : cX6_readsRule.data.toList.drop 48 = dktX6_readsRule_2 := dk_seg dksX6_readsRule_1 24 rfl rfl
theorem dksX6_readsRule_3 : cX6_readsRule.data.toList.drop 70 = dktX6_readsRule_3 := dk_seg dksX6_readsRule_2 22 rfl rfl
theorem dksX6_readsRule_4 : cX6_readsRule.data.toList.drop 93 = dktX6_readsRule_4 := dk_seg dksX6_readsRule_3 23 rfl rfl
theorem dksX6_readsRule_5 : cX6_readsRule.data.toList.drop 117 = dktX6_readsRule_5 := dk_seg dksX6_readsRule_4 24 rfl rfl
theorem dksX6_readsRule_6 : cX6_readsRule.data.toList.drop 139 = dktX6_readsRule_6 := dk_seg dksX6_readsRule_5 22 rfl rfl
theorem dX6_readsRule_0 : decode cX6_readsRule 0 = .ok (.aload_n 0, 1) := dk_42 (dk_at dksX6_readsRule_0 0 rfl rfl)
theorem dX6_readsRule_1 : decode cX6_readsRule 1 = .ok (.invokevirtual 172, 3) := dk_182 0 172 (dk_at dksX6_readsRule_0 1 rfl rfl)
theorem dX6_readsRule_4 : decode cX6_readsRule 4 = .ok (.istore_n 1, 1) := dk_60 (dk_at dksX6_readsRule_0 4 rfl rfl)
theorem dX6_readsRule_5 : decode cX6_readsRule 5 = .ok (.iload_n 1, 1) := dk_27 (dk_at dksX6_readsRule_0 5 rfl rfl)
theorem dX6_readsRule_6 : decode cX6_readsRule 6 = .ok (.bipush 101, 2) := dk_16 101 (dk_at dksX6_readsRule_0 6 rfl rfl)
theorem dX6_readsRule_8 : decode cX6_readsRule 8 = .ok (.if_icmp .eq 31, 3) := dk_159 0 31 (dk_at dksX6_readsRule_0 8 rfl rfl)
theorem dX6_readsRule_11 : decode cX6_readsRule 11 = .ok (.iload_n 1, 1) := dk_27 (dk_at dksX6_readsRule_0 11 rfl rfl)
theorem dX6_readsRule_12 : decode cX6_readsRule 12 = .ok (.bipush 105, 2) := dk_16 105 (dk_at dksX6_readsRule_0 12 rfl rfl)
theorem dX6_readsRule_14 : decode cX6_readsRule 14 = .ok (.if_icmp .eq 25, 3) := dk_159 0 25 (dk_at dksX6_readsRule_0 14 rfl rfl)
theorem dX6_readsRule_17 : decode cX6_readsRule 17 = .ok (.iload_n 1, 1) := dk_27 (dk_at dksX6_readsRule_0 17 rfl rfl)
theorem dX6_readsRule_18 : decode cX6_readsRule 18 = .ok (.bipush 114, 2) := dk_16 114 (dk_at dksX6_readsRule_0 18 rfl rfl)
theorem dX6_readsRule_20 : decode cX6_readsRule 20 = .ok (.if_icmp .eq 19, 3) := dk_159 0 19 (dk_at dksX6_readsRule_0 20 rfl rfl)
theorem dX6_readsRule_23 : decode cX6_readsRule 23 = .ok (.iload_n 1, 1) := dk_27 (dk_at dksX6_readsRule_0 23 rfl rfl)
theorem dX6_readsRule_24 : decode cX6_readsRule 24 = .ok (.bipush 115, 2) := dk_16 115 (dk_at dksX6_readsRule_1 0 rfl rfl)
theorem dX6_readsRule_26 : decode cX6_readsRule 26 = .ok (.if_icmp .eq 13, 3) := dk_159 0 13 (dk_at dksX6_readsRule_1 2 rfl rfl)
theorem dX6_readsRule_29 : decode cX6_readsRule 29 = .ok (.aload_n 0, 1) := dk_42 (dk_at dksX6_readsRule_1 5 rfl rfl)
theorem dX6_readsRule_30 : decode cX6_readsRule 30 = .ok (.iconst 1, 1) := dk_4 (dk_at dksX6_readsRule_1 6 rfl rfl)
theorem dX6_readsRule_31 : decode cX6_readsRule 31 = .ok (.aload_n 0, 1) := dk_42 (dk_at dksX6_readsRule_1 7 rfl rfl)
theorem dX6_readsRule_32 : decode cX6_readsRule 32 = .ok (.getfield 166, 3) := dk_180 0 166 (dk_at dksX6_readsRule_1 8 rfl rfl)
theorem dX6_readsRule_35 : decode cX6_readsRule 35 = .ok (.invokevirtual 179, 3) := dk_182 0 179 (dk_at dksX6_readsRule_1 11 rfl rfl)
theorem dX6_readsRule_38 : decode cX6_readsRule 38 = .ok (.ireturn, 1) := dk_172 (dk_at dksX6_readsRule_1 14 rfl rfl)
theorem dX6_readsRule_39 : decode cX6_readsRule 39 = .ok (.aload_n 0, 1) := dk_42 (dk_at dksX6_readsRule_1 15 rfl rfl)
theorem dX6_readsRule_40 : decode cX6_readsRule 40 = .ok (.getfield 243, 3) := dk_180 0 243 (dk_at dksX6_readsRule_1 16 rfl rfl)
theorem dX6_readsRule_43 : decode cX6_readsRule 43 = .ok (.bipush 16, 2) := dk_16 16 (dk_at dksX6_readsRule_1 19 rfl rfl)
theorem dX6_readsRule_45 : decode cX6_readsRule 45 = .ok (.if_icmp .ne 13, 3) := dk_160 0 13 (dk_at dksX6_readsRule_1 21 rfl rfl)
theorem dX6_readsRule_48 : decode cX6_readsRule 48 = .ok (.aload_n 0, 1) := dk_42 (dk_at dksX6_readsRule_2 0 rfl rfl)
theorem dX6_readsRule_49 : decode cX6_readsRule 49 = .ok (.iconst 4, 1) := dk_7 (dk_at dksX6_readsRule_2 1 rfl rfl)
theorem dX6_readsRule_50 : decode cX6_readsRule 50 = .ok (.aload_n 0, 1) := dk_42 (dk_at dksX6_readsRule_2 2 rfl rfl)
theorem dX6_readsRule_51 : decode cX6_readsRule 51 = .ok (.getfield 166, 3) := dk_180 0 166 (dk_at dksX6_readsRule_2 3 rfl rfl)
theorem dX6_readsRule_54 : decode cX6_readsRule 54 = .ok (.invokevirtual 179, 3) := dk_182 0 179 (dk_at dksX6_readsRule_2 6 rfl rfl)
theorem dX6_readsRule_57 : decode cX6_readsRule 57 = .ok (.ireturn, 1) := dk_172 (dk_at dksX6_readsRule_2 9 rfl rfl)
theorem dX6_readsRule_58 : decode cX6_readsRule 58 = .ok (.aload_n 0, 1) := dk_42 (dk_at dksX6_readsRule_2 10 rfl rfl)
theorem dX6_readsRule_59 : decode cX6_readsRule 59 = .ok (.getfield 35, 3) := dk_180 0 35 (dk_at dksX6_readsRule_2 11 rfl rfl)
theorem dX6_readsRule_62 : decode cX6_readsRule 62 = .ok (.aload_n 0, 1) := dk_42 (dk_at dksX6_readsRule_2 14 rfl rfl)
theorem dX6_readsRule_63 : decode cX6_readsRule 63 = .ok (.getfield 243, 3) := dk_180 0 243 (dk_at dksX6_readsRule_2 15 rfl rfl)
theorem dX6_readsRule_66 : decode cX6_readsRule 66 = .ok (.iload_n 1, 1) := dk_27 (dk_at dksX6_readsRule_2 18 rfl rfl)
theorem dX6_readsRule_67 : decode cX6_readsRule 67 = .ok (.iastore, 1) := dk_79 (dk_at dksX6_readsRule_2 19 rfl rfl)
theorem dX6_readsRule_68 : decode cX6_readsRule 68 = .ok (.aload_n 0, 1) := dk_42 (dk_at dksX6_readsRule_2 20 rfl rfl)
theorem dX6_readsRule_69 : decode cX6_readsRule 69 = .ok (.aload_n 0, 1) := dk_42 (dk_at dksX6_readsRule_2 21 rfl rfl)
theorem dX6_readsRule_70 : decode cX6_readsRule 70 = .ok (.getfield 166, 3) := dk_180 0 166 (dk_at dksX6_readsRule_3 0 rfl rfl)
theorem dX6_readsRule_73 : decode cX6_readsRule 73 = .ok (.iconst 1, 1) := dk_4 (dk_at dksX6_readsRule_3 3 rfl rfl)
theorem dX6_readsRule_74 : decode cX6_readsRule 74 = .ok (.iadd, 1) := dk_96 (dk_at dksX6_readsRule_3 4 rfl rfl)
theorem dX6_readsRule_75 : decode cX6_readsRule 75 = .ok (.putfield 166, 3) := dk_181 0 166 (dk_at dksX6_readsRule_3 5 rfl rfl)
theorem dX6_readsRule_78 : decode cX6_readsRule 78 = .ok (.aload_n 0, 1) := dk_42 (dk_at dksX6_readsRule_3 8 rfl rfl)
theorem dX6_readsRule_79 : decode cX6_readsRule 79 = .ok (.getfield 38, 3) := dk_180 0 38 (dk_at dksX6_readsRule_3 9 rfl rfl)
theorem dX6_readsRule_82 : decode cX6_readsRule 82 = .ok (.aload_n 0, 1) := dk_42 (dk_at dksX6_readsRule_3 12 rfl rfl)
theorem dX6_readsRule_83 : decode cX6_readsRule 83 = .ok (.getfield 243, 3) := dk_180 0 243 (dk_at dksX6_readsRule_3 13 rfl rfl)
theorem dX6_readsRule_86 : decode cX6_readsRule 86 = .ok (.aload_n 0, 1) := dk_42 (dk_at dksX6_readsRule_3 16 rfl rfl)
theorem dX6_readsRule_87 : decode cX6_readsRule 87 = .ok (.getfield 189, 3) := dk_180 0 189 (dk_at dksX6_readsRule_3 17 rfl rfl)
theorem dX6_readsRule_90 : decode cX6_readsRule 90 = .ok (.iastore, 1) := dk_79 (dk_at dksX6_readsRule_3 20 rfl rfl)
theorem dX6_readsRule_91 : decode cX6_readsRule 91 = .ok (.aload_n 0, 1) := dk_42 (dk_at dksX6_readsRule_3 21 rfl rfl)
theorem dX6_readsRule_92 : decode cX6_readsRule 92 = .ok (.iconst 0, 1) := dk_3 (dk_at dksX6_readsRule_3 22 rfl rfl)
theorem dX6_readsRule_93 : decode cX6_readsRule 93 = .ok (.putfield 193, 3) := dk_181 0 193 (dk_at dksX6_readsRule_4 0 rfl rfl)
theorem dX6_readsRule_96 : decode cX6_readsRule 96 = .ok (.aload_n 0, 1) := dk_42 (dk_at dksX6_readsRule_4 3 rfl rfl)
theorem dX6_readsRule_97 : decode cX6_readsRule 97 = .ok (.iconst 0, 1) := dk_3 (dk_at dksX6_readsRule_4 4 rfl rfl)
theorem dX6_readsRule_98 : decode cX6_readsRule 98 = .ok (.putfield 196, 3) := dk_181 0 196 (dk_at dksX6_readsRule_4 5 rfl rfl)
theorem dX6_readsRule_101 : decode cX6_readsRule 101 = .ok (.iload_n 1, 1) := dk_27 (dk_at dksX6_readsRule_4 8 rfl rfl)
theorem dX6_readsRule_102 : decode cX6_readsRule 102 = .ok (.bipush 115, 2) := dk_16 115 (dk_at dksX6_readsRule_4 9 rfl rfl)
theorem dX6_readsRule_104 : decode cX6_readsRule 104 = .ok (.if_icmp .eq 12, 3) := dk_159 0 12 (dk_at dksX6_readsRule_4 11 rfl rfl)
theorem dX6_readsRule_107 : decode cX6_readsRule 107 = .ok (.aload_n 0, 1) := dk_42 (dk_at dksX6_readsRule_4 14 rfl rfl)
theorem dX6_readsRule_108 : decode cX6_readsRule 108 = .ok (.invokevirtual 228, 3) := dk_182 0 228 (dk_at dksX6_readsRule_4 15 rfl rfl)
theorem dX6_readsRule_111 : decode cX6_readsRule 111 = .ok (.ifCond .ne 5, 3) := dk_154 0 5 (dk_at dksX6_readsRule_4 18 rfl rfl)
theorem dX6_readsRule_114 : decode cX6_readsRule 114 = .ok (.iconst 0, 1) := dk_3 (dk_at dksX6_readsRule_4 21 rfl rfl)
theorem dX6_readsRule_115 : decode cX6_readsRule 115 = .ok (.ireturn, 1) := dk_172 (dk_at dksX6_readsRule_4 22 rfl rfl)
theorem dX6_readsRule_116 : decode cX6_readsRule 116 = .ok (.aload_n 0, 1) := dk_42 (dk_at dksX6_readsRule_4 23 rfl rfl)
theorem dX6_readsRule_117 : decode cX6_readsRule 117 = .ok (.getfield 41, 3) := dk_180 0 41 (dk_at dksX6_readsRule_5 0 rfl rfl)
theorem dX6_readsRule_120 : decode cX6_readsRule 120 = .ok (.aload_n 0, 1) := dk_42 (dk_at dksX6_readsRule_5 3 rfl rfl)
theorem dX6_readsRule_121 : decode cX6_readsRule 121 = .ok (.getfield 243, 3) := dk_180 0 243 (dk_at dksX6_readsRule_5 4 rfl rfl)
theorem dX6_readsRule_124 : decode cX6_readsRule 124 = .ok (.aload_n 0, 1) := dk_42 (dk_at dksX6_readsRule_5 7 rfl rfl)
theorem dX6_readsRule_125 : decode cX6_readsRule 125 = .ok (.getfield 189, 3) := dk_180 0 189 (dk_at dksX6_readsRule_5 8 rfl rfl)
theorem dX6_readsRule_128 : decode cX6_readsRule 128 = .ok (.iastore, 1) := dk_79 (dk_at dksX6_readsRule_5 11 rfl rfl)
theorem dX6_readsRule_129 : decode cX6_readsRule 129 = .ok (.aload_n 0, 1) := dk_42 (dk_at dksX6_readsRule_5 12 rfl rfl)
theorem dX6_readsRule_130 : decode cX6_readsRule 130 = .ok (.invokevirtual 246, 3) := dk_182 0 246 (dk_at dksX6_readsRule_5 13 rfl rfl)
theorem dX6_readsRule_133 : decode cX6_readsRule 133 = .ok (.ifCond .ne 5, 3) := dk_154 0 5 (dk_at dksX6_readsRule_5 16 rfl rfl)
theorem dX6_readsRule_136 : decode cX6_readsRule 136 = .ok (.iconst 0, 1) := dk_3 (dk_at dksX6_readsRule_5 19 rfl rfl)
theorem dX6_readsRule_137 : decode cX6_readsRule 137 = .ok (.ireturn, 1) := dk_172 (dk_at dksX6_readsRule_5 20 rfl rfl)
theorem dX6_readsRule_138 : decode cX6_readsRule 138 = .ok (.aload_n 0, 1) := dk_42 (dk_at dksX6_readsRule_5 21 rfl rfl)
theorem dX6_readsRule_139 : decode cX6_readsRule 139 = .ok (.getfield 44, 3) := dk_180 0 44 (dk_at dksX6_readsRule_6 0 rfl rfl)
theorem dX6_readsRule_142 : decode cX6_readsRule 142 = .ok (.aload_n 0, 1) := dk_42 (dk_at dksX6_readsRule_6 3 rfl rfl)
theorem dX6_readsRule_143 : decode cX6_readsRule 143 = .ok (.getfield 243, 3) := dk_180 0 243 (dk_at dksX6_readsRule_6 4 rfl rfl)
theorem dX6_readsRule_146 : decode cX6_readsRule 146 = .ok (.aload_n 0, 1) := dk_42 (dk_at dksX6_readsRule_6 7 rfl rfl)
theorem dX6_readsRule_147 : decode cX6_readsRule 147 = .ok (.getfield 189, 3) := dk_180 0 189 (dk_at dksX6_readsRule_6 8 rfl rfl)
theorem dX6_readsRule_150 : decode cX6_readsRule 150 = .ok (.iastore, 1) := dk_79 (dk_at dksX6_readsRule_6 11 rfl rfl)
theorem dX6_readsRule_151 : decode cX6_readsRule 151 = .ok (.aload_n 0, 1) := dk_42 (dk_at dksX6_readsRule_6 12 rfl rfl)
theorem dX6_readsRule_152 : decode cX6_readsRule 152 = .ok (.aload_n 0, 1) := dk_42 (dk_at dksX6_readsRule_6 13 rfl rfl)
theorem dX6_readsRule_153 : decode cX6_readsRule 153 = .ok (.getfield 243, 3) := dk_180 0 243 (dk_at dksX6_readsRule_6 14 rfl rfl)
theorem dX6_readsRule_156 : decode cX6_readsRule 156 = .ok (.iconst 1, 1) := dk_4 (dk_at dksX6_readsRule_6 17 rfl rfl)
theorem dX6_readsRule_157 : decode cX6_readsRule 157 = .ok (.iadd, 1) := dk_96 (dk_at dksX6_readsRule_6 18 rfl rfl)
theorem dX6_readsRule_158 : decode cX6_readsRule 158 = .ok (.putfield 243, 3) := dk_181 0 243 (dk_at dksX6_readsRule_6 19 rfl rfl)
theorem dX6_readsRule_161 : decode cX6_readsRule 161 = .ok (.iconst 1, 1) := dk_4 (dk_at dksX6_readsRule_6 22 rfl rfl)
theorem dX6_readsRule_162 : decode cX6_readsRule 162 = .ok (.ireturn, 1) := dk_172 (dk_at dksX6_readsRule_6 23 rfl rfl)
abbrev cX6_here : ByteArray := prog_20_method_22_code
def yX6_here : MethodName := ⟨RX6, "here", "()I"⟩
def dkwX6_here_1 : List UInt8 := [167, 0, 4, 2, 172]
abbrev dktX6_here_1 : List UInt8 := dkwX6_here_1 ++ []
def dkwX6_here_0 : List UInt8 := [42, 180, 0, 166, 42, 180, 0, 169, 162, 0, 19, 42, 180, 0, 25, 42, 180, 0, 166, 51, 17, 0, 255, 126]
abbrev dktX6_here_0 : List UInt8 := dkwX6_here_0 ++ dktX6_here_1
theorem dksX6_here_0 : cX6_here.data.toList.drop 0 = dktX6_here_0 := by decide +kernel
theorem dksX6_here_1 : cX6_here.data.toList.drop 24 = dktX6_here_1 := dk_seg dksX6_here_0 24 rfl rfl
theorem dX6_here_0 : decode cX6_here 0 = .ok (.aload_n 0, 1) := dk_42 (dk_at dksX6_here_0 0 rfl rfl)
theorem dX6_here_1 : decode cX6_here 1 = .ok (.getfield 166, 3) := dk_180 0 166 (dk_at dksX6_here_0 1 rfl rfl)
theorem dX6_here_4 : decode cX6_here 4 = .ok (.aload_n 0, 1) := dk_42 (dk_at dksX6_here_0 4 rfl rfl)
theorem dX6_here_5 : decode cX6_here 5 = .ok (.getfield 169, 3) := dk_180 0 169 (dk_at dksX6_here_0 5 rfl rfl)
theorem dX6_here_8 : decode cX6_here 8 = .ok (.if_icmp .ge 19, 3) := dk_162 0 19 (dk_at dksX6_here_0 8 rfl rfl)
theorem dX6_here_11 : decode cX6_here 11 = .ok (.aload_n 0, 1) := dk_42 (dk_at dksX6_here_0 11 rfl rfl)
theorem dX6_here_12 : decode cX6_here 12 = .ok (.getfield 25, 3) := dk_180 0 25 (dk_at dksX6_here_0 12 rfl rfl)
theorem dX6_here_15 : decode cX6_here 15 = .ok (.aload_n 0, 1) := dk_42 (dk_at dksX6_here_0 15 rfl rfl)
theorem dX6_here_16 : decode cX6_here 16 = .ok (.getfield 166, 3) := dk_180 0 166 (dk_at dksX6_here_0 16 rfl rfl)
theorem dX6_here_19 : decode cX6_here 19 = .ok (.baload, 1) := dk_51 (dk_at dksX6_here_0 19 rfl rfl)
theorem dX6_here_20 : decode cX6_here 20 = .ok (.sipush 255, 3) := dk_17 0 255 (dk_at dksX6_here_0 20 rfl rfl)
theorem dX6_here_23 : decode cX6_here 23 = .ok (.iand, 1) := dk_126 (dk_at dksX6_here_0 23 rfl rfl)
theorem dX6_here_24 : decode cX6_here 24 = .ok (.goto 4, 3) := dk_167 0 4 (dk_at dksX6_here_1 0 rfl rfl)
theorem dX6_here_27 : decode cX6_here 27 = .ok (.iconst (-1), 1) := dk_2 (dk_at dksX6_here_1 3 rfl rfl)
theorem dX6_here_28 : decode cX6_here 28 = .ok (.ireturn, 1) := dk_172 (dk_at dksX6_here_1 4 rfl rfl)
abbrev cX6_wrongAt : ByteArray := prog_20_method_24_code
def yX6_wrongAt : MethodName := ⟨RX6, "wrongAt", "(II)Z"⟩
def dkwX6_wrongAt_0 : List UInt8 := [42, 17, 252, 24, 27, 104, 28, 100, 181, 0, 176, 3, 172]
abbrev dktX6_wrongAt_0 : List UInt8 := dkwX6_wrongAt_0 ++ []
theorem dksX6_wrongAt_0 : cX6_wrongAt.data.toList.drop 0 = dktX6_wrongAt_0 := by decide +kernel
theorem dX6_wrongAt_0 : decode cX6_wrongAt 0 = .ok (.aload_n 0, 1) := dk_42 (dk_at dksX6_wrongAt_0 0 rfl rfl)
theorem dX6_wrongAt_1 : decode cX6_wrongAt 1 = .ok (.sipush (-1000), 3) := dk_17 252 24 (dk_at dksX6_wrongAt_0 1 rfl rfl)
theorem dX6_wrongAt_4 : decode cX6_wrongAt 4 = .ok (.iload_n 1, 1) := dk_27 (dk_at dksX6_wrongAt_0 4 rfl rfl)
theorem dX6_wrongAt_5 : decode cX6_wrongAt 5 = .ok (.imul, 1) := dk_104 (dk_at dksX6_wrongAt_0 5 rfl rfl)
theorem dX6_wrongAt_6 : decode cX6_wrongAt 6 = .ok (.iload_n 2, 1) := dk_28 (dk_at dksX6_wrongAt_0 6 rfl rfl)
theorem dX6_wrongAt_7 : decode cX6_wrongAt 7 = .ok (.isub, 1) := dk_100 (dk_at dksX6_wrongAt_0 7 rfl rfl)
theorem dX6_wrongAt_8 : decode cX6_wrongAt 8 = .ok (.putfield 176, 3) := dk_181 0 176 (dk_at dksX6_wrongAt_0 8 rfl rfl)
theorem dX6_wrongAt_11 : decode cX6_wrongAt 11 = .ok (.iconst 0, 1) := dk_3 (dk_at dksX6_wrongAt_0 11 rfl rfl)
theorem dX6_wrongAt_12 : decode cX6_wrongAt 12 = .ok (.ireturn, 1) := dk_172 (dk_at dksX6_wrongAt_0 12 rfl rfl)
abbrev cX6_readsSum : ByteArray := prog_20_method_35_code
def yX6_readsSum : MethodName := ⟨RX6, "readsSum", "()Z"⟩
def dkwX6_readsSum_7 : List UInt8 := [167, 255, 107]
abbrev dktX6_readsSum_7 : List UInt8 := dkwX6_readsSum_7 ++ []
def dkwX6_readsSum_6 : List UInt8 := [182, 0, 225, 153, 0, 13, 42, 4, 42, 180, 0, 166, 182, 0, 179, 172, 42, 4, 182, 0, 221, 4, 172]
abbrev dktX6_readsSum_6 : List UInt8 := dkwX6_readsSum_6 ++ dktX6_readsSum_7
def dkwX6_readsSum_5 : List UInt8 := [180, 0, 193, 4, 100, 181, 0, 193, 42, 42, 180, 0, 166, 4, 96, 181, 0, 166, 167, 0, 28, 42, 27]
abbrev dktX6_readsSum_5 : List UInt8 := dkwX6_readsSum_5 ++ dktX6_readsSum_6
def dkwX6_readsSum_4 : List UInt8 := [182, 0, 225, 153, 0, 41, 42, 4, 182, 0, 221, 42, 42, 180, 0, 196, 4, 100, 181, 0, 196, 42, 42]
abbrev dktX6_readsSum_4 : List UInt8 := dkwX6_readsSum_4 ++ dktX6_readsSum_5
def dkwX6_readsSum_3 : List UInt8 := [96, 181, 0, 166, 42, 182, 0, 215, 154, 0, 85, 3, 172, 42, 182, 0, 172, 16, 93, 160, 0, 49, 42, 27]
abbrev dktX6_readsSum_3 : List UInt8 := dkwX6_readsSum_3 ++ dktX6_readsSum_4
def dkwX6_readsSum_2 : List UInt8 := [180, 0, 196, 18, 192, 28, 104, 79, 42, 42, 180, 0, 196, 4, 96, 181, 0, 196, 42, 42, 180, 0, 166, 4]
abbrev dktX6_readsSum_2 : List UInt8 := dkwX6_readsSum_2 ++ dktX6_readsSum_3
def dkwX6_readsSum_1 : List UInt8 := [159, 0, 59, 42, 28, 7, 162, 0, 7, 4, 167, 0, 4, 3, 182, 0, 221, 42, 180, 0, 32, 42]
abbrev dktX6_readsSum_1 : List UInt8 := dkwX6_readsSum_1 ++ dktX6_readsSum_2
def dkwX6_readsSum_0 : List UInt8 := [42, 180, 0, 196, 60, 42, 182, 0, 215, 154, 0, 5, 3, 172, 42, 182, 0, 172, 184, 0, 218, 61, 28, 2]
abbrev dktX6_readsSum_0 : List UInt8 := dkwX6_readsSum_0 ++ dktX6_readsSum_1
theorem dksX6_readsSum_0 : cX6_readsSum.data.toList.drop 0 = dktX6_readsSum_0 := by decide +kernel
theorem dksX6_readsSum_1 : cX6_readsSum.data.toList.drop 24 = dktX6_readsSum_1 := dk_seg dksX6_readsSum_0 24 rfl rfl
theorem dksX6_readsSum_2 : cX6_readsSum.data.toList.drop 46 = dktX6_readsSum_2 := dk_seg dksX6_readsSum_1 22 rfl rfl
theorem dksX6_readsSum_3 : cX6_readsSum.data.toList.drop 70 = dktX6_readsSum_3 := dk_seg dksX6_readsSum_2 24 rfl rfl
theorem dksX6_readsSum_4 : cX6_readsSum.data.toList.drop 94 = dktX6_readsSum_4 := dk_seg dksX6_readsSum_3 24 rfl rfl
theorem dksX6_readsSum_5 : cX6_readsSum.data.toList.drop 117 = dktX6_readsSum_5 := dk_seg dksX6_readsSum_4 23 rfl rfl
theorem dksX6_readsSum_6 : cX6_readsSum.data.toList.drop 140 = dktX6_readsSum_6 := dk_seg dksX6_readsSum_5 23 rfl rfl
theorem dksX6_readsSum_7 : cX6_readsSum.data.toList.drop 163 = dktX6_readsSum_7 := dk_seg dksX6_readsSum_6 23 rfl rfl
theorem dX6_readsSum_0 : decode cX6_readsSum 0 = .ok (.aload_n 0, 1) := dk_42 (dk_at dksX6_readsSum_0 0 rfl rfl)
theorem dX6_readsSum_1 : decode cX6_readsSum 1 = .ok (.getfield 196, 3) := dk_180 0 196 (dk_at dksX6_readsSum_0 1 rfl rfl)
theorem dX6_readsSum_4 : decode cX6_readsSum 4 = .ok (.istore_n 1, 1) := dk_60 (dk_at dksX6_readsSum_0 4 rfl rfl)
theorem dX6_readsSum_5 : decode cX6_readsSum 5 = .ok (.aload_n 0, 1) := dk_42 (dk_at dksX6_readsSum_0 5 rfl rfl)
theorem dX6_readsSum_6 : decode cX6_readsSum 6 = .ok (.invokevirtual 215, 3) := dk_182 0 215 (dk_at dksX6_readsSum_0 6 rfl rfl)
theorem dX6_readsSum_9 : decode cX6_readsSum 9 = .ok (.ifCond .ne 5, 3) := dk_154 0 5 (dk_at dksX6_readsSum_0 9 rfl rfl)
theorem dX6_readsSum_12 : decode cX6_readsSum 12 = .ok (.iconst 0, 1) := dk_3 (dk_at dksX6_readsSum_0 12 rfl rfl)
theorem dX6_readsSum_13 : decode cX6_readsSum 13 = .ok (.ireturn, 1) := dk_172 (dk_at dksX6_readsSum_0 13 rfl rfl)
theorem dX6_readsSum_14 : decode cX6_readsSum 14 = .ok (.aload_n 0, 1) := dk_42 (dk_at dksX6_readsSum_0 14 rfl rfl)
theorem dX6_readsSum_15 : decode cX6_readsSum 15 = .ok (.invokevirtual 172, 3) := dk_182 0 172 (dk_at dksX6_readsSum_0 15 rfl rfl)
theorem dX6_readsSum_18 : decode cX6_readsSum 18 = .ok (.invokestatic 218, 3) := dk_184 0 218 (dk_at dksX6_readsSum_0 18 rfl rfl)
theorem dX6_readsSum_21 : decode cX6_readsSum 21 = .ok (.istore_n 2, 1) := dk_61 (dk_at dksX6_readsSum_0 21 rfl rfl)
theorem dX6_readsSum_22 : decode cX6_readsSum 22 = .ok (.iload_n 2, 1) := dk_28 (dk_at dksX6_readsSum_0 22 rfl rfl)
theorem dX6_readsSum_23 : decode cX6_readsSum 23 = .ok (.iconst (-1), 1) := dk_2 (dk_at dksX6_readsSum_0 23 rfl rfl)
theorem dX6_readsSum_24 : decode cX6_readsSum 24 = .ok (.if_icmp .eq 59, 3) := dk_159 0 59 (dk_at dksX6_readsSum_1 0 rfl rfl)
theorem dX6_readsSum_27 : decode cX6_readsSum 27 = .ok (.aload_n 0, 1) := dk_42 (dk_at dksX6_readsSum_1 3 rfl rfl)
theorem dX6_readsSum_28 : decode cX6_readsSum 28 = .ok (.iload_n 2, 1) := dk_28 (dk_at dksX6_readsSum_1 4 rfl rfl)
theorem dX6_readsSum_29 : decode cX6_readsSum 29 = .ok (.iconst 4, 1) := dk_7 (dk_at dksX6_readsSum_1 5 rfl rfl)
theorem dX6_readsSum_30 : decode cX6_readsSum 30 = .ok (.if_icmp .ge 7, 3) := dk_162 0 7 (dk_at dksX6_readsSum_1 6 rfl rfl)
theorem dX6_readsSum_33 : decode cX6_readsSum 33 = .ok (.iconst 1, 1) := dk_4 (dk_at dksX6_readsSum_1 9 rfl rfl)
theorem dX6_readsSum_34 : decode cX6_readsSum 34 = .ok (.goto 4, 3) := dk_167 0 4 (dk_at dksX6_readsSum_1 10 rfl rfl)
theorem dX6_readsSum_37 : decode cX6_readsSum 37 = .ok (.iconst 0, 1) := dk_3 (dk_at dksX6_readsSum_1 13 rfl rfl)
theorem dX6_readsSum_38 : decode cX6_readsSum 38 = .ok (.invokevirtual 221, 3) := dk_182 0 221 (dk_at dksX6_readsSum_1 14 rfl rfl)
theorem dX6_readsSum_41 : decode cX6_readsSum 41 = .ok (.aload_n 0, 1) := dk_42 (dk_at dksX6_readsSum_1 17 rfl rfl)
theorem dX6_readsSum_42 : decode cX6_readsSum 42 = .ok (.getfield 32, 3) := dk_180 0 32 (dk_at dksX6_readsSum_1 18 rfl rfl)
theorem dX6_readsSum_45 : decode cX6_readsSum 45 = .ok (.aload_n 0, 1) := dk_42 (dk_at dksX6_readsSum_1 21 rfl rfl)
theorem dX6_readsSum_46 : decode cX6_readsSum 46 = .ok (.getfield 196, 3) := dk_180 0 196 (dk_at dksX6_readsSum_2 0 rfl rfl)
theorem dX6_readsSum_49 : decode cX6_readsSum 49 = .ok (.ldc 192, 2) := dk_18 192 (dk_at dksX6_readsSum_2 3 rfl rfl)
theorem dX6_readsSum_51 : decode cX6_readsSum 51 = .ok (.iload_n 2, 1) := dk_28 (dk_at dksX6_readsSum_2 5 rfl rfl)
theorem dX6_readsSum_52 : decode cX6_readsSum 52 = .ok (.imul, 1) := dk_104 (dk_at dksX6_readsSum_2 6 rfl rfl)
theorem dX6_readsSum_53 : decode cX6_readsSum 53 = .ok (.iastore, 1) := dk_79 (dk_at dksX6_readsSum_2 7 rfl rfl)
theorem dX6_readsSum_54 : decode cX6_readsSum 54 = .ok (.aload_n 0, 1) := dk_42 (dk_at dksX6_readsSum_2 8 rfl rfl)
theorem dX6_readsSum_55 : decode cX6_readsSum 55 = .ok (.aload_n 0, 1) := dk_42 (dk_at dksX6_readsSum_2 9 rfl rfl)
theorem dX6_readsSum_56 : decode cX6_readsSum 56 = .ok (.getfield 196, 3) := dk_180 0 196 (dk_at dksX6_readsSum_2 10 rfl rfl)
theorem dX6_readsSum_59 : decode cX6_readsSum 59 = .ok (.iconst 1, 1) := dk_4 (dk_at dksX6_readsSum_2 13 rfl rfl)
theorem dX6_readsSum_60 : decode cX6_readsSum 60 = .ok (.iadd, 1) := dk_96 (dk_at dksX6_readsSum_2 14 rfl rfl)
theorem dX6_readsSum_61 : decode cX6_readsSum 61 = .ok (.putfield 196, 3) := dk_181 0 196 (dk_at dksX6_readsSum_2 15 rfl rfl)
theorem dX6_readsSum_64 : decode cX6_readsSum 64 = .ok (.aload_n 0, 1) := dk_42 (dk_at dksX6_readsSum_2 18 rfl rfl)
theorem dX6_readsSum_65 : decode cX6_readsSum 65 = .ok (.aload_n 0, 1) := dk_42 (dk_at dksX6_readsSum_2 19 rfl rfl)
theorem dX6_readsSum_66 : decode cX6_readsSum 66 = .ok (.getfield 166, 3) := dk_180 0 166 (dk_at dksX6_readsSum_2 20 rfl rfl)
theorem dX6_readsSum_69 : decode cX6_readsSum 69 = .ok (.iconst 1, 1) := dk_4 (dk_at dksX6_readsSum_2 23 rfl rfl)
theorem dX6_readsSum_70 : decode cX6_readsSum 70 = .ok (.iadd, 1) := dk_96 (dk_at dksX6_readsSum_3 0 rfl rfl)
theorem dX6_readsSum_71 : decode cX6_readsSum 71 = .ok (.putfield 166, 3) := dk_181 0 166 (dk_at dksX6_readsSum_3 1 rfl rfl)
theorem dX6_readsSum_74 : decode cX6_readsSum 74 = .ok (.aload_n 0, 1) := dk_42 (dk_at dksX6_readsSum_3 4 rfl rfl)
theorem dX6_readsSum_75 : decode cX6_readsSum 75 = .ok (.invokevirtual 215, 3) := dk_182 0 215 (dk_at dksX6_readsSum_3 5 rfl rfl)
theorem dX6_readsSum_78 : decode cX6_readsSum 78 = .ok (.ifCond .ne 85, 3) := dk_154 0 85 (dk_at dksX6_readsSum_3 8 rfl rfl)
theorem dX6_readsSum_81 : decode cX6_readsSum 81 = .ok (.iconst 0, 1) := dk_3 (dk_at dksX6_readsSum_3 11 rfl rfl)
theorem dX6_readsSum_82 : decode cX6_readsSum 82 = .ok (.ireturn, 1) := dk_172 (dk_at dksX6_readsSum_3 12 rfl rfl)
theorem dX6_readsSum_83 : decode cX6_readsSum 83 = .ok (.aload_n 0, 1) := dk_42 (dk_at dksX6_readsSum_3 13 rfl rfl)
theorem dX6_readsSum_84 : decode cX6_readsSum 84 = .ok (.invokevirtual 172, 3) := dk_182 0 172 (dk_at dksX6_readsSum_3 14 rfl rfl)
theorem dX6_readsSum_87 : decode cX6_readsSum 87 = .ok (.bipush 93, 2) := dk_16 93 (dk_at dksX6_readsSum_3 17 rfl rfl)
theorem dX6_readsSum_89 : decode cX6_readsSum 89 = .ok (.if_icmp .ne 49, 3) := dk_160 0 49 (dk_at dksX6_readsSum_3 19 rfl rfl)
theorem dX6_readsSum_92 : decode cX6_readsSum 92 = .ok (.aload_n 0, 1) := dk_42 (dk_at dksX6_readsSum_3 22 rfl rfl)
theorem dX6_readsSum_93 : decode cX6_readsSum 93 = .ok (.iload_n 1, 1) := dk_27 (dk_at dksX6_readsSum_3 23 rfl rfl)
theorem dX6_readsSum_94 : decode cX6_readsSum 94 = .ok (.invokevirtual 225, 3) := dk_182 0 225 (dk_at dksX6_readsSum_4 0 rfl rfl)
theorem dX6_readsSum_97 : decode cX6_readsSum 97 = .ok (.ifCond .eq 41, 3) := dk_153 0 41 (dk_at dksX6_readsSum_4 3 rfl rfl)
theorem dX6_readsSum_100 : decode cX6_readsSum 100 = .ok (.aload_n 0, 1) := dk_42 (dk_at dksX6_readsSum_4 6 rfl rfl)
theorem dX6_readsSum_101 : decode cX6_readsSum 101 = .ok (.iconst 1, 1) := dk_4 (dk_at dksX6_readsSum_4 7 rfl rfl)
theorem dX6_readsSum_102 : decode cX6_readsSum 102 = .ok (.invokevirtual 221, 3) := dk_182 0 221 (dk_at dksX6_readsSum_4 8 rfl rfl)
theorem dX6_readsSum_105 : decode cX6_readsSum 105 = .ok (.aload_n 0, 1) := dk_42 (dk_at dksX6_readsSum_4 11 rfl rfl)
theorem dX6_readsSum_106 : decode cX6_readsSum 106 = .ok (.aload_n 0, 1) := dk_42 (dk_at dksX6_readsSum_4 12 rfl rfl)
theorem dX6_readsSum_107 : decode cX6_readsSum 107 = .ok (.getfield 196, 3) := dk_180 0 196 (dk_at dksX6_readsSum_4 13 rfl rfl)
theorem dX6_readsSum_110 : decode cX6_readsSum 110 = .ok (.iconst 1, 1) := dk_4 (dk_at dksX6_readsSum_4 16 rfl rfl)
theorem dX6_readsSum_111 : decode cX6_readsSum 111 = .ok (.isub, 1) := dk_100 (dk_at dksX6_readsSum_4 17 rfl rfl)
theorem dX6_readsSum_112 : decode cX6_readsSum 112 = .ok (.putfield 196, 3) := dk_181 0 196 (dk_at dksX6_readsSum_4 18 rfl rfl)
theorem dX6_readsSum_115 : decode cX6_readsSum 115 = .ok (.aload_n 0, 1) := dk_42 (dk_at dksX6_readsSum_4 21 rfl rfl)
theorem dX6_readsSum_116 : decode cX6_readsSum 116 = .ok (.aload_n 0, 1) := dk_42 (dk_at dksX6_readsSum_4 22 rfl rfl)
theorem dX6_readsSum_117 : decode cX6_readsSum 117 = .ok (.getfield 193, 3) := dk_180 0 193 (dk_at dksX6_readsSum_5 0 rfl rfl)
theorem dX6_readsSum_120 : decode cX6_readsSum 120 = .ok (.iconst 1, 1) := dk_4 (dk_at dksX6_readsSum_5 3 rfl rfl)
theorem dX6_readsSum_121 : decode cX6_readsSum 121 = .ok (.isub, 1) := dk_100 (dk_at dksX6_readsSum_5 4 rfl rfl)
theorem dX6_readsSum_122 : decode cX6_readsSum 122 = .ok (.putfield 193, 3) := dk_181 0 193 (dk_at dksX6_readsSum_5 5 rfl rfl)
theorem dX6_readsSum_125 : decode cX6_readsSum 125 = .ok (.aload_n 0, 1) := dk_42 (dk_at dksX6_readsSum_5 8 rfl rfl)
theorem dX6_readsSum_126 : decode cX6_readsSum 126 = .ok (.aload_n 0, 1) := dk_42 (dk_at dksX6_readsSum_5 9 rfl rfl)
theorem dX6_readsSum_127 : decode cX6_readsSum 127 = .ok (.getfield 166, 3) := dk_180 0 166 (dk_at dksX6_readsSum_5 10 rfl rfl)
theorem dX6_readsSum_130 : decode cX6_readsSum 130 = .ok (.iconst 1, 1) := dk_4 (dk_at dksX6_readsSum_5 13 rfl rfl)
theorem dX6_readsSum_131 : decode cX6_readsSum 131 = .ok (.iadd, 1) := dk_96 (dk_at dksX6_readsSum_5 14 rfl rfl)
theorem dX6_readsSum_132 : decode cX6_readsSum 132 = .ok (.putfield 166, 3) := dk_181 0 166 (dk_at dksX6_readsSum_5 15 rfl rfl)
theorem dX6_readsSum_135 : decode cX6_readsSum 135 = .ok (.goto 28, 3) := dk_167 0 28 (dk_at dksX6_readsSum_5 18 rfl rfl)
theorem dX6_readsSum_138 : decode cX6_readsSum 138 = .ok (.aload_n 0, 1) := dk_42 (dk_at dksX6_readsSum_5 21 rfl rfl)
theorem dX6_readsSum_139 : decode cX6_readsSum 139 = .ok (.iload_n 1, 1) := dk_27 (dk_at dksX6_readsSum_5 22 rfl rfl)
theorem dX6_readsSum_140 : decode cX6_readsSum 140 = .ok (.invokevirtual 225, 3) := dk_182 0 225 (dk_at dksX6_readsSum_6 0 rfl rfl)
theorem dX6_readsSum_143 : decode cX6_readsSum 143 = .ok (.ifCond .eq 13, 3) := dk_153 0 13 (dk_at dksX6_readsSum_6 3 rfl rfl)
theorem dX6_readsSum_146 : decode cX6_readsSum 146 = .ok (.aload_n 0, 1) := dk_42 (dk_at dksX6_readsSum_6 6 rfl rfl)
theorem dX6_readsSum_147 : decode cX6_readsSum 147 = .ok (.iconst 1, 1) := dk_4 (dk_at dksX6_readsSum_6 7 rfl rfl)
theorem dX6_readsSum_148 : decode cX6_readsSum 148 = .ok (.aload_n 0, 1) := dk_42 (dk_at dksX6_readsSum_6 8 rfl rfl)
theorem dX6_readsSum_149 : decode cX6_readsSum 149 = .ok (.getfield 166, 3) := dk_180 0 166 (dk_at dksX6_readsSum_6 9 rfl rfl)
theorem dX6_readsSum_152 : decode cX6_readsSum 152 = .ok (.invokevirtual 179, 3) := dk_182 0 179 (dk_at dksX6_readsSum_6 12 rfl rfl)
theorem dX6_readsSum_155 : decode cX6_readsSum 155 = .ok (.ireturn, 1) := dk_172 (dk_at dksX6_readsSum_6 15 rfl rfl)
theorem dX6_readsSum_156 : decode cX6_readsSum 156 = .ok (.aload_n 0, 1) := dk_42 (dk_at dksX6_readsSum_6 16 rfl rfl)
theorem dX6_readsSum_157 : decode cX6_readsSum 157 = .ok (.iconst 1, 1) := dk_4 (dk_at dksX6_readsSum_6 17 rfl rfl)
theorem dX6_readsSum_158 : decode cX6_readsSum 158 = .ok (.invokevirtual 221, 3) := dk_182 0 221 (dk_at dksX6_readsSum_6 18 rfl rfl)
theorem dX6_readsSum_161 : decode cX6_readsSum 161 = .ok (.iconst 1, 1) := dk_4 (dk_at dksX6_readsSum_6 21 rfl rfl)
theorem dX6_readsSum_162 : decode cX6_readsSum 162 = .ok (.ireturn, 1) := dk_172 (dk_at dksX6_readsSum_6 22 rfl rfl)
theorem dX6_readsSum_163 : decode cX6_readsSum 163 = .ok (.goto (-149), 3) := dk_167 255 107 (dk_at dksX6_readsSum_7 0 rfl rfl)
abbrev cX6_readsFactor : ByteArray := prog_20_method_33_code
def yX6_readsFactor : MethodName := ⟨RX6, "readsFactor", "()Z"⟩
def dkwX6_readsFactor_3 : List UInt8 := [27, 182, 0, 202, 42, 42, 180, 0, 166, 4, 96, 181, 0, 166, 4, 172]
abbrev dktX6_readsFactor_3 : List UInt8 := dkwX6_readsFactor_3 ++ []
def dkwX6_readsFactor_2 : List UInt8 := [182, 0, 172, 184, 0, 212, 60, 27, 2, 160, 0, 13, 42, 4, 42, 180, 0, 166, 182, 0, 179, 172, 42, 4]
abbrev dktX6_readsFactor_2 : List UInt8 := dkwX6_readsFactor_2 ++ dktX6_readsFactor_3
def dkwX6_readsFactor_1 : List UInt8 := [153, 0, 23, 42, 182, 0, 209, 154, 0, 5, 3, 172, 42, 3, 42, 180, 0, 182, 182, 0, 202, 4, 172, 42]
abbrev dktX6_readsFactor_1 : List UInt8 := dkwX6_readsFactor_1 ++ dktX6_readsFactor_2
def dkwX6_readsFactor_0 : List UInt8 := [42, 182, 0, 172, 16, 91, 160, 0, 14, 42, 16, 14, 182, 0, 206, 154, 255, 241, 3, 172, 42, 182, 0, 185]
abbrev dktX6_readsFactor_0 : List UInt8 := dkwX6_readsFactor_0 ++ dktX6_readsFactor_1
theorem dksX6_readsFactor_0 : cX6_readsFactor.data.toList.drop 0 = dktX6_readsFactor_0 := by decide +kernel
theorem dksX6_readsFactor_1 : cX6_readsFactor.data.toList.drop 24 = dktX6_readsFactor_1 := dk_seg dksX6_readsFactor_0 24 rfl rfl
theorem dksX6_readsFactor_2 : cX6_readsFactor.data.toList.drop 48 = dktX6_readsFactor_2 := dk_seg dksX6_readsFactor_1 24 rfl rfl
theorem dksX6_readsFactor_3 : cX6_readsFactor.data.toList.drop 72 = dktX6_readsFactor_3 := dk_seg dksX6_readsFactor_2 24 rfl rfl
theorem dX6_readsFactor_0 : decode cX6_readsFactor 0 = .ok (.aload_n 0, 1) := dk_42 (dk_at dksX6_readsFactor_0 0 rfl rfl)
theorem dX6_readsFactor_1 : decode cX6_readsFactor 1 = .ok (.invokevirtual 172, 3) := dk_182 0 172 (dk_at dksX6_readsFactor_0 1 rfl rfl)
theorem dX6_readsFactor_4 : decode cX6_readsFactor 4 = .ok (.bipush 91, 2) := dk_16 91 (dk_at dksX6_readsFactor_0 4 rfl rfl)
theorem dX6_readsFactor_6 : decode cX6_readsFactor 6 = .ok (.if_icmp .ne 14, 3) := dk_160 0 14 (dk_at dksX6_readsFactor_0 6 rfl rfl)
theorem dX6_readsFactor_9 : decode cX6_readsFactor 9 = .ok (.aload_n 0, 1) := dk_42 (dk_at dksX6_readsFactor_0 9 rfl rfl)
theorem dX6_readsFactor_10 : decode cX6_readsFactor 10 = .ok (.bipush 14, 2) := dk_16 14 (dk_at dksX6_readsFactor_0 10 rfl rfl)
theorem dX6_readsFactor_12 : decode cX6_readsFactor 12 = .ok (.invokevirtual 206, 3) := dk_182 0 206 (dk_at dksX6_readsFactor_0 12 rfl rfl)
theorem dX6_readsFactor_15 : decode cX6_readsFactor 15 = .ok (.ifCond .ne (-15), 3) := dk_154 255 241 (dk_at dksX6_readsFactor_0 15 rfl rfl)
theorem dX6_readsFactor_18 : decode cX6_readsFactor 18 = .ok (.iconst 0, 1) := dk_3 (dk_at dksX6_readsFactor_0 18 rfl rfl)
theorem dX6_readsFactor_19 : decode cX6_readsFactor 19 = .ok (.ireturn, 1) := dk_172 (dk_at dksX6_readsFactor_0 19 rfl rfl)
theorem dX6_readsFactor_20 : decode cX6_readsFactor 20 = .ok (.aload_n 0, 1) := dk_42 (dk_at dksX6_readsFactor_0 20 rfl rfl)
theorem dX6_readsFactor_21 : decode cX6_readsFactor 21 = .ok (.invokevirtual 185, 3) := dk_182 0 185 (dk_at dksX6_readsFactor_0 21 rfl rfl)
theorem dX6_readsFactor_24 : decode cX6_readsFactor 24 = .ok (.ifCond .eq 23, 3) := dk_153 0 23 (dk_at dksX6_readsFactor_1 0 rfl rfl)
theorem dX6_readsFactor_27 : decode cX6_readsFactor 27 = .ok (.aload_n 0, 1) := dk_42 (dk_at dksX6_readsFactor_1 3 rfl rfl)
theorem dX6_readsFactor_28 : decode cX6_readsFactor 28 = .ok (.invokevirtual 209, 3) := dk_182 0 209 (dk_at dksX6_readsFactor_1 4 rfl rfl)
theorem dX6_readsFactor_31 : decode cX6_readsFactor 31 = .ok (.ifCond .ne 5, 3) := dk_154 0 5 (dk_at dksX6_readsFactor_1 7 rfl rfl)
theorem dX6_readsFactor_34 : decode cX6_readsFactor 34 = .ok (.iconst 0, 1) := dk_3 (dk_at dksX6_readsFactor_1 10 rfl rfl)
theorem dX6_readsFactor_35 : decode cX6_readsFactor 35 = .ok (.ireturn, 1) := dk_172 (dk_at dksX6_readsFactor_1 11 rfl rfl)
theorem dX6_readsFactor_36 : decode cX6_readsFactor 36 = .ok (.aload_n 0, 1) := dk_42 (dk_at dksX6_readsFactor_1 12 rfl rfl)
theorem dX6_readsFactor_37 : decode cX6_readsFactor 37 = .ok (.iconst 0, 1) := dk_3 (dk_at dksX6_readsFactor_1 13 rfl rfl)
theorem dX6_readsFactor_38 : decode cX6_readsFactor 38 = .ok (.aload_n 0, 1) := dk_42 (dk_at dksX6_readsFactor_1 14 rfl rfl)
theorem dX6_readsFactor_39 : decode cX6_readsFactor 39 = .ok (.getfield 182, 3) := dk_180 0 182 (dk_at dksX6_readsFactor_1 15 rfl rfl)
theorem dX6_readsFactor_42 : decode cX6_readsFactor 42 = .ok (.invokevirtual 202, 3) := dk_182 0 202 (dk_at dksX6_readsFactor_1 18 rfl rfl)
theorem dX6_readsFactor_45 : decode cX6_readsFactor 45 = .ok (.iconst 1, 1) := dk_4 (dk_at dksX6_readsFactor_1 21 rfl rfl)
theorem dX6_readsFactor_46 : decode cX6_readsFactor 46 = .ok (.ireturn, 1) := dk_172 (dk_at dksX6_readsFactor_1 22 rfl rfl)
theorem dX6_readsFactor_47 : decode cX6_readsFactor 47 = .ok (.aload_n 0, 1) := dk_42 (dk_at dksX6_readsFactor_1 23 rfl rfl)
theorem dX6_readsFactor_48 : decode cX6_readsFactor 48 = .ok (.invokevirtual 172, 3) := dk_182 0 172 (dk_at dksX6_readsFactor_2 0 rfl rfl)
theorem dX6_readsFactor_51 : decode cX6_readsFactor 51 = .ok (.invokestatic 212, 3) := dk_184 0 212 (dk_at dksX6_readsFactor_2 3 rfl rfl)
theorem dX6_readsFactor_54 : decode cX6_readsFactor 54 = .ok (.istore_n 1, 1) := dk_60 (dk_at dksX6_readsFactor_2 6 rfl rfl)
theorem dX6_readsFactor_55 : decode cX6_readsFactor 55 = .ok (.iload_n 1, 1) := dk_27 (dk_at dksX6_readsFactor_2 7 rfl rfl)
theorem dX6_readsFactor_56 : decode cX6_readsFactor 56 = .ok (.iconst (-1), 1) := dk_2 (dk_at dksX6_readsFactor_2 8 rfl rfl)
theorem dX6_readsFactor_57 : decode cX6_readsFactor 57 = .ok (.if_icmp .ne 13, 3) := dk_160 0 13 (dk_at dksX6_readsFactor_2 9 rfl rfl)
theorem dX6_readsFactor_60 : decode cX6_readsFactor 60 = .ok (.aload_n 0, 1) := dk_42 (dk_at dksX6_readsFactor_2 12 rfl rfl)
theorem dX6_readsFactor_61 : decode cX6_readsFactor 61 = .ok (.iconst 1, 1) := dk_4 (dk_at dksX6_readsFactor_2 13 rfl rfl)
theorem dX6_readsFactor_62 : decode cX6_readsFactor 62 = .ok (.aload_n 0, 1) := dk_42 (dk_at dksX6_readsFactor_2 14 rfl rfl)
theorem dX6_readsFactor_63 : decode cX6_readsFactor 63 = .ok (.getfield 166, 3) := dk_180 0 166 (dk_at dksX6_readsFactor_2 15 rfl rfl)
theorem dX6_readsFactor_66 : decode cX6_readsFactor 66 = .ok (.invokevirtual 179, 3) := dk_182 0 179 (dk_at dksX6_readsFactor_2 18 rfl rfl)
theorem dX6_readsFactor_69 : decode cX6_readsFactor 69 = .ok (.ireturn, 1) := dk_172 (dk_at dksX6_readsFactor_2 21 rfl rfl)
theorem dX6_readsFactor_70 : decode cX6_readsFactor 70 = .ok (.aload_n 0, 1) := dk_42 (dk_at dksX6_readsFactor_2 22 rfl rfl)
theorem dX6_readsFactor_71 : decode cX6_readsFactor 71 = .ok (.iconst 1, 1) := dk_4 (dk_at dksX6_readsFactor_2 23 rfl rfl)
theorem dX6_readsFactor_72 : decode cX6_readsFactor 72 = .ok (.iload_n 1, 1) := dk_27 (dk_at dksX6_readsFactor_3 0 rfl rfl)
theorem dX6_readsFactor_73 : decode cX6_readsFactor 73 = .ok (.invokevirtual 202, 3) := dk_182 0 202 (dk_at dksX6_readsFactor_3 1 rfl rfl)
theorem dX6_readsFactor_76 : decode cX6_readsFactor 76 = .ok (.aload_n 0, 1) := dk_42 (dk_at dksX6_readsFactor_3 4 rfl rfl)
theorem dX6_readsFactor_77 : decode cX6_readsFactor 77 = .ok (.aload_n 0, 1) := dk_42 (dk_at dksX6_readsFactor_3 5 rfl rfl)
theorem dX6_readsFactor_78 : decode cX6_readsFactor 78 = .ok (.getfield 166, 3) := dk_180 0 166 (dk_at dksX6_readsFactor_3 6 rfl rfl)
theorem dX6_readsFactor_81 : decode cX6_readsFactor 81 = .ok (.iconst 1, 1) := dk_4 (dk_at dksX6_readsFactor_3 9 rfl rfl)
theorem dX6_readsFactor_82 : decode cX6_readsFactor 82 = .ok (.iadd, 1) := dk_96 (dk_at dksX6_readsFactor_3 10 rfl rfl)
theorem dX6_readsFactor_83 : decode cX6_readsFactor 83 = .ok (.putfield 166, 3) := dk_181 0 166 (dk_at dksX6_readsFactor_3 11 rfl rfl)
theorem dX6_readsFactor_86 : decode cX6_readsFactor 86 = .ok (.iconst 1, 1) := dk_4 (dk_at dksX6_readsFactor_3 14 rfl rfl)
theorem dX6_readsFactor_87 : decode cX6_readsFactor 87 = .ok (.ireturn, 1) := dk_172 (dk_at dksX6_readsFactor_3 15 rfl rfl)
abbrev cX6_opens : ByteArray := prog_20_method_28_code
def yX6_opens : MethodName := ⟨RX6, "opens", "(I)Z"⟩
def dkwX6_opens_2 : List UInt8 := [96, 181, 0, 196, 42, 42, 180, 0, 166, 4, 96, 181, 0, 166, 4, 172]
abbrev dktX6_opens_2 : List UInt8 := dkwX6_opens_2 ++ []
def dkwX6_opens_1 : List UInt8 := [4, 96, 181, 0, 193, 42, 180, 0, 32, 42, 180, 0, 196, 18, 192, 27, 104, 79, 42, 42, 180, 0, 196, 4]
abbrev dktX6_opens_1 : List UInt8 := dkwX6_opens_1 ++ dktX6_opens_2
def dkwX6_opens_0 : List UInt8 := [42, 180, 0, 193, 16, 6, 160, 0, 13, 42, 8, 42, 180, 0, 166, 182, 0, 179, 172, 42, 42, 180, 0, 193]
abbrev dktX6_opens_0 : List UInt8 := dkwX6_opens_0 ++ dktX6_opens_1
theorem dksX6_opens_0 : cX6_opens.data.toList.drop 0 = dktX6_opens_0 := by decide +kernel
theorem dksX6_opens_1 : cX6_opens.data.toList.drop 24 = dktX6_opens_1 := dk_seg dksX6_opens_0 24 rfl rfl
theorem dksX6_opens_2 : cX6_opens.data.toList.drop 48 = dktX6_opens_2 := dk_seg dksX6_opens_1 24 rfl rfl
theorem dX6_opens_0 : decode cX6_opens 0 = .ok (.aload_n 0, 1) := dk_42 (dk_at dksX6_opens_0 0 rfl rfl)
theorem dX6_opens_1 : decode cX6_opens 1 = .ok (.getfield 193, 3) := dk_180 0 193 (dk_at dksX6_opens_0 1 rfl rfl)
theorem dX6_opens_4 : decode cX6_opens 4 = .ok (.bipush 6, 2) := dk_16 6 (dk_at dksX6_opens_0 4 rfl rfl)
theorem dX6_opens_6 : decode cX6_opens 6 = .ok (.if_icmp .ne 13, 3) := dk_160 0 13 (dk_at dksX6_opens_0 6 rfl rfl)
theorem dX6_opens_9 : decode cX6_opens 9 = .ok (.aload_n 0, 1) := dk_42 (dk_at dksX6_opens_0 9 rfl rfl)
theorem dX6_opens_10 : decode cX6_opens 10 = .ok (.iconst 5, 1) := dk_8 (dk_at dksX6_opens_0 10 rfl rfl)
theorem dX6_opens_11 : decode cX6_opens 11 = .ok (.aload_n 0, 1) := dk_42 (dk_at dksX6_opens_0 11 rfl rfl)
theorem dX6_opens_12 : decode cX6_opens 12 = .ok (.getfield 166, 3) := dk_180 0 166 (dk_at dksX6_opens_0 12 rfl rfl)
theorem dX6_opens_15 : decode cX6_opens 15 = .ok (.invokevirtual 179, 3) := dk_182 0 179 (dk_at dksX6_opens_0 15 rfl rfl)
theorem dX6_opens_18 : decode cX6_opens 18 = .ok (.ireturn, 1) := dk_172 (dk_at dksX6_opens_0 18 rfl rfl)
theorem dX6_opens_19 : decode cX6_opens 19 = .ok (.aload_n 0, 1) := dk_42 (dk_at dksX6_opens_0 19 rfl rfl)
theorem dX6_opens_20 : decode cX6_opens 20 = .ok (.aload_n 0, 1) := dk_42 (dk_at dksX6_opens_0 20 rfl rfl)
theorem dX6_opens_21 : decode cX6_opens 21 = .ok (.getfield 193, 3) := dk_180 0 193 (dk_at dksX6_opens_0 21 rfl rfl)
theorem dX6_opens_24 : decode cX6_opens 24 = .ok (.iconst 1, 1) := dk_4 (dk_at dksX6_opens_1 0 rfl rfl)
theorem dX6_opens_25 : decode cX6_opens 25 = .ok (.iadd, 1) := dk_96 (dk_at dksX6_opens_1 1 rfl rfl)
theorem dX6_opens_26 : decode cX6_opens 26 = .ok (.putfield 193, 3) := dk_181 0 193 (dk_at dksX6_opens_1 2 rfl rfl)
theorem dX6_opens_29 : decode cX6_opens 29 = .ok (.aload_n 0, 1) := dk_42 (dk_at dksX6_opens_1 5 rfl rfl)
theorem dX6_opens_30 : decode cX6_opens 30 = .ok (.getfield 32, 3) := dk_180 0 32 (dk_at dksX6_opens_1 6 rfl rfl)
theorem dX6_opens_33 : decode cX6_opens 33 = .ok (.aload_n 0, 1) := dk_42 (dk_at dksX6_opens_1 9 rfl rfl)
theorem dX6_opens_34 : decode cX6_opens 34 = .ok (.getfield 196, 3) := dk_180 0 196 (dk_at dksX6_opens_1 10 rfl rfl)
theorem dX6_opens_37 : decode cX6_opens 37 = .ok (.ldc 192, 2) := dk_18 192 (dk_at dksX6_opens_1 13 rfl rfl)
theorem dX6_opens_39 : decode cX6_opens 39 = .ok (.iload_n 1, 1) := dk_27 (dk_at dksX6_opens_1 15 rfl rfl)
theorem dX6_opens_40 : decode cX6_opens 40 = .ok (.imul, 1) := dk_104 (dk_at dksX6_opens_1 16 rfl rfl)
theorem dX6_opens_41 : decode cX6_opens 41 = .ok (.iastore, 1) := dk_79 (dk_at dksX6_opens_1 17 rfl rfl)
theorem dX6_opens_42 : decode cX6_opens 42 = .ok (.aload_n 0, 1) := dk_42 (dk_at dksX6_opens_1 18 rfl rfl)
theorem dX6_opens_43 : decode cX6_opens 43 = .ok (.aload_n 0, 1) := dk_42 (dk_at dksX6_opens_1 19 rfl rfl)
theorem dX6_opens_44 : decode cX6_opens 44 = .ok (.getfield 196, 3) := dk_180 0 196 (dk_at dksX6_opens_1 20 rfl rfl)
theorem dX6_opens_47 : decode cX6_opens 47 = .ok (.iconst 1, 1) := dk_4 (dk_at dksX6_opens_1 23 rfl rfl)
theorem dX6_opens_48 : decode cX6_opens 48 = .ok (.iadd, 1) := dk_96 (dk_at dksX6_opens_2 0 rfl rfl)
theorem dX6_opens_49 : decode cX6_opens 49 = .ok (.putfield 196, 3) := dk_181 0 196 (dk_at dksX6_opens_2 1 rfl rfl)
theorem dX6_opens_52 : decode cX6_opens 52 = .ok (.aload_n 0, 1) := dk_42 (dk_at dksX6_opens_2 4 rfl rfl)
theorem dX6_opens_53 : decode cX6_opens 53 = .ok (.aload_n 0, 1) := dk_42 (dk_at dksX6_opens_2 5 rfl rfl)
theorem dX6_opens_54 : decode cX6_opens 54 = .ok (.getfield 166, 3) := dk_180 0 166 (dk_at dksX6_opens_2 6 rfl rfl)
theorem dX6_opens_57 : decode cX6_opens 57 = .ok (.iconst 1, 1) := dk_4 (dk_at dksX6_opens_2 9 rfl rfl)
theorem dX6_opens_58 : decode cX6_opens 58 = .ok (.iadd, 1) := dk_96 (dk_at dksX6_opens_2 10 rfl rfl)
theorem dX6_opens_59 : decode cX6_opens 59 = .ok (.putfield 166, 3) := dk_181 0 166 (dk_at dksX6_opens_2 11 rfl rfl)
theorem dX6_opens_62 : decode cX6_opens 62 = .ok (.iconst 1, 1) := dk_4 (dk_at dksX6_opens_2 14 rfl rfl)
theorem dX6_opens_63 : decode cX6_opens 63 = .ok (.ireturn, 1) := dk_172 (dk_at dksX6_opens_2 15 rfl rfl)
abbrev cX6_isDigit : ByteArray := prog_20_method_23_code
def yX6_isDigit : MethodName := ⟨RX6, "isDigit", "()Z"⟩
def dkwX6_isDigit_0 : List UInt8 := [42, 182, 0, 172, 16, 48, 161, 0, 16, 42, 182, 0, 172, 16, 57, 163, 0, 7, 4, 167, 0, 4, 3, 172]
abbrev dktX6_isDigit_0 : List UInt8 := dkwX6_isDigit_0 ++ []
theorem dksX6_isDigit_0 : cX6_isDigit.data.toList.drop 0 = dktX6_isDigit_0 := by decide +kernel
theorem dX6_isDigit_0 : decode cX6_isDigit 0 = .ok (.aload_n 0, 1) := dk_42 (dk_at dksX6_isDigit_0 0 rfl rfl)
theorem dX6_isDigit_1 : decode cX6_isDigit 1 = .ok (.invokevirtual 172, 3) := dk_182 0 172 (dk_at dksX6_isDigit_0 1 rfl rfl)
theorem dX6_isDigit_4 : decode cX6_isDigit 4 = .ok (.bipush 48, 2) := dk_16 48 (dk_at dksX6_isDigit_0 4 rfl rfl)
theorem dX6_isDigit_6 : decode cX6_isDigit 6 = .ok (.if_icmp .lt 16, 3) := dk_161 0 16 (dk_at dksX6_isDigit_0 6 rfl rfl)
theorem dX6_isDigit_9 : decode cX6_isDigit 9 = .ok (.aload_n 0, 1) := dk_42 (dk_at dksX6_isDigit_0 9 rfl rfl)
theorem dX6_isDigit_10 : decode cX6_isDigit 10 = .ok (.invokevirtual 172, 3) := dk_182 0 172 (dk_at dksX6_isDigit_0 10 rfl rfl)
theorem dX6_isDigit_13 : decode cX6_isDigit 13 = .ok (.bipush 57, 2) := dk_16 57 (dk_at dksX6_isDigit_0 13 rfl rfl)
theorem dX6_isDigit_15 : decode cX6_isDigit 15 = .ok (.if_icmp .gt 7, 3) := dk_163 0 7 (dk_at dksX6_isDigit_0 15 rfl rfl)
theorem dX6_isDigit_18 : decode cX6_isDigit 18 = .ok (.iconst 1, 1) := dk_4 (dk_at dksX6_isDigit_0 18 rfl rfl)
theorem dX6_isDigit_19 : decode cX6_isDigit 19 = .ok (.goto 4, 3) := dk_167 0 4 (dk_at dksX6_isDigit_0 19 rfl rfl)
theorem dX6_isDigit_22 : decode cX6_isDigit 22 = .ok (.iconst 0, 1) := dk_3 (dk_at dksX6_isDigit_0 22 rfl rfl)
theorem dX6_isDigit_23 : decode cX6_isDigit 23 = .ok (.ireturn, 1) := dk_172 (dk_at dksX6_isDigit_0 23 rfl rfl)
abbrev cX6_readsNumber : ByteArray := prog_20_method_26_code
def yX6_readsNumber : MethodName := ⟨RX6, "readsNumber", "()Z"⟩
def dkwX6_readsNumber_3 : List UInt8 := [172]
abbrev dktX6_readsNumber_3 : List UInt8 := dkwX6_readsNumber_3 ++ []
def dkwX6_readsNumber_2 : List UInt8 := [182, 0, 172, 96, 16, 48, 100, 181, 0, 182, 42, 42, 180, 0, 166, 4, 96, 181, 0, 166, 167, 255, 200, 4]
abbrev dktX6_readsNumber_2 : List UInt8 := dkwX6_readsNumber_2 ++ dktX6_readsNumber_3
def dkwX6_readsNumber_1 : List UInt8 := [160, 0, 13, 42, 5, 42, 180, 0, 166, 182, 0, 179, 172, 42, 16, 10, 42, 180, 0, 182, 104, 42]
abbrev dktX6_readsNumber_1 : List UInt8 := dkwX6_readsNumber_1 ++ dktX6_readsNumber_2
def dkwX6_readsNumber_0 : List UInt8 := [42, 180, 0, 166, 60, 42, 3, 181, 0, 182, 42, 182, 0, 185, 153, 0, 55, 42, 180, 0, 166, 27, 8, 96]
abbrev dktX6_readsNumber_0 : List UInt8 := dkwX6_readsNumber_0 ++ dktX6_readsNumber_1
theorem dksX6_readsNumber_0 : cX6_readsNumber.data.toList.drop 0 = dktX6_readsNumber_0 := by decide +kernel
theorem dksX6_readsNumber_1 : cX6_readsNumber.data.toList.drop 24 = dktX6_readsNumber_1 := dk_seg dksX6_readsNumber_0 24 rfl rfl
theorem dksX6_readsNumber_2 : cX6_readsNumber.data.toList.drop 46 = dktX6_readsNumber_2 := dk_seg dksX6_readsNumber_1 22 rfl rfl
theorem dksX6_readsNumber_3 : cX6_readsNumber.data.toList.drop 70 = dktX6_readsNumber_3 := dk_seg dksX6_readsNumber_2 24 rfl rfl
theorem dX6_readsNumber_0 : decode cX6_readsNumber 0 = .ok (.aload_n 0, 1) := dk_42 (dk_at dksX6_readsNumber_0 0 rfl rfl)
theorem dX6_readsNumber_1 : decode cX6_readsNumber 1 = .ok (.getfield 166, 3) := dk_180 0 166 (dk_at dksX6_readsNumber_0 1 rfl rfl)
theorem dX6_readsNumber_4 : decode cX6_readsNumber 4 = .ok (.istore_n 1, 1) := dk_60 (dk_at dksX6_readsNumber_0 4 rfl rfl)
theorem dX6_readsNumber_5 : decode cX6_readsNumber 5 = .ok (.aload_n 0, 1) := dk_42 (dk_at dksX6_readsNumber_0 5 rfl rfl)
theorem dX6_readsNumber_6 : decode cX6_readsNumber 6 = .ok (.iconst 0, 1) := dk_3 (dk_at dksX6_readsNumber_0 6 rfl rfl)
theorem dX6_readsNumber_7 : decode cX6_readsNumber 7 = .ok (.putfield 182, 3) := dk_181 0 182 (dk_at dksX6_readsNumber_0 7 rfl rfl)
theorem dX6_readsNumber_10 : decode cX6_readsNumber 10 = .ok (.aload_n 0, 1) := dk_42 (dk_at dksX6_readsNumber_0 10 rfl rfl)
theorem dX6_readsNumber_11 : decode cX6_readsNumber 11 = .ok (.invokevirtual 185, 3) := dk_182 0 185 (dk_at dksX6_readsNumber_0 11 rfl rfl)
theorem dX6_readsNumber_14 : decode cX6_readsNumber 14 = .ok (.ifCond .eq 55, 3) := dk_153 0 55 (dk_at dksX6_readsNumber_0 14 rfl rfl)
theorem dX6_readsNumber_17 : decode cX6_readsNumber 17 = .ok (.aload_n 0, 1) := dk_42 (dk_at dksX6_readsNumber_0 17 rfl rfl)
theorem dX6_readsNumber_18 : decode cX6_readsNumber 18 = .ok (.getfield 166, 3) := dk_180 0 166 (dk_at dksX6_readsNumber_0 18 rfl rfl)
theorem dX6_readsNumber_21 : decode cX6_readsNumber 21 = .ok (.iload_n 1, 1) := dk_27 (dk_at dksX6_readsNumber_0 21 rfl rfl)
theorem dX6_readsNumber_22 : decode cX6_readsNumber 22 = .ok (.iconst 5, 1) := dk_8 (dk_at dksX6_readsNumber_0 22 rfl rfl)
theorem dX6_readsNumber_23 : decode cX6_readsNumber 23 = .ok (.iadd, 1) := dk_96 (dk_at dksX6_readsNumber_0 23 rfl rfl)
theorem dX6_readsNumber_24 : decode cX6_readsNumber 24 = .ok (.if_icmp .ne 13, 3) := dk_160 0 13 (dk_at dksX6_readsNumber_1 0 rfl rfl)
theorem dX6_readsNumber_27 : decode cX6_readsNumber 27 = .ok (.aload_n 0, 1) := dk_42 (dk_at dksX6_readsNumber_1 3 rfl rfl)
theorem dX6_readsNumber_28 : decode cX6_readsNumber 28 = .ok (.iconst 2, 1) := dk_5 (dk_at dksX6_readsNumber_1 4 rfl rfl)
theorem dX6_readsNumber_29 : decode cX6_readsNumber 29 = .ok (.aload_n 0, 1) := dk_42 (dk_at dksX6_readsNumber_1 5 rfl rfl)
theorem dX6_readsNumber_30 : decode cX6_readsNumber 30 = .ok (.getfield 166, 3) := dk_180 0 166 (dk_at dksX6_readsNumber_1 6 rfl rfl)
theorem dX6_readsNumber_33 : decode cX6_readsNumber 33 = .ok (.invokevirtual 179, 3) := dk_182 0 179 (dk_at dksX6_readsNumber_1 9 rfl rfl)
theorem dX6_readsNumber_36 : decode cX6_readsNumber 36 = .ok (.ireturn, 1) := dk_172 (dk_at dksX6_readsNumber_1 12 rfl rfl)
theorem dX6_readsNumber_37 : decode cX6_readsNumber 37 = .ok (.aload_n 0, 1) := dk_42 (dk_at dksX6_readsNumber_1 13 rfl rfl)
theorem dX6_readsNumber_38 : decode cX6_readsNumber 38 = .ok (.bipush 10, 2) := dk_16 10 (dk_at dksX6_readsNumber_1 14 rfl rfl)
theorem dX6_readsNumber_40 : decode cX6_readsNumber 40 = .ok (.aload_n 0, 1) := dk_42 (dk_at dksX6_readsNumber_1 16 rfl rfl)
theorem dX6_readsNumber_41 : decode cX6_readsNumber 41 = .ok (.getfield 182, 3) := dk_180 0 182 (dk_at dksX6_readsNumber_1 17 rfl rfl)
theorem dX6_readsNumber_44 : decode cX6_readsNumber 44 = .ok (.imul, 1) := dk_104 (dk_at dksX6_readsNumber_1 20 rfl rfl)
theorem dX6_readsNumber_45 : decode cX6_readsNumber 45 = .ok (.aload_n 0, 1) := dk_42 (dk_at dksX6_readsNumber_1 21 rfl rfl)
theorem dX6_readsNumber_46 : decode cX6_readsNumber 46 = .ok (.invokevirtual 172, 3) := dk_182 0 172 (dk_at dksX6_readsNumber_2 0 rfl rfl)
theorem dX6_readsNumber_49 : decode cX6_readsNumber 49 = .ok (.iadd, 1) := dk_96 (dk_at dksX6_readsNumber_2 3 rfl rfl)
theorem dX6_readsNumber_50 : decode cX6_readsNumber 50 = .ok (.bipush 48, 2) := dk_16 48 (dk_at dksX6_readsNumber_2 4 rfl rfl)
theorem dX6_readsNumber_52 : decode cX6_readsNumber 52 = .ok (.isub, 1) := dk_100 (dk_at dksX6_readsNumber_2 6 rfl rfl)
theorem dX6_readsNumber_53 : decode cX6_readsNumber 53 = .ok (.putfield 182, 3) := dk_181 0 182 (dk_at dksX6_readsNumber_2 7 rfl rfl)
theorem dX6_readsNumber_56 : decode cX6_readsNumber 56 = .ok (.aload_n 0, 1) := dk_42 (dk_at dksX6_readsNumber_2 10 rfl rfl)
theorem dX6_readsNumber_57 : decode cX6_readsNumber 57 = .ok (.aload_n 0, 1) := dk_42 (dk_at dksX6_readsNumber_2 11 rfl rfl)
theorem dX6_readsNumber_58 : decode cX6_readsNumber 58 = .ok (.getfield 166, 3) := dk_180 0 166 (dk_at dksX6_readsNumber_2 12 rfl rfl)
theorem dX6_readsNumber_61 : decode cX6_readsNumber 61 = .ok (.iconst 1, 1) := dk_4 (dk_at dksX6_readsNumber_2 15 rfl rfl)
theorem dX6_readsNumber_62 : decode cX6_readsNumber 62 = .ok (.iadd, 1) := dk_96 (dk_at dksX6_readsNumber_2 16 rfl rfl)
theorem dX6_readsNumber_63 : decode cX6_readsNumber 63 = .ok (.putfield 166, 3) := dk_181 0 166 (dk_at dksX6_readsNumber_2 17 rfl rfl)
theorem dX6_readsNumber_66 : decode cX6_readsNumber 66 = .ok (.goto (-56), 3) := dk_167 255 200 (dk_at dksX6_readsNumber_2 20 rfl rfl)
theorem dX6_readsNumber_69 : decode cX6_readsNumber 69 = .ok (.iconst 1, 1) := dk_4 (dk_at dksX6_readsNumber_2 23 rfl rfl)
theorem dX6_readsNumber_70 : decode cX6_readsNumber 70 = .ok (.ireturn, 1) := dk_172 (dk_at dksX6_readsNumber_3 0 rfl rfl)
abbrev cX6_notes : ByteArray := prog_20_method_27_code
def yX6_notes : MethodName := ⟨RX6, "notes", "(II)V"⟩
def dkwX6_notes_1 : List UInt8 := [181, 0, 189, 177]
abbrev dktX6_notes_1 : List UInt8 := dkwX6_notes_1 ++ []
def dkwX6_notes_0 : List UInt8 := [42, 180, 0, 29, 42, 180, 0, 189, 18, 192, 27, 104, 28, 96, 79, 42, 42, 180, 0, 189, 4, 96]
abbrev dktX6_notes_0 : List UInt8 := dkwX6_notes_0 ++ dktX6_notes_1
theorem dksX6_notes_0 : cX6_notes.data.toList.drop 0 = dktX6_notes_0 := by decide +kernel
theorem dksX6_notes_1 : cX6_notes.data.toList.drop 22 = dktX6_notes_1 := dk_seg dksX6_notes_0 22 rfl rfl
theorem dX6_notes_0 : decode cX6_notes 0 = .ok (.aload_n 0, 1) := dk_42 (dk_at dksX6_notes_0 0 rfl rfl)
theorem dX6_notes_1 : decode cX6_notes 1 = .ok (.getfield 29, 3) := dk_180 0 29 (dk_at dksX6_notes_0 1 rfl rfl)
theorem dX6_notes_4 : decode cX6_notes 4 = .ok (.aload_n 0, 1) := dk_42 (dk_at dksX6_notes_0 4 rfl rfl)
theorem dX6_notes_5 : decode cX6_notes 5 = .ok (.getfield 189, 3) := dk_180 0 189 (dk_at dksX6_notes_0 5 rfl rfl)
theorem dX6_notes_8 : decode cX6_notes 8 = .ok (.ldc 192, 2) := dk_18 192 (dk_at dksX6_notes_0 8 rfl rfl)
theorem dX6_notes_10 : decode cX6_notes 10 = .ok (.iload_n 1, 1) := dk_27 (dk_at dksX6_notes_0 10 rfl rfl)
theorem dX6_notes_11 : decode cX6_notes 11 = .ok (.imul, 1) := dk_104 (dk_at dksX6_notes_0 11 rfl rfl)
theorem dX6_notes_12 : decode cX6_notes 12 = .ok (.iload_n 2, 1) := dk_28 (dk_at dksX6_notes_0 12 rfl rfl)
theorem dX6_notes_13 : decode cX6_notes 13 = .ok (.iadd, 1) := dk_96 (dk_at dksX6_notes_0 13 rfl rfl)
theorem dX6_notes_14 : decode cX6_notes 14 = .ok (.iastore, 1) := dk_79 (dk_at dksX6_notes_0 14 rfl rfl)
theorem dX6_notes_15 : decode cX6_notes 15 = .ok (.aload_n 0, 1) := dk_42 (dk_at dksX6_notes_0 15 rfl rfl)
theorem dX6_notes_16 : decode cX6_notes 16 = .ok (.aload_n 0, 1) := dk_42 (dk_at dksX6_notes_0 16 rfl rfl)
theorem dX6_notes_17 : decode cX6_notes 17 = .ok (.getfield 189, 3) := dk_180 0 189 (dk_at dksX6_notes_0 17 rfl rfl)
theorem dX6_notes_20 : decode cX6_notes 20 = .ok (.iconst 1, 1) := dk_4 (dk_at dksX6_notes_0 20 rfl rfl)
theorem dX6_notes_21 : decode cX6_notes 21 = .ok (.iadd, 1) := dk_96 (dk_at dksX6_notes_0 21 rfl rfl)
theorem dX6_notes_22 : decode cX6_notes 22 = .ok (.putfield 189, 3) := dk_181 0 189 (dk_at dksX6_notes_1 0 rfl rfl)
theorem dX6_notes_25 : decode cX6_notes 25 = .ok (.return_, 1) := dk_177 (dk_at dksX6_notes_1 3 rfl rfl)
abbrev cX6_factOf : ByteArray := prog_20_method_30_code
def yX6_factOf : MethodName := ⟨RX6, "factOf", "(I)I"⟩
def dkwX6_factOf_2 : List UInt8 := [3, 172, 4, 172, 5, 172, 6, 172, 7, 172, 8, 172, 16, 6, 172, 16, 7, 172, 2, 172]
abbrev dktX6_factOf_2 : List UInt8 := dkwX6_factOf_2 ++ []
def dkwX6_factOf_1 : List UInt8 := [170, 0, 0, 0, 0, 0, 125, 0, 0, 0, 99, 0, 0, 0, 121, 0, 0, 0, 109, 0, 0, 0, 125, 0, 0, 0, 125, 0, 0, 0, 125, 0, 0, 0, 117, 0, 0, 0, 107, 0, 0, 0, 125, 0, 0, 0, 125, 0, 0, 0, 125, 0, 0, 0, 125, 0, 0, 0, 125, 0, 0, 0, 111, 0, 0, 0, 113, 0, 0, 0, 125, 0, 0, 0, 125, 0, 0, 0, 125, 0, 0, 0, 125, 0, 0, 0, 119, 0, 0, 0, 125, 0, 0, 0, 125, 0, 0, 0, 115, 0, 0, 0, 125, 0, 0, 0, 122]
abbrev dktX6_factOf_1 : List UInt8 := dkwX6_factOf_1 ++ dktX6_factOf_2
def dkwX6_factOf_0 : List UInt8 := [26]
abbrev dktX6_factOf_0 : List UInt8 := dkwX6_factOf_0 ++ dktX6_factOf_1
theorem dksX6_factOf_0 : cX6_factOf.data.toList.drop 0 = dktX6_factOf_0 := by decide +kernel
theorem dksX6_factOf_1 : cX6_factOf.data.toList.drop 1 = dktX6_factOf_1 := dk_seg dksX6_factOf_0 1 rfl rfl
theorem dksX6_factOf_2 : cX6_factOf.data.toList.drop 108 = dktX6_factOf_2 := dk_seg dksX6_factOf_1 107 rfl rfl
theorem dX6_factOf_0 : decode cX6_factOf 0 = .ok (.iload_n 0, 1) := dk_26 (dk_at dksX6_factOf_0 0 rfl rfl)
theorem dX6_factOf_1 : decode cX6_factOf 1 = .ok (.tableswitch 125 99 121 #[109, 125, 125, 125, 117, 107, 125, 125, 125, 125, 125, 111, 113, 125, 125, 125, 125, 119, 125, 125, 115, 125, 122], 107) := by decide +kernel
theorem dX6_factOf_108 : decode cX6_factOf 108 = .ok (.iconst 0, 1) := dk_3 (dk_at dksX6_factOf_2 0 rfl rfl)
theorem dX6_factOf_109 : decode cX6_factOf 109 = .ok (.ireturn, 1) := dk_172 (dk_at dksX6_factOf_2 1 rfl rfl)
theorem dX6_factOf_110 : decode cX6_factOf 110 = .ok (.iconst 1, 1) := dk_4 (dk_at dksX6_factOf_2 2 rfl rfl)
theorem dX6_factOf_111 : decode cX6_factOf 111 = .ok (.ireturn, 1) := dk_172 (dk_at dksX6_factOf_2 3 rfl rfl)
theorem dX6_factOf_112 : decode cX6_factOf 112 = .ok (.iconst 2, 1) := dk_5 (dk_at dksX6_factOf_2 4 rfl rfl)
theorem dX6_factOf_113 : decode cX6_factOf 113 = .ok (.ireturn, 1) := dk_172 (dk_at dksX6_factOf_2 5 rfl rfl)
theorem dX6_factOf_114 : decode cX6_factOf 114 = .ok (.iconst 3, 1) := dk_6 (dk_at dksX6_factOf_2 6 rfl rfl)
theorem dX6_factOf_115 : decode cX6_factOf 115 = .ok (.ireturn, 1) := dk_172 (dk_at dksX6_factOf_2 7 rfl rfl)
theorem dX6_factOf_116 : decode cX6_factOf 116 = .ok (.iconst 4, 1) := dk_7 (dk_at dksX6_factOf_2 8 rfl rfl)
theorem dX6_factOf_117 : decode cX6_factOf 117 = .ok (.ireturn, 1) := dk_172 (dk_at dksX6_factOf_2 9 rfl rfl)
theorem dX6_factOf_118 : decode cX6_factOf 118 = .ok (.iconst 5, 1) := dk_8 (dk_at dksX6_factOf_2 10 rfl rfl)
theorem dX6_factOf_119 : decode cX6_factOf 119 = .ok (.ireturn, 1) := dk_172 (dk_at dksX6_factOf_2 11 rfl rfl)
theorem dX6_factOf_120 : decode cX6_factOf 120 = .ok (.bipush 6, 2) := dk_16 6 (dk_at dksX6_factOf_2 12 rfl rfl)
theorem dX6_factOf_122 : decode cX6_factOf 122 = .ok (.ireturn, 1) := dk_172 (dk_at dksX6_factOf_2 14 rfl rfl)
theorem dX6_factOf_123 : decode cX6_factOf 123 = .ok (.bipush 7, 2) := dk_16 7 (dk_at dksX6_factOf_2 15 rfl rfl)
theorem dX6_factOf_125 : decode cX6_factOf 125 = .ok (.ireturn, 1) := dk_172 (dk_at dksX6_factOf_2 17 rfl rfl)
theorem dX6_factOf_126 : decode cX6_factOf 126 = .ok (.iconst (-1), 1) := dk_2 (dk_at dksX6_factOf_2 18 rfl rfl)
theorem dX6_factOf_127 : decode cX6_factOf 127 = .ok (.ireturn, 1) := dk_172 (dk_at dksX6_factOf_2 19 rfl rfl)
abbrev cX6_sumSign : ByteArray := prog_20_method_31_code
def yX6_sumSign : MethodName := ⟨RX6, "sumSign", "(I)I"⟩
def dkwX6_sumSign_2 : List UInt8 := [16, 6, 167, 0, 4, 2, 172]
abbrev dktX6_sumSign_2 : List UInt8 := dkwX6_sumSign_2 ++ []
def dkwX6_sumSign_1 : List UInt8 := [160, 0, 7, 7, 167, 0, 25, 26, 16, 47, 160, 0, 7, 8, 167, 0, 15, 26, 16, 37, 160, 0, 8]
abbrev dktX6_sumSign_1 : List UInt8 := dkwX6_sumSign_1 ++ dktX6_sumSign_2
def dkwX6_sumSign_0 : List UInt8 := [26, 16, 43, 160, 0, 7, 5, 167, 0, 45, 26, 16, 45, 160, 0, 7, 6, 167, 0, 35, 26, 16, 42]
abbrev dktX6_sumSign_0 : List UInt8 := dkwX6_sumSign_0 ++ dktX6_sumSign_1
theorem dksX6_sumSign_0 : cX6_sumSign.data.toList.drop 0 = dktX6_sumSign_0 := by decide +kernel
theorem dksX6_sumSign_1 : cX6_sumSign.data.toList.drop 23 = dktX6_sumSign_1 := dk_seg dksX6_sumSign_0 23 rfl rfl
theorem dksX6_sumSign_2 : cX6_sumSign.data.toList.drop 46 = dktX6_sumSign_2 := dk_seg dksX6_sumSign_1 23 rfl rfl
theorem dX6_sumSign_0 : decode cX6_sumSign 0 = .ok (.iload_n 0, 1) := dk_26 (dk_at dksX6_sumSign_0 0 rfl rfl)
theorem dX6_sumSign_1 : decode cX6_sumSign 1 = .ok (.bipush 43, 2) := dk_16 43 (dk_at dksX6_sumSign_0 1 rfl rfl)
theorem dX6_sumSign_3 : decode cX6_sumSign 3 = .ok (.if_icmp .ne 7, 3) := dk_160 0 7 (dk_at dksX6_sumSign_0 3 rfl rfl)
theorem dX6_sumSign_6 : decode cX6_sumSign 6 = .ok (.iconst 2, 1) := dk_5 (dk_at dksX6_sumSign_0 6 rfl rfl)
theorem dX6_sumSign_7 : decode cX6_sumSign 7 = .ok (.goto 45, 3) := dk_167 0 45 (dk_at dksX6_sumSign_0 7 rfl rfl)
theorem dX6_sumSign_10 : decode cX6_sumSign 10 = .ok (.iload_n 0, 1) := dk_26 (dk_at dksX6_sumSign_0 10 rfl rfl)
theorem dX6_sumSign_11 : decode cX6_sumSign 11 = .ok (.bipush 45, 2) := dk_16 45 (dk_at dksX6_sumSign_0 11 rfl rfl)
theorem dX6_sumSign_13 : decode cX6_sumSign 13 = .ok (.if_icmp .ne 7, 3) := dk_160 0 7 (dk_at dksX6_sumSign_0 13 rfl rfl)
theorem dX6_sumSign_16 : decode cX6_sumSign 16 = .ok (.iconst 3, 1) := dk_6 (dk_at dksX6_sumSign_0 16 rfl rfl)
theorem dX6_sumSign_17 : decode cX6_sumSign 17 = .ok (.goto 35, 3) := dk_167 0 35 (dk_at dksX6_sumSign_0 17 rfl rfl)
theorem dX6_sumSign_20 : decode cX6_sumSign 20 = .ok (.iload_n 0, 1) := dk_26 (dk_at dksX6_sumSign_0 20 rfl rfl)
theorem dX6_sumSign_21 : decode cX6_sumSign 21 = .ok (.bipush 42, 2) := dk_16 42 (dk_at dksX6_sumSign_0 21 rfl rfl)
theorem dX6_sumSign_23 : decode cX6_sumSign 23 = .ok (.if_icmp .ne 7, 3) := dk_160 0 7 (dk_at dksX6_sumSign_1 0 rfl rfl)
theorem dX6_sumSign_26 : decode cX6_sumSign 26 = .ok (.iconst 4, 1) := dk_7 (dk_at dksX6_sumSign_1 3 rfl rfl)
theorem dX6_sumSign_27 : decode cX6_sumSign 27 = .ok (.goto 25, 3) := dk_167 0 25 (dk_at dksX6_sumSign_1 4 rfl rfl)
theorem dX6_sumSign_30 : decode cX6_sumSign 30 = .ok (.iload_n 0, 1) := dk_26 (dk_at dksX6_sumSign_1 7 rfl rfl)
theorem dX6_sumSign_31 : decode cX6_sumSign 31 = .ok (.bipush 47, 2) := dk_16 47 (dk_at dksX6_sumSign_1 8 rfl rfl)
theorem dX6_sumSign_33 : decode cX6_sumSign 33 = .ok (.if_icmp .ne 7, 3) := dk_160 0 7 (dk_at dksX6_sumSign_1 10 rfl rfl)
theorem dX6_sumSign_36 : decode cX6_sumSign 36 = .ok (.iconst 5, 1) := dk_8 (dk_at dksX6_sumSign_1 13 rfl rfl)
theorem dX6_sumSign_37 : decode cX6_sumSign 37 = .ok (.goto 15, 3) := dk_167 0 15 (dk_at dksX6_sumSign_1 14 rfl rfl)
theorem dX6_sumSign_40 : decode cX6_sumSign 40 = .ok (.iload_n 0, 1) := dk_26 (dk_at dksX6_sumSign_1 17 rfl rfl)
theorem dX6_sumSign_41 : decode cX6_sumSign 41 = .ok (.bipush 37, 2) := dk_16 37 (dk_at dksX6_sumSign_1 18 rfl rfl)
theorem dX6_sumSign_43 : decode cX6_sumSign 43 = .ok (.if_icmp .ne 8, 3) := dk_160 0 8 (dk_at dksX6_sumSign_1 20 rfl rfl)
theorem dX6_sumSign_46 : decode cX6_sumSign 46 = .ok (.bipush 6, 2) := dk_16 6 (dk_at dksX6_sumSign_2 0 rfl rfl)
theorem dX6_sumSign_48 : decode cX6_sumSign 48 = .ok (.goto 4, 3) := dk_167 0 4 (dk_at dksX6_sumSign_2 2 rfl rfl)
theorem dX6_sumSign_51 : decode cX6_sumSign 51 = .ok (.iconst (-1), 1) := dk_2 (dk_at dksX6_sumSign_2 5 rfl rfl)
theorem dX6_sumSign_52 : decode cX6_sumSign 52 = .ok (.ireturn, 1) := dk_172 (dk_at dksX6_sumSign_2 6 rfl rfl)
abbrev cX6_closesSums : ByteArray := prog_20_method_32_code
def yX6_closesSums : MethodName := ⟨RX6, "closesSums", "(Z)V"⟩
def dkwX6_closesSums_2 : List UInt8 := [42, 42, 180, 0, 196, 4, 100, 181, 0, 196, 167, 255, 200, 177]
abbrev dktX6_closesSums_2 : List UInt8 := dkwX6_closesSums_2 ++ []
def dkwX6_closesSums_1 : List UInt8 := [182, 0, 199, 5, 159, 0, 11, 42, 182, 0, 199, 6, 160, 0, 25, 42, 42, 182, 0, 199, 3, 182, 0, 202]
abbrev dktX6_closesSums_1 : List UInt8 := dkwX6_closesSums_1 ++ dktX6_closesSums_2
def dkwX6_closesSums_0 : List UInt8 := [42, 182, 0, 199, 7, 161, 0, 12, 42, 182, 0, 199, 16, 6, 164, 0, 23, 27, 153, 0, 41, 42]
abbrev dktX6_closesSums_0 : List UInt8 := dkwX6_closesSums_0 ++ dktX6_closesSums_1
theorem dksX6_closesSums_0 : cX6_closesSums.data.toList.drop 0 = dktX6_closesSums_0 := by decide +kernel
theorem dksX6_closesSums_1 : cX6_closesSums.data.toList.drop 22 = dktX6_closesSums_1 := dk_seg dksX6_closesSums_0 22 rfl rfl
theorem dksX6_closesSums_2 : cX6_closesSums.data.toList.drop 46 = dktX6_closesSums_2 := dk_seg dksX6_closesSums_1 24 rfl rfl
theorem dX6_closesSums_0 : decode cX6_closesSums 0 = .ok (.aload_n 0, 1) := dk_42 (dk_at dksX6_closesSums_0 0 rfl rfl)
theorem dX6_closesSums_1 : decode cX6_closesSums 1 = .ok (.invokevirtual 199, 3) := dk_182 0 199 (dk_at dksX6_closesSums_0 1 rfl rfl)
theorem dX6_closesSums_4 : decode cX6_closesSums 4 = .ok (.iconst 4, 1) := dk_7 (dk_at dksX6_closesSums_0 4 rfl rfl)
theorem dX6_closesSums_5 : decode cX6_closesSums 5 = .ok (.if_icmp .lt 12, 3) := dk_161 0 12 (dk_at dksX6_closesSums_0 5 rfl rfl)
theorem dX6_closesSums_8 : decode cX6_closesSums 8 = .ok (.aload_n 0, 1) := dk_42 (dk_at dksX6_closesSums_0 8 rfl rfl)
theorem dX6_closesSums_9 : decode cX6_closesSums 9 = .ok (.invokevirtual 199, 3) := dk_182 0 199 (dk_at dksX6_closesSums_0 9 rfl rfl)
theorem dX6_closesSums_12 : decode cX6_closesSums 12 = .ok (.bipush 6, 2) := dk_16 6 (dk_at dksX6_closesSums_0 12 rfl rfl)
theorem dX6_closesSums_14 : decode cX6_closesSums 14 = .ok (.if_icmp .le 23, 3) := dk_164 0 23 (dk_at dksX6_closesSums_0 14 rfl rfl)
theorem dX6_closesSums_17 : decode cX6_closesSums 17 = .ok (.iload_n 1, 1) := dk_27 (dk_at dksX6_closesSums_0 17 rfl rfl)
theorem dX6_closesSums_18 : decode cX6_closesSums 18 = .ok (.ifCond .eq 41, 3) := dk_153 0 41 (dk_at dksX6_closesSums_0 18 rfl rfl)
theorem dX6_closesSums_21 : decode cX6_closesSums 21 = .ok (.aload_n 0, 1) := dk_42 (dk_at dksX6_closesSums_0 21 rfl rfl)
theorem dX6_closesSums_22 : decode cX6_closesSums 22 = .ok (.invokevirtual 199, 3) := dk_182 0 199 (dk_at dksX6_closesSums_1 0 rfl rfl)
theorem dX6_closesSums_25 : decode cX6_closesSums 25 = .ok (.iconst 2, 1) := dk_5 (dk_at dksX6_closesSums_1 3 rfl rfl)
theorem dX6_closesSums_26 : decode cX6_closesSums 26 = .ok (.if_icmp .eq 11, 3) := dk_159 0 11 (dk_at dksX6_closesSums_1 4 rfl rfl)
theorem dX6_closesSums_29 : decode cX6_closesSums 29 = .ok (.aload_n 0, 1) := dk_42 (dk_at dksX6_closesSums_1 7 rfl rfl)
theorem dX6_closesSums_30 : decode cX6_closesSums 30 = .ok (.invokevirtual 199, 3) := dk_182 0 199 (dk_at dksX6_closesSums_1 8 rfl rfl)
theorem dX6_closesSums_33 : decode cX6_closesSums 33 = .ok (.iconst 3, 1) := dk_6 (dk_at dksX6_closesSums_1 11 rfl rfl)
theorem dX6_closesSums_34 : decode cX6_closesSums 34 = .ok (.if_icmp .ne 25, 3) := dk_160 0 25 (dk_at dksX6_closesSums_1 12 rfl rfl)
theorem dX6_closesSums_37 : decode cX6_closesSums 37 = .ok (.aload_n 0, 1) := dk_42 (dk_at dksX6_closesSums_1 15 rfl rfl)
theorem dX6_closesSums_38 : decode cX6_closesSums 38 = .ok (.aload_n 0, 1) := dk_42 (dk_at dksX6_closesSums_1 16 rfl rfl)
theorem dX6_closesSums_39 : decode cX6_closesSums 39 = .ok (.invokevirtual 199, 3) := dk_182 0 199 (dk_at dksX6_closesSums_1 17 rfl rfl)
theorem dX6_closesSums_42 : decode cX6_closesSums 42 = .ok (.iconst 0, 1) := dk_3 (dk_at dksX6_closesSums_1 20 rfl rfl)
theorem dX6_closesSums_43 : decode cX6_closesSums 43 = .ok (.invokevirtual 202, 3) := dk_182 0 202 (dk_at dksX6_closesSums_1 21 rfl rfl)
theorem dX6_closesSums_46 : decode cX6_closesSums 46 = .ok (.aload_n 0, 1) := dk_42 (dk_at dksX6_closesSums_2 0 rfl rfl)
theorem dX6_closesSums_47 : decode cX6_closesSums 47 = .ok (.aload_n 0, 1) := dk_42 (dk_at dksX6_closesSums_2 1 rfl rfl)
theorem dX6_closesSums_48 : decode cX6_closesSums 48 = .ok (.getfield 196, 3) := dk_180 0 196 (dk_at dksX6_closesSums_2 2 rfl rfl)
theorem dX6_closesSums_51 : decode cX6_closesSums 51 = .ok (.iconst 1, 1) := dk_4 (dk_at dksX6_closesSums_2 5 rfl rfl)
theorem dX6_closesSums_52 : decode cX6_closesSums 52 = .ok (.isub, 1) := dk_100 (dk_at dksX6_closesSums_2 6 rfl rfl)
theorem dX6_closesSums_53 : decode cX6_closesSums 53 = .ok (.putfield 196, 3) := dk_181 0 196 (dk_at dksX6_closesSums_2 7 rfl rfl)
theorem dX6_closesSums_56 : decode cX6_closesSums 56 = .ok (.goto (-56), 3) := dk_167 255 200 (dk_at dksX6_closesSums_2 10 rfl rfl)
theorem dX6_closesSums_59 : decode cX6_closesSums 59 = .ok (.return_, 1) := dk_177 (dk_at dksX6_closesSums_2 13 rfl rfl)
abbrev cX6_waitTop : ByteArray := prog_20_method_29_code
def yX6_waitTop : MethodName := ⟨RX6, "waitTop", "()I"⟩
def dkwX6_waitTop_1 : List UInt8 := [108, 172]
abbrev dktX6_waitTop_1 : List UInt8 := dkwX6_waitTop_1 ++ []
def dkwX6_waitTop_0 : List UInt8 := [42, 180, 0, 196, 154, 0, 7, 2, 167, 0, 17, 42, 180, 0, 32, 42, 180, 0, 196, 4, 100, 46, 18, 192]
abbrev dktX6_waitTop_0 : List UInt8 := dkwX6_waitTop_0 ++ dktX6_waitTop_1
theorem dksX6_waitTop_0 : cX6_waitTop.data.toList.drop 0 = dktX6_waitTop_0 := by decide +kernel
theorem dksX6_waitTop_1 : cX6_waitTop.data.toList.drop 24 = dktX6_waitTop_1 := dk_seg dksX6_waitTop_0 24 rfl rfl
theorem dX6_waitTop_0 : decode cX6_waitTop 0 = .ok (.aload_n 0, 1) := dk_42 (dk_at dksX6_waitTop_0 0 rfl rfl)
theorem dX6_waitTop_1 : decode cX6_waitTop 1 = .ok (.getfield 196, 3) := dk_180 0 196 (dk_at dksX6_waitTop_0 1 rfl rfl)
theorem dX6_waitTop_4 : decode cX6_waitTop 4 = .ok (.ifCond .ne 7, 3) := dk_154 0 7 (dk_at dksX6_waitTop_0 4 rfl rfl)
theorem dX6_waitTop_7 : decode cX6_waitTop 7 = .ok (.iconst (-1), 1) := dk_2 (dk_at dksX6_waitTop_0 7 rfl rfl)
theorem dX6_waitTop_8 : decode cX6_waitTop 8 = .ok (.goto 17, 3) := dk_167 0 17 (dk_at dksX6_waitTop_0 8 rfl rfl)
theorem dX6_waitTop_11 : decode cX6_waitTop 11 = .ok (.aload_n 0, 1) := dk_42 (dk_at dksX6_waitTop_0 11 rfl rfl)
theorem dX6_waitTop_12 : decode cX6_waitTop 12 = .ok (.getfield 32, 3) := dk_180 0 32 (dk_at dksX6_waitTop_0 12 rfl rfl)
theorem dX6_waitTop_15 : decode cX6_waitTop 15 = .ok (.aload_n 0, 1) := dk_42 (dk_at dksX6_waitTop_0 15 rfl rfl)
theorem dX6_waitTop_16 : decode cX6_waitTop 16 = .ok (.getfield 196, 3) := dk_180 0 196 (dk_at dksX6_waitTop_0 16 rfl rfl)
theorem dX6_waitTop_19 : decode cX6_waitTop 19 = .ok (.iconst 1, 1) := dk_4 (dk_at dksX6_waitTop_0 19 rfl rfl)
theorem dX6_waitTop_20 : decode cX6_waitTop 20 = .ok (.isub, 1) := dk_100 (dk_at dksX6_waitTop_0 20 rfl rfl)
theorem dX6_waitTop_21 : decode cX6_waitTop 21 = .ok (.iaload, 1) := dk_46 (dk_at dksX6_waitTop_0 21 rfl rfl)
theorem dX6_waitTop_22 : decode cX6_waitTop 22 = .ok (.ldc 192, 2) := dk_18 192 (dk_at dksX6_waitTop_0 22 rfl rfl)
theorem dX6_waitTop_24 : decode cX6_waitTop 24 = .ok (.idiv, 1) := dk_108 (dk_at dksX6_waitTop_1 0 rfl rfl)
theorem dX6_waitTop_25 : decode cX6_waitTop 25 = .ok (.ireturn, 1) := dk_172 (dk_at dksX6_waitTop_1 1 rfl rfl)
abbrev cX6_hasOpenSum : ByteArray := prog_20_method_34_code
def yX6_hasOpenSum : MethodName := ⟨RX6, "hasOpenSum", "(I)Z"⟩
def dkwX6_hasOpenSum_1 : List UInt8 := [4, 172, 132, 2, 1, 167, 255, 229, 3, 172]
abbrev dktX6_hasOpenSum_1 : List UInt8 := dkwX6_hasOpenSum_1 ++ []
def dkwX6_hasOpenSum_0 : List UInt8 := [27, 61, 28, 42, 180, 0, 196, 162, 0, 25, 42, 180, 0, 32, 28, 46, 18, 192, 108, 16, 14, 160, 0, 5]
abbrev dktX6_hasOpenSum_0 : List UInt8 := dkwX6_hasOpenSum_0 ++ dktX6_hasOpenSum_1
theorem dksX6_hasOpenSum_0 : cX6_hasOpenSum.data.toList.drop 0 = dktX6_hasOpenSum_0 := by decide +kernel
theorem dksX6_hasOpenSum_1 : cX6_hasOpenSum.data.toList.drop 24 = dktX6_hasOpenSum_1 := dk_seg dksX6_hasOpenSum_0 24 rfl rfl
theorem dX6_hasOpenSum_0 : decode cX6_hasOpenSum 0 = .ok (.iload_n 1, 1) := dk_27 (dk_at dksX6_hasOpenSum_0 0 rfl rfl)
theorem dX6_hasOpenSum_1 : decode cX6_hasOpenSum 1 = .ok (.istore_n 2, 1) := dk_61 (dk_at dksX6_hasOpenSum_0 1 rfl rfl)
theorem dX6_hasOpenSum_2 : decode cX6_hasOpenSum 2 = .ok (.iload_n 2, 1) := dk_28 (dk_at dksX6_hasOpenSum_0 2 rfl rfl)
theorem dX6_hasOpenSum_3 : decode cX6_hasOpenSum 3 = .ok (.aload_n 0, 1) := dk_42 (dk_at dksX6_hasOpenSum_0 3 rfl rfl)
theorem dX6_hasOpenSum_4 : decode cX6_hasOpenSum 4 = .ok (.getfield 196, 3) := dk_180 0 196 (dk_at dksX6_hasOpenSum_0 4 rfl rfl)
theorem dX6_hasOpenSum_7 : decode cX6_hasOpenSum 7 = .ok (.if_icmp .ge 25, 3) := dk_162 0 25 (dk_at dksX6_hasOpenSum_0 7 rfl rfl)
theorem dX6_hasOpenSum_10 : decode cX6_hasOpenSum 10 = .ok (.aload_n 0, 1) := dk_42 (dk_at dksX6_hasOpenSum_0 10 rfl rfl)
theorem dX6_hasOpenSum_11 : decode cX6_hasOpenSum 11 = .ok (.getfield 32, 3) := dk_180 0 32 (dk_at dksX6_hasOpenSum_0 11 rfl rfl)
theorem dX6_hasOpenSum_14 : decode cX6_hasOpenSum 14 = .ok (.iload_n 2, 1) := dk_28 (dk_at dksX6_hasOpenSum_0 14 rfl rfl)
theorem dX6_hasOpenSum_15 : decode cX6_hasOpenSum 15 = .ok (.iaload, 1) := dk_46 (dk_at dksX6_hasOpenSum_0 15 rfl rfl)
theorem dX6_hasOpenSum_16 : decode cX6_hasOpenSum 16 = .ok (.ldc 192, 2) := dk_18 192 (dk_at dksX6_hasOpenSum_0 16 rfl rfl)
theorem dX6_hasOpenSum_18 : decode cX6_hasOpenSum 18 = .ok (.idiv, 1) := dk_108 (dk_at dksX6_hasOpenSum_0 18 rfl rfl)
theorem dX6_hasOpenSum_19 : decode cX6_hasOpenSum 19 = .ok (.bipush 14, 2) := dk_16 14 (dk_at dksX6_hasOpenSum_0 19 rfl rfl)
theorem dX6_hasOpenSum_21 : decode cX6_hasOpenSum 21 = .ok (.if_icmp .ne 5, 3) := dk_160 0 5 (dk_at dksX6_hasOpenSum_0 21 rfl rfl)
theorem dX6_hasOpenSum_24 : decode cX6_hasOpenSum 24 = .ok (.iconst 1, 1) := dk_4 (dk_at dksX6_hasOpenSum_1 0 rfl rfl)
theorem dX6_hasOpenSum_25 : decode cX6_hasOpenSum 25 = .ok (.ireturn, 1) := dk_172 (dk_at dksX6_hasOpenSum_1 1 rfl rfl)
theorem dX6_hasOpenSum_26 : decode cX6_hasOpenSum 26 = .ok (.iinc 2 1, 3) := dk_132 2 1 (dk_at dksX6_hasOpenSum_1 2 rfl rfl)
theorem dX6_hasOpenSum_29 : decode cX6_hasOpenSum 29 = .ok (.goto (-27), 3) := dk_167 255 229 (dk_at dksX6_hasOpenSum_1 5 rfl rfl)
theorem dX6_hasOpenSum_32 : decode cX6_hasOpenSum 32 = .ok (.iconst 0, 1) := dk_3 (dk_at dksX6_hasOpenSum_1 8 rfl rfl)
theorem dX6_hasOpenSum_33 : decode cX6_hasOpenSum 33 = .ok (.ireturn, 1) := dk_172 (dk_at dksX6_hasOpenSum_1 9 rfl rfl)
abbrev cX6_readsCondition : ByteArray := prog_20_method_40_code
def yX6_readsCondition : MethodName := ⟨RX6, "readsCondition", "()Z"⟩
def dkwX6_readsCondition_9 : List UInt8 := [16, 11, 167, 0, 5, 16, 12, 182, 0, 240, 167, 255, 78]
abbrev dktX6_readsCondition_9 : List UInt8 := dkwX6_readsCondition_9 ++ []
def dkwX6_readsCondition_8 : List UInt8 := [16, 124, 160, 0, 7, 4, 167, 0, 4, 3, 182, 0, 237, 42, 42, 182, 0, 172, 16, 38, 160, 0, 8]
abbrev dktX6_readsCondition_8 : List UInt8 := dkwX6_readsCondition_8 ++ dktX6_readsCondition_9
def dkwX6_readsCondition_7 : List UInt8 := [182, 0, 172, 16, 124, 159, 0, 13, 42, 4, 42, 180, 0, 166, 182, 0, 179, 172, 42, 42, 182, 0, 172]
abbrev dktX6_readsCondition_7 : List UInt8 := dkwX6_readsCondition_7 ++ dktX6_readsCondition_8
def dkwX6_readsCondition_6 : List UInt8 := [154, 0, 5, 4, 172, 42, 182, 0, 231, 167, 255, 199, 42, 182, 0, 172, 16, 38, 159, 0, 22, 42]
abbrev dktX6_readsCondition_6 : List UInt8 := dkwX6_readsCondition_6 ++ dktX6_readsCondition_7
def dkwX6_readsCondition_5 : List UInt8 := [42, 180, 0, 193, 4, 100, 181, 0, 193, 42, 42, 180, 0, 166, 4, 96, 181, 0, 166, 42, 180, 0, 196]
abbrev dktX6_readsCondition_5 : List UInt8 := dkwX6_readsCondition_5 ++ dktX6_readsCondition_6
def dkwX6_readsCondition_4 : List UInt8 := [182, 0, 172, 16, 41, 160, 0, 54, 42, 4, 182, 0, 237, 42, 42, 180, 0, 196, 4, 100, 181, 0, 196, 42]
abbrev dktX6_readsCondition_4 : List UInt8 := dkwX6_readsCondition_4 ++ dktX6_readsCondition_5
def dkwX6_readsCondition_3 : List UInt8 := [167, 0, 5, 16, 13, 182, 0, 206, 154, 255, 218, 3, 172, 42, 182, 0, 234, 154, 0, 5, 3, 172, 42]
abbrev dktX6_readsCondition_3 : List UInt8 := dkwX6_readsCondition_3 ++ dktX6_readsCondition_4
def dkwX6_readsCondition_2 : List UInt8 := [159, 0, 12, 42, 182, 0, 172, 16, 40, 160, 0, 28, 42, 42, 182, 0, 172, 16, 33, 160, 0, 8, 16, 10]
abbrev dktX6_readsCondition_2 : List UInt8 := dkwX6_readsCondition_2 ++ dktX6_readsCondition_3
def dkwX6_readsCondition_1 : List UInt8 := [42, 3, 181, 0, 196, 42, 16, 13, 182, 0, 206, 154, 0, 5, 3, 172, 42, 182, 0, 172, 16, 33]
abbrev dktX6_readsCondition_1 : List UInt8 := dkwX6_readsCondition_1 ++ dktX6_readsCondition_2
def dkwX6_readsCondition_0 : List UInt8 := [42, 182, 0, 172, 16, 40, 159, 0, 13, 42, 4, 42, 180, 0, 166, 182, 0, 179, 172, 42, 3, 181, 0, 193]
abbrev dktX6_readsCondition_0 : List UInt8 := dkwX6_readsCondition_0 ++ dktX6_readsCondition_1
theorem dksX6_readsCondition_0 : cX6_readsCondition.data.toList.drop 0 = dktX6_readsCondition_0 := by decide +kernel
theorem dksX6_readsCondition_1 : cX6_readsCondition.data.toList.drop 24 = dktX6_readsCondition_1 := dk_seg dksX6_readsCondition_0 24 rfl rfl
theorem dksX6_readsCondition_2 : cX6_readsCondition.data.toList.drop 46 = dktX6_readsCondition_2 := dk_seg dksX6_readsCondition_1 22 rfl rfl
theorem dksX6_readsCondition_3 : cX6_readsCondition.data.toList.drop 70 = dktX6_readsCondition_3 := dk_seg dksX6_readsCondition_2 24 rfl rfl
theorem dksX6_readsCondition_4 : cX6_readsCondition.data.toList.drop 93 = dktX6_readsCondition_4 := dk_seg dksX6_readsCondition_3 23 rfl rfl
theorem dksX6_readsCondition_5 : cX6_readsCondition.data.toList.drop 117 = dktX6_readsCondition_5 := dk_seg dksX6_readsCondition_4 24 rfl rfl
theorem dksX6_readsCondition_6 : cX6_readsCondition.data.toList.drop 140 = dktX6_readsCondition_6 := dk_seg dksX6_readsCondition_5 23 rfl rfl
theorem dksX6_readsCondition_7 : cX6_readsCondition.data.toList.drop 162 = dktX6_readsCondition_7 := dk_seg dksX6_readsCondition_6 22 rfl rfl
theorem dksX6_readsCondition_8 : cX6_readsCondition.data.toList.drop 185 = dktX6_readsCondition_8 := dk_seg dksX6_readsCondition_7 23 rfl rfl
theorem dksX6_readsCondition_9 : cX6_readsCondition.data.toList.drop 208 = dktX6_readsCondition_9 := dk_seg dksX6_readsCondition_8 23 rfl rfl
theorem dX6_readsCondition_0 : decode cX6_readsCondition 0 = .ok (.aload_n 0, 1) := dk_42 (dk_at dksX6_readsCondition_0 0 rfl rfl)
theorem dX6_readsCondition_1 : decode cX6_readsCondition 1 = .ok (.invokevirtual 172, 3) := dk_182 0 172 (dk_at dksX6_readsCondition_0 1 rfl rfl)
theorem dX6_readsCondition_4 : decode cX6_readsCondition 4 = .ok (.bipush 40, 2) := dk_16 40 (dk_at dksX6_readsCondition_0 4 rfl rfl)
theorem dX6_readsCondition_6 : decode cX6_readsCondition 6 = .ok (.if_icmp .eq 13, 3) := dk_159 0 13 (dk_at dksX6_readsCondition_0 6 rfl rfl)
theorem dX6_readsCondition_9 : decode cX6_readsCondition 9 = .ok (.aload_n 0, 1) := dk_42 (dk_at dksX6_readsCondition_0 9 rfl rfl)
theorem dX6_readsCondition_10 : decode cX6_readsCondition 10 = .ok (.iconst 1, 1) := dk_4 (dk_at dksX6_readsCondition_0 10 rfl rfl)
theorem dX6_readsCondition_11 : decode cX6_readsCondition 11 = .ok (.aload_n 0, 1) := dk_42 (dk_at dksX6_readsCondition_0 11 rfl rfl)
theorem dX6_readsCondition_12 : decode cX6_readsCondition 12 = .ok (.getfield 166, 3) := dk_180 0 166 (dk_at dksX6_readsCondition_0 12 rfl rfl)
theorem dX6_readsCondition_15 : decode cX6_readsCondition 15 = .ok (.invokevirtual 179, 3) := dk_182 0 179 (dk_at dksX6_readsCondition_0 15 rfl rfl)
theorem dX6_readsCondition_18 : decode cX6_readsCondition 18 = .ok (.ireturn, 1) := dk_172 (dk_at dksX6_readsCondition_0 18 rfl rfl)
theorem dX6_readsCondition_19 : decode cX6_readsCondition 19 = .ok (.aload_n 0, 1) := dk_42 (dk_at dksX6_readsCondition_0 19 rfl rfl)
theorem dX6_readsCondition_20 : decode cX6_readsCondition 20 = .ok (.iconst 0, 1) := dk_3 (dk_at dksX6_readsCondition_0 20 rfl rfl)
theorem dX6_readsCondition_21 : decode cX6_readsCondition 21 = .ok (.putfield 193, 3) := dk_181 0 193 (dk_at dksX6_readsCondition_0 21 rfl rfl)
theorem dX6_readsCondition_24 : decode cX6_readsCondition 24 = .ok (.aload_n 0, 1) := dk_42 (dk_at dksX6_readsCondition_1 0 rfl rfl)
theorem dX6_readsCondition_25 : decode cX6_readsCondition 25 = .ok (.iconst 0, 1) := dk_3 (dk_at dksX6_readsCondition_1 1 rfl rfl)
theorem dX6_readsCondition_26 : decode cX6_readsCondition 26 = .ok (.putfield 196, 3) := dk_181 0 196 (dk_at dksX6_readsCondition_1 2 rfl rfl)
theorem dX6_readsCondition_29 : decode cX6_readsCondition 29 = .ok (.aload_n 0, 1) := dk_42 (dk_at dksX6_readsCondition_1 5 rfl rfl)
theorem dX6_readsCondition_30 : decode cX6_readsCondition 30 = .ok (.bipush 13, 2) := dk_16 13 (dk_at dksX6_readsCondition_1 6 rfl rfl)
theorem dX6_readsCondition_32 : decode cX6_readsCondition 32 = .ok (.invokevirtual 206, 3) := dk_182 0 206 (dk_at dksX6_readsCondition_1 8 rfl rfl)
theorem dX6_readsCondition_35 : decode cX6_readsCondition 35 = .ok (.ifCond .ne 5, 3) := dk_154 0 5 (dk_at dksX6_readsCondition_1 11 rfl rfl)
theorem dX6_readsCondition_38 : decode cX6_readsCondition 38 = .ok (.iconst 0, 1) := dk_3 (dk_at dksX6_readsCondition_1 14 rfl rfl)
theorem dX6_readsCondition_39 : decode cX6_readsCondition 39 = .ok (.ireturn, 1) := dk_172 (dk_at dksX6_readsCondition_1 15 rfl rfl)
theorem dX6_readsCondition_40 : decode cX6_readsCondition 40 = .ok (.aload_n 0, 1) := dk_42 (dk_at dksX6_readsCondition_1 16 rfl rfl)
theorem dX6_readsCondition_41 : decode cX6_readsCondition 41 = .ok (.invokevirtual 172, 3) := dk_182 0 172 (dk_at dksX6_readsCondition_1 17 rfl rfl)
theorem dX6_readsCondition_44 : decode cX6_readsCondition 44 = .ok (.bipush 33, 2) := dk_16 33 (dk_at dksX6_readsCondition_1 20 rfl rfl)
theorem dX6_readsCondition_46 : decode cX6_readsCondition 46 = .ok (.if_icmp .eq 12, 3) := dk_159 0 12 (dk_at dksX6_readsCondition_2 0 rfl rfl)
theorem dX6_readsCondition_49 : decode cX6_readsCondition 49 = .ok (.aload_n 0, 1) := dk_42 (dk_at dksX6_readsCondition_2 3 rfl rfl)
theorem dX6_readsCondition_50 : decode cX6_readsCondition 50 = .ok (.invokevirtual 172, 3) := dk_182 0 172 (dk_at dksX6_readsCondition_2 4 rfl rfl)
theorem dX6_readsCondition_53 : decode cX6_readsCondition 53 = .ok (.bipush 40, 2) := dk_16 40 (dk_at dksX6_readsCondition_2 7 rfl rfl)
theorem dX6_readsCondition_55 : decode cX6_readsCondition 55 = .ok (.if_icmp .ne 28, 3) := dk_160 0 28 (dk_at dksX6_readsCondition_2 9 rfl rfl)
theorem dX6_readsCondition_58 : decode cX6_readsCondition 58 = .ok (.aload_n 0, 1) := dk_42 (dk_at dksX6_readsCondition_2 12 rfl rfl)
theorem dX6_readsCondition_59 : decode cX6_readsCondition 59 = .ok (.aload_n 0, 1) := dk_42 (dk_at dksX6_readsCondition_2 13 rfl rfl)
theorem dX6_readsCondition_60 : decode cX6_readsCondition 60 = .ok (.invokevirtual 172, 3) := dk_182 0 172 (dk_at dksX6_readsCondition_2 14 rfl rfl)
theorem dX6_readsCondition_63 : decode cX6_readsCondition 63 = .ok (.bipush 33, 2) := dk_16 33 (dk_at dksX6_readsCondition_2 17 rfl rfl)
theorem dX6_readsCondition_65 : decode cX6_readsCondition 65 = .ok (.if_icmp .ne 8, 3) := dk_160 0 8 (dk_at dksX6_readsCondition_2 19 rfl rfl)
theorem dX6_readsCondition_68 : decode cX6_readsCondition 68 = .ok (.bipush 10, 2) := dk_16 10 (dk_at dksX6_readsCondition_2 22 rfl rfl)
theorem dX6_readsCondition_70 : decode cX6_readsCondition 70 = .ok (.goto 5, 3) := dk_167 0 5 (dk_at dksX6_readsCondition_3 0 rfl rfl)
theorem dX6_readsCondition_73 : decode cX6_readsCondition 73 = .ok (.bipush 13, 2) := dk_16 13 (dk_at dksX6_readsCondition_3 3 rfl rfl)
theorem dX6_readsCondition_75 : decode cX6_readsCondition 75 = .ok (.invokevirtual 206, 3) := dk_182 0 206 (dk_at dksX6_readsCondition_3 5 rfl rfl)
theorem dX6_readsCondition_78 : decode cX6_readsCondition 78 = .ok (.ifCond .ne (-38), 3) := dk_154 255 218 (dk_at dksX6_readsCondition_3 8 rfl rfl)
theorem dX6_readsCondition_81 : decode cX6_readsCondition 81 = .ok (.iconst 0, 1) := dk_3 (dk_at dksX6_readsCondition_3 11 rfl rfl)
theorem dX6_readsCondition_82 : decode cX6_readsCondition 82 = .ok (.ireturn, 1) := dk_172 (dk_at dksX6_readsCondition_3 12 rfl rfl)
theorem dX6_readsCondition_83 : decode cX6_readsCondition 83 = .ok (.aload_n 0, 1) := dk_42 (dk_at dksX6_readsCondition_3 13 rfl rfl)
theorem dX6_readsCondition_84 : decode cX6_readsCondition 84 = .ok (.invokevirtual 234, 3) := dk_182 0 234 (dk_at dksX6_readsCondition_3 14 rfl rfl)
theorem dX6_readsCondition_87 : decode cX6_readsCondition 87 = .ok (.ifCond .ne 5, 3) := dk_154 0 5 (dk_at dksX6_readsCondition_3 17 rfl rfl)
theorem dX6_readsCondition_90 : decode cX6_readsCondition 90 = .ok (.iconst 0, 1) := dk_3 (dk_at dksX6_readsCondition_3 20 rfl rfl)
theorem dX6_readsCondition_91 : decode cX6_readsCondition 91 = .ok (.ireturn, 1) := dk_172 (dk_at dksX6_readsCondition_3 21 rfl rfl)
theorem dX6_readsCondition_92 : decode cX6_readsCondition 92 = .ok (.aload_n 0, 1) := dk_42 (dk_at dksX6_readsCondition_3 22 rfl rfl)
theorem dX6_readsCondition_93 : decode cX6_readsCondition 93 = .ok (.invokevirtual 172, 3) := dk_182 0 172 (dk_at dksX6_readsCondition_4 0 rfl rfl)
theorem dX6_readsCondition_96 : decode cX6_readsCondition 96 = .ok (.bipush 41, 2) := dk_16 41 (dk_at dksX6_readsCondition_4 3 rfl rfl)
theorem dX6_readsCondition_98 : decode cX6_readsCondition 98 = .ok (.if_icmp .ne 54, 3) := dk_160 0 54 (dk_at dksX6_readsCondition_4 5 rfl rfl)
theorem dX6_readsCondition_101 : decode cX6_readsCondition 101 = .ok (.aload_n 0, 1) := dk_42 (dk_at dksX6_readsCondition_4 8 rfl rfl)
theorem dX6_readsCondition_102 : decode cX6_readsCondition 102 = .ok (.iconst 1, 1) := dk_4 (dk_at dksX6_readsCondition_4 9 rfl rfl)
theorem dX6_readsCondition_103 : decode cX6_readsCondition 103 = .ok (.invokevirtual 237, 3) := dk_182 0 237 (dk_at dksX6_readsCondition_4 10 rfl rfl)
theorem dX6_readsCondition_106 : decode cX6_readsCondition 106 = .ok (.aload_n 0, 1) := dk_42 (dk_at dksX6_readsCondition_4 13 rfl rfl)
theorem dX6_readsCondition_107 : decode cX6_readsCondition 107 = .ok (.aload_n 0, 1) := dk_42 (dk_at dksX6_readsCondition_4 14 rfl rfl)
theorem dX6_readsCondition_108 : decode cX6_readsCondition 108 = .ok (.getfield 196, 3) := dk_180 0 196 (dk_at dksX6_readsCondition_4 15 rfl rfl)
theorem dX6_readsCondition_111 : decode cX6_readsCondition 111 = .ok (.iconst 1, 1) := dk_4 (dk_at dksX6_readsCondition_4 18 rfl rfl)
theorem dX6_readsCondition_112 : decode cX6_readsCondition 112 = .ok (.isub, 1) := dk_100 (dk_at dksX6_readsCondition_4 19 rfl rfl)
theorem dX6_readsCondition_113 : decode cX6_readsCondition 113 = .ok (.putfield 196, 3) := dk_181 0 196 (dk_at dksX6_readsCondition_4 20 rfl rfl)
theorem dX6_readsCondition_116 : decode cX6_readsCondition 116 = .ok (.aload_n 0, 1) := dk_42 (dk_at dksX6_readsCondition_4 23 rfl rfl)
theorem dX6_readsCondition_117 : decode cX6_readsCondition 117 = .ok (.aload_n 0, 1) := dk_42 (dk_at dksX6_readsCondition_5 0 rfl rfl)
theorem dX6_readsCondition_118 : decode cX6_readsCondition 118 = .ok (.getfield 193, 3) := dk_180 0 193 (dk_at dksX6_readsCondition_5 1 rfl rfl)
theorem dX6_readsCondition_121 : decode cX6_readsCondition 121 = .ok (.iconst 1, 1) := dk_4 (dk_at dksX6_readsCondition_5 4 rfl rfl)
theorem dX6_readsCondition_122 : decode cX6_readsCondition 122 = .ok (.isub, 1) := dk_100 (dk_at dksX6_readsCondition_5 5 rfl rfl)
theorem dX6_readsCondition_123 : decode cX6_readsCondition 123 = .ok (.putfield 193, 3) := dk_181 0 193 (dk_at dksX6_readsCondition_5 6 rfl rfl)
theorem dX6_readsCondition_126 : decode cX6_readsCondition 126 = .ok (.aload_n 0, 1) := dk_42 (dk_at dksX6_readsCondition_5 9 rfl rfl)
theorem dX6_readsCondition_127 : decode cX6_readsCondition 127 = .ok (.aload_n 0, 1) := dk_42 (dk_at dksX6_readsCondition_5 10 rfl rfl)
theorem dX6_readsCondition_128 : decode cX6_readsCondition 128 = .ok (.getfield 166, 3) := dk_180 0 166 (dk_at dksX6_readsCondition_5 11 rfl rfl)
theorem dX6_readsCondition_131 : decode cX6_readsCondition 131 = .ok (.iconst 1, 1) := dk_4 (dk_at dksX6_readsCondition_5 14 rfl rfl)
theorem dX6_readsCondition_132 : decode cX6_readsCondition 132 = .ok (.iadd, 1) := dk_96 (dk_at dksX6_readsCondition_5 15 rfl rfl)
theorem dX6_readsCondition_133 : decode cX6_readsCondition 133 = .ok (.putfield 166, 3) := dk_181 0 166 (dk_at dksX6_readsCondition_5 16 rfl rfl)
theorem dX6_readsCondition_136 : decode cX6_readsCondition 136 = .ok (.aload_n 0, 1) := dk_42 (dk_at dksX6_readsCondition_5 19 rfl rfl)
theorem dX6_readsCondition_137 : decode cX6_readsCondition 137 = .ok (.getfield 196, 3) := dk_180 0 196 (dk_at dksX6_readsCondition_5 20 rfl rfl)
theorem dX6_readsCondition_140 : decode cX6_readsCondition 140 = .ok (.ifCond .ne 5, 3) := dk_154 0 5 (dk_at dksX6_readsCondition_6 0 rfl rfl)
theorem dX6_readsCondition_143 : decode cX6_readsCondition 143 = .ok (.iconst 1, 1) := dk_4 (dk_at dksX6_readsCondition_6 3 rfl rfl)
theorem dX6_readsCondition_144 : decode cX6_readsCondition 144 = .ok (.ireturn, 1) := dk_172 (dk_at dksX6_readsCondition_6 4 rfl rfl)
theorem dX6_readsCondition_145 : decode cX6_readsCondition 145 = .ok (.aload_n 0, 1) := dk_42 (dk_at dksX6_readsCondition_6 5 rfl rfl)
theorem dX6_readsCondition_146 : decode cX6_readsCondition 146 = .ok (.invokevirtual 231, 3) := dk_182 0 231 (dk_at dksX6_readsCondition_6 6 rfl rfl)
theorem dX6_readsCondition_149 : decode cX6_readsCondition 149 = .ok (.goto (-57), 3) := dk_167 255 199 (dk_at dksX6_readsCondition_6 9 rfl rfl)
theorem dX6_readsCondition_152 : decode cX6_readsCondition 152 = .ok (.aload_n 0, 1) := dk_42 (dk_at dksX6_readsCondition_6 12 rfl rfl)
theorem dX6_readsCondition_153 : decode cX6_readsCondition 153 = .ok (.invokevirtual 172, 3) := dk_182 0 172 (dk_at dksX6_readsCondition_6 13 rfl rfl)
theorem dX6_readsCondition_156 : decode cX6_readsCondition 156 = .ok (.bipush 38, 2) := dk_16 38 (dk_at dksX6_readsCondition_6 16 rfl rfl)
theorem dX6_readsCondition_158 : decode cX6_readsCondition 158 = .ok (.if_icmp .eq 22, 3) := dk_159 0 22 (dk_at dksX6_readsCondition_6 18 rfl rfl)
theorem dX6_readsCondition_161 : decode cX6_readsCondition 161 = .ok (.aload_n 0, 1) := dk_42 (dk_at dksX6_readsCondition_6 21 rfl rfl)
theorem dX6_readsCondition_162 : decode cX6_readsCondition 162 = .ok (.invokevirtual 172, 3) := dk_182 0 172 (dk_at dksX6_readsCondition_7 0 rfl rfl)
theorem dX6_readsCondition_165 : decode cX6_readsCondition 165 = .ok (.bipush 124, 2) := dk_16 124 (dk_at dksX6_readsCondition_7 3 rfl rfl)
theorem dX6_readsCondition_167 : decode cX6_readsCondition 167 = .ok (.if_icmp .eq 13, 3) := dk_159 0 13 (dk_at dksX6_readsCondition_7 5 rfl rfl)
theorem dX6_readsCondition_170 : decode cX6_readsCondition 170 = .ok (.aload_n 0, 1) := dk_42 (dk_at dksX6_readsCondition_7 8 rfl rfl)
theorem dX6_readsCondition_171 : decode cX6_readsCondition 171 = .ok (.iconst 1, 1) := dk_4 (dk_at dksX6_readsCondition_7 9 rfl rfl)
theorem dX6_readsCondition_172 : decode cX6_readsCondition 172 = .ok (.aload_n 0, 1) := dk_42 (dk_at dksX6_readsCondition_7 10 rfl rfl)
theorem dX6_readsCondition_173 : decode cX6_readsCondition 173 = .ok (.getfield 166, 3) := dk_180 0 166 (dk_at dksX6_readsCondition_7 11 rfl rfl)
theorem dX6_readsCondition_176 : decode cX6_readsCondition 176 = .ok (.invokevirtual 179, 3) := dk_182 0 179 (dk_at dksX6_readsCondition_7 14 rfl rfl)
theorem dX6_readsCondition_179 : decode cX6_readsCondition 179 = .ok (.ireturn, 1) := dk_172 (dk_at dksX6_readsCondition_7 17 rfl rfl)
theorem dX6_readsCondition_180 : decode cX6_readsCondition 180 = .ok (.aload_n 0, 1) := dk_42 (dk_at dksX6_readsCondition_7 18 rfl rfl)
theorem dX6_readsCondition_181 : decode cX6_readsCondition 181 = .ok (.aload_n 0, 1) := dk_42 (dk_at dksX6_readsCondition_7 19 rfl rfl)
theorem dX6_readsCondition_182 : decode cX6_readsCondition 182 = .ok (.invokevirtual 172, 3) := dk_182 0 172 (dk_at dksX6_readsCondition_7 20 rfl rfl)
theorem dX6_readsCondition_185 : decode cX6_readsCondition 185 = .ok (.bipush 124, 2) := dk_16 124 (dk_at dksX6_readsCondition_8 0 rfl rfl)
theorem dX6_readsCondition_187 : decode cX6_readsCondition 187 = .ok (.if_icmp .ne 7, 3) := dk_160 0 7 (dk_at dksX6_readsCondition_8 2 rfl rfl)
theorem dX6_readsCondition_190 : decode cX6_readsCondition 190 = .ok (.iconst 1, 1) := dk_4 (dk_at dksX6_readsCondition_8 5 rfl rfl)
theorem dX6_readsCondition_191 : decode cX6_readsCondition 191 = .ok (.goto 4, 3) := dk_167 0 4 (dk_at dksX6_readsCondition_8 6 rfl rfl)
theorem dX6_readsCondition_194 : decode cX6_readsCondition 194 = .ok (.iconst 0, 1) := dk_3 (dk_at dksX6_readsCondition_8 9 rfl rfl)
theorem dX6_readsCondition_195 : decode cX6_readsCondition 195 = .ok (.invokevirtual 237, 3) := dk_182 0 237 (dk_at dksX6_readsCondition_8 10 rfl rfl)
theorem dX6_readsCondition_198 : decode cX6_readsCondition 198 = .ok (.aload_n 0, 1) := dk_42 (dk_at dksX6_readsCondition_8 13 rfl rfl)
theorem dX6_readsCondition_199 : decode cX6_readsCondition 199 = .ok (.aload_n 0, 1) := dk_42 (dk_at dksX6_readsCondition_8 14 rfl rfl)
theorem dX6_readsCondition_200 : decode cX6_readsCondition 200 = .ok (.invokevirtual 172, 3) := dk_182 0 172 (dk_at dksX6_readsCondition_8 15 rfl rfl)
theorem dX6_readsCondition_203 : decode cX6_readsCondition 203 = .ok (.bipush 38, 2) := dk_16 38 (dk_at dksX6_readsCondition_8 18 rfl rfl)
theorem dX6_readsCondition_205 : decode cX6_readsCondition 205 = .ok (.if_icmp .ne 8, 3) := dk_160 0 8 (dk_at dksX6_readsCondition_8 20 rfl rfl)
theorem dX6_readsCondition_208 : decode cX6_readsCondition 208 = .ok (.bipush 11, 2) := dk_16 11 (dk_at dksX6_readsCondition_9 0 rfl rfl)
theorem dX6_readsCondition_210 : decode cX6_readsCondition 210 = .ok (.goto 5, 3) := dk_167 0 5 (dk_at dksX6_readsCondition_9 2 rfl rfl)
theorem dX6_readsCondition_213 : decode cX6_readsCondition 213 = .ok (.bipush 12, 2) := dk_16 12 (dk_at dksX6_readsCondition_9 5 rfl rfl)
theorem dX6_readsCondition_215 : decode cX6_readsCondition 215 = .ok (.invokevirtual 240, 3) := dk_182 0 240 (dk_at dksX6_readsCondition_9 7 rfl rfl)
theorem dX6_readsCondition_218 : decode cX6_readsCondition 218 = .ok (.goto (-178), 3) := dk_167 255 78 (dk_at dksX6_readsCondition_9 10 rfl rfl)
abbrev cX6_readsCompared : ByteArray := prog_20_method_39_code
def yX6_readsCompared : MethodName := ⟨RX6, "readsCompared", "()Z"⟩
def dkwX6_readsCompared_4 : List UInt8 := [182, 0, 231, 4, 172]
abbrev dktX6_readsCompared_4 : List UInt8 := dkwX6_readsCompared_4 ++ []
def dkwX6_readsCompared_3 : List UInt8 := [180, 0, 166, 4, 96, 181, 0, 166, 42, 182, 0, 228, 154, 0, 5, 3, 172, 42, 27, 3, 182, 0, 202, 42]
abbrev dktX6_readsCompared_3 : List UInt8 := dkwX6_readsCompared_3 ++ dktX6_readsCompared_4
def dkwX6_readsCompared_2 : List UInt8 := [167, 0, 4, 2, 60, 27, 2, 160, 0, 13, 42, 4, 42, 180, 0, 166, 182, 0, 179, 172, 42, 42]
abbrev dktX6_readsCompared_2 : List UInt8 := dkwX6_readsCompared_2 ++ dktX6_readsCompared_3
def dkwX6_readsCompared_1 : List UInt8 := [182, 0, 172, 16, 62, 160, 0, 8, 16, 8, 167, 0, 18, 42, 182, 0, 172, 16, 61, 160, 0, 8, 16, 9]
abbrev dktX6_readsCompared_1 : List UInt8 := dkwX6_readsCompared_1 ++ dktX6_readsCompared_2
def dkwX6_readsCompared_0 : List UInt8 := [42, 182, 0, 228, 154, 0, 5, 3, 172, 42, 182, 0, 172, 16, 60, 160, 0, 8, 16, 7, 167, 0, 32, 42]
abbrev dktX6_readsCompared_0 : List UInt8 := dkwX6_readsCompared_0 ++ dktX6_readsCompared_1
theorem dksX6_readsCompared_0 : cX6_readsCompared.data.toList.drop 0 = dktX6_readsCompared_0 := by decide +kernel
theorem dksX6_readsCompared_1 : cX6_readsCompared.data.toList.drop 24 = dktX6_readsCompared_1 := dk_seg dksX6_readsCompared_0 24 rfl rfl
theorem dksX6_readsCompared_2 : cX6_readsCompared.data.toList.drop 48 = dktX6_readsCompared_2 := dk_seg dksX6_readsCompared_1 24 rfl rfl
theorem dksX6_readsCompared_3 : cX6_readsCompared.data.toList.drop 70 = dktX6_readsCompared_3 := dk_seg dksX6_readsCompared_2 22 rfl rfl
theorem dksX6_readsCompared_4 : cX6_readsCompared.data.toList.drop 94 = dktX6_readsCompared_4 := dk_seg dksX6_readsCompared_3 24 rfl rfl
theorem dX6_readsCompared_0 : decode cX6_readsCompared 0 = .ok (.aload_n 0, 1) := dk_42 (dk_at dksX6_readsCompared_0 0 rfl rfl)
theorem dX6_readsCompared_1 : decode cX6_readsCompared 1 = .ok (.invokevirtual 228, 3) := dk_182 0 228 (dk_at dksX6_readsCompared_0 1 rfl rfl)
theorem dX6_readsCompared_4 : decode cX6_readsCompared 4 = .ok (.ifCond .ne 5, 3) := dk_154 0 5 (dk_at dksX6_readsCompared_0 4 rfl rfl)
theorem dX6_readsCompared_7 : decode cX6_readsCompared 7 = .ok (.iconst 0, 1) := dk_3 (dk_at dksX6_readsCompared_0 7 rfl rfl)
theorem dX6_readsCompared_8 : decode cX6_readsCompared 8 = .ok (.ireturn, 1) := dk_172 (dk_at dksX6_readsCompared_0 8 rfl rfl)
theorem dX6_readsCompared_9 : decode cX6_readsCompared 9 = .ok (.aload_n 0, 1) := dk_42 (dk_at dksX6_readsCompared_0 9 rfl rfl)
theorem dX6_readsCompared_10 : decode cX6_readsCompared 10 = .ok (.invokevirtual 172, 3) := dk_182 0 172 (dk_at dksX6_readsCompared_0 10 rfl rfl)
theorem dX6_readsCompared_13 : decode cX6_readsCompared 13 = .ok (.bipush 60, 2) := dk_16 60 (dk_at dksX6_readsCompared_0 13 rfl rfl)
theorem dX6_readsCompared_15 : decode cX6_readsCompared 15 = .ok (.if_icmp .ne 8, 3) := dk_160 0 8 (dk_at dksX6_readsCompared_0 15 rfl rfl)
theorem dX6_readsCompared_18 : decode cX6_readsCompared 18 = .ok (.bipush 7, 2) := dk_16 7 (dk_at dksX6_readsCompared_0 18 rfl rfl)
theorem dX6_readsCompared_20 : decode cX6_readsCompared 20 = .ok (.goto 32, 3) := dk_167 0 32 (dk_at dksX6_readsCompared_0 20 rfl rfl)
theorem dX6_readsCompared_23 : decode cX6_readsCompared 23 = .ok (.aload_n 0, 1) := dk_42 (dk_at dksX6_readsCompared_0 23 rfl rfl)
theorem dX6_readsCompared_24 : decode cX6_readsCompared 24 = .ok (.invokevirtual 172, 3) := dk_182 0 172 (dk_at dksX6_readsCompared_1 0 rfl rfl)
theorem dX6_readsCompared_27 : decode cX6_readsCompared 27 = .ok (.bipush 62, 2) := dk_16 62 (dk_at dksX6_readsCompared_1 3 rfl rfl)
theorem dX6_readsCompared_29 : decode cX6_readsCompared 29 = .ok (.if_icmp .ne 8, 3) := dk_160 0 8 (dk_at dksX6_readsCompared_1 5 rfl rfl)
theorem dX6_readsCompared_32 : decode cX6_readsCompared 32 = .ok (.bipush 8, 2) := dk_16 8 (dk_at dksX6_readsCompared_1 8 rfl rfl)
theorem dX6_readsCompared_34 : decode cX6_readsCompared 34 = .ok (.goto 18, 3) := dk_167 0 18 (dk_at dksX6_readsCompared_1 10 rfl rfl)
theorem dX6_readsCompared_37 : decode cX6_readsCompared 37 = .ok (.aload_n 0, 1) := dk_42 (dk_at dksX6_readsCompared_1 13 rfl rfl)
theorem dX6_readsCompared_38 : decode cX6_readsCompared 38 = .ok (.invokevirtual 172, 3) := dk_182 0 172 (dk_at dksX6_readsCompared_1 14 rfl rfl)
theorem dX6_readsCompared_41 : decode cX6_readsCompared 41 = .ok (.bipush 61, 2) := dk_16 61 (dk_at dksX6_readsCompared_1 17 rfl rfl)
theorem dX6_readsCompared_43 : decode cX6_readsCompared 43 = .ok (.if_icmp .ne 8, 3) := dk_160 0 8 (dk_at dksX6_readsCompared_1 19 rfl rfl)
theorem dX6_readsCompared_46 : decode cX6_readsCompared 46 = .ok (.bipush 9, 2) := dk_16 9 (dk_at dksX6_readsCompared_1 22 rfl rfl)
theorem dX6_readsCompared_48 : decode cX6_readsCompared 48 = .ok (.goto 4, 3) := dk_167 0 4 (dk_at dksX6_readsCompared_2 0 rfl rfl)
theorem dX6_readsCompared_51 : decode cX6_readsCompared 51 = .ok (.iconst (-1), 1) := dk_2 (dk_at dksX6_readsCompared_2 3 rfl rfl)
theorem dX6_readsCompared_52 : decode cX6_readsCompared 52 = .ok (.istore_n 1, 1) := dk_60 (dk_at dksX6_readsCompared_2 4 rfl rfl)
theorem dX6_readsCompared_53 : decode cX6_readsCompared 53 = .ok (.iload_n 1, 1) := dk_27 (dk_at dksX6_readsCompared_2 5 rfl rfl)
theorem dX6_readsCompared_54 : decode cX6_readsCompared 54 = .ok (.iconst (-1), 1) := dk_2 (dk_at dksX6_readsCompared_2 6 rfl rfl)
theorem dX6_readsCompared_55 : decode cX6_readsCompared 55 = .ok (.if_icmp .ne 13, 3) := dk_160 0 13 (dk_at dksX6_readsCompared_2 7 rfl rfl)
theorem dX6_readsCompared_58 : decode cX6_readsCompared 58 = .ok (.aload_n 0, 1) := dk_42 (dk_at dksX6_readsCompared_2 10 rfl rfl)
theorem dX6_readsCompared_59 : decode cX6_readsCompared 59 = .ok (.iconst 1, 1) := dk_4 (dk_at dksX6_readsCompared_2 11 rfl rfl)
theorem dX6_readsCompared_60 : decode cX6_readsCompared 60 = .ok (.aload_n 0, 1) := dk_42 (dk_at dksX6_readsCompared_2 12 rfl rfl)
theorem dX6_readsCompared_61 : decode cX6_readsCompared 61 = .ok (.getfield 166, 3) := dk_180 0 166 (dk_at dksX6_readsCompared_2 13 rfl rfl)
theorem dX6_readsCompared_64 : decode cX6_readsCompared 64 = .ok (.invokevirtual 179, 3) := dk_182 0 179 (dk_at dksX6_readsCompared_2 16 rfl rfl)
theorem dX6_readsCompared_67 : decode cX6_readsCompared 67 = .ok (.ireturn, 1) := dk_172 (dk_at dksX6_readsCompared_2 19 rfl rfl)
theorem dX6_readsCompared_68 : decode cX6_readsCompared 68 = .ok (.aload_n 0, 1) := dk_42 (dk_at dksX6_readsCompared_2 20 rfl rfl)
theorem dX6_readsCompared_69 : decode cX6_readsCompared 69 = .ok (.aload_n 0, 1) := dk_42 (dk_at dksX6_readsCompared_2 21 rfl rfl)
theorem dX6_readsCompared_70 : decode cX6_readsCompared 70 = .ok (.getfield 166, 3) := dk_180 0 166 (dk_at dksX6_readsCompared_3 0 rfl rfl)
theorem dX6_readsCompared_73 : decode cX6_readsCompared 73 = .ok (.iconst 1, 1) := dk_4 (dk_at dksX6_readsCompared_3 3 rfl rfl)
theorem dX6_readsCompared_74 : decode cX6_readsCompared 74 = .ok (.iadd, 1) := dk_96 (dk_at dksX6_readsCompared_3 4 rfl rfl)
theorem dX6_readsCompared_75 : decode cX6_readsCompared 75 = .ok (.putfield 166, 3) := dk_181 0 166 (dk_at dksX6_readsCompared_3 5 rfl rfl)
theorem dX6_readsCompared_78 : decode cX6_readsCompared 78 = .ok (.aload_n 0, 1) := dk_42 (dk_at dksX6_readsCompared_3 8 rfl rfl)
theorem dX6_readsCompared_79 : decode cX6_readsCompared 79 = .ok (.invokevirtual 228, 3) := dk_182 0 228 (dk_at dksX6_readsCompared_3 9 rfl rfl)
theorem dX6_readsCompared_82 : decode cX6_readsCompared 82 = .ok (.ifCond .ne 5, 3) := dk_154 0 5 (dk_at dksX6_readsCompared_3 12 rfl rfl)
theorem dX6_readsCompared_85 : decode cX6_readsCompared 85 = .ok (.iconst 0, 1) := dk_3 (dk_at dksX6_readsCompared_3 15 rfl rfl)
theorem dX6_readsCompared_86 : decode cX6_readsCompared 86 = .ok (.ireturn, 1) := dk_172 (dk_at dksX6_readsCompared_3 16 rfl rfl)
theorem dX6_readsCompared_87 : decode cX6_readsCompared 87 = .ok (.aload_n 0, 1) := dk_42 (dk_at dksX6_readsCompared_3 17 rfl rfl)
theorem dX6_readsCompared_88 : decode cX6_readsCompared 88 = .ok (.iload_n 1, 1) := dk_27 (dk_at dksX6_readsCompared_3 18 rfl rfl)
theorem dX6_readsCompared_89 : decode cX6_readsCompared 89 = .ok (.iconst 0, 1) := dk_3 (dk_at dksX6_readsCompared_3 19 rfl rfl)
theorem dX6_readsCompared_90 : decode cX6_readsCompared 90 = .ok (.invokevirtual 202, 3) := dk_182 0 202 (dk_at dksX6_readsCompared_3 20 rfl rfl)
theorem dX6_readsCompared_93 : decode cX6_readsCompared 93 = .ok (.aload_n 0, 1) := dk_42 (dk_at dksX6_readsCompared_3 23 rfl rfl)
theorem dX6_readsCompared_94 : decode cX6_readsCompared 94 = .ok (.invokevirtual 231, 3) := dk_182 0 231 (dk_at dksX6_readsCompared_4 0 rfl rfl)
theorem dX6_readsCompared_97 : decode cX6_readsCompared 97 = .ok (.iconst 1, 1) := dk_4 (dk_at dksX6_readsCompared_4 3 rfl rfl)
theorem dX6_readsCompared_98 : decode cX6_readsCompared 98 = .ok (.ireturn, 1) := dk_172 (dk_at dksX6_readsCompared_4 4 rfl rfl)
abbrev cX6_endsPiece : ByteArray := prog_20_method_36_code
def yX6_endsPiece : MethodName := ⟨RX6, "endsPiece", "()V"⟩
def dkwX6_endsPiece_1 : List UInt8 := [181, 0, 196, 42, 42, 180, 0, 193, 4, 100, 181, 0, 193, 167, 255, 220, 177]
abbrev dktX6_endsPiece_1 : List UInt8 := dkwX6_endsPiece_1 ++ []
def dkwX6_endsPiece_0 : List UInt8 := [42, 182, 0, 199, 16, 10, 160, 0, 33, 42, 16, 10, 3, 182, 0, 202, 42, 42, 180, 0, 196, 4, 100]
abbrev dktX6_endsPiece_0 : List UInt8 := dkwX6_endsPiece_0 ++ dktX6_endsPiece_1
theorem dksX6_endsPiece_0 : cX6_endsPiece.data.toList.drop 0 = dktX6_endsPiece_0 := by decide +kernel
theorem dksX6_endsPiece_1 : cX6_endsPiece.data.toList.drop 23 = dktX6_endsPiece_1 := dk_seg dksX6_endsPiece_0 23 rfl rfl
theorem dX6_endsPiece_0 : decode cX6_endsPiece 0 = .ok (.aload_n 0, 1) := dk_42 (dk_at dksX6_endsPiece_0 0 rfl rfl)
theorem dX6_endsPiece_1 : decode cX6_endsPiece 1 = .ok (.invokevirtual 199, 3) := dk_182 0 199 (dk_at dksX6_endsPiece_0 1 rfl rfl)
theorem dX6_endsPiece_4 : decode cX6_endsPiece 4 = .ok (.bipush 10, 2) := dk_16 10 (dk_at dksX6_endsPiece_0 4 rfl rfl)
theorem dX6_endsPiece_6 : decode cX6_endsPiece 6 = .ok (.if_icmp .ne 33, 3) := dk_160 0 33 (dk_at dksX6_endsPiece_0 6 rfl rfl)
theorem dX6_endsPiece_9 : decode cX6_endsPiece 9 = .ok (.aload_n 0, 1) := dk_42 (dk_at dksX6_endsPiece_0 9 rfl rfl)
theorem dX6_endsPiece_10 : decode cX6_endsPiece 10 = .ok (.bipush 10, 2) := dk_16 10 (dk_at dksX6_endsPiece_0 10 rfl rfl)
theorem dX6_endsPiece_12 : decode cX6_endsPiece 12 = .ok (.iconst 0, 1) := dk_3 (dk_at dksX6_endsPiece_0 12 rfl rfl)
theorem dX6_endsPiece_13 : decode cX6_endsPiece 13 = .ok (.invokevirtual 202, 3) := dk_182 0 202 (dk_at dksX6_endsPiece_0 13 rfl rfl)
theorem dX6_endsPiece_16 : decode cX6_endsPiece 16 = .ok (.aload_n 0, 1) := dk_42 (dk_at dksX6_endsPiece_0 16 rfl rfl)
theorem dX6_endsPiece_17 : decode cX6_endsPiece 17 = .ok (.aload_n 0, 1) := dk_42 (dk_at dksX6_endsPiece_0 17 rfl rfl)
theorem dX6_endsPiece_18 : decode cX6_endsPiece 18 = .ok (.getfield 196, 3) := dk_180 0 196 (dk_at dksX6_endsPiece_0 18 rfl rfl)
theorem dX6_endsPiece_21 : decode cX6_endsPiece 21 = .ok (.iconst 1, 1) := dk_4 (dk_at dksX6_endsPiece_0 21 rfl rfl)
theorem dX6_endsPiece_22 : decode cX6_endsPiece 22 = .ok (.isub, 1) := dk_100 (dk_at dksX6_endsPiece_0 22 rfl rfl)
theorem dX6_endsPiece_23 : decode cX6_endsPiece 23 = .ok (.putfield 196, 3) := dk_181 0 196 (dk_at dksX6_endsPiece_1 0 rfl rfl)
theorem dX6_endsPiece_26 : decode cX6_endsPiece 26 = .ok (.aload_n 0, 1) := dk_42 (dk_at dksX6_endsPiece_1 3 rfl rfl)
theorem dX6_endsPiece_27 : decode cX6_endsPiece 27 = .ok (.aload_n 0, 1) := dk_42 (dk_at dksX6_endsPiece_1 4 rfl rfl)
theorem dX6_endsPiece_28 : decode cX6_endsPiece 28 = .ok (.getfield 193, 3) := dk_180 0 193 (dk_at dksX6_endsPiece_1 5 rfl rfl)
theorem dX6_endsPiece_31 : decode cX6_endsPiece 31 = .ok (.iconst 1, 1) := dk_4 (dk_at dksX6_endsPiece_1 8 rfl rfl)
theorem dX6_endsPiece_32 : decode cX6_endsPiece 32 = .ok (.isub, 1) := dk_100 (dk_at dksX6_endsPiece_1 9 rfl rfl)
theorem dX6_endsPiece_33 : decode cX6_endsPiece 33 = .ok (.putfield 193, 3) := dk_181 0 193 (dk_at dksX6_endsPiece_1 10 rfl rfl)
theorem dX6_endsPiece_36 : decode cX6_endsPiece 36 = .ok (.goto (-36), 3) := dk_167 255 220 (dk_at dksX6_endsPiece_1 13 rfl rfl)
theorem dX6_endsPiece_39 : decode cX6_endsPiece 39 = .ok (.return_, 1) := dk_177 (dk_at dksX6_endsPiece_1 16 rfl rfl)
abbrev cX6_lands : ByteArray := prog_20_method_37_code
def yX6_lands : MethodName := ⟨RX6, "lands", "(Z)V"⟩
def dkwX6_lands_3 : List UInt8 := [181, 0, 196, 167, 255, 186, 177]
abbrev dktX6_lands_3 : List UInt8 := dkwX6_lands_3 ++ []
def dkwX6_lands_2 : List UInt8 := [180, 0, 29, 28, 46, 18, 192, 108, 104, 42, 180, 0, 189, 96, 79, 42, 42, 180, 0, 196, 4, 100]
abbrev dktX6_lands_2 : List UInt8 := dkwX6_lands_2 ++ dktX6_lands_3
def dkwX6_lands_1 : List UInt8 := [180, 0, 32, 42, 180, 0, 196, 4, 100, 46, 18, 192, 112, 61, 42, 180, 0, 29, 28, 18, 192, 42]
abbrev dktX6_lands_1 : List UInt8 := dkwX6_lands_1 ++ dktX6_lands_2
def dkwX6_lands_0 : List UInt8 := [42, 182, 0, 199, 16, 11, 159, 0, 16, 27, 153, 0, 63, 42, 182, 0, 199, 16, 12, 160, 0, 54, 42]
abbrev dktX6_lands_0 : List UInt8 := dkwX6_lands_0 ++ dktX6_lands_1
theorem dksX6_lands_0 : cX6_lands.data.toList.drop 0 = dktX6_lands_0 := by decide +kernel
theorem dksX6_lands_1 : cX6_lands.data.toList.drop 23 = dktX6_lands_1 := dk_seg dksX6_lands_0 23 rfl rfl
theorem dksX6_lands_2 : cX6_lands.data.toList.drop 45 = dktX6_lands_2 := dk_seg dksX6_lands_1 22 rfl rfl
theorem dksX6_lands_3 : cX6_lands.data.toList.drop 67 = dktX6_lands_3 := dk_seg dksX6_lands_2 22 rfl rfl
theorem dX6_lands_0 : decode cX6_lands 0 = .ok (.aload_n 0, 1) := dk_42 (dk_at dksX6_lands_0 0 rfl rfl)
theorem dX6_lands_1 : decode cX6_lands 1 = .ok (.invokevirtual 199, 3) := dk_182 0 199 (dk_at dksX6_lands_0 1 rfl rfl)
theorem dX6_lands_4 : decode cX6_lands 4 = .ok (.bipush 11, 2) := dk_16 11 (dk_at dksX6_lands_0 4 rfl rfl)
theorem dX6_lands_6 : decode cX6_lands 6 = .ok (.if_icmp .eq 16, 3) := dk_159 0 16 (dk_at dksX6_lands_0 6 rfl rfl)
theorem dX6_lands_9 : decode cX6_lands 9 = .ok (.iload_n 1, 1) := dk_27 (dk_at dksX6_lands_0 9 rfl rfl)
theorem dX6_lands_10 : decode cX6_lands 10 = .ok (.ifCond .eq 63, 3) := dk_153 0 63 (dk_at dksX6_lands_0 10 rfl rfl)
theorem dX6_lands_13 : decode cX6_lands 13 = .ok (.aload_n 0, 1) := dk_42 (dk_at dksX6_lands_0 13 rfl rfl)
theorem dX6_lands_14 : decode cX6_lands 14 = .ok (.invokevirtual 199, 3) := dk_182 0 199 (dk_at dksX6_lands_0 14 rfl rfl)
theorem dX6_lands_17 : decode cX6_lands 17 = .ok (.bipush 12, 2) := dk_16 12 (dk_at dksX6_lands_0 17 rfl rfl)
theorem dX6_lands_19 : decode cX6_lands 19 = .ok (.if_icmp .ne 54, 3) := dk_160 0 54 (dk_at dksX6_lands_0 19 rfl rfl)
theorem dX6_lands_22 : decode cX6_lands 22 = .ok (.aload_n 0, 1) := dk_42 (dk_at dksX6_lands_0 22 rfl rfl)
theorem dX6_lands_23 : decode cX6_lands 23 = .ok (.getfield 32, 3) := dk_180 0 32 (dk_at dksX6_lands_1 0 rfl rfl)
theorem dX6_lands_26 : decode cX6_lands 26 = .ok (.aload_n 0, 1) := dk_42 (dk_at dksX6_lands_1 3 rfl rfl)
theorem dX6_lands_27 : decode cX6_lands 27 = .ok (.getfield 196, 3) := dk_180 0 196 (dk_at dksX6_lands_1 4 rfl rfl)
theorem dX6_lands_30 : decode cX6_lands 30 = .ok (.iconst 1, 1) := dk_4 (dk_at dksX6_lands_1 7 rfl rfl)
theorem dX6_lands_31 : decode cX6_lands 31 = .ok (.isub, 1) := dk_100 (dk_at dksX6_lands_1 8 rfl rfl)
theorem dX6_lands_32 : decode cX6_lands 32 = .ok (.iaload, 1) := dk_46 (dk_at dksX6_lands_1 9 rfl rfl)
theorem dX6_lands_33 : decode cX6_lands 33 = .ok (.ldc 192, 2) := dk_18 192 (dk_at dksX6_lands_1 10 rfl rfl)
theorem dX6_lands_35 : decode cX6_lands 35 = .ok (.irem, 1) := dk_112 (dk_at dksX6_lands_1 12 rfl rfl)
theorem dX6_lands_36 : decode cX6_lands 36 = .ok (.istore_n 2, 1) := dk_61 (dk_at dksX6_lands_1 13 rfl rfl)
theorem dX6_lands_37 : decode cX6_lands 37 = .ok (.aload_n 0, 1) := dk_42 (dk_at dksX6_lands_1 14 rfl rfl)
theorem dX6_lands_38 : decode cX6_lands 38 = .ok (.getfield 29, 3) := dk_180 0 29 (dk_at dksX6_lands_1 15 rfl rfl)
theorem dX6_lands_41 : decode cX6_lands 41 = .ok (.iload_n 2, 1) := dk_28 (dk_at dksX6_lands_1 18 rfl rfl)
theorem dX6_lands_42 : decode cX6_lands 42 = .ok (.ldc 192, 2) := dk_18 192 (dk_at dksX6_lands_1 19 rfl rfl)
theorem dX6_lands_44 : decode cX6_lands 44 = .ok (.aload_n 0, 1) := dk_42 (dk_at dksX6_lands_1 21 rfl rfl)
theorem dX6_lands_45 : decode cX6_lands 45 = .ok (.getfield 29, 3) := dk_180 0 29 (dk_at dksX6_lands_2 0 rfl rfl)
theorem dX6_lands_48 : decode cX6_lands 48 = .ok (.iload_n 2, 1) := dk_28 (dk_at dksX6_lands_2 3 rfl rfl)
theorem dX6_lands_49 : decode cX6_lands 49 = .ok (.iaload, 1) := dk_46 (dk_at dksX6_lands_2 4 rfl rfl)
theorem dX6_lands_50 : decode cX6_lands 50 = .ok (.ldc 192, 2) := dk_18 192 (dk_at dksX6_lands_2 5 rfl rfl)
theorem dX6_lands_52 : decode cX6_lands 52 = .ok (.idiv, 1) := dk_108 (dk_at dksX6_lands_2 7 rfl rfl)
theorem dX6_lands_53 : decode cX6_lands 53 = .ok (.imul, 1) := dk_104 (dk_at dksX6_lands_2 8 rfl rfl)
theorem dX6_lands_54 : decode cX6_lands 54 = .ok (.aload_n 0, 1) := dk_42 (dk_at dksX6_lands_2 9 rfl rfl)
theorem dX6_lands_55 : decode cX6_lands 55 = .ok (.getfield 189, 3) := dk_180 0 189 (dk_at dksX6_lands_2 10 rfl rfl)
theorem dX6_lands_58 : decode cX6_lands 58 = .ok (.iadd, 1) := dk_96 (dk_at dksX6_lands_2 13 rfl rfl)
theorem dX6_lands_59 : decode cX6_lands 59 = .ok (.iastore, 1) := dk_79 (dk_at dksX6_lands_2 14 rfl rfl)
theorem dX6_lands_60 : decode cX6_lands 60 = .ok (.aload_n 0, 1) := dk_42 (dk_at dksX6_lands_2 15 rfl rfl)
theorem dX6_lands_61 : decode cX6_lands 61 = .ok (.aload_n 0, 1) := dk_42 (dk_at dksX6_lands_2 16 rfl rfl)
theorem dX6_lands_62 : decode cX6_lands 62 = .ok (.getfield 196, 3) := dk_180 0 196 (dk_at dksX6_lands_2 17 rfl rfl)
theorem dX6_lands_65 : decode cX6_lands 65 = .ok (.iconst 1, 1) := dk_4 (dk_at dksX6_lands_2 20 rfl rfl)
theorem dX6_lands_66 : decode cX6_lands 66 = .ok (.isub, 1) := dk_100 (dk_at dksX6_lands_2 21 rfl rfl)
theorem dX6_lands_67 : decode cX6_lands 67 = .ok (.putfield 196, 3) := dk_181 0 196 (dk_at dksX6_lands_3 0 rfl rfl)
theorem dX6_lands_70 : decode cX6_lands 70 = .ok (.goto (-70), 3) := dk_167 255 186 (dk_at dksX6_lands_3 3 rfl rfl)
theorem dX6_lands_73 : decode cX6_lands 73 = .ok (.return_, 1) := dk_177 (dk_at dksX6_lands_3 6 rfl rfl)
abbrev cX6_jumps : ByteArray := prog_20_method_38_code
def yX6_jumps : MethodName := ⟨RX6, "jumps", "(I)V"⟩
def dkwX6_jumps_1 : List UInt8 := [96, 181, 0, 196, 42, 27, 3, 182, 0, 202, 42, 42, 180, 0, 166, 4, 96, 181, 0, 166, 177]
abbrev dktX6_jumps_1 : List UInt8 := dkwX6_jumps_1 ++ []
def dkwX6_jumps_0 : List UInt8 := [42, 180, 0, 32, 42, 180, 0, 196, 18, 192, 27, 104, 42, 180, 0, 189, 96, 79, 42, 42, 180, 0, 196, 4]
abbrev dktX6_jumps_0 : List UInt8 := dkwX6_jumps_0 ++ dktX6_jumps_1
theorem dksX6_jumps_0 : cX6_jumps.data.toList.drop 0 = dktX6_jumps_0 := by decide +kernel
theorem dksX6_jumps_1 : cX6_jumps.data.toList.drop 24 = dktX6_jumps_1 := dk_seg dksX6_jumps_0 24 rfl rfl
theorem dX6_jumps_0 : decode cX6_jumps 0 = .ok (.aload_n 0, 1) := dk_42 (dk_at dksX6_jumps_0 0 rfl rfl)
theorem dX6_jumps_1 : decode cX6_jumps 1 = .ok (.getfield 32, 3) := dk_180 0 32 (dk_at dksX6_jumps_0 1 rfl rfl)
theorem dX6_jumps_4 : decode cX6_jumps 4 = .ok (.aload_n 0, 1) := dk_42 (dk_at dksX6_jumps_0 4 rfl rfl)
theorem dX6_jumps_5 : decode cX6_jumps 5 = .ok (.getfield 196, 3) := dk_180 0 196 (dk_at dksX6_jumps_0 5 rfl rfl)
theorem dX6_jumps_8 : decode cX6_jumps 8 = .ok (.ldc 192, 2) := dk_18 192 (dk_at dksX6_jumps_0 8 rfl rfl)
theorem dX6_jumps_10 : decode cX6_jumps 10 = .ok (.iload_n 1, 1) := dk_27 (dk_at dksX6_jumps_0 10 rfl rfl)
theorem dX6_jumps_11 : decode cX6_jumps 11 = .ok (.imul, 1) := dk_104 (dk_at dksX6_jumps_0 11 rfl rfl)
theorem dX6_jumps_12 : decode cX6_jumps 12 = .ok (.aload_n 0, 1) := dk_42 (dk_at dksX6_jumps_0 12 rfl rfl)
theorem dX6_jumps_13 : decode cX6_jumps 13 = .ok (.getfield 189, 3) := dk_180 0 189 (dk_at dksX6_jumps_0 13 rfl rfl)
theorem dX6_jumps_16 : decode cX6_jumps 16 = .ok (.iadd, 1) := dk_96 (dk_at dksX6_jumps_0 16 rfl rfl)
theorem dX6_jumps_17 : decode cX6_jumps 17 = .ok (.iastore, 1) := dk_79 (dk_at dksX6_jumps_0 17 rfl rfl)
theorem dX6_jumps_18 : decode cX6_jumps 18 = .ok (.aload_n 0, 1) := dk_42 (dk_at dksX6_jumps_0 18 rfl rfl)
theorem dX6_jumps_19 : decode cX6_jumps 19 = .ok (.aload_n 0, 1) := dk_42 (dk_at dksX6_jumps_0 19 rfl rfl)
theorem dX6_jumps_20 : decode cX6_jumps 20 = .ok (.getfield 196, 3) := dk_180 0 196 (dk_at dksX6_jumps_0 20 rfl rfl)
theorem dX6_jumps_23 : decode cX6_jumps 23 = .ok (.iconst 1, 1) := dk_4 (dk_at dksX6_jumps_0 23 rfl rfl)
theorem dX6_jumps_24 : decode cX6_jumps 24 = .ok (.iadd, 1) := dk_96 (dk_at dksX6_jumps_1 0 rfl rfl)
theorem dX6_jumps_25 : decode cX6_jumps 25 = .ok (.putfield 196, 3) := dk_181 0 196 (dk_at dksX6_jumps_1 1 rfl rfl)
theorem dX6_jumps_28 : decode cX6_jumps 28 = .ok (.aload_n 0, 1) := dk_42 (dk_at dksX6_jumps_1 4 rfl rfl)
theorem dX6_jumps_29 : decode cX6_jumps 29 = .ok (.iload_n 1, 1) := dk_27 (dk_at dksX6_jumps_1 5 rfl rfl)
theorem dX6_jumps_30 : decode cX6_jumps 30 = .ok (.iconst 0, 1) := dk_3 (dk_at dksX6_jumps_1 6 rfl rfl)
theorem dX6_jumps_31 : decode cX6_jumps 31 = .ok (.invokevirtual 202, 3) := dk_182 0 202 (dk_at dksX6_jumps_1 7 rfl rfl)
theorem dX6_jumps_34 : decode cX6_jumps 34 = .ok (.aload_n 0, 1) := dk_42 (dk_at dksX6_jumps_1 10 rfl rfl)
theorem dX6_jumps_35 : decode cX6_jumps 35 = .ok (.aload_n 0, 1) := dk_42 (dk_at dksX6_jumps_1 11 rfl rfl)
theorem dX6_jumps_36 : decode cX6_jumps 36 = .ok (.getfield 166, 3) := dk_180 0 166 (dk_at dksX6_jumps_1 12 rfl rfl)
theorem dX6_jumps_39 : decode cX6_jumps 39 = .ok (.iconst 1, 1) := dk_4 (dk_at dksX6_jumps_1 15 rfl rfl)
theorem dX6_jumps_40 : decode cX6_jumps 40 = .ok (.iadd, 1) := dk_96 (dk_at dksX6_jumps_1 16 rfl rfl)
theorem dX6_jumps_41 : decode cX6_jumps 41 = .ok (.putfield 166, 3) := dk_181 0 166 (dk_at dksX6_jumps_1 17 rfl rfl)
theorem dX6_jumps_44 : decode cX6_jumps 44 = .ok (.return_, 1) := dk_177 (dk_at dksX6_jumps_1 20 rfl rfl)
abbrev cX6_takes : ByteArray := prog_20_method_25_code
def yX6_takes : MethodName := ⟨RX6, "takes", "(I)Z"⟩
def dkwX6_takes_1 : List UInt8 := [96, 181, 0, 166, 4, 172]
abbrev dktX6_takes_1 : List UInt8 := dkwX6_takes_1 ++ []
def dkwX6_takes_0 : List UInt8 := [42, 182, 0, 172, 27, 159, 0, 13, 42, 4, 42, 180, 0, 166, 182, 0, 179, 172, 42, 42, 180, 0, 166, 4]
abbrev dktX6_takes_0 : List UInt8 := dkwX6_takes_0 ++ dktX6_takes_1
theorem dksX6_takes_0 : cX6_takes.data.toList.drop 0 = dktX6_takes_0 := by decide +kernel
theorem dksX6_takes_1 : cX6_takes.data.toList.drop 24 = dktX6_takes_1 := dk_seg dksX6_takes_0 24 rfl rfl
theorem dX6_takes_0 : decode cX6_takes 0 = .ok (.aload_n 0, 1) := dk_42 (dk_at dksX6_takes_0 0 rfl rfl)
theorem dX6_takes_1 : decode cX6_takes 1 = .ok (.invokevirtual 172, 3) := dk_182 0 172 (dk_at dksX6_takes_0 1 rfl rfl)
theorem dX6_takes_4 : decode cX6_takes 4 = .ok (.iload_n 1, 1) := dk_27 (dk_at dksX6_takes_0 4 rfl rfl)
theorem dX6_takes_5 : decode cX6_takes 5 = .ok (.if_icmp .eq 13, 3) := dk_159 0 13 (dk_at dksX6_takes_0 5 rfl rfl)
theorem dX6_takes_8 : decode cX6_takes 8 = .ok (.aload_n 0, 1) := dk_42 (dk_at dksX6_takes_0 8 rfl rfl)
theorem dX6_takes_9 : decode cX6_takes 9 = .ok (.iconst 1, 1) := dk_4 (dk_at dksX6_takes_0 9 rfl rfl)
theorem dX6_takes_10 : decode cX6_takes 10 = .ok (.aload_n 0, 1) := dk_42 (dk_at dksX6_takes_0 10 rfl rfl)
theorem dX6_takes_11 : decode cX6_takes 11 = .ok (.getfield 166, 3) := dk_180 0 166 (dk_at dksX6_takes_0 11 rfl rfl)
theorem dX6_takes_14 : decode cX6_takes 14 = .ok (.invokevirtual 179, 3) := dk_182 0 179 (dk_at dksX6_takes_0 14 rfl rfl)
theorem dX6_takes_17 : decode cX6_takes 17 = .ok (.ireturn, 1) := dk_172 (dk_at dksX6_takes_0 17 rfl rfl)
theorem dX6_takes_18 : decode cX6_takes 18 = .ok (.aload_n 0, 1) := dk_42 (dk_at dksX6_takes_0 18 rfl rfl)
theorem dX6_takes_19 : decode cX6_takes 19 = .ok (.aload_n 0, 1) := dk_42 (dk_at dksX6_takes_0 19 rfl rfl)
theorem dX6_takes_20 : decode cX6_takes 20 = .ok (.getfield 166, 3) := dk_180 0 166 (dk_at dksX6_takes_0 20 rfl rfl)
theorem dX6_takes_23 : decode cX6_takes 23 = .ok (.iconst 1, 1) := dk_4 (dk_at dksX6_takes_0 23 rfl rfl)
theorem dX6_takes_24 : decode cX6_takes 24 = .ok (.iadd, 1) := dk_96 (dk_at dksX6_takes_1 0 rfl rfl)
theorem dX6_takes_25 : decode cX6_takes 25 = .ok (.putfield 166, 3) := dk_181 0 166 (dk_at dksX6_takes_1 1 rfl rfl)
theorem dX6_takes_28 : decode cX6_takes 28 = .ok (.iconst 1, 1) := dk_4 (dk_at dksX6_takes_1 4 rfl rfl)
theorem dX6_takes_29 : decode cX6_takes 29 = .ok (.ireturn, 1) := dk_172 (dk_at dksX6_takes_1 5 rfl rfl)
abbrev cX6_debts : ByteArray := prog_20_method_54_code
def yX6_debts : MethodName := ⟨RX6, "debts", "(I)I"⟩
def dkwX6_debts_6 : List UInt8 := [46, 79, 132, 3, 1, 167, 255, 233, 42, 182, 1, 40, 172]
abbrev dktX6_debts_6 : List UInt8 := dkwX6_debts_6 ++ []
def dkwX6_debts_5 : List UInt8 := [180, 0, 176, 172, 3, 62, 29, 16, 100, 162, 0, 23, 42, 180, 0, 7, 3, 29, 96, 42, 180, 0, 68, 29]
abbrev dktX6_debts_5 : List UInt8 := dkwX6_debts_5 ++ dktX6_debts_6
def dkwX6_debts_4 : List UInt8 := [153, 0, 7, 4, 167, 0, 4, 3, 61, 167, 255, 219, 42, 3, 181, 0, 160, 28, 154, 0, 8, 42]
abbrev dktX6_debts_4 : List UInt8 := dkwX6_debts_4 ++ dktX6_debts_5
def dkwX6_debts_3 : List UInt8 := [180, 0, 166, 42, 180, 0, 169, 162, 0, 28, 42, 16, 59, 182, 0, 252, 153, 0, 14, 42, 182, 1, 37]
abbrev dktX6_debts_3 : List UInt8 := dkwX6_debts_3 ++ dktX6_debts_4
def dkwX6_debts_2 : List UInt8 := [180, 0, 68, 28, 3, 79, 132, 2, 1, 167, 255, 240, 42, 182, 1, 37, 61, 28, 153, 0, 39, 42]
abbrev dktX6_debts_2 : List UInt8 := dkwX6_debts_2 ++ dktX6_debts_3
def dkwX6_debts_1 : List UInt8 := [181, 0, 166, 42, 27, 181, 0, 169, 42, 3, 181, 1, 27, 3, 61, 28, 16, 100, 162, 0, 16, 42]
abbrev dktX6_debts_1 : List UInt8 := dkwX6_debts_1 ++ dktX6_debts_2
def dkwX6_debts_0 : List UInt8 := [27, 4, 17, 0, 160, 184, 0, 123, 153, 0, 11, 27, 42, 180, 0, 160, 164, 0, 5, 2, 172, 42, 3]
abbrev dktX6_debts_0 : List UInt8 := dkwX6_debts_0 ++ dktX6_debts_1
theorem dksX6_debts_0 : cX6_debts.data.toList.drop 0 = dktX6_debts_0 := by decide +kernel
theorem dksX6_debts_1 : cX6_debts.data.toList.drop 23 = dktX6_debts_1 := dk_seg dksX6_debts_0 23 rfl rfl
theorem dksX6_debts_2 : cX6_debts.data.toList.drop 45 = dktX6_debts_2 := dk_seg dksX6_debts_1 22 rfl rfl
theorem dksX6_debts_3 : cX6_debts.data.toList.drop 67 = dktX6_debts_3 := dk_seg dksX6_debts_2 22 rfl rfl
theorem dksX6_debts_4 : cX6_debts.data.toList.drop 90 = dktX6_debts_4 := dk_seg dksX6_debts_3 23 rfl rfl
theorem dksX6_debts_5 : cX6_debts.data.toList.drop 112 = dktX6_debts_5 := dk_seg dksX6_debts_4 22 rfl rfl
theorem dksX6_debts_6 : cX6_debts.data.toList.drop 136 = dktX6_debts_6 := dk_seg dksX6_debts_5 24 rfl rfl
theorem dX6_debts_0 : decode cX6_debts 0 = .ok (.iload_n 1, 1) := dk_27 (dk_at dksX6_debts_0 0 rfl rfl)
theorem dX6_debts_1 : decode cX6_debts 1 = .ok (.iconst 1, 1) := dk_4 (dk_at dksX6_debts_0 1 rfl rfl)
theorem dX6_debts_2 : decode cX6_debts 2 = .ok (.sipush 160, 3) := dk_17 0 160 (dk_at dksX6_debts_0 2 rfl rfl)
theorem dX6_debts_5 : decode cX6_debts 5 = .ok (.invokestatic 123, 3) := dk_184 0 123 (dk_at dksX6_debts_0 5 rfl rfl)
theorem dX6_debts_8 : decode cX6_debts 8 = .ok (.ifCond .eq 11, 3) := dk_153 0 11 (dk_at dksX6_debts_0 8 rfl rfl)
theorem dX6_debts_11 : decode cX6_debts 11 = .ok (.iload_n 1, 1) := dk_27 (dk_at dksX6_debts_0 11 rfl rfl)
theorem dX6_debts_12 : decode cX6_debts 12 = .ok (.aload_n 0, 1) := dk_42 (dk_at dksX6_debts_0 12 rfl rfl)
theorem dX6_debts_13 : decode cX6_debts 13 = .ok (.getfield 160, 3) := dk_180 0 160 (dk_at dksX6_debts_0 13 rfl rfl)
theorem dX6_debts_16 : decode cX6_debts 16 = .ok (.if_icmp .le 5, 3) := dk_164 0 5 (dk_at dksX6_debts_0 16 rfl rfl)
theorem dX6_debts_19 : decode cX6_debts 19 = .ok (.iconst (-1), 1) := dk_2 (dk_at dksX6_debts_0 19 rfl rfl)
theorem dX6_debts_20 : decode cX6_debts 20 = .ok (.ireturn, 1) := dk_172 (dk_at dksX6_debts_0 20 rfl rfl)
theorem dX6_debts_21 : decode cX6_debts 21 = .ok (.aload_n 0, 1) := dk_42 (dk_at dksX6_debts_0 21 rfl rfl)
theorem dX6_debts_22 : decode cX6_debts 22 = .ok (.iconst 0, 1) := dk_3 (dk_at dksX6_debts_0 22 rfl rfl)
theorem dX6_debts_23 : decode cX6_debts 23 = .ok (.putfield 166, 3) := dk_181 0 166 (dk_at dksX6_debts_1 0 rfl rfl)
theorem dX6_debts_26 : decode cX6_debts 26 = .ok (.aload_n 0, 1) := dk_42 (dk_at dksX6_debts_1 3 rfl rfl)
theorem dX6_debts_27 : decode cX6_debts 27 = .ok (.iload_n 1, 1) := dk_27 (dk_at dksX6_debts_1 4 rfl rfl)
theorem dX6_debts_28 : decode cX6_debts 28 = .ok (.putfield 169, 3) := dk_181 0 169 (dk_at dksX6_debts_1 5 rfl rfl)
theorem dX6_debts_31 : decode cX6_debts 31 = .ok (.aload_n 0, 1) := dk_42 (dk_at dksX6_debts_1 8 rfl rfl)
theorem dX6_debts_32 : decode cX6_debts 32 = .ok (.iconst 0, 1) := dk_3 (dk_at dksX6_debts_1 9 rfl rfl)
theorem dX6_debts_33 : decode cX6_debts 33 = .ok (.putfield 283, 3) := dk_181 1 27 (dk_at dksX6_debts_1 10 rfl rfl)
theorem dX6_debts_36 : decode cX6_debts 36 = .ok (.iconst 0, 1) := dk_3 (dk_at dksX6_debts_1 13 rfl rfl)
theorem dX6_debts_37 : decode cX6_debts 37 = .ok (.istore_n 2, 1) := dk_61 (dk_at dksX6_debts_1 14 rfl rfl)
theorem dX6_debts_38 : decode cX6_debts 38 = .ok (.iload_n 2, 1) := dk_28 (dk_at dksX6_debts_1 15 rfl rfl)
theorem dX6_debts_39 : decode cX6_debts 39 = .ok (.bipush 100, 2) := dk_16 100 (dk_at dksX6_debts_1 16 rfl rfl)
theorem dX6_debts_41 : decode cX6_debts 41 = .ok (.if_icmp .ge 16, 3) := dk_162 0 16 (dk_at dksX6_debts_1 18 rfl rfl)
theorem dX6_debts_44 : decode cX6_debts 44 = .ok (.aload_n 0, 1) := dk_42 (dk_at dksX6_debts_1 21 rfl rfl)
theorem dX6_debts_45 : decode cX6_debts 45 = .ok (.getfield 68, 3) := dk_180 0 68 (dk_at dksX6_debts_2 0 rfl rfl)
theorem dX6_debts_48 : decode cX6_debts 48 = .ok (.iload_n 2, 1) := dk_28 (dk_at dksX6_debts_2 3 rfl rfl)
theorem dX6_debts_49 : decode cX6_debts 49 = .ok (.iconst 0, 1) := dk_3 (dk_at dksX6_debts_2 4 rfl rfl)
theorem dX6_debts_50 : decode cX6_debts 50 = .ok (.iastore, 1) := dk_79 (dk_at dksX6_debts_2 5 rfl rfl)
theorem dX6_debts_51 : decode cX6_debts 51 = .ok (.iinc 2 1, 3) := dk_132 2 1 (dk_at dksX6_debts_2 6 rfl rfl)
theorem dX6_debts_54 : decode cX6_debts 54 = .ok (.goto (-16), 3) := dk_167 255 240 (dk_at dksX6_debts_2 9 rfl rfl)
theorem dX6_debts_57 : decode cX6_debts 57 = .ok (.aload_n 0, 1) := dk_42 (dk_at dksX6_debts_2 12 rfl rfl)
theorem dX6_debts_58 : decode cX6_debts 58 = .ok (.invokevirtual 293, 3) := dk_182 1 37 (dk_at dksX6_debts_2 13 rfl rfl)
theorem dX6_debts_61 : decode cX6_debts 61 = .ok (.istore_n 2, 1) := dk_61 (dk_at dksX6_debts_2 16 rfl rfl)
theorem dX6_debts_62 : decode cX6_debts 62 = .ok (.iload_n 2, 1) := dk_28 (dk_at dksX6_debts_2 17 rfl rfl)
theorem dX6_debts_63 : decode cX6_debts 63 = .ok (.ifCond .eq 39, 3) := dk_153 0 39 (dk_at dksX6_debts_2 18 rfl rfl)
theorem dX6_debts_66 : decode cX6_debts 66 = .ok (.aload_n 0, 1) := dk_42 (dk_at dksX6_debts_2 21 rfl rfl)
theorem dX6_debts_67 : decode cX6_debts 67 = .ok (.getfield 166, 3) := dk_180 0 166 (dk_at dksX6_debts_3 0 rfl rfl)
theorem dX6_debts_70 : decode cX6_debts 70 = .ok (.aload_n 0, 1) := dk_42 (dk_at dksX6_debts_3 3 rfl rfl)
theorem dX6_debts_71 : decode cX6_debts 71 = .ok (.getfield 169, 3) := dk_180 0 169 (dk_at dksX6_debts_3 4 rfl rfl)
theorem dX6_debts_74 : decode cX6_debts 74 = .ok (.if_icmp .ge 28, 3) := dk_162 0 28 (dk_at dksX6_debts_3 7 rfl rfl)
theorem dX6_debts_77 : decode cX6_debts 77 = .ok (.aload_n 0, 1) := dk_42 (dk_at dksX6_debts_3 10 rfl rfl)
theorem dX6_debts_78 : decode cX6_debts 78 = .ok (.bipush 59, 2) := dk_16 59 (dk_at dksX6_debts_3 11 rfl rfl)
theorem dX6_debts_80 : decode cX6_debts 80 = .ok (.invokevirtual 252, 3) := dk_182 0 252 (dk_at dksX6_debts_3 13 rfl rfl)
theorem dX6_debts_83 : decode cX6_debts 83 = .ok (.ifCond .eq 14, 3) := dk_153 0 14 (dk_at dksX6_debts_3 16 rfl rfl)
theorem dX6_debts_86 : decode cX6_debts 86 = .ok (.aload_n 0, 1) := dk_42 (dk_at dksX6_debts_3 19 rfl rfl)
theorem dX6_debts_87 : decode cX6_debts 87 = .ok (.invokevirtual 293, 3) := dk_182 1 37 (dk_at dksX6_debts_3 20 rfl rfl)
theorem dX6_debts_90 : decode cX6_debts 90 = .ok (.ifCond .eq 7, 3) := dk_153 0 7 (dk_at dksX6_debts_4 0 rfl rfl)
theorem dX6_debts_93 : decode cX6_debts 93 = .ok (.iconst 1, 1) := dk_4 (dk_at dksX6_debts_4 3 rfl rfl)
theorem dX6_debts_94 : decode cX6_debts 94 = .ok (.goto 4, 3) := dk_167 0 4 (dk_at dksX6_debts_4 4 rfl rfl)
theorem dX6_debts_97 : decode cX6_debts 97 = .ok (.iconst 0, 1) := dk_3 (dk_at dksX6_debts_4 7 rfl rfl)
theorem dX6_debts_98 : decode cX6_debts 98 = .ok (.istore_n 2, 1) := dk_61 (dk_at dksX6_debts_4 8 rfl rfl)
theorem dX6_debts_99 : decode cX6_debts 99 = .ok (.goto (-37), 3) := dk_167 255 219 (dk_at dksX6_debts_4 9 rfl rfl)
theorem dX6_debts_102 : decode cX6_debts 102 = .ok (.aload_n 0, 1) := dk_42 (dk_at dksX6_debts_4 12 rfl rfl)
theorem dX6_debts_103 : decode cX6_debts 103 = .ok (.iconst 0, 1) := dk_3 (dk_at dksX6_debts_4 13 rfl rfl)
theorem dX6_debts_104 : decode cX6_debts 104 = .ok (.putfield 160, 3) := dk_181 0 160 (dk_at dksX6_debts_4 14 rfl rfl)
theorem dX6_debts_107 : decode cX6_debts 107 = .ok (.iload_n 2, 1) := dk_28 (dk_at dksX6_debts_4 17 rfl rfl)
theorem dX6_debts_108 : decode cX6_debts 108 = .ok (.ifCond .ne 8, 3) := dk_154 0 8 (dk_at dksX6_debts_4 18 rfl rfl)
theorem dX6_debts_111 : decode cX6_debts 111 = .ok (.aload_n 0, 1) := dk_42 (dk_at dksX6_debts_4 21 rfl rfl)
theorem dX6_debts_112 : decode cX6_debts 112 = .ok (.getfield 176, 3) := dk_180 0 176 (dk_at dksX6_debts_5 0 rfl rfl)
theorem dX6_debts_115 : decode cX6_debts 115 = .ok (.ireturn, 1) := dk_172 (dk_at dksX6_debts_5 3 rfl rfl)
theorem dX6_debts_116 : decode cX6_debts 116 = .ok (.iconst 0, 1) := dk_3 (dk_at dksX6_debts_5 4 rfl rfl)
theorem dX6_debts_117 : decode cX6_debts 117 = .ok (.istore_n 3, 1) := dk_62 (dk_at dksX6_debts_5 5 rfl rfl)
theorem dX6_debts_118 : decode cX6_debts 118 = .ok (.iload_n 3, 1) := dk_29 (dk_at dksX6_debts_5 6 rfl rfl)
theorem dX6_debts_119 : decode cX6_debts 119 = .ok (.bipush 100, 2) := dk_16 100 (dk_at dksX6_debts_5 7 rfl rfl)
theorem dX6_debts_121 : decode cX6_debts 121 = .ok (.if_icmp .ge 23, 3) := dk_162 0 23 (dk_at dksX6_debts_5 9 rfl rfl)
theorem dX6_debts_124 : decode cX6_debts 124 = .ok (.aload_n 0, 1) := dk_42 (dk_at dksX6_debts_5 12 rfl rfl)
theorem dX6_debts_125 : decode cX6_debts 125 = .ok (.getfield 7, 3) := dk_180 0 7 (dk_at dksX6_debts_5 13 rfl rfl)
theorem dX6_debts_128 : decode cX6_debts 128 = .ok (.iconst 0, 1) := dk_3 (dk_at dksX6_debts_5 16 rfl rfl)
theorem dX6_debts_129 : decode cX6_debts 129 = .ok (.iload_n 3, 1) := dk_29 (dk_at dksX6_debts_5 17 rfl rfl)
theorem dX6_debts_130 : decode cX6_debts 130 = .ok (.iadd, 1) := dk_96 (dk_at dksX6_debts_5 18 rfl rfl)
theorem dX6_debts_131 : decode cX6_debts 131 = .ok (.aload_n 0, 1) := dk_42 (dk_at dksX6_debts_5 19 rfl rfl)
theorem dX6_debts_132 : decode cX6_debts 132 = .ok (.getfield 68, 3) := dk_180 0 68 (dk_at dksX6_debts_5 20 rfl rfl)
theorem dX6_debts_135 : decode cX6_debts 135 = .ok (.iload_n 3, 1) := dk_29 (dk_at dksX6_debts_5 23 rfl rfl)
theorem dX6_debts_136 : decode cX6_debts 136 = .ok (.iaload, 1) := dk_46 (dk_at dksX6_debts_6 0 rfl rfl)
theorem dX6_debts_137 : decode cX6_debts 137 = .ok (.iastore, 1) := dk_79 (dk_at dksX6_debts_6 1 rfl rfl)
theorem dX6_debts_138 : decode cX6_debts 138 = .ok (.iinc 3 1, 3) := dk_132 3 1 (dk_at dksX6_debts_6 2 rfl rfl)
theorem dX6_debts_141 : decode cX6_debts 141 = .ok (.goto (-23), 3) := dk_167 255 233 (dk_at dksX6_debts_6 5 rfl rfl)
theorem dX6_debts_144 : decode cX6_debts 144 = .ok (.aload_n 0, 1) := dk_42 (dk_at dksX6_debts_6 8 rfl rfl)
theorem dX6_debts_145 : decode cX6_debts 145 = .ok (.invokevirtual 296, 3) := dk_182 1 40 (dk_at dksX6_debts_6 9 rfl rfl)
theorem dX6_debts_148 : decode cX6_debts 148 = .ok (.ireturn, 1) := dk_172 (dk_at dksX6_debts_6 12 rfl rfl)
abbrev cX6_readsLine : ByteArray := prog_20_method_53_code
def yX6_readsLine : MethodName := ⟨RX6, "readsLine", "()Z"⟩
def dkwX6_readsLine_7 : List UInt8 := [42, 42, 180, 1, 27, 4, 96, 181, 1, 27, 4, 172]
abbrev dktX6_readsLine_7 : List UInt8 := dkwX6_readsLine_7 ++ []
def dkwX6_readsLine_6 : List UInt8 := [27, 104, 28, 96, 16, 99, 42, 180, 0, 68, 16, 10, 27, 104, 28, 96, 46, 21, 4, 96, 184, 1, 34, 79]
abbrev dktX6_readsLine_6 : List UInt8 := dkwX6_readsLine_6 ++ dktX6_readsLine_7
def dkwX6_readsLine_5 : List UInt8 := [181, 0, 166, 167, 255, 214, 21, 4, 154, 0, 10, 42, 6, 29, 182, 0, 179, 172, 42, 180, 0, 68, 16, 10]
abbrev dktX6_readsLine_5 : List UInt8 := dkwX6_readsLine_5 ++ dktX6_readsLine_6
def dkwX6_readsLine_4 : List UInt8 := [16, 10, 21, 4, 104, 42, 182, 0, 172, 96, 16, 48, 100, 54, 4, 42, 42, 180, 0, 166, 4, 96]
abbrev dktX6_readsLine_4 : List UInt8 := dkwX6_readsLine_4 ++ dktX6_readsLine_5
def dkwX6_readsLine_3 : List UInt8 := [167, 0, 4, 4, 54, 4, 42, 182, 0, 185, 153, 0, 41, 42, 180, 0, 166, 29, 5, 96, 162, 0, 31]
abbrev dktX6_readsLine_3 : List UInt8 := dkwX6_readsLine_3 ++ dktX6_readsLine_4
def dkwX6_readsLine_2 : List UInt8 := [180, 0, 166, 4, 100, 182, 0, 179, 172, 42, 180, 0, 166, 62, 42, 182, 0, 185, 153, 0, 7, 3]
abbrev dktX6_readsLine_2 : List UInt8 := dkwX6_readsLine_2 ++ dktX6_readsLine_3
def dkwX6_readsLine_1 : List UInt8 := [42, 3, 182, 1, 30, 154, 0, 5, 3, 172, 42, 180, 0, 182, 61, 27, 28, 160, 0, 16, 42, 16, 6, 42]
abbrev dktX6_readsLine_1 : List UInt8 := dkwX6_readsLine_1 ++ dktX6_readsLine_2
def dkwX6_readsLine_0 : List UInt8 := [42, 4, 182, 1, 30, 154, 0, 5, 3, 172, 42, 180, 0, 182, 60, 42, 16, 62, 182, 0, 252, 153, 0, 11]
abbrev dktX6_readsLine_0 : List UInt8 := dkwX6_readsLine_0 ++ dktX6_readsLine_1
theorem dksX6_readsLine_0 : cX6_readsLine.data.toList.drop 0 = dktX6_readsLine_0 := by decide +kernel
theorem dksX6_readsLine_1 : cX6_readsLine.data.toList.drop 24 = dktX6_readsLine_1 := dk_seg dksX6_readsLine_0 24 rfl rfl
theorem dksX6_readsLine_2 : cX6_readsLine.data.toList.drop 48 = dktX6_readsLine_2 := dk_seg dksX6_readsLine_1 24 rfl rfl
theorem dksX6_readsLine_3 : cX6_readsLine.data.toList.drop 70 = dktX6_readsLine_3 := dk_seg dksX6_readsLine_2 22 rfl rfl
theorem dksX6_readsLine_4 : cX6_readsLine.data.toList.drop 93 = dktX6_readsLine_4 := dk_seg dksX6_readsLine_3 23 rfl rfl
theorem dksX6_readsLine_5 : cX6_readsLine.data.toList.drop 115 = dktX6_readsLine_5 := dk_seg dksX6_readsLine_4 22 rfl rfl
theorem dksX6_readsLine_6 : cX6_readsLine.data.toList.drop 139 = dktX6_readsLine_6 := dk_seg dksX6_readsLine_5 24 rfl rfl
theorem dksX6_readsLine_7 : cX6_readsLine.data.toList.drop 163 = dktX6_readsLine_7 := dk_seg dksX6_readsLine_6 24 rfl rfl
theorem dX6_readsLine_0 : decode cX6_readsLine 0 = .ok (.aload_n 0, 1) := dk_42 (dk_at dksX6_readsLine_0 0 rfl rfl)
theorem dX6_readsLine_1 : decode cX6_readsLine 1 = .ok (.iconst 1, 1) := dk_4 (dk_at dksX6_readsLine_0 1 rfl rfl)
theorem dX6_readsLine_2 : decode cX6_readsLine 2 = .ok (.invokevirtual 286, 3) := dk_182 1 30 (dk_at dksX6_readsLine_0 2 rfl rfl)
theorem dX6_readsLine_5 : decode cX6_readsLine 5 = .ok (.ifCond .ne 5, 3) := dk_154 0 5 (dk_at dksX6_readsLine_0 5 rfl rfl)
theorem dX6_readsLine_8 : decode cX6_readsLine 8 = .ok (.iconst 0, 1) := dk_3 (dk_at dksX6_readsLine_0 8 rfl rfl)
theorem dX6_readsLine_9 : decode cX6_readsLine 9 = .ok (.ireturn, 1) := dk_172 (dk_at dksX6_readsLine_0 9 rfl rfl)
theorem dX6_readsLine_10 : decode cX6_readsLine 10 = .ok (.aload_n 0, 1) := dk_42 (dk_at dksX6_readsLine_0 10 rfl rfl)
theorem dX6_readsLine_11 : decode cX6_readsLine 11 = .ok (.getfield 182, 3) := dk_180 0 182 (dk_at dksX6_readsLine_0 11 rfl rfl)
theorem dX6_readsLine_14 : decode cX6_readsLine 14 = .ok (.istore_n 1, 1) := dk_60 (dk_at dksX6_readsLine_0 14 rfl rfl)
theorem dX6_readsLine_15 : decode cX6_readsLine 15 = .ok (.aload_n 0, 1) := dk_42 (dk_at dksX6_readsLine_0 15 rfl rfl)
theorem dX6_readsLine_16 : decode cX6_readsLine 16 = .ok (.bipush 62, 2) := dk_16 62 (dk_at dksX6_readsLine_0 16 rfl rfl)
theorem dX6_readsLine_18 : decode cX6_readsLine 18 = .ok (.invokevirtual 252, 3) := dk_182 0 252 (dk_at dksX6_readsLine_0 18 rfl rfl)
theorem dX6_readsLine_21 : decode cX6_readsLine 21 = .ok (.ifCond .eq 11, 3) := dk_153 0 11 (dk_at dksX6_readsLine_0 21 rfl rfl)
theorem dX6_readsLine_24 : decode cX6_readsLine 24 = .ok (.aload_n 0, 1) := dk_42 (dk_at dksX6_readsLine_1 0 rfl rfl)
theorem dX6_readsLine_25 : decode cX6_readsLine 25 = .ok (.iconst 0, 1) := dk_3 (dk_at dksX6_readsLine_1 1 rfl rfl)
theorem dX6_readsLine_26 : decode cX6_readsLine 26 = .ok (.invokevirtual 286, 3) := dk_182 1 30 (dk_at dksX6_readsLine_1 2 rfl rfl)
theorem dX6_readsLine_29 : decode cX6_readsLine 29 = .ok (.ifCond .ne 5, 3) := dk_154 0 5 (dk_at dksX6_readsLine_1 5 rfl rfl)
theorem dX6_readsLine_32 : decode cX6_readsLine 32 = .ok (.iconst 0, 1) := dk_3 (dk_at dksX6_readsLine_1 8 rfl rfl)
theorem dX6_readsLine_33 : decode cX6_readsLine 33 = .ok (.ireturn, 1) := dk_172 (dk_at dksX6_readsLine_1 9 rfl rfl)
theorem dX6_readsLine_34 : decode cX6_readsLine 34 = .ok (.aload_n 0, 1) := dk_42 (dk_at dksX6_readsLine_1 10 rfl rfl)
theorem dX6_readsLine_35 : decode cX6_readsLine 35 = .ok (.getfield 182, 3) := dk_180 0 182 (dk_at dksX6_readsLine_1 11 rfl rfl)
theorem dX6_readsLine_38 : decode cX6_readsLine 38 = .ok (.istore_n 2, 1) := dk_61 (dk_at dksX6_readsLine_1 14 rfl rfl)
theorem dX6_readsLine_39 : decode cX6_readsLine 39 = .ok (.iload_n 1, 1) := dk_27 (dk_at dksX6_readsLine_1 15 rfl rfl)
theorem dX6_readsLine_40 : decode cX6_readsLine 40 = .ok (.iload_n 2, 1) := dk_28 (dk_at dksX6_readsLine_1 16 rfl rfl)
theorem dX6_readsLine_41 : decode cX6_readsLine 41 = .ok (.if_icmp .ne 16, 3) := dk_160 0 16 (dk_at dksX6_readsLine_1 17 rfl rfl)
theorem dX6_readsLine_44 : decode cX6_readsLine 44 = .ok (.aload_n 0, 1) := dk_42 (dk_at dksX6_readsLine_1 20 rfl rfl)
theorem dX6_readsLine_45 : decode cX6_readsLine 45 = .ok (.bipush 6, 2) := dk_16 6 (dk_at dksX6_readsLine_1 21 rfl rfl)
theorem dX6_readsLine_47 : decode cX6_readsLine 47 = .ok (.aload_n 0, 1) := dk_42 (dk_at dksX6_readsLine_1 23 rfl rfl)
theorem dX6_readsLine_48 : decode cX6_readsLine 48 = .ok (.getfield 166, 3) := dk_180 0 166 (dk_at dksX6_readsLine_2 0 rfl rfl)
theorem dX6_readsLine_51 : decode cX6_readsLine 51 = .ok (.iconst 1, 1) := dk_4 (dk_at dksX6_readsLine_2 3 rfl rfl)
theorem dX6_readsLine_52 : decode cX6_readsLine 52 = .ok (.isub, 1) := dk_100 (dk_at dksX6_readsLine_2 4 rfl rfl)
theorem dX6_readsLine_53 : decode cX6_readsLine 53 = .ok (.invokevirtual 179, 3) := dk_182 0 179 (dk_at dksX6_readsLine_2 5 rfl rfl)
theorem dX6_readsLine_56 : decode cX6_readsLine 56 = .ok (.ireturn, 1) := dk_172 (dk_at dksX6_readsLine_2 8 rfl rfl)
theorem dX6_readsLine_57 : decode cX6_readsLine 57 = .ok (.aload_n 0, 1) := dk_42 (dk_at dksX6_readsLine_2 9 rfl rfl)
theorem dX6_readsLine_58 : decode cX6_readsLine 58 = .ok (.getfield 166, 3) := dk_180 0 166 (dk_at dksX6_readsLine_2 10 rfl rfl)
theorem dX6_readsLine_61 : decode cX6_readsLine 61 = .ok (.istore_n 3, 1) := dk_62 (dk_at dksX6_readsLine_2 13 rfl rfl)
theorem dX6_readsLine_62 : decode cX6_readsLine 62 = .ok (.aload_n 0, 1) := dk_42 (dk_at dksX6_readsLine_2 14 rfl rfl)
theorem dX6_readsLine_63 : decode cX6_readsLine 63 = .ok (.invokevirtual 185, 3) := dk_182 0 185 (dk_at dksX6_readsLine_2 15 rfl rfl)
theorem dX6_readsLine_66 : decode cX6_readsLine 66 = .ok (.ifCond .eq 7, 3) := dk_153 0 7 (dk_at dksX6_readsLine_2 18 rfl rfl)
theorem dX6_readsLine_69 : decode cX6_readsLine 69 = .ok (.iconst 0, 1) := dk_3 (dk_at dksX6_readsLine_2 21 rfl rfl)
theorem dX6_readsLine_70 : decode cX6_readsLine 70 = .ok (.goto 4, 3) := dk_167 0 4 (dk_at dksX6_readsLine_3 0 rfl rfl)
theorem dX6_readsLine_73 : decode cX6_readsLine 73 = .ok (.iconst 1, 1) := dk_4 (dk_at dksX6_readsLine_3 3 rfl rfl)
theorem dX6_readsLine_74 : decode cX6_readsLine 74 = .ok (.istore 4, 2) := dk_54 4 (dk_at dksX6_readsLine_3 4 rfl rfl)
theorem dX6_readsLine_76 : decode cX6_readsLine 76 = .ok (.aload_n 0, 1) := dk_42 (dk_at dksX6_readsLine_3 6 rfl rfl)
theorem dX6_readsLine_77 : decode cX6_readsLine 77 = .ok (.invokevirtual 185, 3) := dk_182 0 185 (dk_at dksX6_readsLine_3 7 rfl rfl)
theorem dX6_readsLine_80 : decode cX6_readsLine 80 = .ok (.ifCond .eq 41, 3) := dk_153 0 41 (dk_at dksX6_readsLine_3 10 rfl rfl)
theorem dX6_readsLine_83 : decode cX6_readsLine 83 = .ok (.aload_n 0, 1) := dk_42 (dk_at dksX6_readsLine_3 13 rfl rfl)
theorem dX6_readsLine_84 : decode cX6_readsLine 84 = .ok (.getfield 166, 3) := dk_180 0 166 (dk_at dksX6_readsLine_3 14 rfl rfl)
theorem dX6_readsLine_87 : decode cX6_readsLine 87 = .ok (.iload_n 3, 1) := dk_29 (dk_at dksX6_readsLine_3 17 rfl rfl)
theorem dX6_readsLine_88 : decode cX6_readsLine 88 = .ok (.iconst 2, 1) := dk_5 (dk_at dksX6_readsLine_3 18 rfl rfl)
theorem dX6_readsLine_89 : decode cX6_readsLine 89 = .ok (.iadd, 1) := dk_96 (dk_at dksX6_readsLine_3 19 rfl rfl)
theorem dX6_readsLine_90 : decode cX6_readsLine 90 = .ok (.if_icmp .ge 31, 3) := dk_162 0 31 (dk_at dksX6_readsLine_3 20 rfl rfl)
theorem dX6_readsLine_93 : decode cX6_readsLine 93 = .ok (.bipush 10, 2) := dk_16 10 (dk_at dksX6_readsLine_4 0 rfl rfl)
theorem dX6_readsLine_95 : decode cX6_readsLine 95 = .ok (.iload 4, 2) := dk_21 4 (dk_at dksX6_readsLine_4 2 rfl rfl)
theorem dX6_readsLine_97 : decode cX6_readsLine 97 = .ok (.imul, 1) := dk_104 (dk_at dksX6_readsLine_4 4 rfl rfl)
theorem dX6_readsLine_98 : decode cX6_readsLine 98 = .ok (.aload_n 0, 1) := dk_42 (dk_at dksX6_readsLine_4 5 rfl rfl)
theorem dX6_readsLine_99 : decode cX6_readsLine 99 = .ok (.invokevirtual 172, 3) := dk_182 0 172 (dk_at dksX6_readsLine_4 6 rfl rfl)
theorem dX6_readsLine_102 : decode cX6_readsLine 102 = .ok (.iadd, 1) := dk_96 (dk_at dksX6_readsLine_4 9 rfl rfl)
theorem dX6_readsLine_103 : decode cX6_readsLine 103 = .ok (.bipush 48, 2) := dk_16 48 (dk_at dksX6_readsLine_4 10 rfl rfl)
theorem dX6_readsLine_105 : decode cX6_readsLine 105 = .ok (.isub, 1) := dk_100 (dk_at dksX6_readsLine_4 12 rfl rfl)
theorem dX6_readsLine_106 : decode cX6_readsLine 106 = .ok (.istore 4, 2) := dk_54 4 (dk_at dksX6_readsLine_4 13 rfl rfl)
theorem dX6_readsLine_108 : decode cX6_readsLine 108 = .ok (.aload_n 0, 1) := dk_42 (dk_at dksX6_readsLine_4 15 rfl rfl)
theorem dX6_readsLine_109 : decode cX6_readsLine 109 = .ok (.aload_n 0, 1) := dk_42 (dk_at dksX6_readsLine_4 16 rfl rfl)
theorem dX6_readsLine_110 : decode cX6_readsLine 110 = .ok (.getfield 166, 3) := dk_180 0 166 (dk_at dksX6_readsLine_4 17 rfl rfl)
theorem dX6_readsLine_113 : decode cX6_readsLine 113 = .ok (.iconst 1, 1) := dk_4 (dk_at dksX6_readsLine_4 20 rfl rfl)
theorem dX6_readsLine_114 : decode cX6_readsLine 114 = .ok (.iadd, 1) := dk_96 (dk_at dksX6_readsLine_4 21 rfl rfl)
theorem dX6_readsLine_115 : decode cX6_readsLine 115 = .ok (.putfield 166, 3) := dk_181 0 166 (dk_at dksX6_readsLine_5 0 rfl rfl)
theorem dX6_readsLine_118 : decode cX6_readsLine 118 = .ok (.goto (-42), 3) := dk_167 255 214 (dk_at dksX6_readsLine_5 3 rfl rfl)
theorem dX6_readsLine_121 : decode cX6_readsLine 121 = .ok (.iload 4, 2) := dk_21 4 (dk_at dksX6_readsLine_5 6 rfl rfl)
theorem dX6_readsLine_123 : decode cX6_readsLine 123 = .ok (.ifCond .ne 10, 3) := dk_154 0 10 (dk_at dksX6_readsLine_5 8 rfl rfl)
theorem dX6_readsLine_126 : decode cX6_readsLine 126 = .ok (.aload_n 0, 1) := dk_42 (dk_at dksX6_readsLine_5 11 rfl rfl)
theorem dX6_readsLine_127 : decode cX6_readsLine 127 = .ok (.iconst 3, 1) := dk_6 (dk_at dksX6_readsLine_5 12 rfl rfl)
theorem dX6_readsLine_128 : decode cX6_readsLine 128 = .ok (.iload_n 3, 1) := dk_29 (dk_at dksX6_readsLine_5 13 rfl rfl)
theorem dX6_readsLine_129 : decode cX6_readsLine 129 = .ok (.invokevirtual 179, 3) := dk_182 0 179 (dk_at dksX6_readsLine_5 14 rfl rfl)
theorem dX6_readsLine_132 : decode cX6_readsLine 132 = .ok (.ireturn, 1) := dk_172 (dk_at dksX6_readsLine_5 17 rfl rfl)
theorem dX6_readsLine_133 : decode cX6_readsLine 133 = .ok (.aload_n 0, 1) := dk_42 (dk_at dksX6_readsLine_5 18 rfl rfl)
theorem dX6_readsLine_134 : decode cX6_readsLine 134 = .ok (.getfield 68, 3) := dk_180 0 68 (dk_at dksX6_readsLine_5 19 rfl rfl)
theorem dX6_readsLine_137 : decode cX6_readsLine 137 = .ok (.bipush 10, 2) := dk_16 10 (dk_at dksX6_readsLine_5 22 rfl rfl)
theorem dX6_readsLine_139 : decode cX6_readsLine 139 = .ok (.iload_n 1, 1) := dk_27 (dk_at dksX6_readsLine_6 0 rfl rfl)
theorem dX6_readsLine_140 : decode cX6_readsLine 140 = .ok (.imul, 1) := dk_104 (dk_at dksX6_readsLine_6 1 rfl rfl)
theorem dX6_readsLine_141 : decode cX6_readsLine 141 = .ok (.iload_n 2, 1) := dk_28 (dk_at dksX6_readsLine_6 2 rfl rfl)
theorem dX6_readsLine_142 : decode cX6_readsLine 142 = .ok (.iadd, 1) := dk_96 (dk_at dksX6_readsLine_6 3 rfl rfl)
theorem dX6_readsLine_143 : decode cX6_readsLine 143 = .ok (.bipush 99, 2) := dk_16 99 (dk_at dksX6_readsLine_6 4 rfl rfl)
theorem dX6_readsLine_145 : decode cX6_readsLine 145 = .ok (.aload_n 0, 1) := dk_42 (dk_at dksX6_readsLine_6 6 rfl rfl)
theorem dX6_readsLine_146 : decode cX6_readsLine 146 = .ok (.getfield 68, 3) := dk_180 0 68 (dk_at dksX6_readsLine_6 7 rfl rfl)
theorem dX6_readsLine_149 : decode cX6_readsLine 149 = .ok (.bipush 10, 2) := dk_16 10 (dk_at dksX6_readsLine_6 10 rfl rfl)
theorem dX6_readsLine_151 : decode cX6_readsLine 151 = .ok (.iload_n 1, 1) := dk_27 (dk_at dksX6_readsLine_6 12 rfl rfl)
theorem dX6_readsLine_152 : decode cX6_readsLine 152 = .ok (.imul, 1) := dk_104 (dk_at dksX6_readsLine_6 13 rfl rfl)
theorem dX6_readsLine_153 : decode cX6_readsLine 153 = .ok (.iload_n 2, 1) := dk_28 (dk_at dksX6_readsLine_6 14 rfl rfl)
theorem dX6_readsLine_154 : decode cX6_readsLine 154 = .ok (.iadd, 1) := dk_96 (dk_at dksX6_readsLine_6 15 rfl rfl)
theorem dX6_readsLine_155 : decode cX6_readsLine 155 = .ok (.iaload, 1) := dk_46 (dk_at dksX6_readsLine_6 16 rfl rfl)
theorem dX6_readsLine_156 : decode cX6_readsLine 156 = .ok (.iload 4, 2) := dk_21 4 (dk_at dksX6_readsLine_6 17 rfl rfl)
theorem dX6_readsLine_158 : decode cX6_readsLine 158 = .ok (.iadd, 1) := dk_96 (dk_at dksX6_readsLine_6 19 rfl rfl)
theorem dX6_readsLine_159 : decode cX6_readsLine 159 = .ok (.invokestatic 290, 3) := dk_184 1 34 (dk_at dksX6_readsLine_6 20 rfl rfl)
theorem dX6_readsLine_162 : decode cX6_readsLine 162 = .ok (.iastore, 1) := dk_79 (dk_at dksX6_readsLine_6 23 rfl rfl)
theorem dX6_readsLine_163 : decode cX6_readsLine 163 = .ok (.aload_n 0, 1) := dk_42 (dk_at dksX6_readsLine_7 0 rfl rfl)
theorem dX6_readsLine_164 : decode cX6_readsLine 164 = .ok (.aload_n 0, 1) := dk_42 (dk_at dksX6_readsLine_7 1 rfl rfl)
theorem dX6_readsLine_165 : decode cX6_readsLine 165 = .ok (.getfield 283, 3) := dk_180 1 27 (dk_at dksX6_readsLine_7 2 rfl rfl)
theorem dX6_readsLine_168 : decode cX6_readsLine 168 = .ok (.iconst 1, 1) := dk_4 (dk_at dksX6_readsLine_7 5 rfl rfl)
theorem dX6_readsLine_169 : decode cX6_readsLine 169 = .ok (.iadd, 1) := dk_96 (dk_at dksX6_readsLine_7 6 rfl rfl)
theorem dX6_readsLine_170 : decode cX6_readsLine 170 = .ok (.putfield 283, 3) := dk_181 1 27 (dk_at dksX6_readsLine_7 7 rfl rfl)
theorem dX6_readsLine_173 : decode cX6_readsLine 173 = .ok (.iconst 1, 1) := dk_4 (dk_at dksX6_readsLine_7 10 rfl rfl)
theorem dX6_readsLine_174 : decode cX6_readsLine 174 = .ok (.ireturn, 1) := dk_172 (dk_at dksX6_readsLine_7 11 rfl rfl)
abbrev cX6_readsPerson : ByteArray := prog_20_method_52_code
def yX6_readsPerson : MethodName := ⟨RX6, "readsPerson", "(Z)Z"⟩
def dkwX6_readsPerson_3 : List UInt8 := [42, 180, 0, 166, 182, 0, 179, 172, 42, 42, 180, 0, 166, 4, 96, 181, 0, 166, 4, 172]
abbrev dktX6_readsPerson_3 : List UInt8 := dkwX6_readsPerson_3 ++ []
def dkwX6_readsPerson_2 : List UInt8 := [42, 182, 0, 172, 16, 97, 100, 181, 0, 182, 42, 42, 180, 0, 182, 182, 0, 135, 154, 0, 14, 42, 16, 7]
abbrev dktX6_readsPerson_2 : List UInt8 := dkwX6_readsPerson_2 ++ dktX6_readsPerson_3
def dkwX6_readsPerson_1 : List UInt8 := [27, 153, 0, 22, 42, 180, 1, 27, 16, 30, 160, 0, 13, 42, 7, 42, 180, 0, 166, 182, 0, 179, 172, 42]
abbrev dktX6_readsPerson_1 : List UInt8 := dkwX6_readsPerson_1 ++ dktX6_readsPerson_2
def dkwX6_readsPerson_0 : List UInt8 := [42, 182, 0, 172, 16, 97, 16, 106, 184, 0, 123, 154, 0, 13, 42, 4, 42, 180, 0, 166, 182, 0, 179, 172]
abbrev dktX6_readsPerson_0 : List UInt8 := dkwX6_readsPerson_0 ++ dktX6_readsPerson_1
theorem dksX6_readsPerson_0 : cX6_readsPerson.data.toList.drop 0 = dktX6_readsPerson_0 := by decide +kernel
theorem dksX6_readsPerson_1 : cX6_readsPerson.data.toList.drop 24 = dktX6_readsPerson_1 := dk_seg dksX6_readsPerson_0 24 rfl rfl
theorem dksX6_readsPerson_2 : cX6_readsPerson.data.toList.drop 48 = dktX6_readsPerson_2 := dk_seg dksX6_readsPerson_1 24 rfl rfl
theorem dksX6_readsPerson_3 : cX6_readsPerson.data.toList.drop 72 = dktX6_readsPerson_3 := dk_seg dksX6_readsPerson_2 24 rfl rfl
theorem dX6_readsPerson_0 : decode cX6_readsPerson 0 = .ok (.aload_n 0, 1) := dk_42 (dk_at dksX6_readsPerson_0 0 rfl rfl)
theorem dX6_readsPerson_1 : decode cX6_readsPerson 1 = .ok (.invokevirtual 172, 3) := dk_182 0 172 (dk_at dksX6_readsPerson_0 1 rfl rfl)
theorem dX6_readsPerson_4 : decode cX6_readsPerson 4 = .ok (.bipush 97, 2) := dk_16 97 (dk_at dksX6_readsPerson_0 4 rfl rfl)
theorem dX6_readsPerson_6 : decode cX6_readsPerson 6 = .ok (.bipush 106, 2) := dk_16 106 (dk_at dksX6_readsPerson_0 6 rfl rfl)
theorem dX6_readsPerson_8 : decode cX6_readsPerson 8 = .ok (.invokestatic 123, 3) := dk_184 0 123 (dk_at dksX6_readsPerson_0 8 rfl rfl)
theorem dX6_readsPerson_11 : decode cX6_readsPerson 11 = .ok (.ifCond .ne 13, 3) := dk_154 0 13 (dk_at dksX6_readsPerson_0 11 rfl rfl)
theorem dX6_readsPerson_14 : decode cX6_readsPerson 14 = .ok (.aload_n 0, 1) := dk_42 (dk_at dksX6_readsPerson_0 14 rfl rfl)
theorem dX6_readsPerson_15 : decode cX6_readsPerson 15 = .ok (.iconst 1, 1) := dk_4 (dk_at dksX6_readsPerson_0 15 rfl rfl)
theorem dX6_readsPerson_16 : decode cX6_readsPerson 16 = .ok (.aload_n 0, 1) := dk_42 (dk_at dksX6_readsPerson_0 16 rfl rfl)
theorem dX6_readsPerson_17 : decode cX6_readsPerson 17 = .ok (.getfield 166, 3) := dk_180 0 166 (dk_at dksX6_readsPerson_0 17 rfl rfl)
theorem dX6_readsPerson_20 : decode cX6_readsPerson 20 = .ok (.invokevirtual 179, 3) := dk_182 0 179 (dk_at dksX6_readsPerson_0 20 rfl rfl)
theorem dX6_readsPerson_23 : decode cX6_readsPerson 23 = .ok (.ireturn, 1) := dk_172 (dk_at dksX6_readsPerson_0 23 rfl rfl)
theorem dX6_readsPerson_24 : decode cX6_readsPerson 24 = .ok (.iload_n 1, 1) := dk_27 (dk_at dksX6_readsPerson_1 0 rfl rfl)
theorem dX6_readsPerson_25 : decode cX6_readsPerson 25 = .ok (.ifCond .eq 22, 3) := dk_153 0 22 (dk_at dksX6_readsPerson_1 1 rfl rfl)
theorem dX6_readsPerson_28 : decode cX6_readsPerson 28 = .ok (.aload_n 0, 1) := dk_42 (dk_at dksX6_readsPerson_1 4 rfl rfl)
theorem dX6_readsPerson_29 : decode cX6_readsPerson 29 = .ok (.getfield 283, 3) := dk_180 1 27 (dk_at dksX6_readsPerson_1 5 rfl rfl)
theorem dX6_readsPerson_32 : decode cX6_readsPerson 32 = .ok (.bipush 30, 2) := dk_16 30 (dk_at dksX6_readsPerson_1 8 rfl rfl)
theorem dX6_readsPerson_34 : decode cX6_readsPerson 34 = .ok (.if_icmp .ne 13, 3) := dk_160 0 13 (dk_at dksX6_readsPerson_1 10 rfl rfl)
theorem dX6_readsPerson_37 : decode cX6_readsPerson 37 = .ok (.aload_n 0, 1) := dk_42 (dk_at dksX6_readsPerson_1 13 rfl rfl)
theorem dX6_readsPerson_38 : decode cX6_readsPerson 38 = .ok (.iconst 4, 1) := dk_7 (dk_at dksX6_readsPerson_1 14 rfl rfl)
theorem dX6_readsPerson_39 : decode cX6_readsPerson 39 = .ok (.aload_n 0, 1) := dk_42 (dk_at dksX6_readsPerson_1 15 rfl rfl)
theorem dX6_readsPerson_40 : decode cX6_readsPerson 40 = .ok (.getfield 166, 3) := dk_180 0 166 (dk_at dksX6_readsPerson_1 16 rfl rfl)
theorem dX6_readsPerson_43 : decode cX6_readsPerson 43 = .ok (.invokevirtual 179, 3) := dk_182 0 179 (dk_at dksX6_readsPerson_1 19 rfl rfl)
theorem dX6_readsPerson_46 : decode cX6_readsPerson 46 = .ok (.ireturn, 1) := dk_172 (dk_at dksX6_readsPerson_1 22 rfl rfl)
theorem dX6_readsPerson_47 : decode cX6_readsPerson 47 = .ok (.aload_n 0, 1) := dk_42 (dk_at dksX6_readsPerson_1 23 rfl rfl)
theorem dX6_readsPerson_48 : decode cX6_readsPerson 48 = .ok (.aload_n 0, 1) := dk_42 (dk_at dksX6_readsPerson_2 0 rfl rfl)
theorem dX6_readsPerson_49 : decode cX6_readsPerson 49 = .ok (.invokevirtual 172, 3) := dk_182 0 172 (dk_at dksX6_readsPerson_2 1 rfl rfl)
theorem dX6_readsPerson_52 : decode cX6_readsPerson 52 = .ok (.bipush 97, 2) := dk_16 97 (dk_at dksX6_readsPerson_2 4 rfl rfl)
theorem dX6_readsPerson_54 : decode cX6_readsPerson 54 = .ok (.isub, 1) := dk_100 (dk_at dksX6_readsPerson_2 6 rfl rfl)
theorem dX6_readsPerson_55 : decode cX6_readsPerson 55 = .ok (.putfield 182, 3) := dk_181 0 182 (dk_at dksX6_readsPerson_2 7 rfl rfl)
theorem dX6_readsPerson_58 : decode cX6_readsPerson 58 = .ok (.aload_n 0, 1) := dk_42 (dk_at dksX6_readsPerson_2 10 rfl rfl)
theorem dX6_readsPerson_59 : decode cX6_readsPerson 59 = .ok (.aload_n 0, 1) := dk_42 (dk_at dksX6_readsPerson_2 11 rfl rfl)
theorem dX6_readsPerson_60 : decode cX6_readsPerson 60 = .ok (.getfield 182, 3) := dk_180 0 182 (dk_at dksX6_readsPerson_2 12 rfl rfl)
theorem dX6_readsPerson_63 : decode cX6_readsPerson 63 = .ok (.invokevirtual 135, 3) := dk_182 0 135 (dk_at dksX6_readsPerson_2 15 rfl rfl)
theorem dX6_readsPerson_66 : decode cX6_readsPerson 66 = .ok (.ifCond .ne 14, 3) := dk_154 0 14 (dk_at dksX6_readsPerson_2 18 rfl rfl)
theorem dX6_readsPerson_69 : decode cX6_readsPerson 69 = .ok (.aload_n 0, 1) := dk_42 (dk_at dksX6_readsPerson_2 21 rfl rfl)
theorem dX6_readsPerson_70 : decode cX6_readsPerson 70 = .ok (.bipush 7, 2) := dk_16 7 (dk_at dksX6_readsPerson_2 22 rfl rfl)
theorem dX6_readsPerson_72 : decode cX6_readsPerson 72 = .ok (.aload_n 0, 1) := dk_42 (dk_at dksX6_readsPerson_3 0 rfl rfl)
theorem dX6_readsPerson_73 : decode cX6_readsPerson 73 = .ok (.getfield 166, 3) := dk_180 0 166 (dk_at dksX6_readsPerson_3 1 rfl rfl)
theorem dX6_readsPerson_76 : decode cX6_readsPerson 76 = .ok (.invokevirtual 179, 3) := dk_182 0 179 (dk_at dksX6_readsPerson_3 4 rfl rfl)
theorem dX6_readsPerson_79 : decode cX6_readsPerson 79 = .ok (.ireturn, 1) := dk_172 (dk_at dksX6_readsPerson_3 7 rfl rfl)
theorem dX6_readsPerson_80 : decode cX6_readsPerson 80 = .ok (.aload_n 0, 1) := dk_42 (dk_at dksX6_readsPerson_3 8 rfl rfl)
theorem dX6_readsPerson_81 : decode cX6_readsPerson 81 = .ok (.aload_n 0, 1) := dk_42 (dk_at dksX6_readsPerson_3 9 rfl rfl)
theorem dX6_readsPerson_82 : decode cX6_readsPerson 82 = .ok (.getfield 166, 3) := dk_180 0 166 (dk_at dksX6_readsPerson_3 10 rfl rfl)
theorem dX6_readsPerson_85 : decode cX6_readsPerson 85 = .ok (.iconst 1, 1) := dk_4 (dk_at dksX6_readsPerson_3 13 rfl rfl)
theorem dX6_readsPerson_86 : decode cX6_readsPerson 86 = .ok (.iadd, 1) := dk_96 (dk_at dksX6_readsPerson_3 14 rfl rfl)
theorem dX6_readsPerson_87 : decode cX6_readsPerson 87 = .ok (.putfield 166, 3) := dk_181 0 166 (dk_at dksX6_readsPerson_3 15 rfl rfl)
theorem dX6_readsPerson_90 : decode cX6_readsPerson 90 = .ok (.iconst 1, 1) := dk_4 (dk_at dksX6_readsPerson_3 18 rfl rfl)
theorem dX6_readsPerson_91 : decode cX6_readsPerson 91 = .ok (.ireturn, 1) := dk_172 (dk_at dksX6_readsPerson_3 19 rfl rfl)
abbrev cX6_min : ByteArray := prog_20_method_3_code
def yX6_min : MethodName := ⟨RX6, "min", "(II)I"⟩
def dkwX6_min_0 : List UInt8 := [26, 27, 162, 0, 7, 26, 167, 0, 4, 27, 172]
abbrev dktX6_min_0 : List UInt8 := dkwX6_min_0 ++ []
theorem dksX6_min_0 : cX6_min.data.toList.drop 0 = dktX6_min_0 := by decide +kernel
theorem dX6_min_0 : decode cX6_min 0 = .ok (.iload_n 0, 1) := dk_26 (dk_at dksX6_min_0 0 rfl rfl)
theorem dX6_min_1 : decode cX6_min 1 = .ok (.iload_n 1, 1) := dk_27 (dk_at dksX6_min_0 1 rfl rfl)
theorem dX6_min_2 : decode cX6_min 2 = .ok (.if_icmp .ge 7, 3) := dk_162 0 7 (dk_at dksX6_min_0 2 rfl rfl)
theorem dX6_min_5 : decode cX6_min 5 = .ok (.iload_n 0, 1) := dk_26 (dk_at dksX6_min_0 5 rfl rfl)
theorem dX6_min_6 : decode cX6_min 6 = .ok (.goto 4, 3) := dk_167 0 4 (dk_at dksX6_min_0 6 rfl rfl)
theorem dX6_min_9 : decode cX6_min 9 = .ok (.iload_n 1, 1) := dk_27 (dk_at dksX6_min_0 9 rfl rfl)
theorem dX6_min_10 : decode cX6_min 10 = .ok (.ireturn, 1) := dk_172 (dk_at dksX6_min_0 10 rfl rfl)
abbrev cX6_owedInAll : ByteArray := prog_20_method_15_code
def yX6_owedInAll : MethodName := ⟨RX6, "owedInAll", "()I"⟩
def dkwX6_owedInAll_1 : List UInt8 := [27, 172]
abbrev dktX6_owedInAll_1 : List UInt8 := dkwX6_owedInAll_1 ++ []
def dkwX6_owedInAll_0 : List UInt8 := [3, 60, 3, 61, 28, 16, 10, 162, 0, 17, 27, 42, 28, 182, 0, 150, 96, 60, 132, 2, 1, 167, 255, 239]
abbrev dktX6_owedInAll_0 : List UInt8 := dkwX6_owedInAll_0 ++ dktX6_owedInAll_1
theorem dksX6_owedInAll_0 : cX6_owedInAll.data.toList.drop 0 = dktX6_owedInAll_0 := by decide +kernel
theorem dksX6_owedInAll_1 : cX6_owedInAll.data.toList.drop 24 = dktX6_owedInAll_1 := dk_seg dksX6_owedInAll_0 24 rfl rfl
theorem dX6_owedInAll_0 : decode cX6_owedInAll 0 = .ok (.iconst 0, 1) := dk_3 (dk_at dksX6_owedInAll_0 0 rfl rfl)
theorem dX6_owedInAll_1 : decode cX6_owedInAll 1 = .ok (.istore_n 1, 1) := dk_60 (dk_at dksX6_owedInAll_0 1 rfl rfl)
theorem dX6_owedInAll_2 : decode cX6_owedInAll 2 = .ok (.iconst 0, 1) := dk_3 (dk_at dksX6_owedInAll_0 2 rfl rfl)
theorem dX6_owedInAll_3 : decode cX6_owedInAll 3 = .ok (.istore_n 2, 1) := dk_61 (dk_at dksX6_owedInAll_0 3 rfl rfl)
theorem dX6_owedInAll_4 : decode cX6_owedInAll 4 = .ok (.iload_n 2, 1) := dk_28 (dk_at dksX6_owedInAll_0 4 rfl rfl)
theorem dX6_owedInAll_5 : decode cX6_owedInAll 5 = .ok (.bipush 10, 2) := dk_16 10 (dk_at dksX6_owedInAll_0 5 rfl rfl)
theorem dX6_owedInAll_7 : decode cX6_owedInAll 7 = .ok (.if_icmp .ge 17, 3) := dk_162 0 17 (dk_at dksX6_owedInAll_0 7 rfl rfl)
theorem dX6_owedInAll_10 : decode cX6_owedInAll 10 = .ok (.iload_n 1, 1) := dk_27 (dk_at dksX6_owedInAll_0 10 rfl rfl)
theorem dX6_owedInAll_11 : decode cX6_owedInAll 11 = .ok (.aload_n 0, 1) := dk_42 (dk_at dksX6_owedInAll_0 11 rfl rfl)
theorem dX6_owedInAll_12 : decode cX6_owedInAll 12 = .ok (.iload_n 2, 1) := dk_28 (dk_at dksX6_owedInAll_0 12 rfl rfl)
theorem dX6_owedInAll_13 : decode cX6_owedInAll 13 = .ok (.invokevirtual 150, 3) := dk_182 0 150 (dk_at dksX6_owedInAll_0 13 rfl rfl)
theorem dX6_owedInAll_16 : decode cX6_owedInAll 16 = .ok (.iadd, 1) := dk_96 (dk_at dksX6_owedInAll_0 16 rfl rfl)
theorem dX6_owedInAll_17 : decode cX6_owedInAll 17 = .ok (.istore_n 1, 1) := dk_60 (dk_at dksX6_owedInAll_0 17 rfl rfl)
theorem dX6_owedInAll_18 : decode cX6_owedInAll 18 = .ok (.iinc 2 1, 3) := dk_132 2 1 (dk_at dksX6_owedInAll_0 18 rfl rfl)
theorem dX6_owedInAll_21 : decode cX6_owedInAll 21 = .ok (.goto (-17), 3) := dk_167 255 239 (dk_at dksX6_owedInAll_0 21 rfl rfl)
theorem dX6_owedInAll_24 : decode cX6_owedInAll 24 = .ok (.iload_n 1, 1) := dk_27 (dk_at dksX6_owedInAll_1 0 rfl rfl)
theorem dX6_owedInAll_25 : decode cX6_owedInAll 25 = .ok (.ireturn, 1) := dk_172 (dk_at dksX6_owedInAll_1 1 rfl rfl)
abbrev cX6_owesAll : ByteArray := prog_20_method_13_code
def yX6_owesAll : MethodName := ⟨RX6, "owesAll", "(I)I"⟩
def dkwX6_owesAll_1 : List UInt8 := [167, 255, 238, 28, 172]
abbrev dktX6_owesAll_1 : List UInt8 := dkwX6_owesAll_1 ++ []
def dkwX6_owesAll_0 : List UInt8 := [3, 61, 3, 62, 29, 16, 10, 162, 0, 18, 28, 42, 27, 29, 182, 0, 147, 96, 61, 132, 3, 1]
abbrev dktX6_owesAll_0 : List UInt8 := dkwX6_owesAll_0 ++ dktX6_owesAll_1
theorem dksX6_owesAll_0 : cX6_owesAll.data.toList.drop 0 = dktX6_owesAll_0 := by decide +kernel
theorem dksX6_owesAll_1 : cX6_owesAll.data.toList.drop 22 = dktX6_owesAll_1 := dk_seg dksX6_owesAll_0 22 rfl rfl
theorem dX6_owesAll_0 : decode cX6_owesAll 0 = .ok (.iconst 0, 1) := dk_3 (dk_at dksX6_owesAll_0 0 rfl rfl)
theorem dX6_owesAll_1 : decode cX6_owesAll 1 = .ok (.istore_n 2, 1) := dk_61 (dk_at dksX6_owesAll_0 1 rfl rfl)
theorem dX6_owesAll_2 : decode cX6_owesAll 2 = .ok (.iconst 0, 1) := dk_3 (dk_at dksX6_owesAll_0 2 rfl rfl)
theorem dX6_owesAll_3 : decode cX6_owesAll 3 = .ok (.istore_n 3, 1) := dk_62 (dk_at dksX6_owesAll_0 3 rfl rfl)
theorem dX6_owesAll_4 : decode cX6_owesAll 4 = .ok (.iload_n 3, 1) := dk_29 (dk_at dksX6_owesAll_0 4 rfl rfl)
theorem dX6_owesAll_5 : decode cX6_owesAll 5 = .ok (.bipush 10, 2) := dk_16 10 (dk_at dksX6_owesAll_0 5 rfl rfl)
theorem dX6_owesAll_7 : decode cX6_owesAll 7 = .ok (.if_icmp .ge 18, 3) := dk_162 0 18 (dk_at dksX6_owesAll_0 7 rfl rfl)
theorem dX6_owesAll_10 : decode cX6_owesAll 10 = .ok (.iload_n 2, 1) := dk_28 (dk_at dksX6_owesAll_0 10 rfl rfl)
theorem dX6_owesAll_11 : decode cX6_owesAll 11 = .ok (.aload_n 0, 1) := dk_42 (dk_at dksX6_owesAll_0 11 rfl rfl)
theorem dX6_owesAll_12 : decode cX6_owesAll 12 = .ok (.iload_n 1, 1) := dk_27 (dk_at dksX6_owesAll_0 12 rfl rfl)
theorem dX6_owesAll_13 : decode cX6_owesAll 13 = .ok (.iload_n 3, 1) := dk_29 (dk_at dksX6_owesAll_0 13 rfl rfl)
theorem dX6_owesAll_14 : decode cX6_owesAll 14 = .ok (.invokevirtual 147, 3) := dk_182 0 147 (dk_at dksX6_owesAll_0 14 rfl rfl)
theorem dX6_owesAll_17 : decode cX6_owesAll 17 = .ok (.iadd, 1) := dk_96 (dk_at dksX6_owesAll_0 17 rfl rfl)
theorem dX6_owesAll_18 : decode cX6_owesAll 18 = .ok (.istore_n 2, 1) := dk_61 (dk_at dksX6_owesAll_0 18 rfl rfl)
theorem dX6_owesAll_19 : decode cX6_owesAll 19 = .ok (.iinc 3 1, 3) := dk_132 3 1 (dk_at dksX6_owesAll_0 19 rfl rfl)
theorem dX6_owesAll_22 : decode cX6_owesAll 22 = .ok (.goto (-18), 3) := dk_167 255 238 (dk_at dksX6_owesAll_1 0 rfl rfl)
theorem dX6_owesAll_25 : decode cX6_owesAll 25 = .ok (.iload_n 2, 1) := dk_28 (dk_at dksX6_owesAll_1 3 rfl rfl)
theorem dX6_owesAll_26 : decode cX6_owesAll 26 = .ok (.ireturn, 1) := dk_172 (dk_at dksX6_owesAll_1 4 rfl rfl)
abbrev cX6_debtOf : ByteArray := prog_20_method_12_code
def yX6_debtOf : MethodName := ⟨RX6, "debtOf", "(II)I"⟩
def dkwX6_debtOf_0 : List UInt8 := [42, 180, 0, 7, 3, 16, 10, 27, 104, 96, 28, 96, 46, 172]
abbrev dktX6_debtOf_0 : List UInt8 := dkwX6_debtOf_0 ++ []
theorem dksX6_debtOf_0 : cX6_debtOf.data.toList.drop 0 = dktX6_debtOf_0 := by decide +kernel
theorem dX6_debtOf_0 : decode cX6_debtOf 0 = .ok (.aload_n 0, 1) := dk_42 (dk_at dksX6_debtOf_0 0 rfl rfl)
theorem dX6_debtOf_1 : decode cX6_debtOf 1 = .ok (.getfield 7, 3) := dk_180 0 7 (dk_at dksX6_debtOf_0 1 rfl rfl)
theorem dX6_debtOf_4 : decode cX6_debtOf 4 = .ok (.iconst 0, 1) := dk_3 (dk_at dksX6_debtOf_0 4 rfl rfl)
theorem dX6_debtOf_5 : decode cX6_debtOf 5 = .ok (.bipush 10, 2) := dk_16 10 (dk_at dksX6_debtOf_0 5 rfl rfl)
theorem dX6_debtOf_7 : decode cX6_debtOf 7 = .ok (.iload_n 1, 1) := dk_27 (dk_at dksX6_debtOf_0 7 rfl rfl)
theorem dX6_debtOf_8 : decode cX6_debtOf 8 = .ok (.imul, 1) := dk_104 (dk_at dksX6_debtOf_0 8 rfl rfl)
theorem dX6_debtOf_9 : decode cX6_debtOf 9 = .ok (.iadd, 1) := dk_96 (dk_at dksX6_debtOf_0 9 rfl rfl)
theorem dX6_debtOf_10 : decode cX6_debtOf 10 = .ok (.iload_n 2, 1) := dk_28 (dk_at dksX6_debtOf_0 10 rfl rfl)
theorem dX6_debtOf_11 : decode cX6_debtOf 11 = .ok (.iadd, 1) := dk_96 (dk_at dksX6_debtOf_0 11 rfl rfl)
theorem dX6_debtOf_12 : decode cX6_debtOf 12 = .ok (.iaload, 1) := dk_46 (dk_at dksX6_debtOf_0 12 rfl rfl)
theorem dX6_debtOf_13 : decode cX6_debtOf 13 = .ok (.ireturn, 1) := dk_172 (dk_at dksX6_debtOf_0 13 rfl rfl)
abbrev cX6_hours : ByteArray := prog_20_method_64_code
def yX6_hours : MethodName := ⟨RX6, "hours", "(I)I"⟩
def dkwX6_hours_0 : List UInt8 := [27, 4, 17, 0, 240, 184, 0, 123, 154, 0, 5, 2, 172, 42, 27, 182, 1, 86, 42, 180, 1, 74, 172]
abbrev dktX6_hours_0 : List UInt8 := dkwX6_hours_0 ++ []
theorem dksX6_hours_0 : cX6_hours.data.toList.drop 0 = dktX6_hours_0 := by decide +kernel
theorem dX6_hours_0 : decode cX6_hours 0 = .ok (.iload_n 1, 1) := dk_27 (dk_at dksX6_hours_0 0 rfl rfl)
theorem dX6_hours_1 : decode cX6_hours 1 = .ok (.iconst 1, 1) := dk_4 (dk_at dksX6_hours_0 1 rfl rfl)
theorem dX6_hours_2 : decode cX6_hours 2 = .ok (.sipush 240, 3) := dk_17 0 240 (dk_at dksX6_hours_0 2 rfl rfl)
theorem dX6_hours_5 : decode cX6_hours 5 = .ok (.invokestatic 123, 3) := dk_184 0 123 (dk_at dksX6_hours_0 5 rfl rfl)
theorem dX6_hours_8 : decode cX6_hours 8 = .ok (.ifCond .ne 5, 3) := dk_154 0 5 (dk_at dksX6_hours_0 8 rfl rfl)
theorem dX6_hours_11 : decode cX6_hours 11 = .ok (.iconst (-1), 1) := dk_2 (dk_at dksX6_hours_0 11 rfl rfl)
theorem dX6_hours_12 : decode cX6_hours 12 = .ok (.ireturn, 1) := dk_172 (dk_at dksX6_hours_0 12 rfl rfl)
theorem dX6_hours_13 : decode cX6_hours 13 = .ok (.aload_n 0, 1) := dk_42 (dk_at dksX6_hours_0 13 rfl rfl)
theorem dX6_hours_14 : decode cX6_hours 14 = .ok (.iload_n 1, 1) := dk_27 (dk_at dksX6_hours_0 14 rfl rfl)
theorem dX6_hours_15 : decode cX6_hours 15 = .ok (.invokevirtual 342, 3) := dk_182 1 86 (dk_at dksX6_hours_0 15 rfl rfl)
theorem dX6_hours_18 : decode cX6_hours 18 = .ok (.aload_n 0, 1) := dk_42 (dk_at dksX6_hours_0 18 rfl rfl)
theorem dX6_hours_19 : decode cX6_hours 19 = .ok (.getfield 330, 3) := dk_180 1 74 (dk_at dksX6_hours_0 19 rfl rfl)
theorem dX6_hours_22 : decode cX6_hours 22 = .ok (.ireturn, 1) := dk_172 (dk_at dksX6_hours_0 22 rfl rfl)
abbrev cX6_hoursGo : ByteArray := prog_20_method_63_code
def yX6_hoursGo : MethodName := ⟨RX6, "hoursGo", "(I)V"⟩
def dkwX6_hoursGo_1 : List UInt8 := [162, 0, 13, 42, 182, 1, 83, 132, 2, 1, 167, 255, 230, 177]
abbrev dktX6_hoursGo_1 : List UInt8 := dkwX6_hoursGo_1 ++ []
def dkwX6_hoursGo_0 : List UInt8 := [42, 182, 1, 80, 3, 61, 28, 27, 162, 0, 27, 42, 180, 0, 7, 17, 0, 156, 46, 17, 39, 15]
abbrev dktX6_hoursGo_0 : List UInt8 := dkwX6_hoursGo_0 ++ dktX6_hoursGo_1
theorem dksX6_hoursGo_0 : cX6_hoursGo.data.toList.drop 0 = dktX6_hoursGo_0 := by decide +kernel
theorem dksX6_hoursGo_1 : cX6_hoursGo.data.toList.drop 22 = dktX6_hoursGo_1 := dk_seg dksX6_hoursGo_0 22 rfl rfl
theorem dX6_hoursGo_0 : decode cX6_hoursGo 0 = .ok (.aload_n 0, 1) := dk_42 (dk_at dksX6_hoursGo_0 0 rfl rfl)
theorem dX6_hoursGo_1 : decode cX6_hoursGo 1 = .ok (.invokevirtual 336, 3) := dk_182 1 80 (dk_at dksX6_hoursGo_0 1 rfl rfl)
theorem dX6_hoursGo_4 : decode cX6_hoursGo 4 = .ok (.iconst 0, 1) := dk_3 (dk_at dksX6_hoursGo_0 4 rfl rfl)
theorem dX6_hoursGo_5 : decode cX6_hoursGo 5 = .ok (.istore_n 2, 1) := dk_61 (dk_at dksX6_hoursGo_0 5 rfl rfl)
theorem dX6_hoursGo_6 : decode cX6_hoursGo 6 = .ok (.iload_n 2, 1) := dk_28 (dk_at dksX6_hoursGo_0 6 rfl rfl)
theorem dX6_hoursGo_7 : decode cX6_hoursGo 7 = .ok (.iload_n 1, 1) := dk_27 (dk_at dksX6_hoursGo_0 7 rfl rfl)
theorem dX6_hoursGo_8 : decode cX6_hoursGo 8 = .ok (.if_icmp .ge 27, 3) := dk_162 0 27 (dk_at dksX6_hoursGo_0 8 rfl rfl)
theorem dX6_hoursGo_11 : decode cX6_hoursGo 11 = .ok (.aload_n 0, 1) := dk_42 (dk_at dksX6_hoursGo_0 11 rfl rfl)
theorem dX6_hoursGo_12 : decode cX6_hoursGo 12 = .ok (.getfield 7, 3) := dk_180 0 7 (dk_at dksX6_hoursGo_0 12 rfl rfl)
theorem dX6_hoursGo_15 : decode cX6_hoursGo 15 = .ok (.sipush 156, 3) := dk_17 0 156 (dk_at dksX6_hoursGo_0 15 rfl rfl)
theorem dX6_hoursGo_18 : decode cX6_hoursGo 18 = .ok (.iaload, 1) := dk_46 (dk_at dksX6_hoursGo_0 18 rfl rfl)
theorem dX6_hoursGo_19 : decode cX6_hoursGo 19 = .ok (.sipush 9999, 3) := dk_17 39 15 (dk_at dksX6_hoursGo_0 19 rfl rfl)
theorem dX6_hoursGo_22 : decode cX6_hoursGo 22 = .ok (.if_icmp .ge 13, 3) := dk_162 0 13 (dk_at dksX6_hoursGo_1 0 rfl rfl)
theorem dX6_hoursGo_25 : decode cX6_hoursGo 25 = .ok (.aload_n 0, 1) := dk_42 (dk_at dksX6_hoursGo_1 3 rfl rfl)
theorem dX6_hoursGo_26 : decode cX6_hoursGo 26 = .ok (.invokevirtual 339, 3) := dk_182 1 83 (dk_at dksX6_hoursGo_1 4 rfl rfl)
theorem dX6_hoursGo_29 : decode cX6_hoursGo 29 = .ok (.iinc 2 1, 3) := dk_132 2 1 (dk_at dksX6_hoursGo_1 7 rfl rfl)
theorem dX6_hoursGo_32 : decode cX6_hoursGo 32 = .ok (.goto (-26), 3) := dk_167 255 230 (dk_at dksX6_hoursGo_1 10 rfl rfl)
theorem dX6_hoursGo_35 : decode cX6_hoursGo 35 = .ok (.return_, 1) := dk_177 (dk_at dksX6_hoursGo_1 13 rfl rfl)
abbrev cX6_begins : ByteArray := prog_20_method_62_code
def yX6_begins : MethodName := ⟨RX6, "begins", "()V"⟩
def dkwX6_begins_0 : List UInt8 := [42, 3, 181, 1, 74, 42, 3, 181, 1, 50, 42, 3, 181, 1, 53, 177]
abbrev dktX6_begins_0 : List UInt8 := dkwX6_begins_0 ++ []
theorem dksX6_begins_0 : cX6_begins.data.toList.drop 0 = dktX6_begins_0 := by decide +kernel
theorem dX6_begins_0 : decode cX6_begins 0 = .ok (.aload_n 0, 1) := dk_42 (dk_at dksX6_begins_0 0 rfl rfl)
theorem dX6_begins_1 : decode cX6_begins 1 = .ok (.iconst 0, 1) := dk_3 (dk_at dksX6_begins_0 1 rfl rfl)
theorem dX6_begins_2 : decode cX6_begins 2 = .ok (.putfield 330, 3) := dk_181 1 74 (dk_at dksX6_begins_0 2 rfl rfl)
theorem dX6_begins_5 : decode cX6_begins 5 = .ok (.aload_n 0, 1) := dk_42 (dk_at dksX6_begins_0 5 rfl rfl)
theorem dX6_begins_6 : decode cX6_begins 6 = .ok (.iconst 0, 1) := dk_3 (dk_at dksX6_begins_0 6 rfl rfl)
theorem dX6_begins_7 : decode cX6_begins 7 = .ok (.putfield 306, 3) := dk_181 1 50 (dk_at dksX6_begins_0 7 rfl rfl)
theorem dX6_begins_10 : decode cX6_begins 10 = .ok (.aload_n 0, 1) := dk_42 (dk_at dksX6_begins_0 10 rfl rfl)
theorem dX6_begins_11 : decode cX6_begins 11 = .ok (.iconst 0, 1) := dk_3 (dk_at dksX6_begins_0 11 rfl rfl)
theorem dX6_begins_12 : decode cX6_begins 12 = .ok (.putfield 309, 3) := dk_181 1 53 (dk_at dksX6_begins_0 12 rfl rfl)
theorem dX6_begins_15 : decode cX6_begins 15 = .ok (.return_, 1) := dk_177 (dk_at dksX6_begins_0 15 rfl rfl)
abbrev cX6_hourGoes : ByteArray := prog_20_method_61_code
def yX6_hourGoes : MethodName := ⟨RX6, "hourGoes", "()V"⟩
def dkwX6_hourGoes_7 : List UInt8 := [42, 180, 0, 7, 17, 0, 156, 42, 180, 0, 7, 17, 0, 156, 46, 4, 96, 79, 177]
abbrev dktX6_hourGoes_7 : List UInt8 := dkwX6_hourGoes_7 ++ []
def dkwX6_hourGoes_6 : List UInt8 := [79, 42, 180, 0, 7, 17, 0, 155, 46, 16, 24, 162, 0, 4, 177, 42, 180, 0, 7, 17, 0, 155, 3, 79]
abbrev dktX6_hourGoes_6 : List UInt8 := dkwX6_hourGoes_6 ++ dktX6_hourGoes_7
def dkwX6_hourGoes_5 : List UInt8 := [17, 0, 151, 46, 182, 1, 77, 42, 180, 0, 7, 17, 0, 155, 42, 180, 0, 7, 17, 0, 155, 46, 4, 96]
abbrev dktX6_hourGoes_5 : List UInt8 := dkwX6_hourGoes_5 ++ dktX6_hourGoes_6
def dkwX6_hourGoes_4 : List UInt8 := [4, 96, 181, 1, 74, 167, 0, 26, 42, 180, 0, 7, 17, 0, 151, 46, 155, 0, 15, 42, 42, 180, 0, 7]
abbrev dktX6_hourGoes_4 : List UInt8 := dkwX6_hourGoes_4 ++ dktX6_hourGoes_5
def dkwX6_hourGoes_3 : List UInt8 := [181, 1, 65, 42, 42, 180, 0, 7, 17, 0, 152, 46, 42, 180, 1, 65, 182, 1, 71, 42, 42, 180, 1, 74]
abbrev dktX6_hourGoes_3 : List UInt8 := dkwX6_hourGoes_3 ++ dktX6_hourGoes_4
def dkwX6_hourGoes_2 : List UInt8 := [46, 4, 100, 79, 42, 180, 0, 7, 17, 0, 154, 46, 154, 0, 67, 42, 42, 180, 0, 7, 17, 0, 153, 46]
abbrev dktX6_hourGoes_2 : List UInt8 := dkwX6_hourGoes_2 ++ dktX6_hourGoes_3
def dkwX6_hourGoes_1 : List UInt8 := [180, 0, 7, 17, 0, 154, 46, 158, 0, 73, 42, 180, 0, 7, 17, 0, 154, 42, 180, 0, 7, 17, 0, 154]
abbrev dktX6_hourGoes_1 : List UInt8 := dkwX6_hourGoes_1 ++ dktX6_hourGoes_2
def dkwX6_hourGoes_0 : List UInt8 := [42, 16, 254, 181, 1, 65, 42, 180, 0, 7, 17, 0, 155, 46, 154, 0, 7, 42, 182, 1, 68, 42]
abbrev dktX6_hourGoes_0 : List UInt8 := dkwX6_hourGoes_0 ++ dktX6_hourGoes_1
theorem dksX6_hourGoes_0 : cX6_hourGoes.data.toList.drop 0 = dktX6_hourGoes_0 := by decide +kernel
theorem dksX6_hourGoes_1 : cX6_hourGoes.data.toList.drop 22 = dktX6_hourGoes_1 := dk_seg dksX6_hourGoes_0 22 rfl rfl
theorem dksX6_hourGoes_2 : cX6_hourGoes.data.toList.drop 46 = dktX6_hourGoes_2 := dk_seg dksX6_hourGoes_1 24 rfl rfl
theorem dksX6_hourGoes_3 : cX6_hourGoes.data.toList.drop 70 = dktX6_hourGoes_3 := dk_seg dksX6_hourGoes_2 24 rfl rfl
theorem dksX6_hourGoes_4 : cX6_hourGoes.data.toList.drop 94 = dktX6_hourGoes_4 := dk_seg dksX6_hourGoes_3 24 rfl rfl
theorem dksX6_hourGoes_5 : cX6_hourGoes.data.toList.drop 118 = dktX6_hourGoes_5 := dk_seg dksX6_hourGoes_4 24 rfl rfl
theorem dksX6_hourGoes_6 : cX6_hourGoes.data.toList.drop 142 = dktX6_hourGoes_6 := dk_seg dksX6_hourGoes_5 24 rfl rfl
theorem dksX6_hourGoes_7 : cX6_hourGoes.data.toList.drop 166 = dktX6_hourGoes_7 := dk_seg dksX6_hourGoes_6 24 rfl rfl
theorem dX6_hourGoes_0 : decode cX6_hourGoes 0 = .ok (.aload_n 0, 1) := dk_42 (dk_at dksX6_hourGoes_0 0 rfl rfl)
theorem dX6_hourGoes_1 : decode cX6_hourGoes 1 = .ok (.bipush (-2), 2) := dk_16 254 (dk_at dksX6_hourGoes_0 1 rfl rfl)
theorem dX6_hourGoes_3 : decode cX6_hourGoes 3 = .ok (.putfield 321, 3) := dk_181 1 65 (dk_at dksX6_hourGoes_0 3 rfl rfl)
theorem dX6_hourGoes_6 : decode cX6_hourGoes 6 = .ok (.aload_n 0, 1) := dk_42 (dk_at dksX6_hourGoes_0 6 rfl rfl)
theorem dX6_hourGoes_7 : decode cX6_hourGoes 7 = .ok (.getfield 7, 3) := dk_180 0 7 (dk_at dksX6_hourGoes_0 7 rfl rfl)
theorem dX6_hourGoes_10 : decode cX6_hourGoes 10 = .ok (.sipush 155, 3) := dk_17 0 155 (dk_at dksX6_hourGoes_0 10 rfl rfl)
theorem dX6_hourGoes_13 : decode cX6_hourGoes 13 = .ok (.iaload, 1) := dk_46 (dk_at dksX6_hourGoes_0 13 rfl rfl)
theorem dX6_hourGoes_14 : decode cX6_hourGoes 14 = .ok (.ifCond .ne 7, 3) := dk_154 0 7 (dk_at dksX6_hourGoes_0 14 rfl rfl)
theorem dX6_hourGoes_17 : decode cX6_hourGoes 17 = .ok (.aload_n 0, 1) := dk_42 (dk_at dksX6_hourGoes_0 17 rfl rfl)
theorem dX6_hourGoes_18 : decode cX6_hourGoes 18 = .ok (.invokevirtual 324, 3) := dk_182 1 68 (dk_at dksX6_hourGoes_0 18 rfl rfl)
theorem dX6_hourGoes_21 : decode cX6_hourGoes 21 = .ok (.aload_n 0, 1) := dk_42 (dk_at dksX6_hourGoes_0 21 rfl rfl)
theorem dX6_hourGoes_22 : decode cX6_hourGoes 22 = .ok (.getfield 7, 3) := dk_180 0 7 (dk_at dksX6_hourGoes_1 0 rfl rfl)
theorem dX6_hourGoes_25 : decode cX6_hourGoes 25 = .ok (.sipush 154, 3) := dk_17 0 154 (dk_at dksX6_hourGoes_1 3 rfl rfl)
theorem dX6_hourGoes_28 : decode cX6_hourGoes 28 = .ok (.iaload, 1) := dk_46 (dk_at dksX6_hourGoes_1 6 rfl rfl)
theorem dX6_hourGoes_29 : decode cX6_hourGoes 29 = .ok (.ifCond .le 73, 3) := dk_158 0 73 (dk_at dksX6_hourGoes_1 7 rfl rfl)
theorem dX6_hourGoes_32 : decode cX6_hourGoes 32 = .ok (.aload_n 0, 1) := dk_42 (dk_at dksX6_hourGoes_1 10 rfl rfl)
theorem dX6_hourGoes_33 : decode cX6_hourGoes 33 = .ok (.getfield 7, 3) := dk_180 0 7 (dk_at dksX6_hourGoes_1 11 rfl rfl)
theorem dX6_hourGoes_36 : decode cX6_hourGoes 36 = .ok (.sipush 154, 3) := dk_17 0 154 (dk_at dksX6_hourGoes_1 14 rfl rfl)
theorem dX6_hourGoes_39 : decode cX6_hourGoes 39 = .ok (.aload_n 0, 1) := dk_42 (dk_at dksX6_hourGoes_1 17 rfl rfl)
theorem dX6_hourGoes_40 : decode cX6_hourGoes 40 = .ok (.getfield 7, 3) := dk_180 0 7 (dk_at dksX6_hourGoes_1 18 rfl rfl)
theorem dX6_hourGoes_43 : decode cX6_hourGoes 43 = .ok (.sipush 154, 3) := dk_17 0 154 (dk_at dksX6_hourGoes_1 21 rfl rfl)
theorem dX6_hourGoes_46 : decode cX6_hourGoes 46 = .ok (.iaload, 1) := dk_46 (dk_at dksX6_hourGoes_2 0 rfl rfl)
theorem dX6_hourGoes_47 : decode cX6_hourGoes 47 = .ok (.iconst 1, 1) := dk_4 (dk_at dksX6_hourGoes_2 1 rfl rfl)
theorem dX6_hourGoes_48 : decode cX6_hourGoes 48 = .ok (.isub, 1) := dk_100 (dk_at dksX6_hourGoes_2 2 rfl rfl)
theorem dX6_hourGoes_49 : decode cX6_hourGoes 49 = .ok (.iastore, 1) := dk_79 (dk_at dksX6_hourGoes_2 3 rfl rfl)
theorem dX6_hourGoes_50 : decode cX6_hourGoes 50 = .ok (.aload_n 0, 1) := dk_42 (dk_at dksX6_hourGoes_2 4 rfl rfl)
theorem dX6_hourGoes_51 : decode cX6_hourGoes 51 = .ok (.getfield 7, 3) := dk_180 0 7 (dk_at dksX6_hourGoes_2 5 rfl rfl)
theorem dX6_hourGoes_54 : decode cX6_hourGoes 54 = .ok (.sipush 154, 3) := dk_17 0 154 (dk_at dksX6_hourGoes_2 8 rfl rfl)
theorem dX6_hourGoes_57 : decode cX6_hourGoes 57 = .ok (.iaload, 1) := dk_46 (dk_at dksX6_hourGoes_2 11 rfl rfl)
theorem dX6_hourGoes_58 : decode cX6_hourGoes 58 = .ok (.ifCond .ne 67, 3) := dk_154 0 67 (dk_at dksX6_hourGoes_2 12 rfl rfl)
theorem dX6_hourGoes_61 : decode cX6_hourGoes 61 = .ok (.aload_n 0, 1) := dk_42 (dk_at dksX6_hourGoes_2 15 rfl rfl)
theorem dX6_hourGoes_62 : decode cX6_hourGoes 62 = .ok (.aload_n 0, 1) := dk_42 (dk_at dksX6_hourGoes_2 16 rfl rfl)
theorem dX6_hourGoes_63 : decode cX6_hourGoes 63 = .ok (.getfield 7, 3) := dk_180 0 7 (dk_at dksX6_hourGoes_2 17 rfl rfl)
theorem dX6_hourGoes_66 : decode cX6_hourGoes 66 = .ok (.sipush 153, 3) := dk_17 0 153 (dk_at dksX6_hourGoes_2 20 rfl rfl)
theorem dX6_hourGoes_69 : decode cX6_hourGoes 69 = .ok (.iaload, 1) := dk_46 (dk_at dksX6_hourGoes_2 23 rfl rfl)
theorem dX6_hourGoes_70 : decode cX6_hourGoes 70 = .ok (.putfield 321, 3) := dk_181 1 65 (dk_at dksX6_hourGoes_3 0 rfl rfl)
theorem dX6_hourGoes_73 : decode cX6_hourGoes 73 = .ok (.aload_n 0, 1) := dk_42 (dk_at dksX6_hourGoes_3 3 rfl rfl)
theorem dX6_hourGoes_74 : decode cX6_hourGoes 74 = .ok (.aload_n 0, 1) := dk_42 (dk_at dksX6_hourGoes_3 4 rfl rfl)
theorem dX6_hourGoes_75 : decode cX6_hourGoes 75 = .ok (.getfield 7, 3) := dk_180 0 7 (dk_at dksX6_hourGoes_3 5 rfl rfl)
theorem dX6_hourGoes_78 : decode cX6_hourGoes 78 = .ok (.sipush 152, 3) := dk_17 0 152 (dk_at dksX6_hourGoes_3 8 rfl rfl)
theorem dX6_hourGoes_81 : decode cX6_hourGoes 81 = .ok (.iaload, 1) := dk_46 (dk_at dksX6_hourGoes_3 11 rfl rfl)
theorem dX6_hourGoes_82 : decode cX6_hourGoes 82 = .ok (.aload_n 0, 1) := dk_42 (dk_at dksX6_hourGoes_3 12 rfl rfl)
theorem dX6_hourGoes_83 : decode cX6_hourGoes 83 = .ok (.getfield 321, 3) := dk_180 1 65 (dk_at dksX6_hourGoes_3 13 rfl rfl)
theorem dX6_hourGoes_86 : decode cX6_hourGoes 86 = .ok (.invokevirtual 327, 3) := dk_182 1 71 (dk_at dksX6_hourGoes_3 16 rfl rfl)
theorem dX6_hourGoes_89 : decode cX6_hourGoes 89 = .ok (.aload_n 0, 1) := dk_42 (dk_at dksX6_hourGoes_3 19 rfl rfl)
theorem dX6_hourGoes_90 : decode cX6_hourGoes 90 = .ok (.aload_n 0, 1) := dk_42 (dk_at dksX6_hourGoes_3 20 rfl rfl)
theorem dX6_hourGoes_91 : decode cX6_hourGoes 91 = .ok (.getfield 330, 3) := dk_180 1 74 (dk_at dksX6_hourGoes_3 21 rfl rfl)
theorem dX6_hourGoes_94 : decode cX6_hourGoes 94 = .ok (.iconst 1, 1) := dk_4 (dk_at dksX6_hourGoes_4 0 rfl rfl)
theorem dX6_hourGoes_95 : decode cX6_hourGoes 95 = .ok (.iadd, 1) := dk_96 (dk_at dksX6_hourGoes_4 1 rfl rfl)
theorem dX6_hourGoes_96 : decode cX6_hourGoes 96 = .ok (.putfield 330, 3) := dk_181 1 74 (dk_at dksX6_hourGoes_4 2 rfl rfl)
theorem dX6_hourGoes_99 : decode cX6_hourGoes 99 = .ok (.goto 26, 3) := dk_167 0 26 (dk_at dksX6_hourGoes_4 5 rfl rfl)
theorem dX6_hourGoes_102 : decode cX6_hourGoes 102 = .ok (.aload_n 0, 1) := dk_42 (dk_at dksX6_hourGoes_4 8 rfl rfl)
theorem dX6_hourGoes_103 : decode cX6_hourGoes 103 = .ok (.getfield 7, 3) := dk_180 0 7 (dk_at dksX6_hourGoes_4 9 rfl rfl)
theorem dX6_hourGoes_106 : decode cX6_hourGoes 106 = .ok (.sipush 151, 3) := dk_17 0 151 (dk_at dksX6_hourGoes_4 12 rfl rfl)
theorem dX6_hourGoes_109 : decode cX6_hourGoes 109 = .ok (.iaload, 1) := dk_46 (dk_at dksX6_hourGoes_4 15 rfl rfl)
theorem dX6_hourGoes_110 : decode cX6_hourGoes 110 = .ok (.ifCond .lt 15, 3) := dk_155 0 15 (dk_at dksX6_hourGoes_4 16 rfl rfl)
theorem dX6_hourGoes_113 : decode cX6_hourGoes 113 = .ok (.aload_n 0, 1) := dk_42 (dk_at dksX6_hourGoes_4 19 rfl rfl)
theorem dX6_hourGoes_114 : decode cX6_hourGoes 114 = .ok (.aload_n 0, 1) := dk_42 (dk_at dksX6_hourGoes_4 20 rfl rfl)
theorem dX6_hourGoes_115 : decode cX6_hourGoes 115 = .ok (.getfield 7, 3) := dk_180 0 7 (dk_at dksX6_hourGoes_4 21 rfl rfl)
theorem dX6_hourGoes_118 : decode cX6_hourGoes 118 = .ok (.sipush 151, 3) := dk_17 0 151 (dk_at dksX6_hourGoes_5 0 rfl rfl)
theorem dX6_hourGoes_121 : decode cX6_hourGoes 121 = .ok (.iaload, 1) := dk_46 (dk_at dksX6_hourGoes_5 3 rfl rfl)
theorem dX6_hourGoes_122 : decode cX6_hourGoes 122 = .ok (.invokevirtual 333, 3) := dk_182 1 77 (dk_at dksX6_hourGoes_5 4 rfl rfl)
theorem dX6_hourGoes_125 : decode cX6_hourGoes 125 = .ok (.aload_n 0, 1) := dk_42 (dk_at dksX6_hourGoes_5 7 rfl rfl)
theorem dX6_hourGoes_126 : decode cX6_hourGoes 126 = .ok (.getfield 7, 3) := dk_180 0 7 (dk_at dksX6_hourGoes_5 8 rfl rfl)
theorem dX6_hourGoes_129 : decode cX6_hourGoes 129 = .ok (.sipush 155, 3) := dk_17 0 155 (dk_at dksX6_hourGoes_5 11 rfl rfl)
theorem dX6_hourGoes_132 : decode cX6_hourGoes 132 = .ok (.aload_n 0, 1) := dk_42 (dk_at dksX6_hourGoes_5 14 rfl rfl)
theorem dX6_hourGoes_133 : decode cX6_hourGoes 133 = .ok (.getfield 7, 3) := dk_180 0 7 (dk_at dksX6_hourGoes_5 15 rfl rfl)
theorem dX6_hourGoes_136 : decode cX6_hourGoes 136 = .ok (.sipush 155, 3) := dk_17 0 155 (dk_at dksX6_hourGoes_5 18 rfl rfl)
theorem dX6_hourGoes_139 : decode cX6_hourGoes 139 = .ok (.iaload, 1) := dk_46 (dk_at dksX6_hourGoes_5 21 rfl rfl)
theorem dX6_hourGoes_140 : decode cX6_hourGoes 140 = .ok (.iconst 1, 1) := dk_4 (dk_at dksX6_hourGoes_5 22 rfl rfl)
theorem dX6_hourGoes_141 : decode cX6_hourGoes 141 = .ok (.iadd, 1) := dk_96 (dk_at dksX6_hourGoes_5 23 rfl rfl)
theorem dX6_hourGoes_142 : decode cX6_hourGoes 142 = .ok (.iastore, 1) := dk_79 (dk_at dksX6_hourGoes_6 0 rfl rfl)
theorem dX6_hourGoes_143 : decode cX6_hourGoes 143 = .ok (.aload_n 0, 1) := dk_42 (dk_at dksX6_hourGoes_6 1 rfl rfl)
theorem dX6_hourGoes_144 : decode cX6_hourGoes 144 = .ok (.getfield 7, 3) := dk_180 0 7 (dk_at dksX6_hourGoes_6 2 rfl rfl)
theorem dX6_hourGoes_147 : decode cX6_hourGoes 147 = .ok (.sipush 155, 3) := dk_17 0 155 (dk_at dksX6_hourGoes_6 5 rfl rfl)
theorem dX6_hourGoes_150 : decode cX6_hourGoes 150 = .ok (.iaload, 1) := dk_46 (dk_at dksX6_hourGoes_6 8 rfl rfl)
theorem dX6_hourGoes_151 : decode cX6_hourGoes 151 = .ok (.bipush 24, 2) := dk_16 24 (dk_at dksX6_hourGoes_6 9 rfl rfl)
theorem dX6_hourGoes_153 : decode cX6_hourGoes 153 = .ok (.if_icmp .ge 4, 3) := dk_162 0 4 (dk_at dksX6_hourGoes_6 11 rfl rfl)
theorem dX6_hourGoes_156 : decode cX6_hourGoes 156 = .ok (.return_, 1) := dk_177 (dk_at dksX6_hourGoes_6 14 rfl rfl)
theorem dX6_hourGoes_157 : decode cX6_hourGoes 157 = .ok (.aload_n 0, 1) := dk_42 (dk_at dksX6_hourGoes_6 15 rfl rfl)
theorem dX6_hourGoes_158 : decode cX6_hourGoes 158 = .ok (.getfield 7, 3) := dk_180 0 7 (dk_at dksX6_hourGoes_6 16 rfl rfl)
theorem dX6_hourGoes_161 : decode cX6_hourGoes 161 = .ok (.sipush 155, 3) := dk_17 0 155 (dk_at dksX6_hourGoes_6 19 rfl rfl)
theorem dX6_hourGoes_164 : decode cX6_hourGoes 164 = .ok (.iconst 0, 1) := dk_3 (dk_at dksX6_hourGoes_6 22 rfl rfl)
theorem dX6_hourGoes_165 : decode cX6_hourGoes 165 = .ok (.iastore, 1) := dk_79 (dk_at dksX6_hourGoes_6 23 rfl rfl)
theorem dX6_hourGoes_166 : decode cX6_hourGoes 166 = .ok (.aload_n 0, 1) := dk_42 (dk_at dksX6_hourGoes_7 0 rfl rfl)
theorem dX6_hourGoes_167 : decode cX6_hourGoes 167 = .ok (.getfield 7, 3) := dk_180 0 7 (dk_at dksX6_hourGoes_7 1 rfl rfl)
theorem dX6_hourGoes_170 : decode cX6_hourGoes 170 = .ok (.sipush 156, 3) := dk_17 0 156 (dk_at dksX6_hourGoes_7 4 rfl rfl)
theorem dX6_hourGoes_173 : decode cX6_hourGoes 173 = .ok (.aload_n 0, 1) := dk_42 (dk_at dksX6_hourGoes_7 7 rfl rfl)
theorem dX6_hourGoes_174 : decode cX6_hourGoes 174 = .ok (.getfield 7, 3) := dk_180 0 7 (dk_at dksX6_hourGoes_7 8 rfl rfl)
theorem dX6_hourGoes_177 : decode cX6_hourGoes 177 = .ok (.sipush 156, 3) := dk_17 0 156 (dk_at dksX6_hourGoes_7 11 rfl rfl)
theorem dX6_hourGoes_180 : decode cX6_hourGoes 180 = .ok (.iaload, 1) := dk_46 (dk_at dksX6_hourGoes_7 14 rfl rfl)
theorem dX6_hourGoes_181 : decode cX6_hourGoes 181 = .ok (.iconst 1, 1) := dk_4 (dk_at dksX6_hourGoes_7 15 rfl rfl)
theorem dX6_hourGoes_182 : decode cX6_hourGoes 182 = .ok (.iadd, 1) := dk_96 (dk_at dksX6_hourGoes_7 16 rfl rfl)
theorem dX6_hourGoes_183 : decode cX6_hourGoes 183 = .ok (.iastore, 1) := dk_79 (dk_at dksX6_hourGoes_7 17 rfl rfl)
theorem dX6_hourGoes_184 : decode cX6_hourGoes 184 = .ok (.return_, 1) := dk_177 (dk_at dksX6_hourGoes_7 18 rfl rfl)
abbrev cX6_dayBegins : ByteArray := prog_20_method_57_code
def yX6_dayBegins : MethodName := ⟨RX6, "dayBegins", "()V"⟩
def dkwX6_dayBegins_7 : List UInt8 := [167, 255, 177, 132, 1, 1, 167, 255, 163, 177]
abbrev dktX6_dayBegins_7 : List UInt8 := dkwX6_dayBegins_7 ++ []
def dkwX6_dayBegins_6 : List UInt8 := [182, 0, 147, 100, 181, 1, 53, 42, 180, 0, 7, 3, 16, 10, 27, 104, 96, 28, 96, 29, 79, 132, 2, 1]
abbrev dktX6_dayBegins_6 : List UInt8 := dkwX6_dayBegins_6 ++ dktX6_dayBegins_7
def dkwX6_dayBegins_5 : List UInt8 := [16, 105, 16, 9, 182, 1, 24, 96, 184, 1, 34, 62, 42, 42, 180, 1, 53, 29, 96, 42, 27, 28]
abbrev dktX6_dayBegins_5 : List UInt8 := dkwX6_dayBegins_5 ++ dktX6_dayBegins_6
def dkwX6_dayBegins_4 : List UInt8 := [182, 0, 147, 154, 0, 6, 167, 0, 61, 42, 27, 28, 182, 1, 18, 16, 99, 42, 27, 28, 182, 0, 147, 42]
abbrev dktX6_dayBegins_4 : List UInt8 := dkwX6_dayBegins_4 ++ dktX6_dayBegins_5
def dkwX6_dayBegins_3 : List UInt8 := [46, 96, 181, 1, 50, 3, 60, 27, 16, 10, 162, 0, 93, 3, 61, 28, 16, 10, 162, 0, 79, 42, 27, 28]
abbrev dktX6_dayBegins_3 : List UInt8 := dkwX6_dayBegins_3 ++ dktX6_dayBegins_4
def dkwX6_dayBegins_2 : List UInt8 := [182, 1, 47, 162, 0, 7, 4, 167, 0, 4, 3, 79, 42, 42, 180, 1, 50, 42, 180, 0, 7, 17, 0, 157]
abbrev dktX6_dayBegins_2 : List UInt8 := dkwX6_dayBegins_2 ++ dktX6_dayBegins_3
def dkwX6_dayBegins_1 : List UInt8 := [19, 1, 46, 112, 79, 42, 180, 0, 7, 17, 0, 157, 42, 180, 0, 7, 17, 0, 158, 46, 16, 10, 112, 42]
abbrev dktX6_dayBegins_1 : List UInt8 := dkwX6_dayBegins_1 ++ dktX6_dayBegins_2
def dkwX6_dayBegins_0 : List UInt8 := [42, 180, 0, 7, 17, 0, 158, 17, 98, 85, 42, 180, 0, 7, 17, 0, 158, 46, 104, 17, 54, 25, 96]
abbrev dktX6_dayBegins_0 : List UInt8 := dkwX6_dayBegins_0 ++ dktX6_dayBegins_1
theorem dksX6_dayBegins_0 : cX6_dayBegins.data.toList.drop 0 = dktX6_dayBegins_0 := by decide +kernel
theorem dksX6_dayBegins_1 : cX6_dayBegins.data.toList.drop 23 = dktX6_dayBegins_1 := dk_seg dksX6_dayBegins_0 23 rfl rfl
theorem dksX6_dayBegins_2 : cX6_dayBegins.data.toList.drop 47 = dktX6_dayBegins_2 := dk_seg dksX6_dayBegins_1 24 rfl rfl
theorem dksX6_dayBegins_3 : cX6_dayBegins.data.toList.drop 71 = dktX6_dayBegins_3 := dk_seg dksX6_dayBegins_2 24 rfl rfl
theorem dksX6_dayBegins_4 : cX6_dayBegins.data.toList.drop 95 = dktX6_dayBegins_4 := dk_seg dksX6_dayBegins_3 24 rfl rfl
theorem dksX6_dayBegins_5 : cX6_dayBegins.data.toList.drop 119 = dktX6_dayBegins_5 := dk_seg dksX6_dayBegins_4 24 rfl rfl
theorem dksX6_dayBegins_6 : cX6_dayBegins.data.toList.drop 141 = dktX6_dayBegins_6 := dk_seg dksX6_dayBegins_5 22 rfl rfl
theorem dksX6_dayBegins_7 : cX6_dayBegins.data.toList.drop 165 = dktX6_dayBegins_7 := dk_seg dksX6_dayBegins_6 24 rfl rfl
theorem dX6_dayBegins_0 : decode cX6_dayBegins 0 = .ok (.aload_n 0, 1) := dk_42 (dk_at dksX6_dayBegins_0 0 rfl rfl)
theorem dX6_dayBegins_1 : decode cX6_dayBegins 1 = .ok (.getfield 7, 3) := dk_180 0 7 (dk_at dksX6_dayBegins_0 1 rfl rfl)
theorem dX6_dayBegins_4 : decode cX6_dayBegins 4 = .ok (.sipush 158, 3) := dk_17 0 158 (dk_at dksX6_dayBegins_0 4 rfl rfl)
theorem dX6_dayBegins_7 : decode cX6_dayBegins 7 = .ok (.sipush 25173, 3) := dk_17 98 85 (dk_at dksX6_dayBegins_0 7 rfl rfl)
theorem dX6_dayBegins_10 : decode cX6_dayBegins 10 = .ok (.aload_n 0, 1) := dk_42 (dk_at dksX6_dayBegins_0 10 rfl rfl)
theorem dX6_dayBegins_11 : decode cX6_dayBegins 11 = .ok (.getfield 7, 3) := dk_180 0 7 (dk_at dksX6_dayBegins_0 11 rfl rfl)
theorem dX6_dayBegins_14 : decode cX6_dayBegins 14 = .ok (.sipush 158, 3) := dk_17 0 158 (dk_at dksX6_dayBegins_0 14 rfl rfl)
theorem dX6_dayBegins_17 : decode cX6_dayBegins 17 = .ok (.iaload, 1) := dk_46 (dk_at dksX6_dayBegins_0 17 rfl rfl)
theorem dX6_dayBegins_18 : decode cX6_dayBegins 18 = .ok (.imul, 1) := dk_104 (dk_at dksX6_dayBegins_0 18 rfl rfl)
theorem dX6_dayBegins_19 : decode cX6_dayBegins 19 = .ok (.sipush 13849, 3) := dk_17 54 25 (dk_at dksX6_dayBegins_0 19 rfl rfl)
theorem dX6_dayBegins_22 : decode cX6_dayBegins 22 = .ok (.iadd, 1) := dk_96 (dk_at dksX6_dayBegins_0 22 rfl rfl)
theorem dX6_dayBegins_23 : decode cX6_dayBegins 23 = .ok (.ldc_w 302, 3) := dk_19 1 46 (dk_at dksX6_dayBegins_1 0 rfl rfl)
theorem dX6_dayBegins_26 : decode cX6_dayBegins 26 = .ok (.irem, 1) := dk_112 (dk_at dksX6_dayBegins_1 3 rfl rfl)
theorem dX6_dayBegins_27 : decode cX6_dayBegins 27 = .ok (.iastore, 1) := dk_79 (dk_at dksX6_dayBegins_1 4 rfl rfl)
theorem dX6_dayBegins_28 : decode cX6_dayBegins 28 = .ok (.aload_n 0, 1) := dk_42 (dk_at dksX6_dayBegins_1 5 rfl rfl)
theorem dX6_dayBegins_29 : decode cX6_dayBegins 29 = .ok (.getfield 7, 3) := dk_180 0 7 (dk_at dksX6_dayBegins_1 6 rfl rfl)
theorem dX6_dayBegins_32 : decode cX6_dayBegins 32 = .ok (.sipush 157, 3) := dk_17 0 157 (dk_at dksX6_dayBegins_1 9 rfl rfl)
theorem dX6_dayBegins_35 : decode cX6_dayBegins 35 = .ok (.aload_n 0, 1) := dk_42 (dk_at dksX6_dayBegins_1 12 rfl rfl)
theorem dX6_dayBegins_36 : decode cX6_dayBegins 36 = .ok (.getfield 7, 3) := dk_180 0 7 (dk_at dksX6_dayBegins_1 13 rfl rfl)
theorem dX6_dayBegins_39 : decode cX6_dayBegins 39 = .ok (.sipush 158, 3) := dk_17 0 158 (dk_at dksX6_dayBegins_1 16 rfl rfl)
theorem dX6_dayBegins_42 : decode cX6_dayBegins 42 = .ok (.iaload, 1) := dk_46 (dk_at dksX6_dayBegins_1 19 rfl rfl)
theorem dX6_dayBegins_43 : decode cX6_dayBegins 43 = .ok (.bipush 10, 2) := dk_16 10 (dk_at dksX6_dayBegins_1 20 rfl rfl)
theorem dX6_dayBegins_45 : decode cX6_dayBegins 45 = .ok (.irem, 1) := dk_112 (dk_at dksX6_dayBegins_1 22 rfl rfl)
theorem dX6_dayBegins_46 : decode cX6_dayBegins 46 = .ok (.aload_n 0, 1) := dk_42 (dk_at dksX6_dayBegins_1 23 rfl rfl)
theorem dX6_dayBegins_47 : decode cX6_dayBegins 47 = .ok (.invokevirtual 303, 3) := dk_182 1 47 (dk_at dksX6_dayBegins_2 0 rfl rfl)
theorem dX6_dayBegins_50 : decode cX6_dayBegins 50 = .ok (.if_icmp .ge 7, 3) := dk_162 0 7 (dk_at dksX6_dayBegins_2 3 rfl rfl)
theorem dX6_dayBegins_53 : decode cX6_dayBegins 53 = .ok (.iconst 1, 1) := dk_4 (dk_at dksX6_dayBegins_2 6 rfl rfl)
theorem dX6_dayBegins_54 : decode cX6_dayBegins 54 = .ok (.goto 4, 3) := dk_167 0 4 (dk_at dksX6_dayBegins_2 7 rfl rfl)
theorem dX6_dayBegins_57 : decode cX6_dayBegins 57 = .ok (.iconst 0, 1) := dk_3 (dk_at dksX6_dayBegins_2 10 rfl rfl)
theorem dX6_dayBegins_58 : decode cX6_dayBegins 58 = .ok (.iastore, 1) := dk_79 (dk_at dksX6_dayBegins_2 11 rfl rfl)
theorem dX6_dayBegins_59 : decode cX6_dayBegins 59 = .ok (.aload_n 0, 1) := dk_42 (dk_at dksX6_dayBegins_2 12 rfl rfl)
theorem dX6_dayBegins_60 : decode cX6_dayBegins 60 = .ok (.aload_n 0, 1) := dk_42 (dk_at dksX6_dayBegins_2 13 rfl rfl)
theorem dX6_dayBegins_61 : decode cX6_dayBegins 61 = .ok (.getfield 306, 3) := dk_180 1 50 (dk_at dksX6_dayBegins_2 14 rfl rfl)
theorem dX6_dayBegins_64 : decode cX6_dayBegins 64 = .ok (.aload_n 0, 1) := dk_42 (dk_at dksX6_dayBegins_2 17 rfl rfl)
theorem dX6_dayBegins_65 : decode cX6_dayBegins 65 = .ok (.getfield 7, 3) := dk_180 0 7 (dk_at dksX6_dayBegins_2 18 rfl rfl)
theorem dX6_dayBegins_68 : decode cX6_dayBegins 68 = .ok (.sipush 157, 3) := dk_17 0 157 (dk_at dksX6_dayBegins_2 21 rfl rfl)
theorem dX6_dayBegins_71 : decode cX6_dayBegins 71 = .ok (.iaload, 1) := dk_46 (dk_at dksX6_dayBegins_3 0 rfl rfl)
theorem dX6_dayBegins_72 : decode cX6_dayBegins 72 = .ok (.iadd, 1) := dk_96 (dk_at dksX6_dayBegins_3 1 rfl rfl)
theorem dX6_dayBegins_73 : decode cX6_dayBegins 73 = .ok (.putfield 306, 3) := dk_181 1 50 (dk_at dksX6_dayBegins_3 2 rfl rfl)
theorem dX6_dayBegins_76 : decode cX6_dayBegins 76 = .ok (.iconst 0, 1) := dk_3 (dk_at dksX6_dayBegins_3 5 rfl rfl)
theorem dX6_dayBegins_77 : decode cX6_dayBegins 77 = .ok (.istore_n 1, 1) := dk_60 (dk_at dksX6_dayBegins_3 6 rfl rfl)
theorem dX6_dayBegins_78 : decode cX6_dayBegins 78 = .ok (.iload_n 1, 1) := dk_27 (dk_at dksX6_dayBegins_3 7 rfl rfl)
theorem dX6_dayBegins_79 : decode cX6_dayBegins 79 = .ok (.bipush 10, 2) := dk_16 10 (dk_at dksX6_dayBegins_3 8 rfl rfl)
theorem dX6_dayBegins_81 : decode cX6_dayBegins 81 = .ok (.if_icmp .ge 93, 3) := dk_162 0 93 (dk_at dksX6_dayBegins_3 10 rfl rfl)
theorem dX6_dayBegins_84 : decode cX6_dayBegins 84 = .ok (.iconst 0, 1) := dk_3 (dk_at dksX6_dayBegins_3 13 rfl rfl)
theorem dX6_dayBegins_85 : decode cX6_dayBegins 85 = .ok (.istore_n 2, 1) := dk_61 (dk_at dksX6_dayBegins_3 14 rfl rfl)
theorem dX6_dayBegins_86 : decode cX6_dayBegins 86 = .ok (.iload_n 2, 1) := dk_28 (dk_at dksX6_dayBegins_3 15 rfl rfl)
theorem dX6_dayBegins_87 : decode cX6_dayBegins 87 = .ok (.bipush 10, 2) := dk_16 10 (dk_at dksX6_dayBegins_3 16 rfl rfl)
theorem dX6_dayBegins_89 : decode cX6_dayBegins 89 = .ok (.if_icmp .ge 79, 3) := dk_162 0 79 (dk_at dksX6_dayBegins_3 18 rfl rfl)
theorem dX6_dayBegins_92 : decode cX6_dayBegins 92 = .ok (.aload_n 0, 1) := dk_42 (dk_at dksX6_dayBegins_3 21 rfl rfl)
theorem dX6_dayBegins_93 : decode cX6_dayBegins 93 = .ok (.iload_n 1, 1) := dk_27 (dk_at dksX6_dayBegins_3 22 rfl rfl)
theorem dX6_dayBegins_94 : decode cX6_dayBegins 94 = .ok (.iload_n 2, 1) := dk_28 (dk_at dksX6_dayBegins_3 23 rfl rfl)
theorem dX6_dayBegins_95 : decode cX6_dayBegins 95 = .ok (.invokevirtual 147, 3) := dk_182 0 147 (dk_at dksX6_dayBegins_4 0 rfl rfl)
theorem dX6_dayBegins_98 : decode cX6_dayBegins 98 = .ok (.ifCond .ne 6, 3) := dk_154 0 6 (dk_at dksX6_dayBegins_4 3 rfl rfl)
theorem dX6_dayBegins_101 : decode cX6_dayBegins 101 = .ok (.goto 61, 3) := dk_167 0 61 (dk_at dksX6_dayBegins_4 6 rfl rfl)
theorem dX6_dayBegins_104 : decode cX6_dayBegins 104 = .ok (.aload_n 0, 1) := dk_42 (dk_at dksX6_dayBegins_4 9 rfl rfl)
theorem dX6_dayBegins_105 : decode cX6_dayBegins 105 = .ok (.iload_n 1, 1) := dk_27 (dk_at dksX6_dayBegins_4 10 rfl rfl)
theorem dX6_dayBegins_106 : decode cX6_dayBegins 106 = .ok (.iload_n 2, 1) := dk_28 (dk_at dksX6_dayBegins_4 11 rfl rfl)
theorem dX6_dayBegins_107 : decode cX6_dayBegins 107 = .ok (.invokevirtual 274, 3) := dk_182 1 18 (dk_at dksX6_dayBegins_4 12 rfl rfl)
theorem dX6_dayBegins_110 : decode cX6_dayBegins 110 = .ok (.bipush 99, 2) := dk_16 99 (dk_at dksX6_dayBegins_4 15 rfl rfl)
theorem dX6_dayBegins_112 : decode cX6_dayBegins 112 = .ok (.aload_n 0, 1) := dk_42 (dk_at dksX6_dayBegins_4 17 rfl rfl)
theorem dX6_dayBegins_113 : decode cX6_dayBegins 113 = .ok (.iload_n 1, 1) := dk_27 (dk_at dksX6_dayBegins_4 18 rfl rfl)
theorem dX6_dayBegins_114 : decode cX6_dayBegins 114 = .ok (.iload_n 2, 1) := dk_28 (dk_at dksX6_dayBegins_4 19 rfl rfl)
theorem dX6_dayBegins_115 : decode cX6_dayBegins 115 = .ok (.invokevirtual 147, 3) := dk_182 0 147 (dk_at dksX6_dayBegins_4 20 rfl rfl)
theorem dX6_dayBegins_118 : decode cX6_dayBegins 118 = .ok (.aload_n 0, 1) := dk_42 (dk_at dksX6_dayBegins_4 23 rfl rfl)
theorem dX6_dayBegins_119 : decode cX6_dayBegins 119 = .ok (.bipush 105, 2) := dk_16 105 (dk_at dksX6_dayBegins_5 0 rfl rfl)
theorem dX6_dayBegins_121 : decode cX6_dayBegins 121 = .ok (.bipush 9, 2) := dk_16 9 (dk_at dksX6_dayBegins_5 2 rfl rfl)
theorem dX6_dayBegins_123 : decode cX6_dayBegins 123 = .ok (.invokevirtual 280, 3) := dk_182 1 24 (dk_at dksX6_dayBegins_5 4 rfl rfl)
theorem dX6_dayBegins_126 : decode cX6_dayBegins 126 = .ok (.iadd, 1) := dk_96 (dk_at dksX6_dayBegins_5 7 rfl rfl)
theorem dX6_dayBegins_127 : decode cX6_dayBegins 127 = .ok (.invokestatic 290, 3) := dk_184 1 34 (dk_at dksX6_dayBegins_5 8 rfl rfl)
theorem dX6_dayBegins_130 : decode cX6_dayBegins 130 = .ok (.istore_n 3, 1) := dk_62 (dk_at dksX6_dayBegins_5 11 rfl rfl)
theorem dX6_dayBegins_131 : decode cX6_dayBegins 131 = .ok (.aload_n 0, 1) := dk_42 (dk_at dksX6_dayBegins_5 12 rfl rfl)
theorem dX6_dayBegins_132 : decode cX6_dayBegins 132 = .ok (.aload_n 0, 1) := dk_42 (dk_at dksX6_dayBegins_5 13 rfl rfl)
theorem dX6_dayBegins_133 : decode cX6_dayBegins 133 = .ok (.getfield 309, 3) := dk_180 1 53 (dk_at dksX6_dayBegins_5 14 rfl rfl)
theorem dX6_dayBegins_136 : decode cX6_dayBegins 136 = .ok (.iload_n 3, 1) := dk_29 (dk_at dksX6_dayBegins_5 17 rfl rfl)
theorem dX6_dayBegins_137 : decode cX6_dayBegins 137 = .ok (.iadd, 1) := dk_96 (dk_at dksX6_dayBegins_5 18 rfl rfl)
theorem dX6_dayBegins_138 : decode cX6_dayBegins 138 = .ok (.aload_n 0, 1) := dk_42 (dk_at dksX6_dayBegins_5 19 rfl rfl)
theorem dX6_dayBegins_139 : decode cX6_dayBegins 139 = .ok (.iload_n 1, 1) := dk_27 (dk_at dksX6_dayBegins_5 20 rfl rfl)
theorem dX6_dayBegins_140 : decode cX6_dayBegins 140 = .ok (.iload_n 2, 1) := dk_28 (dk_at dksX6_dayBegins_5 21 rfl rfl)
theorem dX6_dayBegins_141 : decode cX6_dayBegins 141 = .ok (.invokevirtual 147, 3) := dk_182 0 147 (dk_at dksX6_dayBegins_6 0 rfl rfl)
theorem dX6_dayBegins_144 : decode cX6_dayBegins 144 = .ok (.isub, 1) := dk_100 (dk_at dksX6_dayBegins_6 3 rfl rfl)
theorem dX6_dayBegins_145 : decode cX6_dayBegins 145 = .ok (.putfield 309, 3) := dk_181 1 53 (dk_at dksX6_dayBegins_6 4 rfl rfl)
theorem dX6_dayBegins_148 : decode cX6_dayBegins 148 = .ok (.aload_n 0, 1) := dk_42 (dk_at dksX6_dayBegins_6 7 rfl rfl)
theorem dX6_dayBegins_149 : decode cX6_dayBegins 149 = .ok (.getfield 7, 3) := dk_180 0 7 (dk_at dksX6_dayBegins_6 8 rfl rfl)
theorem dX6_dayBegins_152 : decode cX6_dayBegins 152 = .ok (.iconst 0, 1) := dk_3 (dk_at dksX6_dayBegins_6 11 rfl rfl)
theorem dX6_dayBegins_153 : decode cX6_dayBegins 153 = .ok (.bipush 10, 2) := dk_16 10 (dk_at dksX6_dayBegins_6 12 rfl rfl)
theorem dX6_dayBegins_155 : decode cX6_dayBegins 155 = .ok (.iload_n 1, 1) := dk_27 (dk_at dksX6_dayBegins_6 14 rfl rfl)
theorem dX6_dayBegins_156 : decode cX6_dayBegins 156 = .ok (.imul, 1) := dk_104 (dk_at dksX6_dayBegins_6 15 rfl rfl)
theorem dX6_dayBegins_157 : decode cX6_dayBegins 157 = .ok (.iadd, 1) := dk_96 (dk_at dksX6_dayBegins_6 16 rfl rfl)
theorem dX6_dayBegins_158 : decode cX6_dayBegins 158 = .ok (.iload_n 2, 1) := dk_28 (dk_at dksX6_dayBegins_6 17 rfl rfl)
theorem dX6_dayBegins_159 : decode cX6_dayBegins 159 = .ok (.iadd, 1) := dk_96 (dk_at dksX6_dayBegins_6 18 rfl rfl)
theorem dX6_dayBegins_160 : decode cX6_dayBegins 160 = .ok (.iload_n 3, 1) := dk_29 (dk_at dksX6_dayBegins_6 19 rfl rfl)
theorem dX6_dayBegins_161 : decode cX6_dayBegins 161 = .ok (.iastore, 1) := dk_79 (dk_at dksX6_dayBegins_6 20 rfl rfl)
theorem dX6_dayBegins_162 : decode cX6_dayBegins 162 = .ok (.iinc 2 1, 3) := dk_132 2 1 (dk_at dksX6_dayBegins_6 21 rfl rfl)
theorem dX6_dayBegins_165 : decode cX6_dayBegins 165 = .ok (.goto (-79), 3) := dk_167 255 177 (dk_at dksX6_dayBegins_7 0 rfl rfl)
theorem dX6_dayBegins_168 : decode cX6_dayBegins 168 = .ok (.iinc 1 1, 3) := dk_132 1 1 (dk_at dksX6_dayBegins_7 3 rfl rfl)
theorem dX6_dayBegins_171 : decode cX6_dayBegins 171 = .ok (.goto (-93), 3) := dk_167 255 163 (dk_at dksX6_dayBegins_7 6 rfl rfl)
theorem dX6_dayBegins_174 : decode cX6_dayBegins 174 = .ok (.return_, 1) := dk_177 (dk_at dksX6_dayBegins_7 9 rfl rfl)
abbrev cX6_rainBy : ByteArray := prog_20_method_51_code
def yX6_rainBy : MethodName := ⟨RX6, "rainBy", "()I"⟩
def dkwX6_rainBy_0 : List UInt8 := [42, 3, 182, 1, 9, 42, 16, 114, 16, 10, 182, 1, 24, 172]
abbrev dktX6_rainBy_0 : List UInt8 := dkwX6_rainBy_0 ++ []
theorem dksX6_rainBy_0 : cX6_rainBy.data.toList.drop 0 = dktX6_rainBy_0 := by decide +kernel
theorem dX6_rainBy_0 : decode cX6_rainBy 0 = .ok (.aload_n 0, 1) := dk_42 (dk_at dksX6_rainBy_0 0 rfl rfl)
theorem dX6_rainBy_1 : decode cX6_rainBy 1 = .ok (.iconst 0, 1) := dk_3 (dk_at dksX6_rainBy_0 1 rfl rfl)
theorem dX6_rainBy_2 : decode cX6_rainBy 2 = .ok (.invokevirtual 265, 3) := dk_182 1 9 (dk_at dksX6_rainBy_0 2 rfl rfl)
theorem dX6_rainBy_5 : decode cX6_rainBy 5 = .ok (.aload_n 0, 1) := dk_42 (dk_at dksX6_rainBy_0 5 rfl rfl)
theorem dX6_rainBy_6 : decode cX6_rainBy 6 = .ok (.bipush 114, 2) := dk_16 114 (dk_at dksX6_rainBy_0 6 rfl rfl)
theorem dX6_rainBy_8 : decode cX6_rainBy 8 = .ok (.bipush 10, 2) := dk_16 10 (dk_at dksX6_rainBy_0 8 rfl rfl)
theorem dX6_rainBy_10 : decode cX6_rainBy 10 = .ok (.invokevirtual 280, 3) := dk_182 1 24 (dk_at dksX6_rainBy_0 10 rfl rfl)
theorem dX6_rainBy_13 : decode cX6_rainBy 13 = .ok (.ireturn, 1) := dk_172 (dk_at dksX6_rainBy_0 13 rfl rfl)
abbrev cX6_feels : ByteArray := prog_20_method_48_code
def yX6_feels : MethodName := ⟨RX6, "feels", "(I)V"⟩
def dkwX6_feels_1 : List UInt8 := [180, 0, 65, 16, 6, 27, 79, 42, 180, 0, 65, 16, 7, 42, 180, 0, 7, 17, 0, 156, 46, 79, 177]
abbrev dktX6_feels_1 : List UInt8 := dkwX6_feels_1 ++ []
def dkwX6_feels_0 : List UInt8 := [3, 61, 28, 16, 8, 162, 0, 16, 42, 180, 0, 65, 28, 3, 79, 132, 2, 1, 167, 255, 240, 42]
abbrev dktX6_feels_0 : List UInt8 := dkwX6_feels_0 ++ dktX6_feels_1
theorem dksX6_feels_0 : cX6_feels.data.toList.drop 0 = dktX6_feels_0 := by decide +kernel
theorem dksX6_feels_1 : cX6_feels.data.toList.drop 22 = dktX6_feels_1 := dk_seg dksX6_feels_0 22 rfl rfl
theorem dX6_feels_0 : decode cX6_feels 0 = .ok (.iconst 0, 1) := dk_3 (dk_at dksX6_feels_0 0 rfl rfl)
theorem dX6_feels_1 : decode cX6_feels 1 = .ok (.istore_n 2, 1) := dk_61 (dk_at dksX6_feels_0 1 rfl rfl)
theorem dX6_feels_2 : decode cX6_feels 2 = .ok (.iload_n 2, 1) := dk_28 (dk_at dksX6_feels_0 2 rfl rfl)
theorem dX6_feels_3 : decode cX6_feels 3 = .ok (.bipush 8, 2) := dk_16 8 (dk_at dksX6_feels_0 3 rfl rfl)
theorem dX6_feels_5 : decode cX6_feels 5 = .ok (.if_icmp .ge 16, 3) := dk_162 0 16 (dk_at dksX6_feels_0 5 rfl rfl)
theorem dX6_feels_8 : decode cX6_feels 8 = .ok (.aload_n 0, 1) := dk_42 (dk_at dksX6_feels_0 8 rfl rfl)
theorem dX6_feels_9 : decode cX6_feels 9 = .ok (.getfield 65, 3) := dk_180 0 65 (dk_at dksX6_feels_0 9 rfl rfl)
theorem dX6_feels_12 : decode cX6_feels 12 = .ok (.iload_n 2, 1) := dk_28 (dk_at dksX6_feels_0 12 rfl rfl)
theorem dX6_feels_13 : decode cX6_feels 13 = .ok (.iconst 0, 1) := dk_3 (dk_at dksX6_feels_0 13 rfl rfl)
theorem dX6_feels_14 : decode cX6_feels 14 = .ok (.iastore, 1) := dk_79 (dk_at dksX6_feels_0 14 rfl rfl)
theorem dX6_feels_15 : decode cX6_feels 15 = .ok (.iinc 2 1, 3) := dk_132 2 1 (dk_at dksX6_feels_0 15 rfl rfl)
theorem dX6_feels_18 : decode cX6_feels 18 = .ok (.goto (-16), 3) := dk_167 255 240 (dk_at dksX6_feels_0 18 rfl rfl)
theorem dX6_feels_21 : decode cX6_feels 21 = .ok (.aload_n 0, 1) := dk_42 (dk_at dksX6_feels_0 21 rfl rfl)
theorem dX6_feels_22 : decode cX6_feels 22 = .ok (.getfield 65, 3) := dk_180 0 65 (dk_at dksX6_feels_1 0 rfl rfl)
theorem dX6_feels_25 : decode cX6_feels 25 = .ok (.bipush 6, 2) := dk_16 6 (dk_at dksX6_feels_1 3 rfl rfl)
theorem dX6_feels_27 : decode cX6_feels 27 = .ok (.iload_n 1, 1) := dk_27 (dk_at dksX6_feels_1 5 rfl rfl)
theorem dX6_feels_28 : decode cX6_feels 28 = .ok (.iastore, 1) := dk_79 (dk_at dksX6_feels_1 6 rfl rfl)
theorem dX6_feels_29 : decode cX6_feels 29 = .ok (.aload_n 0, 1) := dk_42 (dk_at dksX6_feels_1 7 rfl rfl)
theorem dX6_feels_30 : decode cX6_feels 30 = .ok (.getfield 65, 3) := dk_180 0 65 (dk_at dksX6_feels_1 8 rfl rfl)
theorem dX6_feels_33 : decode cX6_feels 33 = .ok (.bipush 7, 2) := dk_16 7 (dk_at dksX6_feels_1 11 rfl rfl)
theorem dX6_feels_35 : decode cX6_feels 35 = .ok (.aload_n 0, 1) := dk_42 (dk_at dksX6_feels_1 13 rfl rfl)
theorem dX6_feels_36 : decode cX6_feels 36 = .ok (.getfield 7, 3) := dk_180 0 7 (dk_at dksX6_feels_1 14 rfl rfl)
theorem dX6_feels_39 : decode cX6_feels 39 = .ok (.sipush 156, 3) := dk_17 0 156 (dk_at dksX6_feels_1 17 rfl rfl)
theorem dX6_feels_42 : decode cX6_feels 42 = .ok (.iaload, 1) := dk_46 (dk_at dksX6_feels_1 20 rfl rfl)
theorem dX6_feels_43 : decode cX6_feels 43 = .ok (.iastore, 1) := dk_79 (dk_at dksX6_feels_1 21 rfl rfl)
theorem dX6_feels_44 : decode cX6_feels 44 = .ok (.return_, 1) := dk_177 (dk_at dksX6_feels_1 22 rfl rfl)
abbrev cX6_byLaw : ByteArray := prog_20_method_45_code
def yX6_byLaw : MethodName := ⟨RX6, "byLaw", "(II)I"⟩
def dkwX6_byLaw_3 : List UInt8 := [167, 0, 15, 21, 4, 28, 164, 0, 7, 28, 167, 0, 5, 21, 4, 172, 132, 3, 1, 167, 255, 172, 3, 172]
abbrev dktX6_byLaw_3 : List UInt8 := dkwX6_byLaw_3 ++ []
def dkwX6_byLaw_2 : List UInt8 := [180, 0, 53, 29, 46, 42, 180, 0, 56, 29, 46, 182, 1, 6, 54, 4, 21, 4, 156, 0, 7, 3]
abbrev dktX6_byLaw_2 : List UInt8 := dkwX6_byLaw_2 ++ dktX6_byLaw_3
def dkwX6_byLaw_1 : List UInt8 := [180, 0, 56, 29, 46, 42, 180, 0, 59, 29, 46, 182, 1, 6, 4, 159, 0, 6, 167, 0, 43, 42, 42]
abbrev dktX6_byLaw_1 : List UInt8 := dkwX6_byLaw_1 ++ dktX6_byLaw_2
def dkwX6_byLaw_0 : List UInt8 := [3, 62, 29, 42, 180, 0, 255, 162, 0, 82, 42, 180, 0, 50, 29, 46, 27, 160, 0, 66, 42, 42]
abbrev dktX6_byLaw_0 : List UInt8 := dkwX6_byLaw_0 ++ dktX6_byLaw_1
theorem dksX6_byLaw_0 : cX6_byLaw.data.toList.drop 0 = dktX6_byLaw_0 := by decide +kernel
theorem dksX6_byLaw_1 : cX6_byLaw.data.toList.drop 22 = dktX6_byLaw_1 := dk_seg dksX6_byLaw_0 22 rfl rfl
theorem dksX6_byLaw_2 : cX6_byLaw.data.toList.drop 45 = dktX6_byLaw_2 := dk_seg dksX6_byLaw_1 23 rfl rfl
theorem dksX6_byLaw_3 : cX6_byLaw.data.toList.drop 67 = dktX6_byLaw_3 := dk_seg dksX6_byLaw_2 22 rfl rfl
theorem dX6_byLaw_0 : decode cX6_byLaw 0 = .ok (.iconst 0, 1) := dk_3 (dk_at dksX6_byLaw_0 0 rfl rfl)
theorem dX6_byLaw_1 : decode cX6_byLaw 1 = .ok (.istore_n 3, 1) := dk_62 (dk_at dksX6_byLaw_0 1 rfl rfl)
theorem dX6_byLaw_2 : decode cX6_byLaw 2 = .ok (.iload_n 3, 1) := dk_29 (dk_at dksX6_byLaw_0 2 rfl rfl)
theorem dX6_byLaw_3 : decode cX6_byLaw 3 = .ok (.aload_n 0, 1) := dk_42 (dk_at dksX6_byLaw_0 3 rfl rfl)
theorem dX6_byLaw_4 : decode cX6_byLaw 4 = .ok (.getfield 255, 3) := dk_180 0 255 (dk_at dksX6_byLaw_0 4 rfl rfl)
theorem dX6_byLaw_7 : decode cX6_byLaw 7 = .ok (.if_icmp .ge 82, 3) := dk_162 0 82 (dk_at dksX6_byLaw_0 7 rfl rfl)
theorem dX6_byLaw_10 : decode cX6_byLaw 10 = .ok (.aload_n 0, 1) := dk_42 (dk_at dksX6_byLaw_0 10 rfl rfl)
theorem dX6_byLaw_11 : decode cX6_byLaw 11 = .ok (.getfield 50, 3) := dk_180 0 50 (dk_at dksX6_byLaw_0 11 rfl rfl)
theorem dX6_byLaw_14 : decode cX6_byLaw 14 = .ok (.iload_n 3, 1) := dk_29 (dk_at dksX6_byLaw_0 14 rfl rfl)
theorem dX6_byLaw_15 : decode cX6_byLaw 15 = .ok (.iaload, 1) := dk_46 (dk_at dksX6_byLaw_0 15 rfl rfl)
theorem dX6_byLaw_16 : decode cX6_byLaw 16 = .ok (.iload_n 1, 1) := dk_27 (dk_at dksX6_byLaw_0 16 rfl rfl)
theorem dX6_byLaw_17 : decode cX6_byLaw 17 = .ok (.if_icmp .ne 66, 3) := dk_160 0 66 (dk_at dksX6_byLaw_0 17 rfl rfl)
theorem dX6_byLaw_20 : decode cX6_byLaw 20 = .ok (.aload_n 0, 1) := dk_42 (dk_at dksX6_byLaw_0 20 rfl rfl)
theorem dX6_byLaw_21 : decode cX6_byLaw 21 = .ok (.aload_n 0, 1) := dk_42 (dk_at dksX6_byLaw_0 21 rfl rfl)
theorem dX6_byLaw_22 : decode cX6_byLaw 22 = .ok (.getfield 56, 3) := dk_180 0 56 (dk_at dksX6_byLaw_1 0 rfl rfl)
theorem dX6_byLaw_25 : decode cX6_byLaw 25 = .ok (.iload_n 3, 1) := dk_29 (dk_at dksX6_byLaw_1 3 rfl rfl)
theorem dX6_byLaw_26 : decode cX6_byLaw 26 = .ok (.iaload, 1) := dk_46 (dk_at dksX6_byLaw_1 4 rfl rfl)
theorem dX6_byLaw_27 : decode cX6_byLaw 27 = .ok (.aload_n 0, 1) := dk_42 (dk_at dksX6_byLaw_1 5 rfl rfl)
theorem dX6_byLaw_28 : decode cX6_byLaw 28 = .ok (.getfield 59, 3) := dk_180 0 59 (dk_at dksX6_byLaw_1 6 rfl rfl)
theorem dX6_byLaw_31 : decode cX6_byLaw 31 = .ok (.iload_n 3, 1) := dk_29 (dk_at dksX6_byLaw_1 9 rfl rfl)
theorem dX6_byLaw_32 : decode cX6_byLaw 32 = .ok (.iaload, 1) := dk_46 (dk_at dksX6_byLaw_1 10 rfl rfl)
theorem dX6_byLaw_33 : decode cX6_byLaw 33 = .ok (.invokevirtual 262, 3) := dk_182 1 6 (dk_at dksX6_byLaw_1 11 rfl rfl)
theorem dX6_byLaw_36 : decode cX6_byLaw 36 = .ok (.iconst 1, 1) := dk_4 (dk_at dksX6_byLaw_1 14 rfl rfl)
theorem dX6_byLaw_37 : decode cX6_byLaw 37 = .ok (.if_icmp .eq 6, 3) := dk_159 0 6 (dk_at dksX6_byLaw_1 15 rfl rfl)
theorem dX6_byLaw_40 : decode cX6_byLaw 40 = .ok (.goto 43, 3) := dk_167 0 43 (dk_at dksX6_byLaw_1 18 rfl rfl)
theorem dX6_byLaw_43 : decode cX6_byLaw 43 = .ok (.aload_n 0, 1) := dk_42 (dk_at dksX6_byLaw_1 21 rfl rfl)
theorem dX6_byLaw_44 : decode cX6_byLaw 44 = .ok (.aload_n 0, 1) := dk_42 (dk_at dksX6_byLaw_1 22 rfl rfl)
theorem dX6_byLaw_45 : decode cX6_byLaw 45 = .ok (.getfield 53, 3) := dk_180 0 53 (dk_at dksX6_byLaw_2 0 rfl rfl)
theorem dX6_byLaw_48 : decode cX6_byLaw 48 = .ok (.iload_n 3, 1) := dk_29 (dk_at dksX6_byLaw_2 3 rfl rfl)
theorem dX6_byLaw_49 : decode cX6_byLaw 49 = .ok (.iaload, 1) := dk_46 (dk_at dksX6_byLaw_2 4 rfl rfl)
theorem dX6_byLaw_50 : decode cX6_byLaw 50 = .ok (.aload_n 0, 1) := dk_42 (dk_at dksX6_byLaw_2 5 rfl rfl)
theorem dX6_byLaw_51 : decode cX6_byLaw 51 = .ok (.getfield 56, 3) := dk_180 0 56 (dk_at dksX6_byLaw_2 6 rfl rfl)
theorem dX6_byLaw_54 : decode cX6_byLaw 54 = .ok (.iload_n 3, 1) := dk_29 (dk_at dksX6_byLaw_2 9 rfl rfl)
theorem dX6_byLaw_55 : decode cX6_byLaw 55 = .ok (.iaload, 1) := dk_46 (dk_at dksX6_byLaw_2 10 rfl rfl)
theorem dX6_byLaw_56 : decode cX6_byLaw 56 = .ok (.invokevirtual 262, 3) := dk_182 1 6 (dk_at dksX6_byLaw_2 11 rfl rfl)
theorem dX6_byLaw_59 : decode cX6_byLaw 59 = .ok (.istore 4, 2) := dk_54 4 (dk_at dksX6_byLaw_2 14 rfl rfl)
theorem dX6_byLaw_61 : decode cX6_byLaw 61 = .ok (.iload 4, 2) := dk_21 4 (dk_at dksX6_byLaw_2 16 rfl rfl)
theorem dX6_byLaw_63 : decode cX6_byLaw 63 = .ok (.ifCond .ge 7, 3) := dk_156 0 7 (dk_at dksX6_byLaw_2 18 rfl rfl)
theorem dX6_byLaw_66 : decode cX6_byLaw 66 = .ok (.iconst 0, 1) := dk_3 (dk_at dksX6_byLaw_2 21 rfl rfl)
theorem dX6_byLaw_67 : decode cX6_byLaw 67 = .ok (.goto 15, 3) := dk_167 0 15 (dk_at dksX6_byLaw_3 0 rfl rfl)
theorem dX6_byLaw_70 : decode cX6_byLaw 70 = .ok (.iload 4, 2) := dk_21 4 (dk_at dksX6_byLaw_3 3 rfl rfl)
theorem dX6_byLaw_72 : decode cX6_byLaw 72 = .ok (.iload_n 2, 1) := dk_28 (dk_at dksX6_byLaw_3 5 rfl rfl)
theorem dX6_byLaw_73 : decode cX6_byLaw 73 = .ok (.if_icmp .le 7, 3) := dk_164 0 7 (dk_at dksX6_byLaw_3 6 rfl rfl)
theorem dX6_byLaw_76 : decode cX6_byLaw 76 = .ok (.iload_n 2, 1) := dk_28 (dk_at dksX6_byLaw_3 9 rfl rfl)
theorem dX6_byLaw_77 : decode cX6_byLaw 77 = .ok (.goto 5, 3) := dk_167 0 5 (dk_at dksX6_byLaw_3 10 rfl rfl)
theorem dX6_byLaw_80 : decode cX6_byLaw 80 = .ok (.iload 4, 2) := dk_21 4 (dk_at dksX6_byLaw_3 13 rfl rfl)
theorem dX6_byLaw_82 : decode cX6_byLaw 82 = .ok (.ireturn, 1) := dk_172 (dk_at dksX6_byLaw_3 15 rfl rfl)
theorem dX6_byLaw_83 : decode cX6_byLaw 83 = .ok (.iinc 3 1, 3) := dk_132 3 1 (dk_at dksX6_byLaw_3 16 rfl rfl)
theorem dX6_byLaw_86 : decode cX6_byLaw 86 = .ok (.goto (-84), 3) := dk_167 255 172 (dk_at dksX6_byLaw_3 19 rfl rfl)
theorem dX6_byLaw_89 : decode cX6_byLaw 89 = .ok (.iconst 0, 1) := dk_3 (dk_at dksX6_byLaw_3 22 rfl rfl)
theorem dX6_byLaw_90 : decode cX6_byLaw 90 = .ok (.ireturn, 1) := dk_172 (dk_at dksX6_byLaw_3 23 rfl rfl)
abbrev cX6_comesTo : ByteArray := prog_20_method_44_code
def yX6_comesTo : MethodName := ⟨RX6, "comesTo", "(II)I"⟩
def dkwX6_comesTo_10 : List UInt8 := [3, 46, 172]
abbrev dktX6_comesTo_10 : List UInt8 := dkwX6_comesTo_10 ++ []
def dkwX6_comesTo_9 : List UInt8 := [180, 0, 62, 29, 4, 100, 46, 42, 180, 0, 62, 29, 46, 184, 1, 2, 79, 167, 255, 42, 42, 180, 0, 62]
abbrev dktX6_comesTo_9 : List UInt8 := dkwX6_comesTo_9 ++ dktX6_comesTo_10
def dkwX6_comesTo_8 : List UInt8 := [160, 0, 14, 42, 180, 0, 62, 29, 46, 154, 0, 5, 3, 172, 42, 180, 0, 62, 29, 4, 100, 21, 6, 42]
abbrev dktX6_comesTo_8 : List UInt8 := dkwX6_comesTo_8 ++ dktX6_comesTo_9
def dkwX6_comesTo_7 : List UInt8 := [167, 0, 65, 29, 4, 100, 62, 167, 0, 58, 29, 4, 100, 62, 21, 6, 8, 159, 0, 10, 21, 6, 16, 6]
abbrev dktX6_comesTo_7 : List UInt8 := dkwX6_comesTo_7 ++ dktX6_comesTo_8
def dkwX6_comesTo_6 : List UInt8 := [100, 46, 21, 6, 16, 12, 160, 0, 7, 4, 167, 0, 4, 3, 160, 0, 13, 21, 4, 21, 7, 96, 54, 5]
abbrev dktX6_comesTo_6 : List UInt8 := dkwX6_comesTo_6 ++ dktX6_comesTo_7
def dkwX6_comesTo_5 : List UInt8 := [79, 167, 0, 112, 21, 6, 16, 11, 159, 0, 10, 21, 6, 16, 12, 160, 0, 43, 42, 180, 0, 62, 29, 4]
abbrev dktX6_comesTo_5 : List UInt8 := dkwX6_comesTo_5 ++ dktX6_comesTo_6
def dkwX6_comesTo_4 : List UInt8 := [21, 6, 16, 10, 160, 0, 24, 42, 180, 0, 62, 29, 4, 100, 4, 42, 180, 0, 62, 29, 4, 100, 46, 100]
abbrev dktX6_comesTo_4 : List UInt8 := dkwX6_comesTo_4 ++ dktX6_comesTo_5
def dkwX6_comesTo_3 : List UInt8 := [154, 0, 8, 21, 7, 167, 0, 10, 42, 180, 0, 65, 21, 7, 46, 79, 29, 4, 96, 62, 167, 0, 140]
abbrev dktX6_comesTo_3 : List UInt8 := dkwX6_comesTo_3 ++ dktX6_comesTo_4
def dkwX6_comesTo_2 : List UInt8 := [21, 5, 4, 96, 54, 5, 21, 6, 153, 0, 9, 21, 6, 4, 160, 0, 33, 42, 180, 0, 62, 29, 21, 6]
abbrev dktX6_comesTo_2 : List UInt8 := dkwX6_comesTo_2 ++ dktX6_comesTo_3
def dkwX6_comesTo_1 : List UInt8 := [180, 0, 47, 21, 5, 46, 18, 192, 108, 54, 6, 42, 180, 0, 47, 21, 5, 46, 18, 192, 112, 54, 7]
abbrev dktX6_comesTo_1 : List UInt8 := dkwX6_comesTo_1 ++ dktX6_comesTo_2
def dkwX6_comesTo_0 : List UInt8 := [3, 62, 17, 1, 4, 27, 17, 1, 4, 108, 104, 54, 4, 27, 54, 5, 21, 5, 28, 162, 0, 214, 42]
abbrev dktX6_comesTo_0 : List UInt8 := dkwX6_comesTo_0 ++ dktX6_comesTo_1
theorem dksX6_comesTo_0 : cX6_comesTo.data.toList.drop 0 = dktX6_comesTo_0 := by decide +kernel
theorem dksX6_comesTo_1 : cX6_comesTo.data.toList.drop 23 = dktX6_comesTo_1 := dk_seg dksX6_comesTo_0 23 rfl rfl
theorem dksX6_comesTo_2 : cX6_comesTo.data.toList.drop 46 = dktX6_comesTo_2 := dk_seg dksX6_comesTo_1 23 rfl rfl
theorem dksX6_comesTo_3 : cX6_comesTo.data.toList.drop 70 = dktX6_comesTo_3 := dk_seg dksX6_comesTo_2 24 rfl rfl
theorem dksX6_comesTo_4 : cX6_comesTo.data.toList.drop 93 = dktX6_comesTo_4 := dk_seg dksX6_comesTo_3 23 rfl rfl
theorem dksX6_comesTo_5 : cX6_comesTo.data.toList.drop 117 = dktX6_comesTo_5 := dk_seg dksX6_comesTo_4 24 rfl rfl
theorem dksX6_comesTo_6 : cX6_comesTo.data.toList.drop 141 = dktX6_comesTo_6 := dk_seg dksX6_comesTo_5 24 rfl rfl
theorem dksX6_comesTo_7 : cX6_comesTo.data.toList.drop 165 = dktX6_comesTo_7 := dk_seg dksX6_comesTo_6 24 rfl rfl
theorem dksX6_comesTo_8 : cX6_comesTo.data.toList.drop 189 = dktX6_comesTo_8 := dk_seg dksX6_comesTo_7 24 rfl rfl
theorem dksX6_comesTo_9 : cX6_comesTo.data.toList.drop 213 = dktX6_comesTo_9 := dk_seg dksX6_comesTo_8 24 rfl rfl
theorem dksX6_comesTo_10 : cX6_comesTo.data.toList.drop 237 = dktX6_comesTo_10 := dk_seg dksX6_comesTo_9 24 rfl rfl
theorem dX6_comesTo_0 : decode cX6_comesTo 0 = .ok (.iconst 0, 1) := dk_3 (dk_at dksX6_comesTo_0 0 rfl rfl)
theorem dX6_comesTo_1 : decode cX6_comesTo 1 = .ok (.istore_n 3, 1) := dk_62 (dk_at dksX6_comesTo_0 1 rfl rfl)
theorem dX6_comesTo_2 : decode cX6_comesTo 2 = .ok (.sipush 260, 3) := dk_17 1 4 (dk_at dksX6_comesTo_0 2 rfl rfl)
theorem dX6_comesTo_5 : decode cX6_comesTo 5 = .ok (.iload_n 1, 1) := dk_27 (dk_at dksX6_comesTo_0 5 rfl rfl)
theorem dX6_comesTo_6 : decode cX6_comesTo 6 = .ok (.sipush 260, 3) := dk_17 1 4 (dk_at dksX6_comesTo_0 6 rfl rfl)
theorem dX6_comesTo_9 : decode cX6_comesTo 9 = .ok (.idiv, 1) := dk_108 (dk_at dksX6_comesTo_0 9 rfl rfl)
theorem dX6_comesTo_10 : decode cX6_comesTo 10 = .ok (.imul, 1) := dk_104 (dk_at dksX6_comesTo_0 10 rfl rfl)
theorem dX6_comesTo_11 : decode cX6_comesTo 11 = .ok (.istore 4, 2) := dk_54 4 (dk_at dksX6_comesTo_0 11 rfl rfl)
theorem dX6_comesTo_13 : decode cX6_comesTo 13 = .ok (.iload_n 1, 1) := dk_27 (dk_at dksX6_comesTo_0 13 rfl rfl)
theorem dX6_comesTo_14 : decode cX6_comesTo 14 = .ok (.istore 5, 2) := dk_54 5 (dk_at dksX6_comesTo_0 14 rfl rfl)
theorem dX6_comesTo_16 : decode cX6_comesTo 16 = .ok (.iload 5, 2) := dk_21 5 (dk_at dksX6_comesTo_0 16 rfl rfl)
theorem dX6_comesTo_18 : decode cX6_comesTo 18 = .ok (.iload_n 2, 1) := dk_28 (dk_at dksX6_comesTo_0 18 rfl rfl)
theorem dX6_comesTo_19 : decode cX6_comesTo 19 = .ok (.if_icmp .ge 214, 3) := dk_162 0 214 (dk_at dksX6_comesTo_0 19 rfl rfl)
theorem dX6_comesTo_22 : decode cX6_comesTo 22 = .ok (.aload_n 0, 1) := dk_42 (dk_at dksX6_comesTo_0 22 rfl rfl)
theorem dX6_comesTo_23 : decode cX6_comesTo 23 = .ok (.getfield 47, 3) := dk_180 0 47 (dk_at dksX6_comesTo_1 0 rfl rfl)
theorem dX6_comesTo_26 : decode cX6_comesTo 26 = .ok (.iload 5, 2) := dk_21 5 (dk_at dksX6_comesTo_1 3 rfl rfl)
theorem dX6_comesTo_28 : decode cX6_comesTo 28 = .ok (.iaload, 1) := dk_46 (dk_at dksX6_comesTo_1 5 rfl rfl)
theorem dX6_comesTo_29 : decode cX6_comesTo 29 = .ok (.ldc 192, 2) := dk_18 192 (dk_at dksX6_comesTo_1 6 rfl rfl)
theorem dX6_comesTo_31 : decode cX6_comesTo 31 = .ok (.idiv, 1) := dk_108 (dk_at dksX6_comesTo_1 8 rfl rfl)
theorem dX6_comesTo_32 : decode cX6_comesTo 32 = .ok (.istore 6, 2) := dk_54 6 (dk_at dksX6_comesTo_1 9 rfl rfl)
theorem dX6_comesTo_34 : decode cX6_comesTo 34 = .ok (.aload_n 0, 1) := dk_42 (dk_at dksX6_comesTo_1 11 rfl rfl)
theorem dX6_comesTo_35 : decode cX6_comesTo 35 = .ok (.getfield 47, 3) := dk_180 0 47 (dk_at dksX6_comesTo_1 12 rfl rfl)
theorem dX6_comesTo_38 : decode cX6_comesTo 38 = .ok (.iload 5, 2) := dk_21 5 (dk_at dksX6_comesTo_1 15 rfl rfl)
theorem dX6_comesTo_40 : decode cX6_comesTo 40 = .ok (.iaload, 1) := dk_46 (dk_at dksX6_comesTo_1 17 rfl rfl)
theorem dX6_comesTo_41 : decode cX6_comesTo 41 = .ok (.ldc 192, 2) := dk_18 192 (dk_at dksX6_comesTo_1 18 rfl rfl)
theorem dX6_comesTo_43 : decode cX6_comesTo 43 = .ok (.irem, 1) := dk_112 (dk_at dksX6_comesTo_1 20 rfl rfl)
theorem dX6_comesTo_44 : decode cX6_comesTo 44 = .ok (.istore 7, 2) := dk_54 7 (dk_at dksX6_comesTo_1 21 rfl rfl)
theorem dX6_comesTo_46 : decode cX6_comesTo 46 = .ok (.iload 5, 2) := dk_21 5 (dk_at dksX6_comesTo_2 0 rfl rfl)
theorem dX6_comesTo_48 : decode cX6_comesTo 48 = .ok (.iconst 1, 1) := dk_4 (dk_at dksX6_comesTo_2 2 rfl rfl)
theorem dX6_comesTo_49 : decode cX6_comesTo 49 = .ok (.iadd, 1) := dk_96 (dk_at dksX6_comesTo_2 3 rfl rfl)
theorem dX6_comesTo_50 : decode cX6_comesTo 50 = .ok (.istore 5, 2) := dk_54 5 (dk_at dksX6_comesTo_2 4 rfl rfl)
theorem dX6_comesTo_52 : decode cX6_comesTo 52 = .ok (.iload 6, 2) := dk_21 6 (dk_at dksX6_comesTo_2 6 rfl rfl)
theorem dX6_comesTo_54 : decode cX6_comesTo 54 = .ok (.ifCond .eq 9, 3) := dk_153 0 9 (dk_at dksX6_comesTo_2 8 rfl rfl)
theorem dX6_comesTo_57 : decode cX6_comesTo 57 = .ok (.iload 6, 2) := dk_21 6 (dk_at dksX6_comesTo_2 11 rfl rfl)
theorem dX6_comesTo_59 : decode cX6_comesTo 59 = .ok (.iconst 1, 1) := dk_4 (dk_at dksX6_comesTo_2 13 rfl rfl)
theorem dX6_comesTo_60 : decode cX6_comesTo 60 = .ok (.if_icmp .ne 33, 3) := dk_160 0 33 (dk_at dksX6_comesTo_2 14 rfl rfl)
theorem dX6_comesTo_63 : decode cX6_comesTo 63 = .ok (.aload_n 0, 1) := dk_42 (dk_at dksX6_comesTo_2 17 rfl rfl)
theorem dX6_comesTo_64 : decode cX6_comesTo 64 = .ok (.getfield 62, 3) := dk_180 0 62 (dk_at dksX6_comesTo_2 18 rfl rfl)
theorem dX6_comesTo_67 : decode cX6_comesTo 67 = .ok (.iload_n 3, 1) := dk_29 (dk_at dksX6_comesTo_2 21 rfl rfl)
theorem dX6_comesTo_68 : decode cX6_comesTo 68 = .ok (.iload 6, 2) := dk_21 6 (dk_at dksX6_comesTo_2 22 rfl rfl)
theorem dX6_comesTo_70 : decode cX6_comesTo 70 = .ok (.ifCond .ne 8, 3) := dk_154 0 8 (dk_at dksX6_comesTo_3 0 rfl rfl)
theorem dX6_comesTo_73 : decode cX6_comesTo 73 = .ok (.iload 7, 2) := dk_21 7 (dk_at dksX6_comesTo_3 3 rfl rfl)
theorem dX6_comesTo_75 : decode cX6_comesTo 75 = .ok (.goto 10, 3) := dk_167 0 10 (dk_at dksX6_comesTo_3 5 rfl rfl)
theorem dX6_comesTo_78 : decode cX6_comesTo 78 = .ok (.aload_n 0, 1) := dk_42 (dk_at dksX6_comesTo_3 8 rfl rfl)
theorem dX6_comesTo_79 : decode cX6_comesTo 79 = .ok (.getfield 65, 3) := dk_180 0 65 (dk_at dksX6_comesTo_3 9 rfl rfl)
theorem dX6_comesTo_82 : decode cX6_comesTo 82 = .ok (.iload 7, 2) := dk_21 7 (dk_at dksX6_comesTo_3 12 rfl rfl)
theorem dX6_comesTo_84 : decode cX6_comesTo 84 = .ok (.iaload, 1) := dk_46 (dk_at dksX6_comesTo_3 14 rfl rfl)
theorem dX6_comesTo_85 : decode cX6_comesTo 85 = .ok (.iastore, 1) := dk_79 (dk_at dksX6_comesTo_3 15 rfl rfl)
theorem dX6_comesTo_86 : decode cX6_comesTo 86 = .ok (.iload_n 3, 1) := dk_29 (dk_at dksX6_comesTo_3 16 rfl rfl)
theorem dX6_comesTo_87 : decode cX6_comesTo 87 = .ok (.iconst 1, 1) := dk_4 (dk_at dksX6_comesTo_3 17 rfl rfl)
theorem dX6_comesTo_88 : decode cX6_comesTo 88 = .ok (.iadd, 1) := dk_96 (dk_at dksX6_comesTo_3 18 rfl rfl)
theorem dX6_comesTo_89 : decode cX6_comesTo 89 = .ok (.istore_n 3, 1) := dk_62 (dk_at dksX6_comesTo_3 19 rfl rfl)
theorem dX6_comesTo_90 : decode cX6_comesTo 90 = .ok (.goto 140, 3) := dk_167 0 140 (dk_at dksX6_comesTo_3 20 rfl rfl)
theorem dX6_comesTo_93 : decode cX6_comesTo 93 = .ok (.iload 6, 2) := dk_21 6 (dk_at dksX6_comesTo_4 0 rfl rfl)
theorem dX6_comesTo_95 : decode cX6_comesTo 95 = .ok (.bipush 10, 2) := dk_16 10 (dk_at dksX6_comesTo_4 2 rfl rfl)
theorem dX6_comesTo_97 : decode cX6_comesTo 97 = .ok (.if_icmp .ne 24, 3) := dk_160 0 24 (dk_at dksX6_comesTo_4 4 rfl rfl)
theorem dX6_comesTo_100 : decode cX6_comesTo 100 = .ok (.aload_n 0, 1) := dk_42 (dk_at dksX6_comesTo_4 7 rfl rfl)
theorem dX6_comesTo_101 : decode cX6_comesTo 101 = .ok (.getfield 62, 3) := dk_180 0 62 (dk_at dksX6_comesTo_4 8 rfl rfl)
theorem dX6_comesTo_104 : decode cX6_comesTo 104 = .ok (.iload_n 3, 1) := dk_29 (dk_at dksX6_comesTo_4 11 rfl rfl)
theorem dX6_comesTo_105 : decode cX6_comesTo 105 = .ok (.iconst 1, 1) := dk_4 (dk_at dksX6_comesTo_4 12 rfl rfl)
theorem dX6_comesTo_106 : decode cX6_comesTo 106 = .ok (.isub, 1) := dk_100 (dk_at dksX6_comesTo_4 13 rfl rfl)
theorem dX6_comesTo_107 : decode cX6_comesTo 107 = .ok (.iconst 1, 1) := dk_4 (dk_at dksX6_comesTo_4 14 rfl rfl)
theorem dX6_comesTo_108 : decode cX6_comesTo 108 = .ok (.aload_n 0, 1) := dk_42 (dk_at dksX6_comesTo_4 15 rfl rfl)
theorem dX6_comesTo_109 : decode cX6_comesTo 109 = .ok (.getfield 62, 3) := dk_180 0 62 (dk_at dksX6_comesTo_4 16 rfl rfl)
theorem dX6_comesTo_112 : decode cX6_comesTo 112 = .ok (.iload_n 3, 1) := dk_29 (dk_at dksX6_comesTo_4 19 rfl rfl)
theorem dX6_comesTo_113 : decode cX6_comesTo 113 = .ok (.iconst 1, 1) := dk_4 (dk_at dksX6_comesTo_4 20 rfl rfl)
theorem dX6_comesTo_114 : decode cX6_comesTo 114 = .ok (.isub, 1) := dk_100 (dk_at dksX6_comesTo_4 21 rfl rfl)
theorem dX6_comesTo_115 : decode cX6_comesTo 115 = .ok (.iaload, 1) := dk_46 (dk_at dksX6_comesTo_4 22 rfl rfl)
theorem dX6_comesTo_116 : decode cX6_comesTo 116 = .ok (.isub, 1) := dk_100 (dk_at dksX6_comesTo_4 23 rfl rfl)
theorem dX6_comesTo_117 : decode cX6_comesTo 117 = .ok (.iastore, 1) := dk_79 (dk_at dksX6_comesTo_5 0 rfl rfl)
theorem dX6_comesTo_118 : decode cX6_comesTo 118 = .ok (.goto 112, 3) := dk_167 0 112 (dk_at dksX6_comesTo_5 1 rfl rfl)
theorem dX6_comesTo_121 : decode cX6_comesTo 121 = .ok (.iload 6, 2) := dk_21 6 (dk_at dksX6_comesTo_5 4 rfl rfl)
theorem dX6_comesTo_123 : decode cX6_comesTo 123 = .ok (.bipush 11, 2) := dk_16 11 (dk_at dksX6_comesTo_5 6 rfl rfl)
theorem dX6_comesTo_125 : decode cX6_comesTo 125 = .ok (.if_icmp .eq 10, 3) := dk_159 0 10 (dk_at dksX6_comesTo_5 8 rfl rfl)
theorem dX6_comesTo_128 : decode cX6_comesTo 128 = .ok (.iload 6, 2) := dk_21 6 (dk_at dksX6_comesTo_5 11 rfl rfl)
theorem dX6_comesTo_130 : decode cX6_comesTo 130 = .ok (.bipush 12, 2) := dk_16 12 (dk_at dksX6_comesTo_5 13 rfl rfl)
theorem dX6_comesTo_132 : decode cX6_comesTo 132 = .ok (.if_icmp .ne 43, 3) := dk_160 0 43 (dk_at dksX6_comesTo_5 15 rfl rfl)
theorem dX6_comesTo_135 : decode cX6_comesTo 135 = .ok (.aload_n 0, 1) := dk_42 (dk_at dksX6_comesTo_5 18 rfl rfl)
theorem dX6_comesTo_136 : decode cX6_comesTo 136 = .ok (.getfield 62, 3) := dk_180 0 62 (dk_at dksX6_comesTo_5 19 rfl rfl)
theorem dX6_comesTo_139 : decode cX6_comesTo 139 = .ok (.iload_n 3, 1) := dk_29 (dk_at dksX6_comesTo_5 22 rfl rfl)
theorem dX6_comesTo_140 : decode cX6_comesTo 140 = .ok (.iconst 1, 1) := dk_4 (dk_at dksX6_comesTo_5 23 rfl rfl)
theorem dX6_comesTo_141 : decode cX6_comesTo 141 = .ok (.isub, 1) := dk_100 (dk_at dksX6_comesTo_6 0 rfl rfl)
theorem dX6_comesTo_142 : decode cX6_comesTo 142 = .ok (.iaload, 1) := dk_46 (dk_at dksX6_comesTo_6 1 rfl rfl)
theorem dX6_comesTo_143 : decode cX6_comesTo 143 = .ok (.iload 6, 2) := dk_21 6 (dk_at dksX6_comesTo_6 2 rfl rfl)
theorem dX6_comesTo_145 : decode cX6_comesTo 145 = .ok (.bipush 12, 2) := dk_16 12 (dk_at dksX6_comesTo_6 4 rfl rfl)
theorem dX6_comesTo_147 : decode cX6_comesTo 147 = .ok (.if_icmp .ne 7, 3) := dk_160 0 7 (dk_at dksX6_comesTo_6 6 rfl rfl)
theorem dX6_comesTo_150 : decode cX6_comesTo 150 = .ok (.iconst 1, 1) := dk_4 (dk_at dksX6_comesTo_6 9 rfl rfl)
theorem dX6_comesTo_151 : decode cX6_comesTo 151 = .ok (.goto 4, 3) := dk_167 0 4 (dk_at dksX6_comesTo_6 10 rfl rfl)
theorem dX6_comesTo_154 : decode cX6_comesTo 154 = .ok (.iconst 0, 1) := dk_3 (dk_at dksX6_comesTo_6 13 rfl rfl)
theorem dX6_comesTo_155 : decode cX6_comesTo 155 = .ok (.if_icmp .ne 13, 3) := dk_160 0 13 (dk_at dksX6_comesTo_6 14 rfl rfl)
theorem dX6_comesTo_158 : decode cX6_comesTo 158 = .ok (.iload 4, 2) := dk_21 4 (dk_at dksX6_comesTo_6 17 rfl rfl)
theorem dX6_comesTo_160 : decode cX6_comesTo 160 = .ok (.iload 7, 2) := dk_21 7 (dk_at dksX6_comesTo_6 19 rfl rfl)
theorem dX6_comesTo_162 : decode cX6_comesTo 162 = .ok (.iadd, 1) := dk_96 (dk_at dksX6_comesTo_6 21 rfl rfl)
theorem dX6_comesTo_163 : decode cX6_comesTo 163 = .ok (.istore 5, 2) := dk_54 5 (dk_at dksX6_comesTo_6 22 rfl rfl)
theorem dX6_comesTo_165 : decode cX6_comesTo 165 = .ok (.goto 65, 3) := dk_167 0 65 (dk_at dksX6_comesTo_7 0 rfl rfl)
theorem dX6_comesTo_168 : decode cX6_comesTo 168 = .ok (.iload_n 3, 1) := dk_29 (dk_at dksX6_comesTo_7 3 rfl rfl)
theorem dX6_comesTo_169 : decode cX6_comesTo 169 = .ok (.iconst 1, 1) := dk_4 (dk_at dksX6_comesTo_7 4 rfl rfl)
theorem dX6_comesTo_170 : decode cX6_comesTo 170 = .ok (.isub, 1) := dk_100 (dk_at dksX6_comesTo_7 5 rfl rfl)
theorem dX6_comesTo_171 : decode cX6_comesTo 171 = .ok (.istore_n 3, 1) := dk_62 (dk_at dksX6_comesTo_7 6 rfl rfl)
theorem dX6_comesTo_172 : decode cX6_comesTo 172 = .ok (.goto 58, 3) := dk_167 0 58 (dk_at dksX6_comesTo_7 7 rfl rfl)
theorem dX6_comesTo_175 : decode cX6_comesTo 175 = .ok (.iload_n 3, 1) := dk_29 (dk_at dksX6_comesTo_7 10 rfl rfl)
theorem dX6_comesTo_176 : decode cX6_comesTo 176 = .ok (.iconst 1, 1) := dk_4 (dk_at dksX6_comesTo_7 11 rfl rfl)
theorem dX6_comesTo_177 : decode cX6_comesTo 177 = .ok (.isub, 1) := dk_100 (dk_at dksX6_comesTo_7 12 rfl rfl)
theorem dX6_comesTo_178 : decode cX6_comesTo 178 = .ok (.istore_n 3, 1) := dk_62 (dk_at dksX6_comesTo_7 13 rfl rfl)
theorem dX6_comesTo_179 : decode cX6_comesTo 179 = .ok (.iload 6, 2) := dk_21 6 (dk_at dksX6_comesTo_7 14 rfl rfl)
theorem dX6_comesTo_181 : decode cX6_comesTo 181 = .ok (.iconst 5, 1) := dk_8 (dk_at dksX6_comesTo_7 16 rfl rfl)
theorem dX6_comesTo_182 : decode cX6_comesTo 182 = .ok (.if_icmp .eq 10, 3) := dk_159 0 10 (dk_at dksX6_comesTo_7 17 rfl rfl)
theorem dX6_comesTo_185 : decode cX6_comesTo 185 = .ok (.iload 6, 2) := dk_21 6 (dk_at dksX6_comesTo_7 20 rfl rfl)
theorem dX6_comesTo_187 : decode cX6_comesTo 187 = .ok (.bipush 6, 2) := dk_16 6 (dk_at dksX6_comesTo_7 22 rfl rfl)
theorem dX6_comesTo_189 : decode cX6_comesTo 189 = .ok (.if_icmp .ne 14, 3) := dk_160 0 14 (dk_at dksX6_comesTo_8 0 rfl rfl)
theorem dX6_comesTo_192 : decode cX6_comesTo 192 = .ok (.aload_n 0, 1) := dk_42 (dk_at dksX6_comesTo_8 3 rfl rfl)
theorem dX6_comesTo_193 : decode cX6_comesTo 193 = .ok (.getfield 62, 3) := dk_180 0 62 (dk_at dksX6_comesTo_8 4 rfl rfl)
theorem dX6_comesTo_196 : decode cX6_comesTo 196 = .ok (.iload_n 3, 1) := dk_29 (dk_at dksX6_comesTo_8 7 rfl rfl)
theorem dX6_comesTo_197 : decode cX6_comesTo 197 = .ok (.iaload, 1) := dk_46 (dk_at dksX6_comesTo_8 8 rfl rfl)
theorem dX6_comesTo_198 : decode cX6_comesTo 198 = .ok (.ifCond .ne 5, 3) := dk_154 0 5 (dk_at dksX6_comesTo_8 9 rfl rfl)
theorem dX6_comesTo_201 : decode cX6_comesTo 201 = .ok (.iconst 0, 1) := dk_3 (dk_at dksX6_comesTo_8 12 rfl rfl)
theorem dX6_comesTo_202 : decode cX6_comesTo 202 = .ok (.ireturn, 1) := dk_172 (dk_at dksX6_comesTo_8 13 rfl rfl)
theorem dX6_comesTo_203 : decode cX6_comesTo 203 = .ok (.aload_n 0, 1) := dk_42 (dk_at dksX6_comesTo_8 14 rfl rfl)
theorem dX6_comesTo_204 : decode cX6_comesTo 204 = .ok (.getfield 62, 3) := dk_180 0 62 (dk_at dksX6_comesTo_8 15 rfl rfl)
theorem dX6_comesTo_207 : decode cX6_comesTo 207 = .ok (.iload_n 3, 1) := dk_29 (dk_at dksX6_comesTo_8 18 rfl rfl)
theorem dX6_comesTo_208 : decode cX6_comesTo 208 = .ok (.iconst 1, 1) := dk_4 (dk_at dksX6_comesTo_8 19 rfl rfl)
theorem dX6_comesTo_209 : decode cX6_comesTo 209 = .ok (.isub, 1) := dk_100 (dk_at dksX6_comesTo_8 20 rfl rfl)
theorem dX6_comesTo_210 : decode cX6_comesTo 210 = .ok (.iload 6, 2) := dk_21 6 (dk_at dksX6_comesTo_8 21 rfl rfl)
theorem dX6_comesTo_212 : decode cX6_comesTo 212 = .ok (.aload_n 0, 1) := dk_42 (dk_at dksX6_comesTo_8 23 rfl rfl)
theorem dX6_comesTo_213 : decode cX6_comesTo 213 = .ok (.getfield 62, 3) := dk_180 0 62 (dk_at dksX6_comesTo_9 0 rfl rfl)
theorem dX6_comesTo_216 : decode cX6_comesTo 216 = .ok (.iload_n 3, 1) := dk_29 (dk_at dksX6_comesTo_9 3 rfl rfl)
theorem dX6_comesTo_217 : decode cX6_comesTo 217 = .ok (.iconst 1, 1) := dk_4 (dk_at dksX6_comesTo_9 4 rfl rfl)
theorem dX6_comesTo_218 : decode cX6_comesTo 218 = .ok (.isub, 1) := dk_100 (dk_at dksX6_comesTo_9 5 rfl rfl)
theorem dX6_comesTo_219 : decode cX6_comesTo 219 = .ok (.iaload, 1) := dk_46 (dk_at dksX6_comesTo_9 6 rfl rfl)
theorem dX6_comesTo_220 : decode cX6_comesTo 220 = .ok (.aload_n 0, 1) := dk_42 (dk_at dksX6_comesTo_9 7 rfl rfl)
theorem dX6_comesTo_221 : decode cX6_comesTo 221 = .ok (.getfield 62, 3) := dk_180 0 62 (dk_at dksX6_comesTo_9 8 rfl rfl)
theorem dX6_comesTo_224 : decode cX6_comesTo 224 = .ok (.iload_n 3, 1) := dk_29 (dk_at dksX6_comesTo_9 11 rfl rfl)
theorem dX6_comesTo_225 : decode cX6_comesTo 225 = .ok (.iaload, 1) := dk_46 (dk_at dksX6_comesTo_9 12 rfl rfl)
theorem dX6_comesTo_226 : decode cX6_comesTo 226 = .ok (.invokestatic 258, 3) := dk_184 1 2 (dk_at dksX6_comesTo_9 13 rfl rfl)
theorem dX6_comesTo_229 : decode cX6_comesTo 229 = .ok (.iastore, 1) := dk_79 (dk_at dksX6_comesTo_9 16 rfl rfl)
theorem dX6_comesTo_230 : decode cX6_comesTo 230 = .ok (.goto (-214), 3) := dk_167 255 42 (dk_at dksX6_comesTo_9 17 rfl rfl)
theorem dX6_comesTo_233 : decode cX6_comesTo 233 = .ok (.aload_n 0, 1) := dk_42 (dk_at dksX6_comesTo_9 20 rfl rfl)
theorem dX6_comesTo_234 : decode cX6_comesTo 234 = .ok (.getfield 62, 3) := dk_180 0 62 (dk_at dksX6_comesTo_9 21 rfl rfl)
theorem dX6_comesTo_237 : decode cX6_comesTo 237 = .ok (.iconst 0, 1) := dk_3 (dk_at dksX6_comesTo_10 0 rfl rfl)
theorem dX6_comesTo_238 : decode cX6_comesTo 238 = .ok (.iaload, 1) := dk_46 (dk_at dksX6_comesTo_10 1 rfl rfl)
theorem dX6_comesTo_239 : decode cX6_comesTo 239 = .ok (.ireturn, 1) := dk_172 (dk_at dksX6_comesTo_10 2 rfl rfl)
abbrev cX6_reckon : ByteArray := prog_20_method_43_code
def yX6_reckon : MethodName := ⟨RX6, "reckon", "(III)I"⟩
def dkwX6_reckon_4 : List UInt8 := [160, 0, 7, 4, 167, 0, 4, 3, 172]
abbrev dktX6_reckon_4 : List UInt8 := dkwX6_reckon_4 ++ []
def dkwX6_reckon_3 : List UInt8 := [162, 0, 7, 4, 167, 0, 4, 3, 172, 27, 28, 164, 0, 7, 4, 167, 0, 4, 3, 172, 27, 28]
abbrev dktX6_reckon_3 : List UInt8 := dkwX6_reckon_3 ++ dktX6_reckon_4
def dkwX6_reckon_2 : List UInt8 := [27, 28, 96, 172, 27, 28, 100, 172, 27, 28, 104, 172, 27, 28, 108, 172, 27, 28, 112, 172, 27, 28]
abbrev dktX6_reckon_2 : List UInt8 := dkwX6_reckon_2 ++ dktX6_reckon_3
def dkwX6_reckon_1 : List UInt8 := [170, 0, 0, 0, 0, 0, 85, 0, 0, 0, 2, 0, 0, 0, 8, 0, 0, 0, 43, 0, 0, 0, 47, 0, 0, 0, 51, 0, 0, 0, 55, 0, 0, 0, 59, 0, 0, 0, 63, 0, 0, 0, 74]
abbrev dktX6_reckon_1 : List UInt8 := dkwX6_reckon_1 ++ dktX6_reckon_2
def dkwX6_reckon_0 : List UInt8 := [26]
abbrev dktX6_reckon_0 : List UInt8 := dkwX6_reckon_0 ++ dktX6_reckon_1
theorem dksX6_reckon_0 : cX6_reckon.data.toList.drop 0 = dktX6_reckon_0 := by decide +kernel
theorem dksX6_reckon_1 : cX6_reckon.data.toList.drop 1 = dktX6_reckon_1 := dk_seg dksX6_reckon_0 1 rfl rfl
theorem dksX6_reckon_2 : cX6_reckon.data.toList.drop 44 = dktX6_reckon_2 := dk_seg dksX6_reckon_1 43 rfl rfl
theorem dksX6_reckon_3 : cX6_reckon.data.toList.drop 66 = dktX6_reckon_3 := dk_seg dksX6_reckon_2 22 rfl rfl
theorem dksX6_reckon_4 : cX6_reckon.data.toList.drop 88 = dktX6_reckon_4 := dk_seg dksX6_reckon_3 22 rfl rfl
theorem dX6_reckon_0 : decode cX6_reckon 0 = .ok (.iload_n 0, 1) := dk_26 (dk_at dksX6_reckon_0 0 rfl rfl)
theorem dX6_reckon_1 : decode cX6_reckon 1 = .ok (.tableswitch 85 2 8 #[43, 47, 51, 55, 59, 63, 74], 43) := by decide +kernel
theorem dX6_reckon_44 : decode cX6_reckon 44 = .ok (.iload_n 1, 1) := dk_27 (dk_at dksX6_reckon_2 0 rfl rfl)
theorem dX6_reckon_45 : decode cX6_reckon 45 = .ok (.iload_n 2, 1) := dk_28 (dk_at dksX6_reckon_2 1 rfl rfl)
theorem dX6_reckon_46 : decode cX6_reckon 46 = .ok (.iadd, 1) := dk_96 (dk_at dksX6_reckon_2 2 rfl rfl)
theorem dX6_reckon_47 : decode cX6_reckon 47 = .ok (.ireturn, 1) := dk_172 (dk_at dksX6_reckon_2 3 rfl rfl)
theorem dX6_reckon_48 : decode cX6_reckon 48 = .ok (.iload_n 1, 1) := dk_27 (dk_at dksX6_reckon_2 4 rfl rfl)
theorem dX6_reckon_49 : decode cX6_reckon 49 = .ok (.iload_n 2, 1) := dk_28 (dk_at dksX6_reckon_2 5 rfl rfl)
theorem dX6_reckon_50 : decode cX6_reckon 50 = .ok (.isub, 1) := dk_100 (dk_at dksX6_reckon_2 6 rfl rfl)
theorem dX6_reckon_51 : decode cX6_reckon 51 = .ok (.ireturn, 1) := dk_172 (dk_at dksX6_reckon_2 7 rfl rfl)
theorem dX6_reckon_52 : decode cX6_reckon 52 = .ok (.iload_n 1, 1) := dk_27 (dk_at dksX6_reckon_2 8 rfl rfl)
theorem dX6_reckon_53 : decode cX6_reckon 53 = .ok (.iload_n 2, 1) := dk_28 (dk_at dksX6_reckon_2 9 rfl rfl)
theorem dX6_reckon_54 : decode cX6_reckon 54 = .ok (.imul, 1) := dk_104 (dk_at dksX6_reckon_2 10 rfl rfl)
theorem dX6_reckon_55 : decode cX6_reckon 55 = .ok (.ireturn, 1) := dk_172 (dk_at dksX6_reckon_2 11 rfl rfl)
theorem dX6_reckon_56 : decode cX6_reckon 56 = .ok (.iload_n 1, 1) := dk_27 (dk_at dksX6_reckon_2 12 rfl rfl)
theorem dX6_reckon_57 : decode cX6_reckon 57 = .ok (.iload_n 2, 1) := dk_28 (dk_at dksX6_reckon_2 13 rfl rfl)
theorem dX6_reckon_58 : decode cX6_reckon 58 = .ok (.idiv, 1) := dk_108 (dk_at dksX6_reckon_2 14 rfl rfl)
theorem dX6_reckon_59 : decode cX6_reckon 59 = .ok (.ireturn, 1) := dk_172 (dk_at dksX6_reckon_2 15 rfl rfl)
theorem dX6_reckon_60 : decode cX6_reckon 60 = .ok (.iload_n 1, 1) := dk_27 (dk_at dksX6_reckon_2 16 rfl rfl)
theorem dX6_reckon_61 : decode cX6_reckon 61 = .ok (.iload_n 2, 1) := dk_28 (dk_at dksX6_reckon_2 17 rfl rfl)
theorem dX6_reckon_62 : decode cX6_reckon 62 = .ok (.irem, 1) := dk_112 (dk_at dksX6_reckon_2 18 rfl rfl)
theorem dX6_reckon_63 : decode cX6_reckon 63 = .ok (.ireturn, 1) := dk_172 (dk_at dksX6_reckon_2 19 rfl rfl)
theorem dX6_reckon_64 : decode cX6_reckon 64 = .ok (.iload_n 1, 1) := dk_27 (dk_at dksX6_reckon_2 20 rfl rfl)
theorem dX6_reckon_65 : decode cX6_reckon 65 = .ok (.iload_n 2, 1) := dk_28 (dk_at dksX6_reckon_2 21 rfl rfl)
theorem dX6_reckon_66 : decode cX6_reckon 66 = .ok (.if_icmp .ge 7, 3) := dk_162 0 7 (dk_at dksX6_reckon_3 0 rfl rfl)
theorem dX6_reckon_69 : decode cX6_reckon 69 = .ok (.iconst 1, 1) := dk_4 (dk_at dksX6_reckon_3 3 rfl rfl)
theorem dX6_reckon_70 : decode cX6_reckon 70 = .ok (.goto 4, 3) := dk_167 0 4 (dk_at dksX6_reckon_3 4 rfl rfl)
theorem dX6_reckon_73 : decode cX6_reckon 73 = .ok (.iconst 0, 1) := dk_3 (dk_at dksX6_reckon_3 7 rfl rfl)
theorem dX6_reckon_74 : decode cX6_reckon 74 = .ok (.ireturn, 1) := dk_172 (dk_at dksX6_reckon_3 8 rfl rfl)
theorem dX6_reckon_75 : decode cX6_reckon 75 = .ok (.iload_n 1, 1) := dk_27 (dk_at dksX6_reckon_3 9 rfl rfl)
theorem dX6_reckon_76 : decode cX6_reckon 76 = .ok (.iload_n 2, 1) := dk_28 (dk_at dksX6_reckon_3 10 rfl rfl)
theorem dX6_reckon_77 : decode cX6_reckon 77 = .ok (.if_icmp .le 7, 3) := dk_164 0 7 (dk_at dksX6_reckon_3 11 rfl rfl)
theorem dX6_reckon_80 : decode cX6_reckon 80 = .ok (.iconst 1, 1) := dk_4 (dk_at dksX6_reckon_3 14 rfl rfl)
theorem dX6_reckon_81 : decode cX6_reckon 81 = .ok (.goto 4, 3) := dk_167 0 4 (dk_at dksX6_reckon_3 15 rfl rfl)
theorem dX6_reckon_84 : decode cX6_reckon 84 = .ok (.iconst 0, 1) := dk_3 (dk_at dksX6_reckon_3 18 rfl rfl)
theorem dX6_reckon_85 : decode cX6_reckon 85 = .ok (.ireturn, 1) := dk_172 (dk_at dksX6_reckon_3 19 rfl rfl)
theorem dX6_reckon_86 : decode cX6_reckon 86 = .ok (.iload_n 1, 1) := dk_27 (dk_at dksX6_reckon_3 20 rfl rfl)
theorem dX6_reckon_87 : decode cX6_reckon 87 = .ok (.iload_n 2, 1) := dk_28 (dk_at dksX6_reckon_3 21 rfl rfl)
theorem dX6_reckon_88 : decode cX6_reckon 88 = .ok (.if_icmp .ne 7, 3) := dk_160 0 7 (dk_at dksX6_reckon_4 0 rfl rfl)
theorem dX6_reckon_91 : decode cX6_reckon 91 = .ok (.iconst 1, 1) := dk_4 (dk_at dksX6_reckon_4 3 rfl rfl)
theorem dX6_reckon_92 : decode cX6_reckon 92 = .ok (.goto 4, 3) := dk_167 0 4 (dk_at dksX6_reckon_4 4 rfl rfl)
theorem dX6_reckon_95 : decode cX6_reckon 95 = .ok (.iconst 0, 1) := dk_3 (dk_at dksX6_reckon_4 7 rfl rfl)
theorem dX6_reckon_96 : decode cX6_reckon 96 = .ok (.ireturn, 1) := dk_172 (dk_at dksX6_reckon_4 8 rfl rfl)
abbrev cX6_feelsTwo : ByteArray := prog_20_method_49_code
def yX6_feelsTwo : MethodName := ⟨RX6, "feelsTwo", "(II)V"⟩
def dkwX6_feelsTwo_3 : List UInt8 := [177]
abbrev dktX6_feelsTwo_3 : List UInt8 := dkwX6_feelsTwo_3 ++ []
def dkwX6_feelsTwo_2 : List UInt8 := [79, 42, 180, 0, 65, 7, 42, 27, 28, 182, 1, 12, 79, 42, 180, 0, 65, 8, 42, 28, 182, 1, 15, 79]
abbrev dktX6_feelsTwo_2 : List UInt8 := dkwX6_feelsTwo_2 ++ dktX6_feelsTwo_3
def dkwX6_feelsTwo_1 : List UInt8 := [28, 79, 42, 180, 0, 65, 5, 42, 27, 28, 182, 0, 147, 79, 42, 180, 0, 65, 6, 42, 27, 182, 0, 150]
abbrev dktX6_feelsTwo_1 : List UInt8 := dkwX6_feelsTwo_1 ++ dktX6_feelsTwo_2
def dkwX6_feelsTwo_0 : List UInt8 := [42, 42, 180, 0, 7, 17, 0, 155, 46, 182, 1, 9, 42, 180, 0, 65, 3, 27, 79, 42, 180, 0, 65, 4]
abbrev dktX6_feelsTwo_0 : List UInt8 := dkwX6_feelsTwo_0 ++ dktX6_feelsTwo_1
theorem dksX6_feelsTwo_0 : cX6_feelsTwo.data.toList.drop 0 = dktX6_feelsTwo_0 := by decide +kernel
theorem dksX6_feelsTwo_1 : cX6_feelsTwo.data.toList.drop 24 = dktX6_feelsTwo_1 := dk_seg dksX6_feelsTwo_0 24 rfl rfl
theorem dksX6_feelsTwo_2 : cX6_feelsTwo.data.toList.drop 48 = dktX6_feelsTwo_2 := dk_seg dksX6_feelsTwo_1 24 rfl rfl
theorem dksX6_feelsTwo_3 : cX6_feelsTwo.data.toList.drop 72 = dktX6_feelsTwo_3 := dk_seg dksX6_feelsTwo_2 24 rfl rfl
theorem dX6_feelsTwo_0 : decode cX6_feelsTwo 0 = .ok (.aload_n 0, 1) := dk_42 (dk_at dksX6_feelsTwo_0 0 rfl rfl)
theorem dX6_feelsTwo_1 : decode cX6_feelsTwo 1 = .ok (.aload_n 0, 1) := dk_42 (dk_at dksX6_feelsTwo_0 1 rfl rfl)
theorem dX6_feelsTwo_2 : decode cX6_feelsTwo 2 = .ok (.getfield 7, 3) := dk_180 0 7 (dk_at dksX6_feelsTwo_0 2 rfl rfl)
theorem dX6_feelsTwo_5 : decode cX6_feelsTwo 5 = .ok (.sipush 155, 3) := dk_17 0 155 (dk_at dksX6_feelsTwo_0 5 rfl rfl)
theorem dX6_feelsTwo_8 : decode cX6_feelsTwo 8 = .ok (.iaload, 1) := dk_46 (dk_at dksX6_feelsTwo_0 8 rfl rfl)
theorem dX6_feelsTwo_9 : decode cX6_feelsTwo 9 = .ok (.invokevirtual 265, 3) := dk_182 1 9 (dk_at dksX6_feelsTwo_0 9 rfl rfl)
theorem dX6_feelsTwo_12 : decode cX6_feelsTwo 12 = .ok (.aload_n 0, 1) := dk_42 (dk_at dksX6_feelsTwo_0 12 rfl rfl)
theorem dX6_feelsTwo_13 : decode cX6_feelsTwo 13 = .ok (.getfield 65, 3) := dk_180 0 65 (dk_at dksX6_feelsTwo_0 13 rfl rfl)
theorem dX6_feelsTwo_16 : decode cX6_feelsTwo 16 = .ok (.iconst 0, 1) := dk_3 (dk_at dksX6_feelsTwo_0 16 rfl rfl)
theorem dX6_feelsTwo_17 : decode cX6_feelsTwo 17 = .ok (.iload_n 1, 1) := dk_27 (dk_at dksX6_feelsTwo_0 17 rfl rfl)
theorem dX6_feelsTwo_18 : decode cX6_feelsTwo 18 = .ok (.iastore, 1) := dk_79 (dk_at dksX6_feelsTwo_0 18 rfl rfl)
theorem dX6_feelsTwo_19 : decode cX6_feelsTwo 19 = .ok (.aload_n 0, 1) := dk_42 (dk_at dksX6_feelsTwo_0 19 rfl rfl)
theorem dX6_feelsTwo_20 : decode cX6_feelsTwo 20 = .ok (.getfield 65, 3) := dk_180 0 65 (dk_at dksX6_feelsTwo_0 20 rfl rfl)
theorem dX6_feelsTwo_23 : decode cX6_feelsTwo 23 = .ok (.iconst 1, 1) := dk_4 (dk_at dksX6_feelsTwo_0 23 rfl rfl)
theorem dX6_feelsTwo_24 : decode cX6_feelsTwo 24 = .ok (.iload_n 2, 1) := dk_28 (dk_at dksX6_feelsTwo_1 0 rfl rfl)
theorem dX6_feelsTwo_25 : decode cX6_feelsTwo 25 = .ok (.iastore, 1) := dk_79 (dk_at dksX6_feelsTwo_1 1 rfl rfl)
theorem dX6_feelsTwo_26 : decode cX6_feelsTwo 26 = .ok (.aload_n 0, 1) := dk_42 (dk_at dksX6_feelsTwo_1 2 rfl rfl)
theorem dX6_feelsTwo_27 : decode cX6_feelsTwo 27 = .ok (.getfield 65, 3) := dk_180 0 65 (dk_at dksX6_feelsTwo_1 3 rfl rfl)
theorem dX6_feelsTwo_30 : decode cX6_feelsTwo 30 = .ok (.iconst 2, 1) := dk_5 (dk_at dksX6_feelsTwo_1 6 rfl rfl)
theorem dX6_feelsTwo_31 : decode cX6_feelsTwo 31 = .ok (.aload_n 0, 1) := dk_42 (dk_at dksX6_feelsTwo_1 7 rfl rfl)
theorem dX6_feelsTwo_32 : decode cX6_feelsTwo 32 = .ok (.iload_n 1, 1) := dk_27 (dk_at dksX6_feelsTwo_1 8 rfl rfl)
theorem dX6_feelsTwo_33 : decode cX6_feelsTwo 33 = .ok (.iload_n 2, 1) := dk_28 (dk_at dksX6_feelsTwo_1 9 rfl rfl)
theorem dX6_feelsTwo_34 : decode cX6_feelsTwo 34 = .ok (.invokevirtual 147, 3) := dk_182 0 147 (dk_at dksX6_feelsTwo_1 10 rfl rfl)
theorem dX6_feelsTwo_37 : decode cX6_feelsTwo 37 = .ok (.iastore, 1) := dk_79 (dk_at dksX6_feelsTwo_1 13 rfl rfl)
theorem dX6_feelsTwo_38 : decode cX6_feelsTwo 38 = .ok (.aload_n 0, 1) := dk_42 (dk_at dksX6_feelsTwo_1 14 rfl rfl)
theorem dX6_feelsTwo_39 : decode cX6_feelsTwo 39 = .ok (.getfield 65, 3) := dk_180 0 65 (dk_at dksX6_feelsTwo_1 15 rfl rfl)
theorem dX6_feelsTwo_42 : decode cX6_feelsTwo 42 = .ok (.iconst 3, 1) := dk_6 (dk_at dksX6_feelsTwo_1 18 rfl rfl)
theorem dX6_feelsTwo_43 : decode cX6_feelsTwo 43 = .ok (.aload_n 0, 1) := dk_42 (dk_at dksX6_feelsTwo_1 19 rfl rfl)
theorem dX6_feelsTwo_44 : decode cX6_feelsTwo 44 = .ok (.iload_n 1, 1) := dk_27 (dk_at dksX6_feelsTwo_1 20 rfl rfl)
theorem dX6_feelsTwo_45 : decode cX6_feelsTwo 45 = .ok (.invokevirtual 150, 3) := dk_182 0 150 (dk_at dksX6_feelsTwo_1 21 rfl rfl)
theorem dX6_feelsTwo_48 : decode cX6_feelsTwo 48 = .ok (.iastore, 1) := dk_79 (dk_at dksX6_feelsTwo_2 0 rfl rfl)
theorem dX6_feelsTwo_49 : decode cX6_feelsTwo 49 = .ok (.aload_n 0, 1) := dk_42 (dk_at dksX6_feelsTwo_2 1 rfl rfl)
theorem dX6_feelsTwo_50 : decode cX6_feelsTwo 50 = .ok (.getfield 65, 3) := dk_180 0 65 (dk_at dksX6_feelsTwo_2 2 rfl rfl)
theorem dX6_feelsTwo_53 : decode cX6_feelsTwo 53 = .ok (.iconst 4, 1) := dk_7 (dk_at dksX6_feelsTwo_2 5 rfl rfl)
theorem dX6_feelsTwo_54 : decode cX6_feelsTwo 54 = .ok (.aload_n 0, 1) := dk_42 (dk_at dksX6_feelsTwo_2 6 rfl rfl)
theorem dX6_feelsTwo_55 : decode cX6_feelsTwo 55 = .ok (.iload_n 1, 1) := dk_27 (dk_at dksX6_feelsTwo_2 7 rfl rfl)
theorem dX6_feelsTwo_56 : decode cX6_feelsTwo 56 = .ok (.iload_n 2, 1) := dk_28 (dk_at dksX6_feelsTwo_2 8 rfl rfl)
theorem dX6_feelsTwo_57 : decode cX6_feelsTwo 57 = .ok (.invokevirtual 268, 3) := dk_182 1 12 (dk_at dksX6_feelsTwo_2 9 rfl rfl)
theorem dX6_feelsTwo_60 : decode cX6_feelsTwo 60 = .ok (.iastore, 1) := dk_79 (dk_at dksX6_feelsTwo_2 12 rfl rfl)
theorem dX6_feelsTwo_61 : decode cX6_feelsTwo 61 = .ok (.aload_n 0, 1) := dk_42 (dk_at dksX6_feelsTwo_2 13 rfl rfl)
theorem dX6_feelsTwo_62 : decode cX6_feelsTwo 62 = .ok (.getfield 65, 3) := dk_180 0 65 (dk_at dksX6_feelsTwo_2 14 rfl rfl)
theorem dX6_feelsTwo_65 : decode cX6_feelsTwo 65 = .ok (.iconst 5, 1) := dk_8 (dk_at dksX6_feelsTwo_2 17 rfl rfl)
theorem dX6_feelsTwo_66 : decode cX6_feelsTwo 66 = .ok (.aload_n 0, 1) := dk_42 (dk_at dksX6_feelsTwo_2 18 rfl rfl)
theorem dX6_feelsTwo_67 : decode cX6_feelsTwo 67 = .ok (.iload_n 2, 1) := dk_28 (dk_at dksX6_feelsTwo_2 19 rfl rfl)
theorem dX6_feelsTwo_68 : decode cX6_feelsTwo 68 = .ok (.invokevirtual 271, 3) := dk_182 1 15 (dk_at dksX6_feelsTwo_2 20 rfl rfl)
theorem dX6_feelsTwo_71 : decode cX6_feelsTwo 71 = .ok (.iastore, 1) := dk_79 (dk_at dksX6_feelsTwo_2 23 rfl rfl)
theorem dX6_feelsTwo_72 : decode cX6_feelsTwo 72 = .ok (.return_, 1) := dk_177 (dk_at dksX6_feelsTwo_3 0 rfl rfl)
abbrev cX6_wayOf : ByteArray := prog_20_method_11_code
def yX6_wayOf : MethodName := ⟨RX6, "wayOf", "(II)I"⟩
def dkwX6_wayOf_1 : List UInt8 := [180, 0, 22, 28, 46, 100, 184, 0, 139, 96, 184, 0, 143, 172]
abbrev dktX6_wayOf_1 : List UInt8 := dkwX6_wayOf_1 ++ []
def dkwX6_wayOf_0 : List UInt8 := [4, 42, 180, 0, 19, 27, 46, 42, 180, 0, 19, 28, 46, 100, 184, 0, 139, 42, 180, 0, 22, 27, 46, 42]
abbrev dktX6_wayOf_0 : List UInt8 := dkwX6_wayOf_0 ++ dktX6_wayOf_1
theorem dksX6_wayOf_0 : cX6_wayOf.data.toList.drop 0 = dktX6_wayOf_0 := by decide +kernel
theorem dksX6_wayOf_1 : cX6_wayOf.data.toList.drop 24 = dktX6_wayOf_1 := dk_seg dksX6_wayOf_0 24 rfl rfl
theorem dX6_wayOf_0 : decode cX6_wayOf 0 = .ok (.iconst 1, 1) := dk_4 (dk_at dksX6_wayOf_0 0 rfl rfl)
theorem dX6_wayOf_1 : decode cX6_wayOf 1 = .ok (.aload_n 0, 1) := dk_42 (dk_at dksX6_wayOf_0 1 rfl rfl)
theorem dX6_wayOf_2 : decode cX6_wayOf 2 = .ok (.getfield 19, 3) := dk_180 0 19 (dk_at dksX6_wayOf_0 2 rfl rfl)
theorem dX6_wayOf_5 : decode cX6_wayOf 5 = .ok (.iload_n 1, 1) := dk_27 (dk_at dksX6_wayOf_0 5 rfl rfl)
theorem dX6_wayOf_6 : decode cX6_wayOf 6 = .ok (.iaload, 1) := dk_46 (dk_at dksX6_wayOf_0 6 rfl rfl)
theorem dX6_wayOf_7 : decode cX6_wayOf 7 = .ok (.aload_n 0, 1) := dk_42 (dk_at dksX6_wayOf_0 7 rfl rfl)
theorem dX6_wayOf_8 : decode cX6_wayOf 8 = .ok (.getfield 19, 3) := dk_180 0 19 (dk_at dksX6_wayOf_0 8 rfl rfl)
theorem dX6_wayOf_11 : decode cX6_wayOf 11 = .ok (.iload_n 2, 1) := dk_28 (dk_at dksX6_wayOf_0 11 rfl rfl)
theorem dX6_wayOf_12 : decode cX6_wayOf 12 = .ok (.iaload, 1) := dk_46 (dk_at dksX6_wayOf_0 12 rfl rfl)
theorem dX6_wayOf_13 : decode cX6_wayOf 13 = .ok (.isub, 1) := dk_100 (dk_at dksX6_wayOf_0 13 rfl rfl)
theorem dX6_wayOf_14 : decode cX6_wayOf 14 = .ok (.invokestatic 139, 3) := dk_184 0 139 (dk_at dksX6_wayOf_0 14 rfl rfl)
theorem dX6_wayOf_17 : decode cX6_wayOf 17 = .ok (.aload_n 0, 1) := dk_42 (dk_at dksX6_wayOf_0 17 rfl rfl)
theorem dX6_wayOf_18 : decode cX6_wayOf 18 = .ok (.getfield 22, 3) := dk_180 0 22 (dk_at dksX6_wayOf_0 18 rfl rfl)
theorem dX6_wayOf_21 : decode cX6_wayOf 21 = .ok (.iload_n 1, 1) := dk_27 (dk_at dksX6_wayOf_0 21 rfl rfl)
theorem dX6_wayOf_22 : decode cX6_wayOf 22 = .ok (.iaload, 1) := dk_46 (dk_at dksX6_wayOf_0 22 rfl rfl)
theorem dX6_wayOf_23 : decode cX6_wayOf 23 = .ok (.aload_n 0, 1) := dk_42 (dk_at dksX6_wayOf_0 23 rfl rfl)
theorem dX6_wayOf_24 : decode cX6_wayOf 24 = .ok (.getfield 22, 3) := dk_180 0 22 (dk_at dksX6_wayOf_1 0 rfl rfl)
theorem dX6_wayOf_27 : decode cX6_wayOf 27 = .ok (.iload_n 2, 1) := dk_28 (dk_at dksX6_wayOf_1 3 rfl rfl)
theorem dX6_wayOf_28 : decode cX6_wayOf 28 = .ok (.iaload, 1) := dk_46 (dk_at dksX6_wayOf_1 4 rfl rfl)
theorem dX6_wayOf_29 : decode cX6_wayOf 29 = .ok (.isub, 1) := dk_100 (dk_at dksX6_wayOf_1 5 rfl rfl)
theorem dX6_wayOf_30 : decode cX6_wayOf 30 = .ok (.invokestatic 139, 3) := dk_184 0 139 (dk_at dksX6_wayOf_1 6 rfl rfl)
theorem dX6_wayOf_33 : decode cX6_wayOf 33 = .ok (.iadd, 1) := dk_96 (dk_at dksX6_wayOf_1 9 rfl rfl)
theorem dX6_wayOf_34 : decode cX6_wayOf 34 = .ok (.invokestatic 143, 3) := dk_184 0 143 (dk_at dksX6_wayOf_1 10 rfl rfl)
theorem dX6_wayOf_37 : decode cX6_wayOf 37 = .ok (.ireturn, 1) := dk_172 (dk_at dksX6_wayOf_1 13 rfl rfl)
abbrev cX6_size : ByteArray := prog_20_method_5_code
def yX6_size : MethodName := ⟨RX6, "size", "(I)I"⟩
def dkwX6_size_0 : List UInt8 := [26, 156, 0, 8, 26, 116, 167, 0, 4, 26, 172]
abbrev dktX6_size_0 : List UInt8 := dkwX6_size_0 ++ []
theorem dksX6_size_0 : cX6_size.data.toList.drop 0 = dktX6_size_0 := by decide +kernel
theorem dX6_size_0 : decode cX6_size 0 = .ok (.iload_n 0, 1) := dk_26 (dk_at dksX6_size_0 0 rfl rfl)
theorem dX6_size_1 : decode cX6_size 1 = .ok (.ifCond .ge 8, 3) := dk_156 0 8 (dk_at dksX6_size_0 1 rfl rfl)
theorem dX6_size_4 : decode cX6_size 4 = .ok (.iload_n 0, 1) := dk_26 (dk_at dksX6_size_0 4 rfl rfl)
theorem dX6_size_5 : decode cX6_size 5 = .ok (.ineg, 1) := dk_116 (dk_at dksX6_size_0 5 rfl rfl)
theorem dX6_size_6 : decode cX6_size 6 = .ok (.goto 4, 3) := dk_167 0 4 (dk_at dksX6_size_0 6 rfl rfl)
theorem dX6_size_9 : decode cX6_size 9 = .ok (.iload_n 0, 1) := dk_26 (dk_at dksX6_size_0 9 rfl rfl)
theorem dX6_size_10 : decode cX6_size 10 = .ok (.ireturn, 1) := dk_172 (dk_at dksX6_size_0 10 rfl rfl)
abbrev cX6_max : ByteArray := prog_20_method_4_code
def yX6_max : MethodName := ⟨RX6, "max", "(II)I"⟩
def dkwX6_max_0 : List UInt8 := [26, 27, 164, 0, 7, 26, 167, 0, 4, 27, 172]
abbrev dktX6_max_0 : List UInt8 := dkwX6_max_0 ++ []
theorem dksX6_max_0 : cX6_max.data.toList.drop 0 = dktX6_max_0 := by decide +kernel
theorem dX6_max_0 : decode cX6_max 0 = .ok (.iload_n 0, 1) := dk_26 (dk_at dksX6_max_0 0 rfl rfl)
theorem dX6_max_1 : decode cX6_max 1 = .ok (.iload_n 1, 1) := dk_27 (dk_at dksX6_max_0 1 rfl rfl)
theorem dX6_max_2 : decode cX6_max 2 = .ok (.if_icmp .le 7, 3) := dk_164 0 7 (dk_at dksX6_max_0 2 rfl rfl)
theorem dX6_max_5 : decode cX6_max 5 = .ok (.iload_n 0, 1) := dk_26 (dk_at dksX6_max_0 5 rfl rfl)
theorem dX6_max_6 : decode cX6_max 6 = .ok (.goto 4, 3) := dk_167 0 4 (dk_at dksX6_max_0 6 rfl rfl)
theorem dX6_max_9 : decode cX6_max 9 = .ok (.iload_n 1, 1) := dk_27 (dk_at dksX6_max_0 9 rfl rfl)
theorem dX6_max_10 : decode cX6_max 10 = .ok (.ireturn, 1) := dk_172 (dk_at dksX6_max_0 10 rfl rfl)
abbrev cX6_chalksOf : ByteArray := prog_20_method_47_code
def yX6_chalksOf : MethodName := ⟨RX6, "chalksOf", "(I)I"⟩
def dkwX6_chalksOf_1 : List UInt8 := [96, 46, 27, 160, 0, 7, 4, 167, 0, 4, 3, 96, 61, 132, 3, 1, 167, 255, 220, 28, 172]
abbrev dktX6_chalksOf_1 : List UInt8 := dkwX6_chalksOf_1 ++ []
def dkwX6_chalksOf_0 : List UInt8 := [3, 61, 3, 62, 29, 42, 180, 0, 7, 17, 0, 150, 46, 162, 0, 30, 28, 42, 180, 0, 7, 16, 110, 29]
abbrev dktX6_chalksOf_0 : List UInt8 := dkwX6_chalksOf_0 ++ dktX6_chalksOf_1
theorem dksX6_chalksOf_0 : cX6_chalksOf.data.toList.drop 0 = dktX6_chalksOf_0 := by decide +kernel
theorem dksX6_chalksOf_1 : cX6_chalksOf.data.toList.drop 24 = dktX6_chalksOf_1 := dk_seg dksX6_chalksOf_0 24 rfl rfl
theorem dX6_chalksOf_0 : decode cX6_chalksOf 0 = .ok (.iconst 0, 1) := dk_3 (dk_at dksX6_chalksOf_0 0 rfl rfl)
theorem dX6_chalksOf_1 : decode cX6_chalksOf 1 = .ok (.istore_n 2, 1) := dk_61 (dk_at dksX6_chalksOf_0 1 rfl rfl)
theorem dX6_chalksOf_2 : decode cX6_chalksOf 2 = .ok (.iconst 0, 1) := dk_3 (dk_at dksX6_chalksOf_0 2 rfl rfl)
theorem dX6_chalksOf_3 : decode cX6_chalksOf 3 = .ok (.istore_n 3, 1) := dk_62 (dk_at dksX6_chalksOf_0 3 rfl rfl)
theorem dX6_chalksOf_4 : decode cX6_chalksOf 4 = .ok (.iload_n 3, 1) := dk_29 (dk_at dksX6_chalksOf_0 4 rfl rfl)
theorem dX6_chalksOf_5 : decode cX6_chalksOf 5 = .ok (.aload_n 0, 1) := dk_42 (dk_at dksX6_chalksOf_0 5 rfl rfl)
theorem dX6_chalksOf_6 : decode cX6_chalksOf 6 = .ok (.getfield 7, 3) := dk_180 0 7 (dk_at dksX6_chalksOf_0 6 rfl rfl)
theorem dX6_chalksOf_9 : decode cX6_chalksOf 9 = .ok (.sipush 150, 3) := dk_17 0 150 (dk_at dksX6_chalksOf_0 9 rfl rfl)
theorem dX6_chalksOf_12 : decode cX6_chalksOf 12 = .ok (.iaload, 1) := dk_46 (dk_at dksX6_chalksOf_0 12 rfl rfl)
theorem dX6_chalksOf_13 : decode cX6_chalksOf 13 = .ok (.if_icmp .ge 30, 3) := dk_162 0 30 (dk_at dksX6_chalksOf_0 13 rfl rfl)
theorem dX6_chalksOf_16 : decode cX6_chalksOf 16 = .ok (.iload_n 2, 1) := dk_28 (dk_at dksX6_chalksOf_0 16 rfl rfl)
theorem dX6_chalksOf_17 : decode cX6_chalksOf 17 = .ok (.aload_n 0, 1) := dk_42 (dk_at dksX6_chalksOf_0 17 rfl rfl)
theorem dX6_chalksOf_18 : decode cX6_chalksOf 18 = .ok (.getfield 7, 3) := dk_180 0 7 (dk_at dksX6_chalksOf_0 18 rfl rfl)
theorem dX6_chalksOf_21 : decode cX6_chalksOf 21 = .ok (.bipush 110, 2) := dk_16 110 (dk_at dksX6_chalksOf_0 21 rfl rfl)
theorem dX6_chalksOf_23 : decode cX6_chalksOf 23 = .ok (.iload_n 3, 1) := dk_29 (dk_at dksX6_chalksOf_0 23 rfl rfl)
theorem dX6_chalksOf_24 : decode cX6_chalksOf 24 = .ok (.iadd, 1) := dk_96 (dk_at dksX6_chalksOf_1 0 rfl rfl)
theorem dX6_chalksOf_25 : decode cX6_chalksOf 25 = .ok (.iaload, 1) := dk_46 (dk_at dksX6_chalksOf_1 1 rfl rfl)
theorem dX6_chalksOf_26 : decode cX6_chalksOf 26 = .ok (.iload_n 1, 1) := dk_27 (dk_at dksX6_chalksOf_1 2 rfl rfl)
theorem dX6_chalksOf_27 : decode cX6_chalksOf 27 = .ok (.if_icmp .ne 7, 3) := dk_160 0 7 (dk_at dksX6_chalksOf_1 3 rfl rfl)
theorem dX6_chalksOf_30 : decode cX6_chalksOf 30 = .ok (.iconst 1, 1) := dk_4 (dk_at dksX6_chalksOf_1 6 rfl rfl)
theorem dX6_chalksOf_31 : decode cX6_chalksOf 31 = .ok (.goto 4, 3) := dk_167 0 4 (dk_at dksX6_chalksOf_1 7 rfl rfl)
theorem dX6_chalksOf_34 : decode cX6_chalksOf 34 = .ok (.iconst 0, 1) := dk_3 (dk_at dksX6_chalksOf_1 10 rfl rfl)
theorem dX6_chalksOf_35 : decode cX6_chalksOf 35 = .ok (.iadd, 1) := dk_96 (dk_at dksX6_chalksOf_1 11 rfl rfl)
theorem dX6_chalksOf_36 : decode cX6_chalksOf 36 = .ok (.istore_n 2, 1) := dk_61 (dk_at dksX6_chalksOf_1 12 rfl rfl)
theorem dX6_chalksOf_37 : decode cX6_chalksOf 37 = .ok (.iinc 3 1, 3) := dk_132 3 1 (dk_at dksX6_chalksOf_1 13 rfl rfl)
theorem dX6_chalksOf_40 : decode cX6_chalksOf 40 = .ok (.goto (-36), 3) := dk_167 255 220 (dk_at dksX6_chalksOf_1 16 rfl rfl)
theorem dX6_chalksOf_43 : decode cX6_chalksOf 43 = .ok (.iload_n 2, 1) := dk_28 (dk_at dksX6_chalksOf_1 19 rfl rfl)
theorem dX6_chalksOf_44 : decode cX6_chalksOf 44 = .ok (.ireturn, 1) := dk_172 (dk_at dksX6_chalksOf_1 20 rfl rfl)
abbrev cX6_pays : ByteArray := prog_20_method_56_code
def yX6_pays : MethodName := ⟨RX6, "pays", "(II)V"⟩
def dkwX6_pays_1 : List UInt8 := [79, 42, 28, 182, 0, 156, 42, 28, 182, 1, 43, 177]
abbrev dktX6_pays_1 : List UInt8 := dkwX6_pays_1 ++ []
def dkwX6_pays_0 : List UInt8 := [42, 180, 0, 7, 3, 16, 10, 27, 104, 96, 28, 96, 3, 42, 27, 28, 182, 0, 147, 4, 100, 184, 0, 143]
abbrev dktX6_pays_0 : List UInt8 := dkwX6_pays_0 ++ dktX6_pays_1
theorem dksX6_pays_0 : cX6_pays.data.toList.drop 0 = dktX6_pays_0 := by decide +kernel
theorem dksX6_pays_1 : cX6_pays.data.toList.drop 24 = dktX6_pays_1 := dk_seg dksX6_pays_0 24 rfl rfl
theorem dX6_pays_0 : decode cX6_pays 0 = .ok (.aload_n 0, 1) := dk_42 (dk_at dksX6_pays_0 0 rfl rfl)
theorem dX6_pays_1 : decode cX6_pays 1 = .ok (.getfield 7, 3) := dk_180 0 7 (dk_at dksX6_pays_0 1 rfl rfl)
theorem dX6_pays_4 : decode cX6_pays 4 = .ok (.iconst 0, 1) := dk_3 (dk_at dksX6_pays_0 4 rfl rfl)
theorem dX6_pays_5 : decode cX6_pays 5 = .ok (.bipush 10, 2) := dk_16 10 (dk_at dksX6_pays_0 5 rfl rfl)
theorem dX6_pays_7 : decode cX6_pays 7 = .ok (.iload_n 1, 1) := dk_27 (dk_at dksX6_pays_0 7 rfl rfl)
theorem dX6_pays_8 : decode cX6_pays 8 = .ok (.imul, 1) := dk_104 (dk_at dksX6_pays_0 8 rfl rfl)
theorem dX6_pays_9 : decode cX6_pays 9 = .ok (.iadd, 1) := dk_96 (dk_at dksX6_pays_0 9 rfl rfl)
theorem dX6_pays_10 : decode cX6_pays 10 = .ok (.iload_n 2, 1) := dk_28 (dk_at dksX6_pays_0 10 rfl rfl)
theorem dX6_pays_11 : decode cX6_pays 11 = .ok (.iadd, 1) := dk_96 (dk_at dksX6_pays_0 11 rfl rfl)
theorem dX6_pays_12 : decode cX6_pays 12 = .ok (.iconst 0, 1) := dk_3 (dk_at dksX6_pays_0 12 rfl rfl)
theorem dX6_pays_13 : decode cX6_pays 13 = .ok (.aload_n 0, 1) := dk_42 (dk_at dksX6_pays_0 13 rfl rfl)
theorem dX6_pays_14 : decode cX6_pays 14 = .ok (.iload_n 1, 1) := dk_27 (dk_at dksX6_pays_0 14 rfl rfl)
theorem dX6_pays_15 : decode cX6_pays 15 = .ok (.iload_n 2, 1) := dk_28 (dk_at dksX6_pays_0 15 rfl rfl)
theorem dX6_pays_16 : decode cX6_pays 16 = .ok (.invokevirtual 147, 3) := dk_182 0 147 (dk_at dksX6_pays_0 16 rfl rfl)
theorem dX6_pays_19 : decode cX6_pays 19 = .ok (.iconst 1, 1) := dk_4 (dk_at dksX6_pays_0 19 rfl rfl)
theorem dX6_pays_20 : decode cX6_pays 20 = .ok (.isub, 1) := dk_100 (dk_at dksX6_pays_0 20 rfl rfl)
theorem dX6_pays_21 : decode cX6_pays 21 = .ok (.invokestatic 143, 3) := dk_184 0 143 (dk_at dksX6_pays_0 21 rfl rfl)
theorem dX6_pays_24 : decode cX6_pays 24 = .ok (.iastore, 1) := dk_79 (dk_at dksX6_pays_1 0 rfl rfl)
theorem dX6_pays_25 : decode cX6_pays 25 = .ok (.aload_n 0, 1) := dk_42 (dk_at dksX6_pays_1 1 rfl rfl)
theorem dX6_pays_26 : decode cX6_pays 26 = .ok (.iload_n 2, 1) := dk_28 (dk_at dksX6_pays_1 2 rfl rfl)
theorem dX6_pays_27 : decode cX6_pays 27 = .ok (.invokevirtual 156, 3) := dk_182 0 156 (dk_at dksX6_pays_1 3 rfl rfl)
theorem dX6_pays_30 : decode cX6_pays 30 = .ok (.aload_n 0, 1) := dk_42 (dk_at dksX6_pays_1 6 rfl rfl)
theorem dX6_pays_31 : decode cX6_pays 31 = .ok (.iload_n 2, 1) := dk_28 (dk_at dksX6_pays_1 7 rfl rfl)
theorem dX6_pays_32 : decode cX6_pays 32 = .ok (.invokevirtual 299, 3) := dk_182 1 43 (dk_at dksX6_pays_1 8 rfl rfl)
theorem dX6_pays_35 : decode cX6_pays 35 = .ok (.return_, 1) := dk_177 (dk_at dksX6_pays_1 11 rfl rfl)
abbrev cX6_chalks : ByteArray := prog_20_method_55_code
def yX6_chalks : MethodName := ⟨RX6, "chalks", "(I)V"⟩
def dkwX6_chalks_4 : List UInt8 := [79, 177]
abbrev dktX6_chalks_4 : List UInt8 := dkwX6_chalks_4 ++ []
def dkwX6_chalks_3 : List UInt8 := [17, 0, 150, 46, 96, 27, 79, 42, 180, 0, 7, 17, 0, 150, 42, 180, 0, 7, 17, 0, 150, 46, 4, 96]
abbrev dktX6_chalks_3 : List UInt8 := dkwX6_chalks_3 ++ dktX6_chalks_4
def dkwX6_chalks_2 : List UInt8 := [167, 255, 227, 42, 180, 0, 7, 17, 0, 150, 16, 39, 79, 42, 180, 0, 7, 16, 110, 42, 180, 0, 7]
abbrev dktX6_chalks_2 : List UInt8 := dkwX6_chalks_2 ++ dktX6_chalks_3
def dkwX6_chalks_1 : List UInt8 := [180, 0, 7, 16, 110, 28, 96, 4, 100, 42, 180, 0, 7, 16, 110, 28, 96, 46, 79, 132, 2, 1]
abbrev dktX6_chalks_1 : List UInt8 := dkwX6_chalks_1 ++ dktX6_chalks_2
def dkwX6_chalks_0 : List UInt8 := [42, 180, 0, 7, 17, 0, 150, 46, 16, 40, 160, 0, 47, 4, 61, 28, 16, 40, 162, 0, 29, 42]
abbrev dktX6_chalks_0 : List UInt8 := dkwX6_chalks_0 ++ dktX6_chalks_1
theorem dksX6_chalks_0 : cX6_chalks.data.toList.drop 0 = dktX6_chalks_0 := by decide +kernel
theorem dksX6_chalks_1 : cX6_chalks.data.toList.drop 22 = dktX6_chalks_1 := dk_seg dksX6_chalks_0 22 rfl rfl
theorem dksX6_chalks_2 : cX6_chalks.data.toList.drop 44 = dktX6_chalks_2 := dk_seg dksX6_chalks_1 22 rfl rfl
theorem dksX6_chalks_3 : cX6_chalks.data.toList.drop 67 = dktX6_chalks_3 := dk_seg dksX6_chalks_2 23 rfl rfl
theorem dksX6_chalks_4 : cX6_chalks.data.toList.drop 91 = dktX6_chalks_4 := dk_seg dksX6_chalks_3 24 rfl rfl
theorem dX6_chalks_0 : decode cX6_chalks 0 = .ok (.aload_n 0, 1) := dk_42 (dk_at dksX6_chalks_0 0 rfl rfl)
theorem dX6_chalks_1 : decode cX6_chalks 1 = .ok (.getfield 7, 3) := dk_180 0 7 (dk_at dksX6_chalks_0 1 rfl rfl)
theorem dX6_chalks_4 : decode cX6_chalks 4 = .ok (.sipush 150, 3) := dk_17 0 150 (dk_at dksX6_chalks_0 4 rfl rfl)
theorem dX6_chalks_7 : decode cX6_chalks 7 = .ok (.iaload, 1) := dk_46 (dk_at dksX6_chalks_0 7 rfl rfl)
theorem dX6_chalks_8 : decode cX6_chalks 8 = .ok (.bipush 40, 2) := dk_16 40 (dk_at dksX6_chalks_0 8 rfl rfl)
theorem dX6_chalks_10 : decode cX6_chalks 10 = .ok (.if_icmp .ne 47, 3) := dk_160 0 47 (dk_at dksX6_chalks_0 10 rfl rfl)
theorem dX6_chalks_13 : decode cX6_chalks 13 = .ok (.iconst 1, 1) := dk_4 (dk_at dksX6_chalks_0 13 rfl rfl)
theorem dX6_chalks_14 : decode cX6_chalks 14 = .ok (.istore_n 2, 1) := dk_61 (dk_at dksX6_chalks_0 14 rfl rfl)
theorem dX6_chalks_15 : decode cX6_chalks 15 = .ok (.iload_n 2, 1) := dk_28 (dk_at dksX6_chalks_0 15 rfl rfl)
theorem dX6_chalks_16 : decode cX6_chalks 16 = .ok (.bipush 40, 2) := dk_16 40 (dk_at dksX6_chalks_0 16 rfl rfl)
theorem dX6_chalks_18 : decode cX6_chalks 18 = .ok (.if_icmp .ge 29, 3) := dk_162 0 29 (dk_at dksX6_chalks_0 18 rfl rfl)
theorem dX6_chalks_21 : decode cX6_chalks 21 = .ok (.aload_n 0, 1) := dk_42 (dk_at dksX6_chalks_0 21 rfl rfl)
theorem dX6_chalks_22 : decode cX6_chalks 22 = .ok (.getfield 7, 3) := dk_180 0 7 (dk_at dksX6_chalks_1 0 rfl rfl)
theorem dX6_chalks_25 : decode cX6_chalks 25 = .ok (.bipush 110, 2) := dk_16 110 (dk_at dksX6_chalks_1 3 rfl rfl)
theorem dX6_chalks_27 : decode cX6_chalks 27 = .ok (.iload_n 2, 1) := dk_28 (dk_at dksX6_chalks_1 5 rfl rfl)
theorem dX6_chalks_28 : decode cX6_chalks 28 = .ok (.iadd, 1) := dk_96 (dk_at dksX6_chalks_1 6 rfl rfl)
theorem dX6_chalks_29 : decode cX6_chalks 29 = .ok (.iconst 1, 1) := dk_4 (dk_at dksX6_chalks_1 7 rfl rfl)
theorem dX6_chalks_30 : decode cX6_chalks 30 = .ok (.isub, 1) := dk_100 (dk_at dksX6_chalks_1 8 rfl rfl)
theorem dX6_chalks_31 : decode cX6_chalks 31 = .ok (.aload_n 0, 1) := dk_42 (dk_at dksX6_chalks_1 9 rfl rfl)
theorem dX6_chalks_32 : decode cX6_chalks 32 = .ok (.getfield 7, 3) := dk_180 0 7 (dk_at dksX6_chalks_1 10 rfl rfl)
theorem dX6_chalks_35 : decode cX6_chalks 35 = .ok (.bipush 110, 2) := dk_16 110 (dk_at dksX6_chalks_1 13 rfl rfl)
theorem dX6_chalks_37 : decode cX6_chalks 37 = .ok (.iload_n 2, 1) := dk_28 (dk_at dksX6_chalks_1 15 rfl rfl)
theorem dX6_chalks_38 : decode cX6_chalks 38 = .ok (.iadd, 1) := dk_96 (dk_at dksX6_chalks_1 16 rfl rfl)
theorem dX6_chalks_39 : decode cX6_chalks 39 = .ok (.iaload, 1) := dk_46 (dk_at dksX6_chalks_1 17 rfl rfl)
theorem dX6_chalks_40 : decode cX6_chalks 40 = .ok (.iastore, 1) := dk_79 (dk_at dksX6_chalks_1 18 rfl rfl)
theorem dX6_chalks_41 : decode cX6_chalks 41 = .ok (.iinc 2 1, 3) := dk_132 2 1 (dk_at dksX6_chalks_1 19 rfl rfl)
theorem dX6_chalks_44 : decode cX6_chalks 44 = .ok (.goto (-29), 3) := dk_167 255 227 (dk_at dksX6_chalks_2 0 rfl rfl)
theorem dX6_chalks_47 : decode cX6_chalks 47 = .ok (.aload_n 0, 1) := dk_42 (dk_at dksX6_chalks_2 3 rfl rfl)
theorem dX6_chalks_48 : decode cX6_chalks 48 = .ok (.getfield 7, 3) := dk_180 0 7 (dk_at dksX6_chalks_2 4 rfl rfl)
theorem dX6_chalks_51 : decode cX6_chalks 51 = .ok (.sipush 150, 3) := dk_17 0 150 (dk_at dksX6_chalks_2 7 rfl rfl)
theorem dX6_chalks_54 : decode cX6_chalks 54 = .ok (.bipush 39, 2) := dk_16 39 (dk_at dksX6_chalks_2 10 rfl rfl)
theorem dX6_chalks_56 : decode cX6_chalks 56 = .ok (.iastore, 1) := dk_79 (dk_at dksX6_chalks_2 12 rfl rfl)
theorem dX6_chalks_57 : decode cX6_chalks 57 = .ok (.aload_n 0, 1) := dk_42 (dk_at dksX6_chalks_2 13 rfl rfl)
theorem dX6_chalks_58 : decode cX6_chalks 58 = .ok (.getfield 7, 3) := dk_180 0 7 (dk_at dksX6_chalks_2 14 rfl rfl)
theorem dX6_chalks_61 : decode cX6_chalks 61 = .ok (.bipush 110, 2) := dk_16 110 (dk_at dksX6_chalks_2 17 rfl rfl)
theorem dX6_chalks_63 : decode cX6_chalks 63 = .ok (.aload_n 0, 1) := dk_42 (dk_at dksX6_chalks_2 19 rfl rfl)
theorem dX6_chalks_64 : decode cX6_chalks 64 = .ok (.getfield 7, 3) := dk_180 0 7 (dk_at dksX6_chalks_2 20 rfl rfl)
theorem dX6_chalks_67 : decode cX6_chalks 67 = .ok (.sipush 150, 3) := dk_17 0 150 (dk_at dksX6_chalks_3 0 rfl rfl)
theorem dX6_chalks_70 : decode cX6_chalks 70 = .ok (.iaload, 1) := dk_46 (dk_at dksX6_chalks_3 3 rfl rfl)
theorem dX6_chalks_71 : decode cX6_chalks 71 = .ok (.iadd, 1) := dk_96 (dk_at dksX6_chalks_3 4 rfl rfl)
theorem dX6_chalks_72 : decode cX6_chalks 72 = .ok (.iload_n 1, 1) := dk_27 (dk_at dksX6_chalks_3 5 rfl rfl)
theorem dX6_chalks_73 : decode cX6_chalks 73 = .ok (.iastore, 1) := dk_79 (dk_at dksX6_chalks_3 6 rfl rfl)
theorem dX6_chalks_74 : decode cX6_chalks 74 = .ok (.aload_n 0, 1) := dk_42 (dk_at dksX6_chalks_3 7 rfl rfl)
theorem dX6_chalks_75 : decode cX6_chalks 75 = .ok (.getfield 7, 3) := dk_180 0 7 (dk_at dksX6_chalks_3 8 rfl rfl)
theorem dX6_chalks_78 : decode cX6_chalks 78 = .ok (.sipush 150, 3) := dk_17 0 150 (dk_at dksX6_chalks_3 11 rfl rfl)
theorem dX6_chalks_81 : decode cX6_chalks 81 = .ok (.aload_n 0, 1) := dk_42 (dk_at dksX6_chalks_3 14 rfl rfl)
theorem dX6_chalks_82 : decode cX6_chalks 82 = .ok (.getfield 7, 3) := dk_180 0 7 (dk_at dksX6_chalks_3 15 rfl rfl)
theorem dX6_chalks_85 : decode cX6_chalks 85 = .ok (.sipush 150, 3) := dk_17 0 150 (dk_at dksX6_chalks_3 18 rfl rfl)
theorem dX6_chalks_88 : decode cX6_chalks 88 = .ok (.iaload, 1) := dk_46 (dk_at dksX6_chalks_3 21 rfl rfl)
theorem dX6_chalks_89 : decode cX6_chalks 89 = .ok (.iconst 1, 1) := dk_4 (dk_at dksX6_chalks_3 22 rfl rfl)
theorem dX6_chalks_90 : decode cX6_chalks 90 = .ok (.iadd, 1) := dk_96 (dk_at dksX6_chalks_3 23 rfl rfl)
theorem dX6_chalks_91 : decode cX6_chalks 91 = .ok (.iastore, 1) := dk_79 (dk_at dksX6_chalks_4 0 rfl rfl)
theorem dX6_chalks_92 : decode cX6_chalks 92 = .ok (.return_, 1) := dk_177 (dk_at dksX6_chalks_4 1 rfl rfl)
abbrev cX6_holds : ByteArray := prog_20_method_60_code
def yX6_holds : MethodName := ⟨RX6, "holds", "(I)V"⟩
def dkwX6_holds_2 : List UInt8 := [160, 0, 4, 177, 42, 27, 182, 1, 59, 61, 28, 155, 0, 9, 42, 27, 28, 182, 1, 62, 177]
abbrev dktX6_holds_2 : List UInt8 := dkwX6_holds_2 ++ []
def dkwX6_holds_1 : List UInt8 := [17, 0, 155, 46, 16, 6, 16, 19, 184, 0, 123, 153, 0, 15, 42, 180, 0, 7, 17, 0, 157, 46, 4]
abbrev dktX6_holds_1 : List UInt8 := dkwX6_holds_1 ++ dktX6_holds_2
def dkwX6_holds_0 : List UInt8 := [42, 180, 0, 7, 16, 100, 27, 96, 42, 180, 0, 7, 16, 100, 27, 96, 46, 4, 96, 79, 42, 180, 0, 7]
abbrev dktX6_holds_0 : List UInt8 := dkwX6_holds_0 ++ dktX6_holds_1
theorem dksX6_holds_0 : cX6_holds.data.toList.drop 0 = dktX6_holds_0 := by decide +kernel
theorem dksX6_holds_1 : cX6_holds.data.toList.drop 24 = dktX6_holds_1 := dk_seg dksX6_holds_0 24 rfl rfl
theorem dksX6_holds_2 : cX6_holds.data.toList.drop 47 = dktX6_holds_2 := dk_seg dksX6_holds_1 23 rfl rfl
theorem dX6_holds_0 : decode cX6_holds 0 = .ok (.aload_n 0, 1) := dk_42 (dk_at dksX6_holds_0 0 rfl rfl)
theorem dX6_holds_1 : decode cX6_holds 1 = .ok (.getfield 7, 3) := dk_180 0 7 (dk_at dksX6_holds_0 1 rfl rfl)
theorem dX6_holds_4 : decode cX6_holds 4 = .ok (.bipush 100, 2) := dk_16 100 (dk_at dksX6_holds_0 4 rfl rfl)
theorem dX6_holds_6 : decode cX6_holds 6 = .ok (.iload_n 1, 1) := dk_27 (dk_at dksX6_holds_0 6 rfl rfl)
theorem dX6_holds_7 : decode cX6_holds 7 = .ok (.iadd, 1) := dk_96 (dk_at dksX6_holds_0 7 rfl rfl)
theorem dX6_holds_8 : decode cX6_holds 8 = .ok (.aload_n 0, 1) := dk_42 (dk_at dksX6_holds_0 8 rfl rfl)
theorem dX6_holds_9 : decode cX6_holds 9 = .ok (.getfield 7, 3) := dk_180 0 7 (dk_at dksX6_holds_0 9 rfl rfl)
theorem dX6_holds_12 : decode cX6_holds 12 = .ok (.bipush 100, 2) := dk_16 100 (dk_at dksX6_holds_0 12 rfl rfl)
theorem dX6_holds_14 : decode cX6_holds 14 = .ok (.iload_n 1, 1) := dk_27 (dk_at dksX6_holds_0 14 rfl rfl)
theorem dX6_holds_15 : decode cX6_holds 15 = .ok (.iadd, 1) := dk_96 (dk_at dksX6_holds_0 15 rfl rfl)
theorem dX6_holds_16 : decode cX6_holds 16 = .ok (.iaload, 1) := dk_46 (dk_at dksX6_holds_0 16 rfl rfl)
theorem dX6_holds_17 : decode cX6_holds 17 = .ok (.iconst 1, 1) := dk_4 (dk_at dksX6_holds_0 17 rfl rfl)
theorem dX6_holds_18 : decode cX6_holds 18 = .ok (.iadd, 1) := dk_96 (dk_at dksX6_holds_0 18 rfl rfl)
theorem dX6_holds_19 : decode cX6_holds 19 = .ok (.iastore, 1) := dk_79 (dk_at dksX6_holds_0 19 rfl rfl)
theorem dX6_holds_20 : decode cX6_holds 20 = .ok (.aload_n 0, 1) := dk_42 (dk_at dksX6_holds_0 20 rfl rfl)
theorem dX6_holds_21 : decode cX6_holds 21 = .ok (.getfield 7, 3) := dk_180 0 7 (dk_at dksX6_holds_0 21 rfl rfl)
theorem dX6_holds_24 : decode cX6_holds 24 = .ok (.sipush 155, 3) := dk_17 0 155 (dk_at dksX6_holds_1 0 rfl rfl)
theorem dX6_holds_27 : decode cX6_holds 27 = .ok (.iaload, 1) := dk_46 (dk_at dksX6_holds_1 3 rfl rfl)
theorem dX6_holds_28 : decode cX6_holds 28 = .ok (.bipush 6, 2) := dk_16 6 (dk_at dksX6_holds_1 4 rfl rfl)
theorem dX6_holds_30 : decode cX6_holds 30 = .ok (.bipush 19, 2) := dk_16 19 (dk_at dksX6_holds_1 6 rfl rfl)
theorem dX6_holds_32 : decode cX6_holds 32 = .ok (.invokestatic 123, 3) := dk_184 0 123 (dk_at dksX6_holds_1 8 rfl rfl)
theorem dX6_holds_35 : decode cX6_holds 35 = .ok (.ifCond .eq 15, 3) := dk_153 0 15 (dk_at dksX6_holds_1 11 rfl rfl)
theorem dX6_holds_38 : decode cX6_holds 38 = .ok (.aload_n 0, 1) := dk_42 (dk_at dksX6_holds_1 14 rfl rfl)
theorem dX6_holds_39 : decode cX6_holds 39 = .ok (.getfield 7, 3) := dk_180 0 7 (dk_at dksX6_holds_1 15 rfl rfl)
theorem dX6_holds_42 : decode cX6_holds 42 = .ok (.sipush 157, 3) := dk_17 0 157 (dk_at dksX6_holds_1 18 rfl rfl)
theorem dX6_holds_45 : decode cX6_holds 45 = .ok (.iaload, 1) := dk_46 (dk_at dksX6_holds_1 21 rfl rfl)
theorem dX6_holds_46 : decode cX6_holds 46 = .ok (.iconst 1, 1) := dk_4 (dk_at dksX6_holds_1 22 rfl rfl)
theorem dX6_holds_47 : decode cX6_holds 47 = .ok (.if_icmp .ne 4, 3) := dk_160 0 4 (dk_at dksX6_holds_2 0 rfl rfl)
theorem dX6_holds_50 : decode cX6_holds 50 = .ok (.return_, 1) := dk_177 (dk_at dksX6_holds_2 3 rfl rfl)
theorem dX6_holds_51 : decode cX6_holds 51 = .ok (.aload_n 0, 1) := dk_42 (dk_at dksX6_holds_2 4 rfl rfl)
theorem dX6_holds_52 : decode cX6_holds 52 = .ok (.iload_n 1, 1) := dk_27 (dk_at dksX6_holds_2 5 rfl rfl)
theorem dX6_holds_53 : decode cX6_holds 53 = .ok (.invokevirtual 315, 3) := dk_182 1 59 (dk_at dksX6_holds_2 6 rfl rfl)
theorem dX6_holds_56 : decode cX6_holds 56 = .ok (.istore_n 2, 1) := dk_61 (dk_at dksX6_holds_2 9 rfl rfl)
theorem dX6_holds_57 : decode cX6_holds 57 = .ok (.iload_n 2, 1) := dk_28 (dk_at dksX6_holds_2 10 rfl rfl)
theorem dX6_holds_58 : decode cX6_holds 58 = .ok (.ifCond .lt 9, 3) := dk_155 0 9 (dk_at dksX6_holds_2 11 rfl rfl)
theorem dX6_holds_61 : decode cX6_holds 61 = .ok (.aload_n 0, 1) := dk_42 (dk_at dksX6_holds_2 14 rfl rfl)
theorem dX6_holds_62 : decode cX6_holds 62 = .ok (.iload_n 1, 1) := dk_27 (dk_at dksX6_holds_2 15 rfl rfl)
theorem dX6_holds_63 : decode cX6_holds 63 = .ok (.iload_n 2, 1) := dk_28 (dk_at dksX6_holds_2 16 rfl rfl)
theorem dX6_holds_64 : decode cX6_holds 64 = .ok (.invokevirtual 318, 3) := dk_182 1 62 (dk_at dksX6_holds_2 17 rfl rfl)
theorem dX6_holds_67 : decode cX6_holds 67 = .ok (.return_, 1) := dk_177 (dk_at dksX6_holds_2 20 rfl rfl)
abbrev cX6_nextPaid : ByteArray := prog_20_method_58_code
def yX6_nextPaid : MethodName := ⟨RX6, "nextPaid", "(I)I"⟩
def dkwX6_nextPaid_2 : List UInt8 := [29, 163, 0, 6, 167, 0, 9, 21, 5, 62, 21, 4, 61, 132, 4, 1, 167, 255, 200, 28, 172]
abbrev dktX6_nextPaid_2 : List UInt8 := dkwX6_nextPaid_2 ++ []
def dkwX6_nextPaid_1 : List UInt8 := [42, 27, 21, 4, 182, 0, 147, 154, 0, 6, 167, 0, 27, 42, 27, 21, 4, 182, 1, 56, 54, 5, 21, 5]
abbrev dktX6_nextPaid_1 : List UInt8 := dkwX6_nextPaid_1 ++ dktX6_nextPaid_2
def dkwX6_nextPaid_0 : List UInt8 := [16, 254, 61, 3, 62, 3, 54, 4, 21, 4, 16, 10, 162, 0, 55, 42, 21, 4, 182, 0, 135, 153, 0, 40]
abbrev dktX6_nextPaid_0 : List UInt8 := dkwX6_nextPaid_0 ++ dktX6_nextPaid_1
theorem dksX6_nextPaid_0 : cX6_nextPaid.data.toList.drop 0 = dktX6_nextPaid_0 := by decide +kernel
theorem dksX6_nextPaid_1 : cX6_nextPaid.data.toList.drop 24 = dktX6_nextPaid_1 := dk_seg dksX6_nextPaid_0 24 rfl rfl
theorem dksX6_nextPaid_2 : cX6_nextPaid.data.toList.drop 48 = dktX6_nextPaid_2 := dk_seg dksX6_nextPaid_1 24 rfl rfl
theorem dX6_nextPaid_0 : decode cX6_nextPaid 0 = .ok (.bipush (-2), 2) := dk_16 254 (dk_at dksX6_nextPaid_0 0 rfl rfl)
theorem dX6_nextPaid_2 : decode cX6_nextPaid 2 = .ok (.istore_n 2, 1) := dk_61 (dk_at dksX6_nextPaid_0 2 rfl rfl)
theorem dX6_nextPaid_3 : decode cX6_nextPaid 3 = .ok (.iconst 0, 1) := dk_3 (dk_at dksX6_nextPaid_0 3 rfl rfl)
theorem dX6_nextPaid_4 : decode cX6_nextPaid 4 = .ok (.istore_n 3, 1) := dk_62 (dk_at dksX6_nextPaid_0 4 rfl rfl)
theorem dX6_nextPaid_5 : decode cX6_nextPaid 5 = .ok (.iconst 0, 1) := dk_3 (dk_at dksX6_nextPaid_0 5 rfl rfl)
theorem dX6_nextPaid_6 : decode cX6_nextPaid 6 = .ok (.istore 4, 2) := dk_54 4 (dk_at dksX6_nextPaid_0 6 rfl rfl)
theorem dX6_nextPaid_8 : decode cX6_nextPaid 8 = .ok (.iload 4, 2) := dk_21 4 (dk_at dksX6_nextPaid_0 8 rfl rfl)
theorem dX6_nextPaid_10 : decode cX6_nextPaid 10 = .ok (.bipush 10, 2) := dk_16 10 (dk_at dksX6_nextPaid_0 10 rfl rfl)
theorem dX6_nextPaid_12 : decode cX6_nextPaid 12 = .ok (.if_icmp .ge 55, 3) := dk_162 0 55 (dk_at dksX6_nextPaid_0 12 rfl rfl)
theorem dX6_nextPaid_15 : decode cX6_nextPaid 15 = .ok (.aload_n 0, 1) := dk_42 (dk_at dksX6_nextPaid_0 15 rfl rfl)
theorem dX6_nextPaid_16 : decode cX6_nextPaid 16 = .ok (.iload 4, 2) := dk_21 4 (dk_at dksX6_nextPaid_0 16 rfl rfl)
theorem dX6_nextPaid_18 : decode cX6_nextPaid 18 = .ok (.invokevirtual 135, 3) := dk_182 0 135 (dk_at dksX6_nextPaid_0 18 rfl rfl)
theorem dX6_nextPaid_21 : decode cX6_nextPaid 21 = .ok (.ifCond .eq 40, 3) := dk_153 0 40 (dk_at dksX6_nextPaid_0 21 rfl rfl)
theorem dX6_nextPaid_24 : decode cX6_nextPaid 24 = .ok (.aload_n 0, 1) := dk_42 (dk_at dksX6_nextPaid_1 0 rfl rfl)
theorem dX6_nextPaid_25 : decode cX6_nextPaid 25 = .ok (.iload_n 1, 1) := dk_27 (dk_at dksX6_nextPaid_1 1 rfl rfl)
theorem dX6_nextPaid_26 : decode cX6_nextPaid 26 = .ok (.iload 4, 2) := dk_21 4 (dk_at dksX6_nextPaid_1 2 rfl rfl)
theorem dX6_nextPaid_28 : decode cX6_nextPaid 28 = .ok (.invokevirtual 147, 3) := dk_182 0 147 (dk_at dksX6_nextPaid_1 4 rfl rfl)
theorem dX6_nextPaid_31 : decode cX6_nextPaid 31 = .ok (.ifCond .ne 6, 3) := dk_154 0 6 (dk_at dksX6_nextPaid_1 7 rfl rfl)
theorem dX6_nextPaid_34 : decode cX6_nextPaid 34 = .ok (.goto 27, 3) := dk_167 0 27 (dk_at dksX6_nextPaid_1 10 rfl rfl)
theorem dX6_nextPaid_37 : decode cX6_nextPaid 37 = .ok (.aload_n 0, 1) := dk_42 (dk_at dksX6_nextPaid_1 13 rfl rfl)
theorem dX6_nextPaid_38 : decode cX6_nextPaid 38 = .ok (.iload_n 1, 1) := dk_27 (dk_at dksX6_nextPaid_1 14 rfl rfl)
theorem dX6_nextPaid_39 : decode cX6_nextPaid 39 = .ok (.iload 4, 2) := dk_21 4 (dk_at dksX6_nextPaid_1 15 rfl rfl)
theorem dX6_nextPaid_41 : decode cX6_nextPaid 41 = .ok (.invokevirtual 312, 3) := dk_182 1 56 (dk_at dksX6_nextPaid_1 17 rfl rfl)
theorem dX6_nextPaid_44 : decode cX6_nextPaid 44 = .ok (.istore 5, 2) := dk_54 5 (dk_at dksX6_nextPaid_1 20 rfl rfl)
theorem dX6_nextPaid_46 : decode cX6_nextPaid 46 = .ok (.iload 5, 2) := dk_21 5 (dk_at dksX6_nextPaid_1 22 rfl rfl)
theorem dX6_nextPaid_48 : decode cX6_nextPaid 48 = .ok (.iload_n 3, 1) := dk_29 (dk_at dksX6_nextPaid_2 0 rfl rfl)
theorem dX6_nextPaid_49 : decode cX6_nextPaid 49 = .ok (.if_icmp .gt 6, 3) := dk_163 0 6 (dk_at dksX6_nextPaid_2 1 rfl rfl)
theorem dX6_nextPaid_52 : decode cX6_nextPaid 52 = .ok (.goto 9, 3) := dk_167 0 9 (dk_at dksX6_nextPaid_2 4 rfl rfl)
theorem dX6_nextPaid_55 : decode cX6_nextPaid 55 = .ok (.iload 5, 2) := dk_21 5 (dk_at dksX6_nextPaid_2 7 rfl rfl)
theorem dX6_nextPaid_57 : decode cX6_nextPaid 57 = .ok (.istore_n 3, 1) := dk_62 (dk_at dksX6_nextPaid_2 9 rfl rfl)
theorem dX6_nextPaid_58 : decode cX6_nextPaid 58 = .ok (.iload 4, 2) := dk_21 4 (dk_at dksX6_nextPaid_2 10 rfl rfl)
theorem dX6_nextPaid_60 : decode cX6_nextPaid 60 = .ok (.istore_n 2, 1) := dk_61 (dk_at dksX6_nextPaid_2 12 rfl rfl)
theorem dX6_nextPaid_61 : decode cX6_nextPaid 61 = .ok (.iinc 4 1, 3) := dk_132 4 1 (dk_at dksX6_nextPaid_2 13 rfl rfl)
theorem dX6_nextPaid_64 : decode cX6_nextPaid 64 = .ok (.goto (-56), 3) := dk_167 255 200 (dk_at dksX6_nextPaid_2 16 rfl rfl)
theorem dX6_nextPaid_67 : decode cX6_nextPaid 67 = .ok (.iload_n 2, 1) := dk_28 (dk_at dksX6_nextPaid_2 19 rfl rfl)
theorem dX6_nextPaid_68 : decode cX6_nextPaid 68 = .ok (.ireturn, 1) := dk_172 (dk_at dksX6_nextPaid_2 20 rfl rfl)
abbrev cX6_likesBy : ByteArray := prog_20_method_50_code
def yX6_likesBy : MethodName := ⟨RX6, "likesBy", "(II)I"⟩
def dkwX6_likesBy_1 : List UInt8 := [17, 39, 15, 182, 1, 24, 172]
abbrev dktX6_likesBy_1 : List UInt8 := dkwX6_likesBy_1 ++ []
def dkwX6_likesBy_0 : List UInt8 := [42, 27, 28, 182, 1, 18, 42, 16, 115, 182, 1, 21, 153, 0, 7, 3, 167, 0, 12, 42, 16, 101]
abbrev dktX6_likesBy_0 : List UInt8 := dkwX6_likesBy_0 ++ dktX6_likesBy_1
theorem dksX6_likesBy_0 : cX6_likesBy.data.toList.drop 0 = dktX6_likesBy_0 := by decide +kernel
theorem dksX6_likesBy_1 : cX6_likesBy.data.toList.drop 22 = dktX6_likesBy_1 := dk_seg dksX6_likesBy_0 22 rfl rfl
theorem dX6_likesBy_0 : decode cX6_likesBy 0 = .ok (.aload_n 0, 1) := dk_42 (dk_at dksX6_likesBy_0 0 rfl rfl)
theorem dX6_likesBy_1 : decode cX6_likesBy 1 = .ok (.iload_n 1, 1) := dk_27 (dk_at dksX6_likesBy_0 1 rfl rfl)
theorem dX6_likesBy_2 : decode cX6_likesBy 2 = .ok (.iload_n 2, 1) := dk_28 (dk_at dksX6_likesBy_0 2 rfl rfl)
theorem dX6_likesBy_3 : decode cX6_likesBy 3 = .ok (.invokevirtual 274, 3) := dk_182 1 18 (dk_at dksX6_likesBy_0 3 rfl rfl)
theorem dX6_likesBy_6 : decode cX6_likesBy 6 = .ok (.aload_n 0, 1) := dk_42 (dk_at dksX6_likesBy_0 6 rfl rfl)
theorem dX6_likesBy_7 : decode cX6_likesBy 7 = .ok (.bipush 115, 2) := dk_16 115 (dk_at dksX6_likesBy_0 7 rfl rfl)
theorem dX6_likesBy_9 : decode cX6_likesBy 9 = .ok (.invokevirtual 277, 3) := dk_182 1 21 (dk_at dksX6_likesBy_0 9 rfl rfl)
theorem dX6_likesBy_12 : decode cX6_likesBy 12 = .ok (.ifCond .eq 7, 3) := dk_153 0 7 (dk_at dksX6_likesBy_0 12 rfl rfl)
theorem dX6_likesBy_15 : decode cX6_likesBy 15 = .ok (.iconst 0, 1) := dk_3 (dk_at dksX6_likesBy_0 15 rfl rfl)
theorem dX6_likesBy_16 : decode cX6_likesBy 16 = .ok (.goto 12, 3) := dk_167 0 12 (dk_at dksX6_likesBy_0 16 rfl rfl)
theorem dX6_likesBy_19 : decode cX6_likesBy 19 = .ok (.aload_n 0, 1) := dk_42 (dk_at dksX6_likesBy_0 19 rfl rfl)
theorem dX6_likesBy_20 : decode cX6_likesBy 20 = .ok (.bipush 101, 2) := dk_16 101 (dk_at dksX6_likesBy_0 20 rfl rfl)
theorem dX6_likesBy_22 : decode cX6_likesBy 22 = .ok (.sipush 9999, 3) := dk_17 39 15 (dk_at dksX6_likesBy_1 0 rfl rfl)
theorem dX6_likesBy_25 : decode cX6_likesBy 25 = .ok (.invokevirtual 280, 3) := dk_182 1 24 (dk_at dksX6_likesBy_1 3 rfl rfl)
theorem dX6_likesBy_28 : decode cX6_likesBy 28 = .ok (.ireturn, 1) := dk_172 (dk_at dksX6_likesBy_1 6 rfl rfl)
abbrev cX6_holdsAny : ByteArray := prog_20_method_46_code
def yX6_holdsAny : MethodName := ⟨RX6, "holdsAny", "(I)Z"⟩
def dkwX6_holdsAny_2 : List UInt8 := [167, 255, 213, 3, 172]
abbrev dktX6_holdsAny_2 : List UInt8 := dkwX6_holdsAny_2 ++ []
def dkwX6_holdsAny_1 : List UInt8 := [180, 0, 56, 28, 46, 42, 180, 0, 59, 28, 46, 182, 1, 6, 4, 160, 0, 5, 4, 172, 132, 2, 1]
abbrev dktX6_holdsAny_1 : List UInt8 := dkwX6_holdsAny_1 ++ dktX6_holdsAny_2
def dkwX6_holdsAny_0 : List UInt8 := [3, 61, 28, 42, 180, 0, 255, 162, 0, 41, 42, 180, 0, 50, 28, 46, 27, 160, 0, 25, 42, 42]
abbrev dktX6_holdsAny_0 : List UInt8 := dkwX6_holdsAny_0 ++ dktX6_holdsAny_1
theorem dksX6_holdsAny_0 : cX6_holdsAny.data.toList.drop 0 = dktX6_holdsAny_0 := by decide +kernel
theorem dksX6_holdsAny_1 : cX6_holdsAny.data.toList.drop 22 = dktX6_holdsAny_1 := dk_seg dksX6_holdsAny_0 22 rfl rfl
theorem dksX6_holdsAny_2 : cX6_holdsAny.data.toList.drop 45 = dktX6_holdsAny_2 := dk_seg dksX6_holdsAny_1 23 rfl rfl
theorem dX6_holdsAny_0 : decode cX6_holdsAny 0 = .ok (.iconst 0, 1) := dk_3 (dk_at dksX6_holdsAny_0 0 rfl rfl)
theorem dX6_holdsAny_1 : decode cX6_holdsAny 1 = .ok (.istore_n 2, 1) := dk_61 (dk_at dksX6_holdsAny_0 1 rfl rfl)
theorem dX6_holdsAny_2 : decode cX6_holdsAny 2 = .ok (.iload_n 2, 1) := dk_28 (dk_at dksX6_holdsAny_0 2 rfl rfl)
theorem dX6_holdsAny_3 : decode cX6_holdsAny 3 = .ok (.aload_n 0, 1) := dk_42 (dk_at dksX6_holdsAny_0 3 rfl rfl)
theorem dX6_holdsAny_4 : decode cX6_holdsAny 4 = .ok (.getfield 255, 3) := dk_180 0 255 (dk_at dksX6_holdsAny_0 4 rfl rfl)
theorem dX6_holdsAny_7 : decode cX6_holdsAny 7 = .ok (.if_icmp .ge 41, 3) := dk_162 0 41 (dk_at dksX6_holdsAny_0 7 rfl rfl)
theorem dX6_holdsAny_10 : decode cX6_holdsAny 10 = .ok (.aload_n 0, 1) := dk_42 (dk_at dksX6_holdsAny_0 10 rfl rfl)
theorem dX6_holdsAny_11 : decode cX6_holdsAny 11 = .ok (.getfield 50, 3) := dk_180 0 50 (dk_at dksX6_holdsAny_0 11 rfl rfl)
theorem dX6_holdsAny_14 : decode cX6_holdsAny 14 = .ok (.iload_n 2, 1) := dk_28 (dk_at dksX6_holdsAny_0 14 rfl rfl)
theorem dX6_holdsAny_15 : decode cX6_holdsAny 15 = .ok (.iaload, 1) := dk_46 (dk_at dksX6_holdsAny_0 15 rfl rfl)
theorem dX6_holdsAny_16 : decode cX6_holdsAny 16 = .ok (.iload_n 1, 1) := dk_27 (dk_at dksX6_holdsAny_0 16 rfl rfl)
theorem dX6_holdsAny_17 : decode cX6_holdsAny 17 = .ok (.if_icmp .ne 25, 3) := dk_160 0 25 (dk_at dksX6_holdsAny_0 17 rfl rfl)
theorem dX6_holdsAny_20 : decode cX6_holdsAny 20 = .ok (.aload_n 0, 1) := dk_42 (dk_at dksX6_holdsAny_0 20 rfl rfl)
theorem dX6_holdsAny_21 : decode cX6_holdsAny 21 = .ok (.aload_n 0, 1) := dk_42 (dk_at dksX6_holdsAny_0 21 rfl rfl)
theorem dX6_holdsAny_22 : decode cX6_holdsAny 22 = .ok (.getfield 56, 3) := dk_180 0 56 (dk_at dksX6_holdsAny_1 0 rfl rfl)
theorem dX6_holdsAny_25 : decode cX6_holdsAny 25 = .ok (.iload_n 2, 1) := dk_28 (dk_at dksX6_holdsAny_1 3 rfl rfl)
theorem dX6_holdsAny_26 : decode cX6_holdsAny 26 = .ok (.iaload, 1) := dk_46 (dk_at dksX6_holdsAny_1 4 rfl rfl)
theorem dX6_holdsAny_27 : decode cX6_holdsAny 27 = .ok (.aload_n 0, 1) := dk_42 (dk_at dksX6_holdsAny_1 5 rfl rfl)
theorem dX6_holdsAny_28 : decode cX6_holdsAny 28 = .ok (.getfield 59, 3) := dk_180 0 59 (dk_at dksX6_holdsAny_1 6 rfl rfl)
theorem dX6_holdsAny_31 : decode cX6_holdsAny 31 = .ok (.iload_n 2, 1) := dk_28 (dk_at dksX6_holdsAny_1 9 rfl rfl)
theorem dX6_holdsAny_32 : decode cX6_holdsAny 32 = .ok (.iaload, 1) := dk_46 (dk_at dksX6_holdsAny_1 10 rfl rfl)
theorem dX6_holdsAny_33 : decode cX6_holdsAny 33 = .ok (.invokevirtual 262, 3) := dk_182 1 6 (dk_at dksX6_holdsAny_1 11 rfl rfl)
theorem dX6_holdsAny_36 : decode cX6_holdsAny 36 = .ok (.iconst 1, 1) := dk_4 (dk_at dksX6_holdsAny_1 14 rfl rfl)
theorem dX6_holdsAny_37 : decode cX6_holdsAny 37 = .ok (.if_icmp .ne 5, 3) := dk_160 0 5 (dk_at dksX6_holdsAny_1 15 rfl rfl)
theorem dX6_holdsAny_40 : decode cX6_holdsAny 40 = .ok (.iconst 1, 1) := dk_4 (dk_at dksX6_holdsAny_1 18 rfl rfl)
theorem dX6_holdsAny_41 : decode cX6_holdsAny 41 = .ok (.ireturn, 1) := dk_172 (dk_at dksX6_holdsAny_1 19 rfl rfl)
theorem dX6_holdsAny_42 : decode cX6_holdsAny 42 = .ok (.iinc 2 1, 3) := dk_132 2 1 (dk_at dksX6_holdsAny_1 20 rfl rfl)
theorem dX6_holdsAny_45 : decode cX6_holdsAny 45 = .ok (.goto (-43), 3) := dk_167 255 213 (dk_at dksX6_holdsAny_2 0 rfl rfl)
theorem dX6_holdsAny_48 : decode cX6_holdsAny 48 = .ok (.iconst 0, 1) := dk_3 (dk_at dksX6_holdsAny_2 3 rfl rfl)
theorem dX6_holdsAny_49 : decode cX6_holdsAny 49 = .ok (.ireturn, 1) := dk_172 (dk_at dksX6_holdsAny_2 4 rfl rfl)
abbrev cX6_setsOut : ByteArray := prog_20_method_59_code
def yX6_setsOut : MethodName := ⟨RX6, "setsOut", "(II)V"⟩
def dkwX6_setsOut_1 : List UInt8 := [17, 0, 153, 28, 79, 42, 180, 0, 7, 17, 0, 154, 42, 27, 28, 182, 1, 12, 79, 177]
abbrev dktX6_setsOut_1 : List UInt8 := dkwX6_setsOut_1 ++ []
def dkwX6_setsOut_0 : List UInt8 := [42, 180, 0, 7, 17, 0, 151, 16, 254, 79, 42, 180, 0, 7, 17, 0, 152, 27, 79, 42, 180, 0, 7]
abbrev dktX6_setsOut_0 : List UInt8 := dkwX6_setsOut_0 ++ dktX6_setsOut_1
theorem dksX6_setsOut_0 : cX6_setsOut.data.toList.drop 0 = dktX6_setsOut_0 := by decide +kernel
theorem dksX6_setsOut_1 : cX6_setsOut.data.toList.drop 23 = dktX6_setsOut_1 := dk_seg dksX6_setsOut_0 23 rfl rfl
theorem dX6_setsOut_0 : decode cX6_setsOut 0 = .ok (.aload_n 0, 1) := dk_42 (dk_at dksX6_setsOut_0 0 rfl rfl)
theorem dX6_setsOut_1 : decode cX6_setsOut 1 = .ok (.getfield 7, 3) := dk_180 0 7 (dk_at dksX6_setsOut_0 1 rfl rfl)
theorem dX6_setsOut_4 : decode cX6_setsOut 4 = .ok (.sipush 151, 3) := dk_17 0 151 (dk_at dksX6_setsOut_0 4 rfl rfl)
theorem dX6_setsOut_7 : decode cX6_setsOut 7 = .ok (.bipush (-2), 2) := dk_16 254 (dk_at dksX6_setsOut_0 7 rfl rfl)
theorem dX6_setsOut_9 : decode cX6_setsOut 9 = .ok (.iastore, 1) := dk_79 (dk_at dksX6_setsOut_0 9 rfl rfl)
theorem dX6_setsOut_10 : decode cX6_setsOut 10 = .ok (.aload_n 0, 1) := dk_42 (dk_at dksX6_setsOut_0 10 rfl rfl)
theorem dX6_setsOut_11 : decode cX6_setsOut 11 = .ok (.getfield 7, 3) := dk_180 0 7 (dk_at dksX6_setsOut_0 11 rfl rfl)
theorem dX6_setsOut_14 : decode cX6_setsOut 14 = .ok (.sipush 152, 3) := dk_17 0 152 (dk_at dksX6_setsOut_0 14 rfl rfl)
theorem dX6_setsOut_17 : decode cX6_setsOut 17 = .ok (.iload_n 1, 1) := dk_27 (dk_at dksX6_setsOut_0 17 rfl rfl)
theorem dX6_setsOut_18 : decode cX6_setsOut 18 = .ok (.iastore, 1) := dk_79 (dk_at dksX6_setsOut_0 18 rfl rfl)
theorem dX6_setsOut_19 : decode cX6_setsOut 19 = .ok (.aload_n 0, 1) := dk_42 (dk_at dksX6_setsOut_0 19 rfl rfl)
theorem dX6_setsOut_20 : decode cX6_setsOut 20 = .ok (.getfield 7, 3) := dk_180 0 7 (dk_at dksX6_setsOut_0 20 rfl rfl)
theorem dX6_setsOut_23 : decode cX6_setsOut 23 = .ok (.sipush 153, 3) := dk_17 0 153 (dk_at dksX6_setsOut_1 0 rfl rfl)
theorem dX6_setsOut_26 : decode cX6_setsOut 26 = .ok (.iload_n 2, 1) := dk_28 (dk_at dksX6_setsOut_1 3 rfl rfl)
theorem dX6_setsOut_27 : decode cX6_setsOut 27 = .ok (.iastore, 1) := dk_79 (dk_at dksX6_setsOut_1 4 rfl rfl)
theorem dX6_setsOut_28 : decode cX6_setsOut 28 = .ok (.aload_n 0, 1) := dk_42 (dk_at dksX6_setsOut_1 5 rfl rfl)
theorem dX6_setsOut_29 : decode cX6_setsOut 29 = .ok (.getfield 7, 3) := dk_180 0 7 (dk_at dksX6_setsOut_1 6 rfl rfl)
theorem dX6_setsOut_32 : decode cX6_setsOut 32 = .ok (.sipush 154, 3) := dk_17 0 154 (dk_at dksX6_setsOut_1 9 rfl rfl)
theorem dX6_setsOut_35 : decode cX6_setsOut 35 = .ok (.aload_n 0, 1) := dk_42 (dk_at dksX6_setsOut_1 12 rfl rfl)
theorem dX6_setsOut_36 : decode cX6_setsOut 36 = .ok (.iload_n 1, 1) := dk_27 (dk_at dksX6_setsOut_1 13 rfl rfl)
theorem dX6_setsOut_37 : decode cX6_setsOut 37 = .ok (.iload_n 2, 1) := dk_28 (dk_at dksX6_setsOut_1 14 rfl rfl)
theorem dX6_setsOut_38 : decode cX6_setsOut 38 = .ok (.invokevirtual 268, 3) := dk_182 1 12 (dk_at dksX6_setsOut_1 15 rfl rfl)
theorem dX6_setsOut_41 : decode cX6_setsOut 41 = .ok (.iastore, 1) := dk_79 (dk_at dksX6_setsOut_1 18 rfl rfl)
theorem dX6_setsOut_42 : decode cX6_setsOut 42 = .ok (.return_, 1) := dk_177 (dk_at dksX6_setsOut_1 19 rfl rfl)
abbrev cX6_tried : ByteArray := prog_20_method_65_code
def yX6_tried : MethodName := ⟨RX6, "tried", "(II)I"⟩
def dkwX6_tried_7 : List UInt8 := [16, 100, 28, 96, 16, 10, 100, 46, 100, 62, 42, 180, 0, 13, 42, 180, 0, 7, 184, 1, 89, 29, 172]
abbrev dktX6_tried_7 : List UInt8 := dkwX6_tried_7 ++ []
def dkwX6_tried_6 : List UInt8 := [17, 0, 155, 46, 62, 167, 0, 29, 42, 180, 0, 7, 16, 100, 28, 96, 16, 10, 100, 46, 42, 180, 0, 13]
abbrev dktX6_tried_6 : List UInt8 := dkwX6_tried_6 ++ dktX6_tried_7
def dkwX6_tried_5 : List UInt8 := [62, 167, 0, 57, 42, 180, 1, 50, 62, 167, 0, 49, 42, 180, 1, 53, 62, 167, 0, 41, 42, 180, 0, 7]
abbrev dktX6_tried_5 : List UInt8 := dkwX6_tried_5 ++ dktX6_tried_6
def dkwX6_tried_4 : List UInt8 := [42, 180, 1, 74, 62, 167, 0, 77, 42, 182, 1, 40, 62, 167, 0, 69, 42, 180, 0, 7, 17, 0, 151, 46]
abbrev dktX6_tried_4 : List UInt8 := dkwX6_tried_4 ++ dktX6_tried_5
def dkwX6_tried_3 : List UInt8 := [170, 0, 0, 0, 0, 0, 95, 0, 0, 0, 0, 0, 0, 0, 5, 0, 0, 0, 39, 0, 0, 0, 47, 0, 0, 0, 55, 0, 0, 0, 67, 0, 0, 0, 75, 0, 0, 0, 83]
abbrev dktX6_tried_3 : List UInt8 := dkwX6_tried_3 ++ dktX6_tried_4
def dkwX6_tried_2 : List UInt8 := [180, 0, 7, 42, 180, 0, 13, 184, 1, 89, 42, 27, 182, 1, 86, 28]
abbrev dktX6_tried_2 : List UInt8 := dkwX6_tried_2 ++ dktX6_tried_3
def dkwX6_tried_1 : List UInt8 := [16, 19, 184, 0, 123, 153, 0, 14, 42, 28, 16, 10, 100, 182, 0, 135, 154, 0, 5, 2, 172, 42]
abbrev dktX6_tried_1 : List UInt8 := dkwX6_tried_1 ++ dktX6_tried_2
def dkwX6_tried_0 : List UInt8 := [27, 4, 17, 0, 240, 184, 0, 123, 153, 0, 34, 28, 3, 8, 184, 0, 123, 154, 0, 27, 28, 16, 10]
abbrev dktX6_tried_0 : List UInt8 := dkwX6_tried_0 ++ dktX6_tried_1
theorem dksX6_tried_0 : cX6_tried.data.toList.drop 0 = dktX6_tried_0 := by decide +kernel
theorem dksX6_tried_1 : cX6_tried.data.toList.drop 23 = dktX6_tried_1 := dk_seg dksX6_tried_0 23 rfl rfl
theorem dksX6_tried_2 : cX6_tried.data.toList.drop 45 = dktX6_tried_2 := dk_seg dksX6_tried_1 22 rfl rfl
theorem dksX6_tried_3 : cX6_tried.data.toList.drop 61 = dktX6_tried_3 := dk_seg dksX6_tried_2 16 rfl rfl
theorem dksX6_tried_4 : cX6_tried.data.toList.drop 100 = dktX6_tried_4 := dk_seg dksX6_tried_3 39 rfl rfl
theorem dksX6_tried_5 : cX6_tried.data.toList.drop 124 = dktX6_tried_5 := dk_seg dksX6_tried_4 24 rfl rfl
theorem dksX6_tried_6 : cX6_tried.data.toList.drop 148 = dktX6_tried_6 := dk_seg dksX6_tried_5 24 rfl rfl
theorem dksX6_tried_7 : cX6_tried.data.toList.drop 172 = dktX6_tried_7 := dk_seg dksX6_tried_6 24 rfl rfl
theorem dX6_tried_0 : decode cX6_tried 0 = .ok (.iload_n 1, 1) := dk_27 (dk_at dksX6_tried_0 0 rfl rfl)
theorem dX6_tried_1 : decode cX6_tried 1 = .ok (.iconst 1, 1) := dk_4 (dk_at dksX6_tried_0 1 rfl rfl)
theorem dX6_tried_2 : decode cX6_tried 2 = .ok (.sipush 240, 3) := dk_17 0 240 (dk_at dksX6_tried_0 2 rfl rfl)
theorem dX6_tried_5 : decode cX6_tried 5 = .ok (.invokestatic 123, 3) := dk_184 0 123 (dk_at dksX6_tried_0 5 rfl rfl)
theorem dX6_tried_8 : decode cX6_tried 8 = .ok (.ifCond .eq 34, 3) := dk_153 0 34 (dk_at dksX6_tried_0 8 rfl rfl)
theorem dX6_tried_11 : decode cX6_tried 11 = .ok (.iload_n 2, 1) := dk_28 (dk_at dksX6_tried_0 11 rfl rfl)
theorem dX6_tried_12 : decode cX6_tried 12 = .ok (.iconst 0, 1) := dk_3 (dk_at dksX6_tried_0 12 rfl rfl)
theorem dX6_tried_13 : decode cX6_tried 13 = .ok (.iconst 5, 1) := dk_8 (dk_at dksX6_tried_0 13 rfl rfl)
theorem dX6_tried_14 : decode cX6_tried 14 = .ok (.invokestatic 123, 3) := dk_184 0 123 (dk_at dksX6_tried_0 14 rfl rfl)
theorem dX6_tried_17 : decode cX6_tried 17 = .ok (.ifCond .ne 27, 3) := dk_154 0 27 (dk_at dksX6_tried_0 17 rfl rfl)
theorem dX6_tried_20 : decode cX6_tried 20 = .ok (.iload_n 2, 1) := dk_28 (dk_at dksX6_tried_0 20 rfl rfl)
theorem dX6_tried_21 : decode cX6_tried 21 = .ok (.bipush 10, 2) := dk_16 10 (dk_at dksX6_tried_0 21 rfl rfl)
theorem dX6_tried_23 : decode cX6_tried 23 = .ok (.bipush 19, 2) := dk_16 19 (dk_at dksX6_tried_1 0 rfl rfl)
theorem dX6_tried_25 : decode cX6_tried 25 = .ok (.invokestatic 123, 3) := dk_184 0 123 (dk_at dksX6_tried_1 2 rfl rfl)
theorem dX6_tried_28 : decode cX6_tried 28 = .ok (.ifCond .eq 14, 3) := dk_153 0 14 (dk_at dksX6_tried_1 5 rfl rfl)
theorem dX6_tried_31 : decode cX6_tried 31 = .ok (.aload_n 0, 1) := dk_42 (dk_at dksX6_tried_1 8 rfl rfl)
theorem dX6_tried_32 : decode cX6_tried 32 = .ok (.iload_n 2, 1) := dk_28 (dk_at dksX6_tried_1 9 rfl rfl)
theorem dX6_tried_33 : decode cX6_tried 33 = .ok (.bipush 10, 2) := dk_16 10 (dk_at dksX6_tried_1 10 rfl rfl)
theorem dX6_tried_35 : decode cX6_tried 35 = .ok (.isub, 1) := dk_100 (dk_at dksX6_tried_1 12 rfl rfl)
theorem dX6_tried_36 : decode cX6_tried 36 = .ok (.invokevirtual 135, 3) := dk_182 0 135 (dk_at dksX6_tried_1 13 rfl rfl)
theorem dX6_tried_39 : decode cX6_tried 39 = .ok (.ifCond .ne 5, 3) := dk_154 0 5 (dk_at dksX6_tried_1 16 rfl rfl)
theorem dX6_tried_42 : decode cX6_tried 42 = .ok (.iconst (-1), 1) := dk_2 (dk_at dksX6_tried_1 19 rfl rfl)
theorem dX6_tried_43 : decode cX6_tried 43 = .ok (.ireturn, 1) := dk_172 (dk_at dksX6_tried_1 20 rfl rfl)
theorem dX6_tried_44 : decode cX6_tried 44 = .ok (.aload_n 0, 1) := dk_42 (dk_at dksX6_tried_1 21 rfl rfl)
theorem dX6_tried_45 : decode cX6_tried 45 = .ok (.getfield 7, 3) := dk_180 0 7 (dk_at dksX6_tried_2 0 rfl rfl)
theorem dX6_tried_48 : decode cX6_tried 48 = .ok (.aload_n 0, 1) := dk_42 (dk_at dksX6_tried_2 3 rfl rfl)
theorem dX6_tried_49 : decode cX6_tried 49 = .ok (.getfield 13, 3) := dk_180 0 13 (dk_at dksX6_tried_2 4 rfl rfl)
theorem dX6_tried_52 : decode cX6_tried 52 = .ok (.invokestatic 345, 3) := dk_184 1 89 (dk_at dksX6_tried_2 7 rfl rfl)
theorem dX6_tried_55 : decode cX6_tried 55 = .ok (.aload_n 0, 1) := dk_42 (dk_at dksX6_tried_2 10 rfl rfl)
theorem dX6_tried_56 : decode cX6_tried 56 = .ok (.iload_n 1, 1) := dk_27 (dk_at dksX6_tried_2 11 rfl rfl)
theorem dX6_tried_57 : decode cX6_tried 57 = .ok (.invokevirtual 342, 3) := dk_182 1 86 (dk_at dksX6_tried_2 12 rfl rfl)
theorem dX6_tried_60 : decode cX6_tried 60 = .ok (.iload_n 2, 1) := dk_28 (dk_at dksX6_tried_2 15 rfl rfl)
theorem dX6_tried_61 : decode cX6_tried 61 = .ok (.tableswitch 95 0 5 #[39, 47, 55, 67, 75, 83], 39) := by decide +kernel
theorem dX6_tried_100 : decode cX6_tried 100 = .ok (.aload_n 0, 1) := dk_42 (dk_at dksX6_tried_4 0 rfl rfl)
theorem dX6_tried_101 : decode cX6_tried 101 = .ok (.getfield 330, 3) := dk_180 1 74 (dk_at dksX6_tried_4 1 rfl rfl)
theorem dX6_tried_104 : decode cX6_tried 104 = .ok (.istore_n 3, 1) := dk_62 (dk_at dksX6_tried_4 4 rfl rfl)
theorem dX6_tried_105 : decode cX6_tried 105 = .ok (.goto 77, 3) := dk_167 0 77 (dk_at dksX6_tried_4 5 rfl rfl)
theorem dX6_tried_108 : decode cX6_tried 108 = .ok (.aload_n 0, 1) := dk_42 (dk_at dksX6_tried_4 8 rfl rfl)
theorem dX6_tried_109 : decode cX6_tried 109 = .ok (.invokevirtual 296, 3) := dk_182 1 40 (dk_at dksX6_tried_4 9 rfl rfl)
theorem dX6_tried_112 : decode cX6_tried 112 = .ok (.istore_n 3, 1) := dk_62 (dk_at dksX6_tried_4 12 rfl rfl)
theorem dX6_tried_113 : decode cX6_tried 113 = .ok (.goto 69, 3) := dk_167 0 69 (dk_at dksX6_tried_4 13 rfl rfl)
theorem dX6_tried_116 : decode cX6_tried 116 = .ok (.aload_n 0, 1) := dk_42 (dk_at dksX6_tried_4 16 rfl rfl)
theorem dX6_tried_117 : decode cX6_tried 117 = .ok (.getfield 7, 3) := dk_180 0 7 (dk_at dksX6_tried_4 17 rfl rfl)
theorem dX6_tried_120 : decode cX6_tried 120 = .ok (.sipush 151, 3) := dk_17 0 151 (dk_at dksX6_tried_4 20 rfl rfl)
theorem dX6_tried_123 : decode cX6_tried 123 = .ok (.iaload, 1) := dk_46 (dk_at dksX6_tried_4 23 rfl rfl)
theorem dX6_tried_124 : decode cX6_tried 124 = .ok (.istore_n 3, 1) := dk_62 (dk_at dksX6_tried_5 0 rfl rfl)
theorem dX6_tried_125 : decode cX6_tried 125 = .ok (.goto 57, 3) := dk_167 0 57 (dk_at dksX6_tried_5 1 rfl rfl)
theorem dX6_tried_128 : decode cX6_tried 128 = .ok (.aload_n 0, 1) := dk_42 (dk_at dksX6_tried_5 4 rfl rfl)
theorem dX6_tried_129 : decode cX6_tried 129 = .ok (.getfield 306, 3) := dk_180 1 50 (dk_at dksX6_tried_5 5 rfl rfl)
theorem dX6_tried_132 : decode cX6_tried 132 = .ok (.istore_n 3, 1) := dk_62 (dk_at dksX6_tried_5 8 rfl rfl)
theorem dX6_tried_133 : decode cX6_tried 133 = .ok (.goto 49, 3) := dk_167 0 49 (dk_at dksX6_tried_5 9 rfl rfl)
theorem dX6_tried_136 : decode cX6_tried 136 = .ok (.aload_n 0, 1) := dk_42 (dk_at dksX6_tried_5 12 rfl rfl)
theorem dX6_tried_137 : decode cX6_tried 137 = .ok (.getfield 309, 3) := dk_180 1 53 (dk_at dksX6_tried_5 13 rfl rfl)
theorem dX6_tried_140 : decode cX6_tried 140 = .ok (.istore_n 3, 1) := dk_62 (dk_at dksX6_tried_5 16 rfl rfl)
theorem dX6_tried_141 : decode cX6_tried 141 = .ok (.goto 41, 3) := dk_167 0 41 (dk_at dksX6_tried_5 17 rfl rfl)
theorem dX6_tried_144 : decode cX6_tried 144 = .ok (.aload_n 0, 1) := dk_42 (dk_at dksX6_tried_5 20 rfl rfl)
theorem dX6_tried_145 : decode cX6_tried 145 = .ok (.getfield 7, 3) := dk_180 0 7 (dk_at dksX6_tried_5 21 rfl rfl)
theorem dX6_tried_148 : decode cX6_tried 148 = .ok (.sipush 155, 3) := dk_17 0 155 (dk_at dksX6_tried_6 0 rfl rfl)
theorem dX6_tried_151 : decode cX6_tried 151 = .ok (.iaload, 1) := dk_46 (dk_at dksX6_tried_6 3 rfl rfl)
theorem dX6_tried_152 : decode cX6_tried 152 = .ok (.istore_n 3, 1) := dk_62 (dk_at dksX6_tried_6 4 rfl rfl)
theorem dX6_tried_153 : decode cX6_tried 153 = .ok (.goto 29, 3) := dk_167 0 29 (dk_at dksX6_tried_6 5 rfl rfl)
theorem dX6_tried_156 : decode cX6_tried 156 = .ok (.aload_n 0, 1) := dk_42 (dk_at dksX6_tried_6 8 rfl rfl)
theorem dX6_tried_157 : decode cX6_tried 157 = .ok (.getfield 7, 3) := dk_180 0 7 (dk_at dksX6_tried_6 9 rfl rfl)
theorem dX6_tried_160 : decode cX6_tried 160 = .ok (.bipush 100, 2) := dk_16 100 (dk_at dksX6_tried_6 12 rfl rfl)
theorem dX6_tried_162 : decode cX6_tried 162 = .ok (.iload_n 2, 1) := dk_28 (dk_at dksX6_tried_6 14 rfl rfl)
theorem dX6_tried_163 : decode cX6_tried 163 = .ok (.iadd, 1) := dk_96 (dk_at dksX6_tried_6 15 rfl rfl)
theorem dX6_tried_164 : decode cX6_tried 164 = .ok (.bipush 10, 2) := dk_16 10 (dk_at dksX6_tried_6 16 rfl rfl)
theorem dX6_tried_166 : decode cX6_tried 166 = .ok (.isub, 1) := dk_100 (dk_at dksX6_tried_6 18 rfl rfl)
theorem dX6_tried_167 : decode cX6_tried 167 = .ok (.iaload, 1) := dk_46 (dk_at dksX6_tried_6 19 rfl rfl)
theorem dX6_tried_168 : decode cX6_tried 168 = .ok (.aload_n 0, 1) := dk_42 (dk_at dksX6_tried_6 20 rfl rfl)
theorem dX6_tried_169 : decode cX6_tried 169 = .ok (.getfield 13, 3) := dk_180 0 13 (dk_at dksX6_tried_6 21 rfl rfl)
theorem dX6_tried_172 : decode cX6_tried 172 = .ok (.bipush 100, 2) := dk_16 100 (dk_at dksX6_tried_7 0 rfl rfl)
theorem dX6_tried_174 : decode cX6_tried 174 = .ok (.iload_n 2, 1) := dk_28 (dk_at dksX6_tried_7 2 rfl rfl)
theorem dX6_tried_175 : decode cX6_tried 175 = .ok (.iadd, 1) := dk_96 (dk_at dksX6_tried_7 3 rfl rfl)
theorem dX6_tried_176 : decode cX6_tried 176 = .ok (.bipush 10, 2) := dk_16 10 (dk_at dksX6_tried_7 4 rfl rfl)
theorem dX6_tried_178 : decode cX6_tried 178 = .ok (.isub, 1) := dk_100 (dk_at dksX6_tried_7 6 rfl rfl)
theorem dX6_tried_179 : decode cX6_tried 179 = .ok (.iaload, 1) := dk_46 (dk_at dksX6_tried_7 7 rfl rfl)
theorem dX6_tried_180 : decode cX6_tried 180 = .ok (.isub, 1) := dk_100 (dk_at dksX6_tried_7 8 rfl rfl)
theorem dX6_tried_181 : decode cX6_tried 181 = .ok (.istore_n 3, 1) := dk_62 (dk_at dksX6_tried_7 9 rfl rfl)
theorem dX6_tried_182 : decode cX6_tried 182 = .ok (.aload_n 0, 1) := dk_42 (dk_at dksX6_tried_7 10 rfl rfl)
theorem dX6_tried_183 : decode cX6_tried 183 = .ok (.getfield 13, 3) := dk_180 0 13 (dk_at dksX6_tried_7 11 rfl rfl)
theorem dX6_tried_186 : decode cX6_tried 186 = .ok (.aload_n 0, 1) := dk_42 (dk_at dksX6_tried_7 14 rfl rfl)
theorem dX6_tried_187 : decode cX6_tried 187 = .ok (.getfield 7, 3) := dk_180 0 7 (dk_at dksX6_tried_7 15 rfl rfl)
theorem dX6_tried_190 : decode cX6_tried 190 = .ok (.invokestatic 345, 3) := dk_184 1 89 (dk_at dksX6_tried_7 18 rfl rfl)
theorem dX6_tried_193 : decode cX6_tried 193 = .ok (.iload_n 3, 1) := dk_29 (dk_at dksX6_tried_7 21 rfl rfl)
theorem dX6_tried_194 : decode cX6_tried 194 = .ok (.ireturn, 1) := dk_172 (dk_at dksX6_tried_7 22 rfl rfl)
abbrev cX6_copies : ByteArray := prog_20_method_8_code
def yX6_copies : MethodName := ⟨RX6, "copies", "([I[I)V"⟩
def dkwX6_copies_0 : List UInt8 := [3, 61, 28, 17, 0, 159, 162, 0, 15, 43, 28, 42, 28, 46, 79, 132, 2, 1, 167, 255, 240, 177]
abbrev dktX6_copies_0 : List UInt8 := dkwX6_copies_0 ++ []
theorem dksX6_copies_0 : cX6_copies.data.toList.drop 0 = dktX6_copies_0 := by decide +kernel
theorem dX6_copies_0 : decode cX6_copies 0 = .ok (.iconst 0, 1) := dk_3 (dk_at dksX6_copies_0 0 rfl rfl)
theorem dX6_copies_1 : decode cX6_copies 1 = .ok (.istore_n 2, 1) := dk_61 (dk_at dksX6_copies_0 1 rfl rfl)
theorem dX6_copies_2 : decode cX6_copies 2 = .ok (.iload_n 2, 1) := dk_28 (dk_at dksX6_copies_0 2 rfl rfl)
theorem dX6_copies_3 : decode cX6_copies 3 = .ok (.sipush 159, 3) := dk_17 0 159 (dk_at dksX6_copies_0 3 rfl rfl)
theorem dX6_copies_6 : decode cX6_copies 6 = .ok (.if_icmp .ge 15, 3) := dk_162 0 15 (dk_at dksX6_copies_0 6 rfl rfl)
theorem dX6_copies_9 : decode cX6_copies 9 = .ok (.aload_n 1, 1) := dk_43 (dk_at dksX6_copies_0 9 rfl rfl)
theorem dX6_copies_10 : decode cX6_copies 10 = .ok (.iload_n 2, 1) := dk_28 (dk_at dksX6_copies_0 10 rfl rfl)
theorem dX6_copies_11 : decode cX6_copies 11 = .ok (.aload_n 0, 1) := dk_42 (dk_at dksX6_copies_0 11 rfl rfl)
theorem dX6_copies_12 : decode cX6_copies 12 = .ok (.iload_n 2, 1) := dk_28 (dk_at dksX6_copies_0 12 rfl rfl)
theorem dX6_copies_13 : decode cX6_copies 13 = .ok (.iaload, 1) := dk_46 (dk_at dksX6_copies_0 13 rfl rfl)
theorem dX6_copies_14 : decode cX6_copies 14 = .ok (.iastore, 1) := dk_79 (dk_at dksX6_copies_0 14 rfl rfl)
theorem dX6_copies_15 : decode cX6_copies 15 = .ok (.iinc 2 1, 3) := dk_132 2 1 (dk_at dksX6_copies_0 15 rfl rfl)
theorem dX6_copies_18 : decode cX6_copies 18 = .ok (.goto (-16), 3) := dk_167 255 240 (dk_at dksX6_copies_0 18 rfl rfl)
theorem dX6_copies_21 : decode cX6_copies 21 = .ok (.return_, 1) := dk_177 (dk_at dksX6_copies_0 21 rfl rfl)
abbrev cX6_personIs : ByteArray := prog_20_method_66_code
def yX6_personIs : MethodName := ⟨RX6, "personIs", "(II)I"⟩
def dkwX6_personIs_3 : List UInt8 := [182, 1, 93, 172, 42, 180, 0, 7, 16, 100, 27, 96, 46, 172, 42, 27, 182, 1, 15, 172, 2, 172]
abbrev dktX6_personIs_3 : List UInt8 := dkwX6_personIs_3 ++ []
def dkwX6_personIs_2 : List UInt8 := [42, 180, 0, 19, 27, 46, 172, 42, 180, 0, 22, 27, 46, 172, 42, 27, 182, 0, 150, 172, 42, 27]
abbrev dktX6_personIs_2 : List UInt8 := dkwX6_personIs_2 ++ dktX6_personIs_3
def dkwX6_personIs_1 : List UInt8 := [170, 0, 0, 0, 79, 0, 0, 0, 0, 0, 0, 0, 5, 0, 0, 0, 37, 0, 0, 0, 44, 0, 0, 0, 51, 0, 0, 0, 57, 0, 0, 0, 63, 0, 0, 0, 73]
abbrev dktX6_personIs_1 : List UInt8 := dkwX6_personIs_1 ++ dktX6_personIs_2
def dkwX6_personIs_0 : List UInt8 := [42, 27, 182, 0, 135, 154, 0, 5, 2, 172, 28]
abbrev dktX6_personIs_0 : List UInt8 := dkwX6_personIs_0 ++ dktX6_personIs_1
theorem dksX6_personIs_0 : cX6_personIs.data.toList.drop 0 = dktX6_personIs_0 := by decide +kernel
theorem dksX6_personIs_1 : cX6_personIs.data.toList.drop 11 = dktX6_personIs_1 := dk_seg dksX6_personIs_0 11 rfl rfl
theorem dksX6_personIs_2 : cX6_personIs.data.toList.drop 48 = dktX6_personIs_2 := dk_seg dksX6_personIs_1 37 rfl rfl
theorem dksX6_personIs_3 : cX6_personIs.data.toList.drop 70 = dktX6_personIs_3 := dk_seg dksX6_personIs_2 22 rfl rfl
theorem dX6_personIs_0 : decode cX6_personIs 0 = .ok (.aload_n 0, 1) := dk_42 (dk_at dksX6_personIs_0 0 rfl rfl)
theorem dX6_personIs_1 : decode cX6_personIs 1 = .ok (.iload_n 1, 1) := dk_27 (dk_at dksX6_personIs_0 1 rfl rfl)
theorem dX6_personIs_2 : decode cX6_personIs 2 = .ok (.invokevirtual 135, 3) := dk_182 0 135 (dk_at dksX6_personIs_0 2 rfl rfl)
theorem dX6_personIs_5 : decode cX6_personIs 5 = .ok (.ifCond .ne 5, 3) := dk_154 0 5 (dk_at dksX6_personIs_0 5 rfl rfl)
theorem dX6_personIs_8 : decode cX6_personIs 8 = .ok (.iconst (-1), 1) := dk_2 (dk_at dksX6_personIs_0 8 rfl rfl)
theorem dX6_personIs_9 : decode cX6_personIs 9 = .ok (.ireturn, 1) := dk_172 (dk_at dksX6_personIs_0 9 rfl rfl)
theorem dX6_personIs_10 : decode cX6_personIs 10 = .ok (.iload_n 2, 1) := dk_28 (dk_at dksX6_personIs_0 10 rfl rfl)
theorem dX6_personIs_11 : decode cX6_personIs 11 = .ok (.tableswitch 79 0 5 #[37, 44, 51, 57, 63, 73], 37) := by decide +kernel
theorem dX6_personIs_48 : decode cX6_personIs 48 = .ok (.aload_n 0, 1) := dk_42 (dk_at dksX6_personIs_2 0 rfl rfl)
theorem dX6_personIs_49 : decode cX6_personIs 49 = .ok (.getfield 19, 3) := dk_180 0 19 (dk_at dksX6_personIs_2 1 rfl rfl)
theorem dX6_personIs_52 : decode cX6_personIs 52 = .ok (.iload_n 1, 1) := dk_27 (dk_at dksX6_personIs_2 4 rfl rfl)
theorem dX6_personIs_53 : decode cX6_personIs 53 = .ok (.iaload, 1) := dk_46 (dk_at dksX6_personIs_2 5 rfl rfl)
theorem dX6_personIs_54 : decode cX6_personIs 54 = .ok (.ireturn, 1) := dk_172 (dk_at dksX6_personIs_2 6 rfl rfl)
theorem dX6_personIs_55 : decode cX6_personIs 55 = .ok (.aload_n 0, 1) := dk_42 (dk_at dksX6_personIs_2 7 rfl rfl)
theorem dX6_personIs_56 : decode cX6_personIs 56 = .ok (.getfield 22, 3) := dk_180 0 22 (dk_at dksX6_personIs_2 8 rfl rfl)
theorem dX6_personIs_59 : decode cX6_personIs 59 = .ok (.iload_n 1, 1) := dk_27 (dk_at dksX6_personIs_2 11 rfl rfl)
theorem dX6_personIs_60 : decode cX6_personIs 60 = .ok (.iaload, 1) := dk_46 (dk_at dksX6_personIs_2 12 rfl rfl)
theorem dX6_personIs_61 : decode cX6_personIs 61 = .ok (.ireturn, 1) := dk_172 (dk_at dksX6_personIs_2 13 rfl rfl)
theorem dX6_personIs_62 : decode cX6_personIs 62 = .ok (.aload_n 0, 1) := dk_42 (dk_at dksX6_personIs_2 14 rfl rfl)
theorem dX6_personIs_63 : decode cX6_personIs 63 = .ok (.iload_n 1, 1) := dk_27 (dk_at dksX6_personIs_2 15 rfl rfl)
theorem dX6_personIs_64 : decode cX6_personIs 64 = .ok (.invokevirtual 150, 3) := dk_182 0 150 (dk_at dksX6_personIs_2 16 rfl rfl)
theorem dX6_personIs_67 : decode cX6_personIs 67 = .ok (.ireturn, 1) := dk_172 (dk_at dksX6_personIs_2 19 rfl rfl)
theorem dX6_personIs_68 : decode cX6_personIs 68 = .ok (.aload_n 0, 1) := dk_42 (dk_at dksX6_personIs_2 20 rfl rfl)
theorem dX6_personIs_69 : decode cX6_personIs 69 = .ok (.iload_n 1, 1) := dk_27 (dk_at dksX6_personIs_2 21 rfl rfl)
theorem dX6_personIs_70 : decode cX6_personIs 70 = .ok (.invokevirtual 349, 3) := dk_182 1 93 (dk_at dksX6_personIs_3 0 rfl rfl)
theorem dX6_personIs_73 : decode cX6_personIs 73 = .ok (.ireturn, 1) := dk_172 (dk_at dksX6_personIs_3 3 rfl rfl)
theorem dX6_personIs_74 : decode cX6_personIs 74 = .ok (.aload_n 0, 1) := dk_42 (dk_at dksX6_personIs_3 4 rfl rfl)
theorem dX6_personIs_75 : decode cX6_personIs 75 = .ok (.getfield 7, 3) := dk_180 0 7 (dk_at dksX6_personIs_3 5 rfl rfl)
theorem dX6_personIs_78 : decode cX6_personIs 78 = .ok (.bipush 100, 2) := dk_16 100 (dk_at dksX6_personIs_3 8 rfl rfl)
theorem dX6_personIs_80 : decode cX6_personIs 80 = .ok (.iload_n 1, 1) := dk_27 (dk_at dksX6_personIs_3 10 rfl rfl)
theorem dX6_personIs_81 : decode cX6_personIs 81 = .ok (.iadd, 1) := dk_96 (dk_at dksX6_personIs_3 11 rfl rfl)
theorem dX6_personIs_82 : decode cX6_personIs 82 = .ok (.iaload, 1) := dk_46 (dk_at dksX6_personIs_3 12 rfl rfl)
theorem dX6_personIs_83 : decode cX6_personIs 83 = .ok (.ireturn, 1) := dk_172 (dk_at dksX6_personIs_3 13 rfl rfl)
theorem dX6_personIs_84 : decode cX6_personIs 84 = .ok (.aload_n 0, 1) := dk_42 (dk_at dksX6_personIs_3 14 rfl rfl)
theorem dX6_personIs_85 : decode cX6_personIs 85 = .ok (.iload_n 1, 1) := dk_27 (dk_at dksX6_personIs_3 15 rfl rfl)
theorem dX6_personIs_86 : decode cX6_personIs 86 = .ok (.invokevirtual 271, 3) := dk_182 1 15 (dk_at dksX6_personIs_3 16 rfl rfl)
theorem dX6_personIs_89 : decode cX6_personIs 89 = .ok (.ireturn, 1) := dk_172 (dk_at dksX6_personIs_3 19 rfl rfl)
theorem dX6_personIs_90 : decode cX6_personIs 90 = .ok (.iconst (-1), 1) := dk_2 (dk_at dksX6_personIs_3 20 rfl rfl)
theorem dX6_personIs_91 : decode cX6_personIs 91 = .ok (.ireturn, 1) := dk_172 (dk_at dksX6_personIs_3 21 rfl rfl)
abbrev cX6_getsAll : ByteArray := prog_20_method_14_code
def yX6_getsAll : MethodName := ⟨RX6, "getsAll", "(I)I"⟩
def dkwX6_getsAll_1 : List UInt8 := [167, 255, 238, 28, 172]
abbrev dktX6_getsAll_1 : List UInt8 := dkwX6_getsAll_1 ++ []
def dkwX6_getsAll_0 : List UInt8 := [3, 61, 3, 62, 29, 16, 10, 162, 0, 18, 28, 42, 29, 27, 182, 0, 147, 96, 61, 132, 3, 1]
abbrev dktX6_getsAll_0 : List UInt8 := dkwX6_getsAll_0 ++ dktX6_getsAll_1
theorem dksX6_getsAll_0 : cX6_getsAll.data.toList.drop 0 = dktX6_getsAll_0 := by decide +kernel
theorem dksX6_getsAll_1 : cX6_getsAll.data.toList.drop 22 = dktX6_getsAll_1 := dk_seg dksX6_getsAll_0 22 rfl rfl
theorem dX6_getsAll_0 : decode cX6_getsAll 0 = .ok (.iconst 0, 1) := dk_3 (dk_at dksX6_getsAll_0 0 rfl rfl)
theorem dX6_getsAll_1 : decode cX6_getsAll 1 = .ok (.istore_n 2, 1) := dk_61 (dk_at dksX6_getsAll_0 1 rfl rfl)
theorem dX6_getsAll_2 : decode cX6_getsAll 2 = .ok (.iconst 0, 1) := dk_3 (dk_at dksX6_getsAll_0 2 rfl rfl)
theorem dX6_getsAll_3 : decode cX6_getsAll 3 = .ok (.istore_n 3, 1) := dk_62 (dk_at dksX6_getsAll_0 3 rfl rfl)
theorem dX6_getsAll_4 : decode cX6_getsAll 4 = .ok (.iload_n 3, 1) := dk_29 (dk_at dksX6_getsAll_0 4 rfl rfl)
theorem dX6_getsAll_5 : decode cX6_getsAll 5 = .ok (.bipush 10, 2) := dk_16 10 (dk_at dksX6_getsAll_0 5 rfl rfl)
theorem dX6_getsAll_7 : decode cX6_getsAll 7 = .ok (.if_icmp .ge 18, 3) := dk_162 0 18 (dk_at dksX6_getsAll_0 7 rfl rfl)
theorem dX6_getsAll_10 : decode cX6_getsAll 10 = .ok (.iload_n 2, 1) := dk_28 (dk_at dksX6_getsAll_0 10 rfl rfl)
theorem dX6_getsAll_11 : decode cX6_getsAll 11 = .ok (.aload_n 0, 1) := dk_42 (dk_at dksX6_getsAll_0 11 rfl rfl)
theorem dX6_getsAll_12 : decode cX6_getsAll 12 = .ok (.iload_n 3, 1) := dk_29 (dk_at dksX6_getsAll_0 12 rfl rfl)
theorem dX6_getsAll_13 : decode cX6_getsAll 13 = .ok (.iload_n 1, 1) := dk_27 (dk_at dksX6_getsAll_0 13 rfl rfl)
theorem dX6_getsAll_14 : decode cX6_getsAll 14 = .ok (.invokevirtual 147, 3) := dk_182 0 147 (dk_at dksX6_getsAll_0 14 rfl rfl)
theorem dX6_getsAll_17 : decode cX6_getsAll 17 = .ok (.iadd, 1) := dk_96 (dk_at dksX6_getsAll_0 17 rfl rfl)
theorem dX6_getsAll_18 : decode cX6_getsAll 18 = .ok (.istore_n 2, 1) := dk_61 (dk_at dksX6_getsAll_0 18 rfl rfl)
theorem dX6_getsAll_19 : decode cX6_getsAll 19 = .ok (.iinc 3 1, 3) := dk_132 3 1 (dk_at dksX6_getsAll_0 19 rfl rfl)
theorem dX6_getsAll_22 : decode cX6_getsAll 22 = .ok (.goto (-18), 3) := dk_167 255 238 (dk_at dksX6_getsAll_1 0 rfl rfl)
theorem dX6_getsAll_25 : decode cX6_getsAll 25 = .ok (.iload_n 2, 1) := dk_28 (dk_at dksX6_getsAll_1 3 rfl rfl)
theorem dX6_getsAll_26 : decode cX6_getsAll 26 = .ok (.ireturn, 1) := dk_172 (dk_at dksX6_getsAll_1 4 rfl rfl)
abbrev cX6_owes : ByteArray := prog_20_method_67_code
def yX6_owes : MethodName := ⟨RX6, "owes", "(II)I"⟩
def dkwX6_owes_0 : List UInt8 := [42, 27, 28, 182, 0, 153, 153, 0, 12, 42, 27, 28, 182, 0, 147, 167, 0, 4, 2, 172]
abbrev dktX6_owes_0 : List UInt8 := dkwX6_owes_0 ++ []
theorem dksX6_owes_0 : cX6_owes.data.toList.drop 0 = dktX6_owes_0 := by decide +kernel
theorem dX6_owes_0 : decode cX6_owes 0 = .ok (.aload_n 0, 1) := dk_42 (dk_at dksX6_owes_0 0 rfl rfl)
theorem dX6_owes_1 : decode cX6_owes 1 = .ok (.iload_n 1, 1) := dk_27 (dk_at dksX6_owes_0 1 rfl rfl)
theorem dX6_owes_2 : decode cX6_owes 2 = .ok (.iload_n 2, 1) := dk_28 (dk_at dksX6_owes_0 2 rfl rfl)
theorem dX6_owes_3 : decode cX6_owes 3 = .ok (.invokevirtual 153, 3) := dk_182 0 153 (dk_at dksX6_owes_0 3 rfl rfl)
theorem dX6_owes_6 : decode cX6_owes 6 = .ok (.ifCond .eq 12, 3) := dk_153 0 12 (dk_at dksX6_owes_0 6 rfl rfl)
theorem dX6_owes_9 : decode cX6_owes 9 = .ok (.aload_n 0, 1) := dk_42 (dk_at dksX6_owes_0 9 rfl rfl)
theorem dX6_owes_10 : decode cX6_owes 10 = .ok (.iload_n 1, 1) := dk_27 (dk_at dksX6_owes_0 10 rfl rfl)
theorem dX6_owes_11 : decode cX6_owes 11 = .ok (.iload_n 2, 1) := dk_28 (dk_at dksX6_owes_0 11 rfl rfl)
theorem dX6_owes_12 : decode cX6_owes 12 = .ok (.invokevirtual 147, 3) := dk_182 0 147 (dk_at dksX6_owes_0 12 rfl rfl)
theorem dX6_owes_15 : decode cX6_owes 15 = .ok (.goto 4, 3) := dk_167 0 4 (dk_at dksX6_owes_0 15 rfl rfl)
theorem dX6_owes_18 : decode cX6_owes 18 = .ok (.iconst (-1), 1) := dk_2 (dk_at dksX6_owes_0 18 rfl rfl)
theorem dX6_owes_19 : decode cX6_owes 19 = .ok (.ireturn, 1) := dk_172 (dk_at dksX6_owes_0 19 rfl rfl)
abbrev cX6_likes : ByteArray := prog_20_method_68_code
def yX6_likes : MethodName := ⟨RX6, "likes", "(II)I"⟩
def dkwX6_likes_0 : List UInt8 := [42, 27, 28, 182, 0, 153, 153, 0, 12, 42, 27, 28, 182, 1, 56, 167, 0, 4, 2, 172]
abbrev dktX6_likes_0 : List UInt8 := dkwX6_likes_0 ++ []
theorem dksX6_likes_0 : cX6_likes.data.toList.drop 0 = dktX6_likes_0 := by decide +kernel
theorem dX6_likes_0 : decode cX6_likes 0 = .ok (.aload_n 0, 1) := dk_42 (dk_at dksX6_likes_0 0 rfl rfl)
theorem dX6_likes_1 : decode cX6_likes 1 = .ok (.iload_n 1, 1) := dk_27 (dk_at dksX6_likes_0 1 rfl rfl)
theorem dX6_likes_2 : decode cX6_likes 2 = .ok (.iload_n 2, 1) := dk_28 (dk_at dksX6_likes_0 2 rfl rfl)
theorem dX6_likes_3 : decode cX6_likes 3 = .ok (.invokevirtual 153, 3) := dk_182 0 153 (dk_at dksX6_likes_0 3 rfl rfl)
theorem dX6_likes_6 : decode cX6_likes 6 = .ok (.ifCond .eq 12, 3) := dk_153 0 12 (dk_at dksX6_likes_0 6 rfl rfl)
theorem dX6_likes_9 : decode cX6_likes 9 = .ok (.aload_n 0, 1) := dk_42 (dk_at dksX6_likes_0 9 rfl rfl)
theorem dX6_likes_10 : decode cX6_likes 10 = .ok (.iload_n 1, 1) := dk_27 (dk_at dksX6_likes_0 10 rfl rfl)
theorem dX6_likes_11 : decode cX6_likes 11 = .ok (.iload_n 2, 1) := dk_28 (dk_at dksX6_likes_0 11 rfl rfl)
theorem dX6_likes_12 : decode cX6_likes 12 = .ok (.invokevirtual 312, 3) := dk_182 1 56 (dk_at dksX6_likes_0 12 rfl rfl)
theorem dX6_likes_15 : decode cX6_likes 15 = .ok (.goto 4, 3) := dk_167 0 4 (dk_at dksX6_likes_0 15 rfl rfl)
theorem dX6_likes_18 : decode cX6_likes 18 = .ok (.iconst (-1), 1) := dk_2 (dk_at dksX6_likes_0 18 rfl rfl)
theorem dX6_likes_19 : decode cX6_likes 19 = .ok (.ireturn, 1) := dk_172 (dk_at dksX6_likes_0 19 rfl rfl)
abbrev cX6_route : ByteArray := prog_20_method_74_code
def yX6_route : MethodName := ⟨RX6, "route", "(II)I"⟩
def dkwX6_route_4 : List UInt8 := [42, 180, 1, 117, 167, 0, 17, 28, 4, 160, 0, 10, 42, 180, 1, 120, 167, 0, 5, 21, 4, 172]
abbrev dktX6_route_4 : List UInt8 := dkwX6_route_4 ++ []
def dkwX6_route_3 : List UInt8 := [180, 0, 7, 17, 0, 151, 46, 54, 4, 42, 180, 0, 13, 42, 180, 0, 7, 184, 1, 89, 28, 154, 0, 10]
abbrev dktX6_route_3 : List UInt8 := dkwX6_route_3 ++ dktX6_route_4
def dkwX6_route_2 : List UInt8 := [46, 156, 0, 6, 16, 254, 172, 42, 180, 0, 7, 42, 180, 0, 13, 184, 1, 89, 42, 182, 1, 126, 42]
abbrev dktX6_route_2 : List UInt8 := dkwX6_route_2 ++ dktX6_route_3
def dkwX6_route_1 : List UInt8 := [164, 0, 5, 2, 172, 42, 27, 182, 1, 123, 62, 29, 153, 0, 5, 29, 172, 42, 180, 0, 7, 17, 0, 151]
abbrev dktX6_route_1 : List UInt8 := dkwX6_route_1 ++ dktX6_route_2
def dkwX6_route_0 : List UInt8 := [27, 4, 16, 60, 184, 0, 123, 153, 0, 20, 28, 3, 5, 184, 0, 123, 153, 0, 11, 27, 42, 180, 0, 160]
abbrev dktX6_route_0 : List UInt8 := dkwX6_route_0 ++ dktX6_route_1
theorem dksX6_route_0 : cX6_route.data.toList.drop 0 = dktX6_route_0 := by decide +kernel
theorem dksX6_route_1 : cX6_route.data.toList.drop 24 = dktX6_route_1 := dk_seg dksX6_route_0 24 rfl rfl
theorem dksX6_route_2 : cX6_route.data.toList.drop 48 = dktX6_route_2 := dk_seg dksX6_route_1 24 rfl rfl
theorem dksX6_route_3 : cX6_route.data.toList.drop 71 = dktX6_route_3 := dk_seg dksX6_route_2 23 rfl rfl
theorem dksX6_route_4 : cX6_route.data.toList.drop 95 = dktX6_route_4 := dk_seg dksX6_route_3 24 rfl rfl
theorem dX6_route_0 : decode cX6_route 0 = .ok (.iload_n 1, 1) := dk_27 (dk_at dksX6_route_0 0 rfl rfl)
theorem dX6_route_1 : decode cX6_route 1 = .ok (.iconst 1, 1) := dk_4 (dk_at dksX6_route_0 1 rfl rfl)
theorem dX6_route_2 : decode cX6_route 2 = .ok (.bipush 60, 2) := dk_16 60 (dk_at dksX6_route_0 2 rfl rfl)
theorem dX6_route_4 : decode cX6_route 4 = .ok (.invokestatic 123, 3) := dk_184 0 123 (dk_at dksX6_route_0 4 rfl rfl)
theorem dX6_route_7 : decode cX6_route 7 = .ok (.ifCond .eq 20, 3) := dk_153 0 20 (dk_at dksX6_route_0 7 rfl rfl)
theorem dX6_route_10 : decode cX6_route 10 = .ok (.iload_n 2, 1) := dk_28 (dk_at dksX6_route_0 10 rfl rfl)
theorem dX6_route_11 : decode cX6_route 11 = .ok (.iconst 0, 1) := dk_3 (dk_at dksX6_route_0 11 rfl rfl)
theorem dX6_route_12 : decode cX6_route 12 = .ok (.iconst 2, 1) := dk_5 (dk_at dksX6_route_0 12 rfl rfl)
theorem dX6_route_13 : decode cX6_route 13 = .ok (.invokestatic 123, 3) := dk_184 0 123 (dk_at dksX6_route_0 13 rfl rfl)
theorem dX6_route_16 : decode cX6_route 16 = .ok (.ifCond .eq 11, 3) := dk_153 0 11 (dk_at dksX6_route_0 16 rfl rfl)
theorem dX6_route_19 : decode cX6_route 19 = .ok (.iload_n 1, 1) := dk_27 (dk_at dksX6_route_0 19 rfl rfl)
theorem dX6_route_20 : decode cX6_route 20 = .ok (.aload_n 0, 1) := dk_42 (dk_at dksX6_route_0 20 rfl rfl)
theorem dX6_route_21 : decode cX6_route 21 = .ok (.getfield 160, 3) := dk_180 0 160 (dk_at dksX6_route_0 21 rfl rfl)
theorem dX6_route_24 : decode cX6_route 24 = .ok (.if_icmp .le 5, 3) := dk_164 0 5 (dk_at dksX6_route_1 0 rfl rfl)
theorem dX6_route_27 : decode cX6_route 27 = .ok (.iconst (-1), 1) := dk_2 (dk_at dksX6_route_1 3 rfl rfl)
theorem dX6_route_28 : decode cX6_route 28 = .ok (.ireturn, 1) := dk_172 (dk_at dksX6_route_1 4 rfl rfl)
theorem dX6_route_29 : decode cX6_route 29 = .ok (.aload_n 0, 1) := dk_42 (dk_at dksX6_route_1 5 rfl rfl)
theorem dX6_route_30 : decode cX6_route 30 = .ok (.iload_n 1, 1) := dk_27 (dk_at dksX6_route_1 6 rfl rfl)
theorem dX6_route_31 : decode cX6_route 31 = .ok (.invokevirtual 379, 3) := dk_182 1 123 (dk_at dksX6_route_1 7 rfl rfl)
theorem dX6_route_34 : decode cX6_route 34 = .ok (.istore_n 3, 1) := dk_62 (dk_at dksX6_route_1 10 rfl rfl)
theorem dX6_route_35 : decode cX6_route 35 = .ok (.iload_n 3, 1) := dk_29 (dk_at dksX6_route_1 11 rfl rfl)
theorem dX6_route_36 : decode cX6_route 36 = .ok (.ifCond .eq 5, 3) := dk_153 0 5 (dk_at dksX6_route_1 12 rfl rfl)
theorem dX6_route_39 : decode cX6_route 39 = .ok (.iload_n 3, 1) := dk_29 (dk_at dksX6_route_1 15 rfl rfl)
theorem dX6_route_40 : decode cX6_route 40 = .ok (.ireturn, 1) := dk_172 (dk_at dksX6_route_1 16 rfl rfl)
theorem dX6_route_41 : decode cX6_route 41 = .ok (.aload_n 0, 1) := dk_42 (dk_at dksX6_route_1 17 rfl rfl)
theorem dX6_route_42 : decode cX6_route 42 = .ok (.getfield 7, 3) := dk_180 0 7 (dk_at dksX6_route_1 18 rfl rfl)
theorem dX6_route_45 : decode cX6_route 45 = .ok (.sipush 151, 3) := dk_17 0 151 (dk_at dksX6_route_1 21 rfl rfl)
theorem dX6_route_48 : decode cX6_route 48 = .ok (.iaload, 1) := dk_46 (dk_at dksX6_route_2 0 rfl rfl)
theorem dX6_route_49 : decode cX6_route 49 = .ok (.ifCond .ge 6, 3) := dk_156 0 6 (dk_at dksX6_route_2 1 rfl rfl)
theorem dX6_route_52 : decode cX6_route 52 = .ok (.bipush (-2), 2) := dk_16 254 (dk_at dksX6_route_2 4 rfl rfl)
theorem dX6_route_54 : decode cX6_route 54 = .ok (.ireturn, 1) := dk_172 (dk_at dksX6_route_2 6 rfl rfl)
theorem dX6_route_55 : decode cX6_route 55 = .ok (.aload_n 0, 1) := dk_42 (dk_at dksX6_route_2 7 rfl rfl)
theorem dX6_route_56 : decode cX6_route 56 = .ok (.getfield 7, 3) := dk_180 0 7 (dk_at dksX6_route_2 8 rfl rfl)
theorem dX6_route_59 : decode cX6_route 59 = .ok (.aload_n 0, 1) := dk_42 (dk_at dksX6_route_2 11 rfl rfl)
theorem dX6_route_60 : decode cX6_route 60 = .ok (.getfield 13, 3) := dk_180 0 13 (dk_at dksX6_route_2 12 rfl rfl)
theorem dX6_route_63 : decode cX6_route 63 = .ok (.invokestatic 345, 3) := dk_184 1 89 (dk_at dksX6_route_2 15 rfl rfl)
theorem dX6_route_66 : decode cX6_route 66 = .ok (.aload_n 0, 1) := dk_42 (dk_at dksX6_route_2 18 rfl rfl)
theorem dX6_route_67 : decode cX6_route 67 = .ok (.invokevirtual 382, 3) := dk_182 1 126 (dk_at dksX6_route_2 19 rfl rfl)
theorem dX6_route_70 : decode cX6_route 70 = .ok (.aload_n 0, 1) := dk_42 (dk_at dksX6_route_2 22 rfl rfl)
theorem dX6_route_71 : decode cX6_route 71 = .ok (.getfield 7, 3) := dk_180 0 7 (dk_at dksX6_route_3 0 rfl rfl)
theorem dX6_route_74 : decode cX6_route 74 = .ok (.sipush 151, 3) := dk_17 0 151 (dk_at dksX6_route_3 3 rfl rfl)
theorem dX6_route_77 : decode cX6_route 77 = .ok (.iaload, 1) := dk_46 (dk_at dksX6_route_3 6 rfl rfl)
theorem dX6_route_78 : decode cX6_route 78 = .ok (.istore 4, 2) := dk_54 4 (dk_at dksX6_route_3 7 rfl rfl)
theorem dX6_route_80 : decode cX6_route 80 = .ok (.aload_n 0, 1) := dk_42 (dk_at dksX6_route_3 9 rfl rfl)
theorem dX6_route_81 : decode cX6_route 81 = .ok (.getfield 13, 3) := dk_180 0 13 (dk_at dksX6_route_3 10 rfl rfl)
theorem dX6_route_84 : decode cX6_route 84 = .ok (.aload_n 0, 1) := dk_42 (dk_at dksX6_route_3 13 rfl rfl)
theorem dX6_route_85 : decode cX6_route 85 = .ok (.getfield 7, 3) := dk_180 0 7 (dk_at dksX6_route_3 14 rfl rfl)
theorem dX6_route_88 : decode cX6_route 88 = .ok (.invokestatic 345, 3) := dk_184 1 89 (dk_at dksX6_route_3 17 rfl rfl)
theorem dX6_route_91 : decode cX6_route 91 = .ok (.iload_n 2, 1) := dk_28 (dk_at dksX6_route_3 20 rfl rfl)
theorem dX6_route_92 : decode cX6_route 92 = .ok (.ifCond .ne 10, 3) := dk_154 0 10 (dk_at dksX6_route_3 21 rfl rfl)
theorem dX6_route_95 : decode cX6_route 95 = .ok (.aload_n 0, 1) := dk_42 (dk_at dksX6_route_4 0 rfl rfl)
theorem dX6_route_96 : decode cX6_route 96 = .ok (.getfield 373, 3) := dk_180 1 117 (dk_at dksX6_route_4 1 rfl rfl)
theorem dX6_route_99 : decode cX6_route 99 = .ok (.goto 17, 3) := dk_167 0 17 (dk_at dksX6_route_4 4 rfl rfl)
theorem dX6_route_102 : decode cX6_route 102 = .ok (.iload_n 2, 1) := dk_28 (dk_at dksX6_route_4 7 rfl rfl)
theorem dX6_route_103 : decode cX6_route 103 = .ok (.iconst 1, 1) := dk_4 (dk_at dksX6_route_4 8 rfl rfl)
theorem dX6_route_104 : decode cX6_route 104 = .ok (.if_icmp .ne 10, 3) := dk_160 0 10 (dk_at dksX6_route_4 9 rfl rfl)
theorem dX6_route_107 : decode cX6_route 107 = .ok (.aload_n 0, 1) := dk_42 (dk_at dksX6_route_4 12 rfl rfl)
theorem dX6_route_108 : decode cX6_route 108 = .ok (.getfield 376, 3) := dk_180 1 120 (dk_at dksX6_route_4 13 rfl rfl)
theorem dX6_route_111 : decode cX6_route 111 = .ok (.goto 5, 3) := dk_167 0 5 (dk_at dksX6_route_4 16 rfl rfl)
theorem dX6_route_114 : decode cX6_route 114 = .ok (.iload 4, 2) := dk_21 4 (dk_at dksX6_route_4 19 rfl rfl)
theorem dX6_route_116 : decode cX6_route 116 = .ok (.ireturn, 1) := dk_172 (dk_at dksX6_route_4 21 rfl rfl)
abbrev cX6_readsRoute : ByteArray := prog_20_method_72_code
def yX6_readsRoute : MethodName := ⟨RX6, "readsRoute", "(I)I"⟩
def dkwX6_readsRoute_3 : List UInt8 := [172]
abbrev dktX6_readsRoute_3 : List UInt8 := dkwX6_readsRoute_3 ++ []
def dkwX6_readsRoute_2 : List UInt8 := [182, 1, 114, 61, 167, 255, 229, 42, 3, 181, 0, 160, 28, 153, 0, 7, 3, 167, 0, 7, 42, 180, 0, 176]
abbrev dktX6_readsRoute_2 : List UInt8 := dkwX6_readsRoute_2 ++ dktX6_readsRoute_3
def dkwX6_readsRoute_1 : List UInt8 := [61, 28, 153, 0, 29, 42, 180, 0, 166, 42, 180, 0, 169, 161, 0, 10, 42, 180, 1, 108, 158, 0, 11, 42]
abbrev dktX6_readsRoute_1 : List UInt8 := dkwX6_readsRoute_1 ++ dktX6_readsRoute_2
def dkwX6_readsRoute_0 : List UInt8 := [42, 3, 181, 0, 166, 42, 27, 181, 0, 169, 42, 3, 181, 1, 96, 42, 3, 181, 1, 108, 42, 182, 1, 114]
abbrev dktX6_readsRoute_0 : List UInt8 := dkwX6_readsRoute_0 ++ dktX6_readsRoute_1
theorem dksX6_readsRoute_0 : cX6_readsRoute.data.toList.drop 0 = dktX6_readsRoute_0 := by decide +kernel
theorem dksX6_readsRoute_1 : cX6_readsRoute.data.toList.drop 24 = dktX6_readsRoute_1 := dk_seg dksX6_readsRoute_0 24 rfl rfl
theorem dksX6_readsRoute_2 : cX6_readsRoute.data.toList.drop 48 = dktX6_readsRoute_2 := dk_seg dksX6_readsRoute_1 24 rfl rfl
theorem dksX6_readsRoute_3 : cX6_readsRoute.data.toList.drop 72 = dktX6_readsRoute_3 := dk_seg dksX6_readsRoute_2 24 rfl rfl
theorem dX6_readsRoute_0 : decode cX6_readsRoute 0 = .ok (.aload_n 0, 1) := dk_42 (dk_at dksX6_readsRoute_0 0 rfl rfl)
theorem dX6_readsRoute_1 : decode cX6_readsRoute 1 = .ok (.iconst 0, 1) := dk_3 (dk_at dksX6_readsRoute_0 1 rfl rfl)
theorem dX6_readsRoute_2 : decode cX6_readsRoute 2 = .ok (.putfield 166, 3) := dk_181 0 166 (dk_at dksX6_readsRoute_0 2 rfl rfl)
theorem dX6_readsRoute_5 : decode cX6_readsRoute 5 = .ok (.aload_n 0, 1) := dk_42 (dk_at dksX6_readsRoute_0 5 rfl rfl)
theorem dX6_readsRoute_6 : decode cX6_readsRoute 6 = .ok (.iload_n 1, 1) := dk_27 (dk_at dksX6_readsRoute_0 6 rfl rfl)
theorem dX6_readsRoute_7 : decode cX6_readsRoute 7 = .ok (.putfield 169, 3) := dk_181 0 169 (dk_at dksX6_readsRoute_0 7 rfl rfl)
theorem dX6_readsRoute_10 : decode cX6_readsRoute 10 = .ok (.aload_n 0, 1) := dk_42 (dk_at dksX6_readsRoute_0 10 rfl rfl)
theorem dX6_readsRoute_11 : decode cX6_readsRoute 11 = .ok (.iconst 0, 1) := dk_3 (dk_at dksX6_readsRoute_0 11 rfl rfl)
theorem dX6_readsRoute_12 : decode cX6_readsRoute 12 = .ok (.putfield 352, 3) := dk_181 1 96 (dk_at dksX6_readsRoute_0 12 rfl rfl)
theorem dX6_readsRoute_15 : decode cX6_readsRoute 15 = .ok (.aload_n 0, 1) := dk_42 (dk_at dksX6_readsRoute_0 15 rfl rfl)
theorem dX6_readsRoute_16 : decode cX6_readsRoute 16 = .ok (.iconst 0, 1) := dk_3 (dk_at dksX6_readsRoute_0 16 rfl rfl)
theorem dX6_readsRoute_17 : decode cX6_readsRoute 17 = .ok (.putfield 364, 3) := dk_181 1 108 (dk_at dksX6_readsRoute_0 17 rfl rfl)
theorem dX6_readsRoute_20 : decode cX6_readsRoute 20 = .ok (.aload_n 0, 1) := dk_42 (dk_at dksX6_readsRoute_0 20 rfl rfl)
theorem dX6_readsRoute_21 : decode cX6_readsRoute 21 = .ok (.invokevirtual 370, 3) := dk_182 1 114 (dk_at dksX6_readsRoute_0 21 rfl rfl)
theorem dX6_readsRoute_24 : decode cX6_readsRoute 24 = .ok (.istore_n 2, 1) := dk_61 (dk_at dksX6_readsRoute_1 0 rfl rfl)
theorem dX6_readsRoute_25 : decode cX6_readsRoute 25 = .ok (.iload_n 2, 1) := dk_28 (dk_at dksX6_readsRoute_1 1 rfl rfl)
theorem dX6_readsRoute_26 : decode cX6_readsRoute 26 = .ok (.ifCond .eq 29, 3) := dk_153 0 29 (dk_at dksX6_readsRoute_1 2 rfl rfl)
theorem dX6_readsRoute_29 : decode cX6_readsRoute 29 = .ok (.aload_n 0, 1) := dk_42 (dk_at dksX6_readsRoute_1 5 rfl rfl)
theorem dX6_readsRoute_30 : decode cX6_readsRoute 30 = .ok (.getfield 166, 3) := dk_180 0 166 (dk_at dksX6_readsRoute_1 6 rfl rfl)
theorem dX6_readsRoute_33 : decode cX6_readsRoute 33 = .ok (.aload_n 0, 1) := dk_42 (dk_at dksX6_readsRoute_1 9 rfl rfl)
theorem dX6_readsRoute_34 : decode cX6_readsRoute 34 = .ok (.getfield 169, 3) := dk_180 0 169 (dk_at dksX6_readsRoute_1 10 rfl rfl)
theorem dX6_readsRoute_37 : decode cX6_readsRoute 37 = .ok (.if_icmp .lt 10, 3) := dk_161 0 10 (dk_at dksX6_readsRoute_1 13 rfl rfl)
theorem dX6_readsRoute_40 : decode cX6_readsRoute 40 = .ok (.aload_n 0, 1) := dk_42 (dk_at dksX6_readsRoute_1 16 rfl rfl)
theorem dX6_readsRoute_41 : decode cX6_readsRoute 41 = .ok (.getfield 364, 3) := dk_180 1 108 (dk_at dksX6_readsRoute_1 17 rfl rfl)
theorem dX6_readsRoute_44 : decode cX6_readsRoute 44 = .ok (.ifCond .le 11, 3) := dk_158 0 11 (dk_at dksX6_readsRoute_1 20 rfl rfl)
theorem dX6_readsRoute_47 : decode cX6_readsRoute 47 = .ok (.aload_n 0, 1) := dk_42 (dk_at dksX6_readsRoute_1 23 rfl rfl)
theorem dX6_readsRoute_48 : decode cX6_readsRoute 48 = .ok (.invokevirtual 370, 3) := dk_182 1 114 (dk_at dksX6_readsRoute_2 0 rfl rfl)
theorem dX6_readsRoute_51 : decode cX6_readsRoute 51 = .ok (.istore_n 2, 1) := dk_61 (dk_at dksX6_readsRoute_2 3 rfl rfl)
theorem dX6_readsRoute_52 : decode cX6_readsRoute 52 = .ok (.goto (-27), 3) := dk_167 255 229 (dk_at dksX6_readsRoute_2 4 rfl rfl)
theorem dX6_readsRoute_55 : decode cX6_readsRoute 55 = .ok (.aload_n 0, 1) := dk_42 (dk_at dksX6_readsRoute_2 7 rfl rfl)
theorem dX6_readsRoute_56 : decode cX6_readsRoute 56 = .ok (.iconst 0, 1) := dk_3 (dk_at dksX6_readsRoute_2 8 rfl rfl)
theorem dX6_readsRoute_57 : decode cX6_readsRoute 57 = .ok (.putfield 160, 3) := dk_181 0 160 (dk_at dksX6_readsRoute_2 9 rfl rfl)
theorem dX6_readsRoute_60 : decode cX6_readsRoute 60 = .ok (.iload_n 2, 1) := dk_28 (dk_at dksX6_readsRoute_2 12 rfl rfl)
theorem dX6_readsRoute_61 : decode cX6_readsRoute 61 = .ok (.ifCond .eq 7, 3) := dk_153 0 7 (dk_at dksX6_readsRoute_2 13 rfl rfl)
theorem dX6_readsRoute_64 : decode cX6_readsRoute 64 = .ok (.iconst 0, 1) := dk_3 (dk_at dksX6_readsRoute_2 16 rfl rfl)
theorem dX6_readsRoute_65 : decode cX6_readsRoute 65 = .ok (.goto 7, 3) := dk_167 0 7 (dk_at dksX6_readsRoute_2 17 rfl rfl)
theorem dX6_readsRoute_68 : decode cX6_readsRoute 68 = .ok (.aload_n 0, 1) := dk_42 (dk_at dksX6_readsRoute_2 20 rfl rfl)
theorem dX6_readsRoute_69 : decode cX6_readsRoute 69 = .ok (.getfield 176, 3) := dk_180 0 176 (dk_at dksX6_readsRoute_2 21 rfl rfl)
theorem dX6_readsRoute_72 : decode cX6_readsRoute 72 = .ok (.ireturn, 1) := dk_172 (dk_at dksX6_readsRoute_3 0 rfl rfl)
abbrev cX6_readsItem : ByteArray := prog_20_method_71_code
def yX6_readsItem : MethodName := ⟨RX6, "readsItem", "()Z"⟩
def dkwX6_readsItem_11 : List UInt8 := [180, 0, 74, 42, 180, 1, 108, 46, 182, 1, 111, 154, 255, 189, 3, 172, 4, 172]
abbrev dktX6_readsItem_11 : List UInt8 := dkwX6_readsItem_11 ++ []
def dkwX6_readsItem_10 : List UInt8 := [181, 1, 108, 42, 42, 180, 0, 77, 42, 180, 1, 108, 46, 42, 180, 0, 80, 42, 180, 1, 108, 46, 42]
abbrev dktX6_readsItem_10 : List UInt8 := dkwX6_readsItem_10 ++ dktX6_readsItem_11
def dkwX6_readsItem_9 : List UInt8 := [42, 180, 1, 108, 158, 0, 59, 42, 42, 180, 0, 166, 4, 96, 181, 0, 166, 42, 42, 180, 1, 108, 4, 100]
abbrev dktX6_readsItem_9 : List UInt8 := dkwX6_readsItem_9 ++ dktX6_readsItem_10
def dkwX6_readsItem_8 : List UInt8 := [180, 1, 96, 4, 100, 28, 27, 182, 1, 111, 154, 0, 5, 3, 172, 42, 182, 0, 172, 16, 41, 160, 0, 66]
abbrev dktX6_readsItem_8 : List UInt8 := dkwX6_readsItem_8 ++ dktX6_readsItem_9
def dkwX6_readsItem_7 : List UInt8 := [42, 42, 180, 1, 96, 4, 96, 181, 1, 96, 42, 42, 180, 0, 166, 4, 96, 181, 0, 166, 42, 42]
abbrev dktX6_readsItem_7 : List UInt8 := dkwX6_readsItem_7 ++ dktX6_readsItem_8
def dkwX6_readsItem_6 : List UInt8 := [42, 16, 6, 27, 182, 0, 179, 172, 42, 180, 0, 71, 42, 180, 1, 96, 42, 182, 0, 172, 16, 97, 100, 79]
abbrev dktX6_readsItem_6 : List UInt8 := dkwX6_readsItem_6 ++ dktX6_readsItem_7
def dkwX6_readsItem_5 : List UInt8 := [154, 0, 13, 42, 4, 42, 180, 0, 166, 182, 0, 179, 172, 42, 180, 1, 96, 28, 96, 16, 60, 164, 0, 11]
abbrev dktX6_readsItem_5 : List UInt8 := dkwX6_readsItem_5 ++ dktX6_readsItem_6
def dkwX6_readsItem_4 : List UInt8 := [167, 255, 166, 42, 180, 1, 99, 60, 42, 180, 1, 102, 61, 42, 182, 0, 172, 16, 97, 16, 106, 184, 0, 123]
abbrev dktX6_readsItem_4 : List UInt8 := dkwX6_readsItem_4 ++ dktX6_readsItem_5
def dkwX6_readsItem_3 : List UInt8 := [180, 1, 108, 4, 96, 181, 1, 108, 42, 42, 180, 0, 166, 4, 96, 181, 0, 166, 42, 182, 1, 105]
abbrev dktX6_readsItem_3 : List UInt8 := dkwX6_readsItem_3 ++ dktX6_readsItem_4
def dkwX6_readsItem_2 : List UInt8 := [42, 180, 1, 108, 42, 180, 1, 96, 79, 42, 180, 0, 80, 42, 180, 1, 108, 42, 180, 1, 102, 79, 42, 42]
abbrev dktX6_readsItem_2 : List UInt8 := dkwX6_readsItem_2 ++ dktX6_readsItem_3
def dkwX6_readsItem_1 : List UInt8 := [180, 0, 166, 182, 0, 179, 172, 42, 180, 0, 74, 42, 180, 1, 108, 42, 180, 1, 99, 79, 42, 180, 0, 77]
abbrev dktX6_readsItem_1 : List UInt8 := dkwX6_readsItem_1 ++ dktX6_readsItem_2
def dkwX6_readsItem_0 : List UInt8 := [42, 182, 1, 105, 42, 182, 0, 172, 16, 40, 160, 0, 87, 42, 180, 1, 108, 5, 160, 0, 13, 42, 8, 42]
abbrev dktX6_readsItem_0 : List UInt8 := dkwX6_readsItem_0 ++ dktX6_readsItem_1
theorem dksX6_readsItem_0 : cX6_readsItem.data.toList.drop 0 = dktX6_readsItem_0 := by decide +kernel
theorem dksX6_readsItem_1 : cX6_readsItem.data.toList.drop 24 = dktX6_readsItem_1 := dk_seg dksX6_readsItem_0 24 rfl rfl
theorem dksX6_readsItem_2 : cX6_readsItem.data.toList.drop 48 = dktX6_readsItem_2 := dk_seg dksX6_readsItem_1 24 rfl rfl
theorem dksX6_readsItem_3 : cX6_readsItem.data.toList.drop 72 = dktX6_readsItem_3 := dk_seg dksX6_readsItem_2 24 rfl rfl
theorem dksX6_readsItem_4 : cX6_readsItem.data.toList.drop 94 = dktX6_readsItem_4 := dk_seg dksX6_readsItem_3 22 rfl rfl
theorem dksX6_readsItem_5 : cX6_readsItem.data.toList.drop 118 = dktX6_readsItem_5 := dk_seg dksX6_readsItem_4 24 rfl rfl
theorem dksX6_readsItem_6 : cX6_readsItem.data.toList.drop 142 = dktX6_readsItem_6 := dk_seg dksX6_readsItem_5 24 rfl rfl
theorem dksX6_readsItem_7 : cX6_readsItem.data.toList.drop 166 = dktX6_readsItem_7 := dk_seg dksX6_readsItem_6 24 rfl rfl
theorem dksX6_readsItem_8 : cX6_readsItem.data.toList.drop 188 = dktX6_readsItem_8 := dk_seg dksX6_readsItem_7 22 rfl rfl
theorem dksX6_readsItem_9 : cX6_readsItem.data.toList.drop 212 = dktX6_readsItem_9 := dk_seg dksX6_readsItem_8 24 rfl rfl
theorem dksX6_readsItem_10 : cX6_readsItem.data.toList.drop 236 = dktX6_readsItem_10 := dk_seg dksX6_readsItem_9 24 rfl rfl
theorem dksX6_readsItem_11 : cX6_readsItem.data.toList.drop 259 = dktX6_readsItem_11 := dk_seg dksX6_readsItem_10 23 rfl rfl
theorem dX6_readsItem_0 : decode cX6_readsItem 0 = .ok (.aload_n 0, 1) := dk_42 (dk_at dksX6_readsItem_0 0 rfl rfl)
theorem dX6_readsItem_1 : decode cX6_readsItem 1 = .ok (.invokevirtual 361, 3) := dk_182 1 105 (dk_at dksX6_readsItem_0 1 rfl rfl)
theorem dX6_readsItem_4 : decode cX6_readsItem 4 = .ok (.aload_n 0, 1) := dk_42 (dk_at dksX6_readsItem_0 4 rfl rfl)
theorem dX6_readsItem_5 : decode cX6_readsItem 5 = .ok (.invokevirtual 172, 3) := dk_182 0 172 (dk_at dksX6_readsItem_0 5 rfl rfl)
theorem dX6_readsItem_8 : decode cX6_readsItem 8 = .ok (.bipush 40, 2) := dk_16 40 (dk_at dksX6_readsItem_0 8 rfl rfl)
theorem dX6_readsItem_10 : decode cX6_readsItem 10 = .ok (.if_icmp .ne 87, 3) := dk_160 0 87 (dk_at dksX6_readsItem_0 10 rfl rfl)
theorem dX6_readsItem_13 : decode cX6_readsItem 13 = .ok (.aload_n 0, 1) := dk_42 (dk_at dksX6_readsItem_0 13 rfl rfl)
theorem dX6_readsItem_14 : decode cX6_readsItem 14 = .ok (.getfield 364, 3) := dk_180 1 108 (dk_at dksX6_readsItem_0 14 rfl rfl)
theorem dX6_readsItem_17 : decode cX6_readsItem 17 = .ok (.iconst 2, 1) := dk_5 (dk_at dksX6_readsItem_0 17 rfl rfl)
theorem dX6_readsItem_18 : decode cX6_readsItem 18 = .ok (.if_icmp .ne 13, 3) := dk_160 0 13 (dk_at dksX6_readsItem_0 18 rfl rfl)
theorem dX6_readsItem_21 : decode cX6_readsItem 21 = .ok (.aload_n 0, 1) := dk_42 (dk_at dksX6_readsItem_0 21 rfl rfl)
theorem dX6_readsItem_22 : decode cX6_readsItem 22 = .ok (.iconst 5, 1) := dk_8 (dk_at dksX6_readsItem_0 22 rfl rfl)
theorem dX6_readsItem_23 : decode cX6_readsItem 23 = .ok (.aload_n 0, 1) := dk_42 (dk_at dksX6_readsItem_0 23 rfl rfl)
theorem dX6_readsItem_24 : decode cX6_readsItem 24 = .ok (.getfield 166, 3) := dk_180 0 166 (dk_at dksX6_readsItem_1 0 rfl rfl)
theorem dX6_readsItem_27 : decode cX6_readsItem 27 = .ok (.invokevirtual 179, 3) := dk_182 0 179 (dk_at dksX6_readsItem_1 3 rfl rfl)
theorem dX6_readsItem_30 : decode cX6_readsItem 30 = .ok (.ireturn, 1) := dk_172 (dk_at dksX6_readsItem_1 6 rfl rfl)
theorem dX6_readsItem_31 : decode cX6_readsItem 31 = .ok (.aload_n 0, 1) := dk_42 (dk_at dksX6_readsItem_1 7 rfl rfl)
theorem dX6_readsItem_32 : decode cX6_readsItem 32 = .ok (.getfield 74, 3) := dk_180 0 74 (dk_at dksX6_readsItem_1 8 rfl rfl)
theorem dX6_readsItem_35 : decode cX6_readsItem 35 = .ok (.aload_n 0, 1) := dk_42 (dk_at dksX6_readsItem_1 11 rfl rfl)
theorem dX6_readsItem_36 : decode cX6_readsItem 36 = .ok (.getfield 364, 3) := dk_180 1 108 (dk_at dksX6_readsItem_1 12 rfl rfl)
theorem dX6_readsItem_39 : decode cX6_readsItem 39 = .ok (.aload_n 0, 1) := dk_42 (dk_at dksX6_readsItem_1 15 rfl rfl)
theorem dX6_readsItem_40 : decode cX6_readsItem 40 = .ok (.getfield 355, 3) := dk_180 1 99 (dk_at dksX6_readsItem_1 16 rfl rfl)
theorem dX6_readsItem_43 : decode cX6_readsItem 43 = .ok (.iastore, 1) := dk_79 (dk_at dksX6_readsItem_1 19 rfl rfl)
theorem dX6_readsItem_44 : decode cX6_readsItem 44 = .ok (.aload_n 0, 1) := dk_42 (dk_at dksX6_readsItem_1 20 rfl rfl)
theorem dX6_readsItem_45 : decode cX6_readsItem 45 = .ok (.getfield 77, 3) := dk_180 0 77 (dk_at dksX6_readsItem_1 21 rfl rfl)
theorem dX6_readsItem_48 : decode cX6_readsItem 48 = .ok (.aload_n 0, 1) := dk_42 (dk_at dksX6_readsItem_2 0 rfl rfl)
theorem dX6_readsItem_49 : decode cX6_readsItem 49 = .ok (.getfield 364, 3) := dk_180 1 108 (dk_at dksX6_readsItem_2 1 rfl rfl)
theorem dX6_readsItem_52 : decode cX6_readsItem 52 = .ok (.aload_n 0, 1) := dk_42 (dk_at dksX6_readsItem_2 4 rfl rfl)
theorem dX6_readsItem_53 : decode cX6_readsItem 53 = .ok (.getfield 352, 3) := dk_180 1 96 (dk_at dksX6_readsItem_2 5 rfl rfl)
theorem dX6_readsItem_56 : decode cX6_readsItem 56 = .ok (.iastore, 1) := dk_79 (dk_at dksX6_readsItem_2 8 rfl rfl)
theorem dX6_readsItem_57 : decode cX6_readsItem 57 = .ok (.aload_n 0, 1) := dk_42 (dk_at dksX6_readsItem_2 9 rfl rfl)
theorem dX6_readsItem_58 : decode cX6_readsItem 58 = .ok (.getfield 80, 3) := dk_180 0 80 (dk_at dksX6_readsItem_2 10 rfl rfl)
theorem dX6_readsItem_61 : decode cX6_readsItem 61 = .ok (.aload_n 0, 1) := dk_42 (dk_at dksX6_readsItem_2 13 rfl rfl)
theorem dX6_readsItem_62 : decode cX6_readsItem 62 = .ok (.getfield 364, 3) := dk_180 1 108 (dk_at dksX6_readsItem_2 14 rfl rfl)
theorem dX6_readsItem_65 : decode cX6_readsItem 65 = .ok (.aload_n 0, 1) := dk_42 (dk_at dksX6_readsItem_2 17 rfl rfl)
theorem dX6_readsItem_66 : decode cX6_readsItem 66 = .ok (.getfield 358, 3) := dk_180 1 102 (dk_at dksX6_readsItem_2 18 rfl rfl)
theorem dX6_readsItem_69 : decode cX6_readsItem 69 = .ok (.iastore, 1) := dk_79 (dk_at dksX6_readsItem_2 21 rfl rfl)
theorem dX6_readsItem_70 : decode cX6_readsItem 70 = .ok (.aload_n 0, 1) := dk_42 (dk_at dksX6_readsItem_2 22 rfl rfl)
theorem dX6_readsItem_71 : decode cX6_readsItem 71 = .ok (.aload_n 0, 1) := dk_42 (dk_at dksX6_readsItem_2 23 rfl rfl)
theorem dX6_readsItem_72 : decode cX6_readsItem 72 = .ok (.getfield 364, 3) := dk_180 1 108 (dk_at dksX6_readsItem_3 0 rfl rfl)
theorem dX6_readsItem_75 : decode cX6_readsItem 75 = .ok (.iconst 1, 1) := dk_4 (dk_at dksX6_readsItem_3 3 rfl rfl)
theorem dX6_readsItem_76 : decode cX6_readsItem 76 = .ok (.iadd, 1) := dk_96 (dk_at dksX6_readsItem_3 4 rfl rfl)
theorem dX6_readsItem_77 : decode cX6_readsItem 77 = .ok (.putfield 364, 3) := dk_181 1 108 (dk_at dksX6_readsItem_3 5 rfl rfl)
theorem dX6_readsItem_80 : decode cX6_readsItem 80 = .ok (.aload_n 0, 1) := dk_42 (dk_at dksX6_readsItem_3 8 rfl rfl)
theorem dX6_readsItem_81 : decode cX6_readsItem 81 = .ok (.aload_n 0, 1) := dk_42 (dk_at dksX6_readsItem_3 9 rfl rfl)
theorem dX6_readsItem_82 : decode cX6_readsItem 82 = .ok (.getfield 166, 3) := dk_180 0 166 (dk_at dksX6_readsItem_3 10 rfl rfl)
theorem dX6_readsItem_85 : decode cX6_readsItem 85 = .ok (.iconst 1, 1) := dk_4 (dk_at dksX6_readsItem_3 13 rfl rfl)
theorem dX6_readsItem_86 : decode cX6_readsItem 86 = .ok (.iadd, 1) := dk_96 (dk_at dksX6_readsItem_3 14 rfl rfl)
theorem dX6_readsItem_87 : decode cX6_readsItem 87 = .ok (.putfield 166, 3) := dk_181 0 166 (dk_at dksX6_readsItem_3 15 rfl rfl)
theorem dX6_readsItem_90 : decode cX6_readsItem 90 = .ok (.aload_n 0, 1) := dk_42 (dk_at dksX6_readsItem_3 18 rfl rfl)
theorem dX6_readsItem_91 : decode cX6_readsItem 91 = .ok (.invokevirtual 361, 3) := dk_182 1 105 (dk_at dksX6_readsItem_3 19 rfl rfl)
theorem dX6_readsItem_94 : decode cX6_readsItem 94 = .ok (.goto (-90), 3) := dk_167 255 166 (dk_at dksX6_readsItem_4 0 rfl rfl)
theorem dX6_readsItem_97 : decode cX6_readsItem 97 = .ok (.aload_n 0, 1) := dk_42 (dk_at dksX6_readsItem_4 3 rfl rfl)
theorem dX6_readsItem_98 : decode cX6_readsItem 98 = .ok (.getfield 355, 3) := dk_180 1 99 (dk_at dksX6_readsItem_4 4 rfl rfl)
theorem dX6_readsItem_101 : decode cX6_readsItem 101 = .ok (.istore_n 1, 1) := dk_60 (dk_at dksX6_readsItem_4 7 rfl rfl)
theorem dX6_readsItem_102 : decode cX6_readsItem 102 = .ok (.aload_n 0, 1) := dk_42 (dk_at dksX6_readsItem_4 8 rfl rfl)
theorem dX6_readsItem_103 : decode cX6_readsItem 103 = .ok (.getfield 358, 3) := dk_180 1 102 (dk_at dksX6_readsItem_4 9 rfl rfl)
theorem dX6_readsItem_106 : decode cX6_readsItem 106 = .ok (.istore_n 2, 1) := dk_61 (dk_at dksX6_readsItem_4 12 rfl rfl)
theorem dX6_readsItem_107 : decode cX6_readsItem 107 = .ok (.aload_n 0, 1) := dk_42 (dk_at dksX6_readsItem_4 13 rfl rfl)
theorem dX6_readsItem_108 : decode cX6_readsItem 108 = .ok (.invokevirtual 172, 3) := dk_182 0 172 (dk_at dksX6_readsItem_4 14 rfl rfl)
theorem dX6_readsItem_111 : decode cX6_readsItem 111 = .ok (.bipush 97, 2) := dk_16 97 (dk_at dksX6_readsItem_4 17 rfl rfl)
theorem dX6_readsItem_113 : decode cX6_readsItem 113 = .ok (.bipush 106, 2) := dk_16 106 (dk_at dksX6_readsItem_4 19 rfl rfl)
theorem dX6_readsItem_115 : decode cX6_readsItem 115 = .ok (.invokestatic 123, 3) := dk_184 0 123 (dk_at dksX6_readsItem_4 21 rfl rfl)
theorem dX6_readsItem_118 : decode cX6_readsItem 118 = .ok (.ifCond .ne 13, 3) := dk_154 0 13 (dk_at dksX6_readsItem_5 0 rfl rfl)
theorem dX6_readsItem_121 : decode cX6_readsItem 121 = .ok (.aload_n 0, 1) := dk_42 (dk_at dksX6_readsItem_5 3 rfl rfl)
theorem dX6_readsItem_122 : decode cX6_readsItem 122 = .ok (.iconst 1, 1) := dk_4 (dk_at dksX6_readsItem_5 4 rfl rfl)
theorem dX6_readsItem_123 : decode cX6_readsItem 123 = .ok (.aload_n 0, 1) := dk_42 (dk_at dksX6_readsItem_5 5 rfl rfl)
theorem dX6_readsItem_124 : decode cX6_readsItem 124 = .ok (.getfield 166, 3) := dk_180 0 166 (dk_at dksX6_readsItem_5 6 rfl rfl)
theorem dX6_readsItem_127 : decode cX6_readsItem 127 = .ok (.invokevirtual 179, 3) := dk_182 0 179 (dk_at dksX6_readsItem_5 9 rfl rfl)
theorem dX6_readsItem_130 : decode cX6_readsItem 130 = .ok (.ireturn, 1) := dk_172 (dk_at dksX6_readsItem_5 12 rfl rfl)
theorem dX6_readsItem_131 : decode cX6_readsItem 131 = .ok (.aload_n 0, 1) := dk_42 (dk_at dksX6_readsItem_5 13 rfl rfl)
theorem dX6_readsItem_132 : decode cX6_readsItem 132 = .ok (.getfield 352, 3) := dk_180 1 96 (dk_at dksX6_readsItem_5 14 rfl rfl)
theorem dX6_readsItem_135 : decode cX6_readsItem 135 = .ok (.iload_n 2, 1) := dk_28 (dk_at dksX6_readsItem_5 17 rfl rfl)
theorem dX6_readsItem_136 : decode cX6_readsItem 136 = .ok (.iadd, 1) := dk_96 (dk_at dksX6_readsItem_5 18 rfl rfl)
theorem dX6_readsItem_137 : decode cX6_readsItem 137 = .ok (.bipush 60, 2) := dk_16 60 (dk_at dksX6_readsItem_5 19 rfl rfl)
theorem dX6_readsItem_139 : decode cX6_readsItem 139 = .ok (.if_icmp .le 11, 3) := dk_164 0 11 (dk_at dksX6_readsItem_5 21 rfl rfl)
theorem dX6_readsItem_142 : decode cX6_readsItem 142 = .ok (.aload_n 0, 1) := dk_42 (dk_at dksX6_readsItem_6 0 rfl rfl)
theorem dX6_readsItem_143 : decode cX6_readsItem 143 = .ok (.bipush 6, 2) := dk_16 6 (dk_at dksX6_readsItem_6 1 rfl rfl)
theorem dX6_readsItem_145 : decode cX6_readsItem 145 = .ok (.iload_n 1, 1) := dk_27 (dk_at dksX6_readsItem_6 3 rfl rfl)
theorem dX6_readsItem_146 : decode cX6_readsItem 146 = .ok (.invokevirtual 179, 3) := dk_182 0 179 (dk_at dksX6_readsItem_6 4 rfl rfl)
theorem dX6_readsItem_149 : decode cX6_readsItem 149 = .ok (.ireturn, 1) := dk_172 (dk_at dksX6_readsItem_6 7 rfl rfl)
theorem dX6_readsItem_150 : decode cX6_readsItem 150 = .ok (.aload_n 0, 1) := dk_42 (dk_at dksX6_readsItem_6 8 rfl rfl)
theorem dX6_readsItem_151 : decode cX6_readsItem 151 = .ok (.getfield 71, 3) := dk_180 0 71 (dk_at dksX6_readsItem_6 9 rfl rfl)
theorem dX6_readsItem_154 : decode cX6_readsItem 154 = .ok (.aload_n 0, 1) := dk_42 (dk_at dksX6_readsItem_6 12 rfl rfl)
theorem dX6_readsItem_155 : decode cX6_readsItem 155 = .ok (.getfield 352, 3) := dk_180 1 96 (dk_at dksX6_readsItem_6 13 rfl rfl)
theorem dX6_readsItem_158 : decode cX6_readsItem 158 = .ok (.aload_n 0, 1) := dk_42 (dk_at dksX6_readsItem_6 16 rfl rfl)
theorem dX6_readsItem_159 : decode cX6_readsItem 159 = .ok (.invokevirtual 172, 3) := dk_182 0 172 (dk_at dksX6_readsItem_6 17 rfl rfl)
theorem dX6_readsItem_162 : decode cX6_readsItem 162 = .ok (.bipush 97, 2) := dk_16 97 (dk_at dksX6_readsItem_6 20 rfl rfl)
theorem dX6_readsItem_164 : decode cX6_readsItem 164 = .ok (.isub, 1) := dk_100 (dk_at dksX6_readsItem_6 22 rfl rfl)
theorem dX6_readsItem_165 : decode cX6_readsItem 165 = .ok (.iastore, 1) := dk_79 (dk_at dksX6_readsItem_6 23 rfl rfl)
theorem dX6_readsItem_166 : decode cX6_readsItem 166 = .ok (.aload_n 0, 1) := dk_42 (dk_at dksX6_readsItem_7 0 rfl rfl)
theorem dX6_readsItem_167 : decode cX6_readsItem 167 = .ok (.aload_n 0, 1) := dk_42 (dk_at dksX6_readsItem_7 1 rfl rfl)
theorem dX6_readsItem_168 : decode cX6_readsItem 168 = .ok (.getfield 352, 3) := dk_180 1 96 (dk_at dksX6_readsItem_7 2 rfl rfl)
theorem dX6_readsItem_171 : decode cX6_readsItem 171 = .ok (.iconst 1, 1) := dk_4 (dk_at dksX6_readsItem_7 5 rfl rfl)
theorem dX6_readsItem_172 : decode cX6_readsItem 172 = .ok (.iadd, 1) := dk_96 (dk_at dksX6_readsItem_7 6 rfl rfl)
theorem dX6_readsItem_173 : decode cX6_readsItem 173 = .ok (.putfield 352, 3) := dk_181 1 96 (dk_at dksX6_readsItem_7 7 rfl rfl)
theorem dX6_readsItem_176 : decode cX6_readsItem 176 = .ok (.aload_n 0, 1) := dk_42 (dk_at dksX6_readsItem_7 10 rfl rfl)
theorem dX6_readsItem_177 : decode cX6_readsItem 177 = .ok (.aload_n 0, 1) := dk_42 (dk_at dksX6_readsItem_7 11 rfl rfl)
theorem dX6_readsItem_178 : decode cX6_readsItem 178 = .ok (.getfield 166, 3) := dk_180 0 166 (dk_at dksX6_readsItem_7 12 rfl rfl)
theorem dX6_readsItem_181 : decode cX6_readsItem 181 = .ok (.iconst 1, 1) := dk_4 (dk_at dksX6_readsItem_7 15 rfl rfl)
theorem dX6_readsItem_182 : decode cX6_readsItem 182 = .ok (.iadd, 1) := dk_96 (dk_at dksX6_readsItem_7 16 rfl rfl)
theorem dX6_readsItem_183 : decode cX6_readsItem 183 = .ok (.putfield 166, 3) := dk_181 0 166 (dk_at dksX6_readsItem_7 17 rfl rfl)
theorem dX6_readsItem_186 : decode cX6_readsItem 186 = .ok (.aload_n 0, 1) := dk_42 (dk_at dksX6_readsItem_7 20 rfl rfl)
theorem dX6_readsItem_187 : decode cX6_readsItem 187 = .ok (.aload_n 0, 1) := dk_42 (dk_at dksX6_readsItem_7 21 rfl rfl)
theorem dX6_readsItem_188 : decode cX6_readsItem 188 = .ok (.getfield 352, 3) := dk_180 1 96 (dk_at dksX6_readsItem_8 0 rfl rfl)
theorem dX6_readsItem_191 : decode cX6_readsItem 191 = .ok (.iconst 1, 1) := dk_4 (dk_at dksX6_readsItem_8 3 rfl rfl)
theorem dX6_readsItem_192 : decode cX6_readsItem 192 = .ok (.isub, 1) := dk_100 (dk_at dksX6_readsItem_8 4 rfl rfl)
theorem dX6_readsItem_193 : decode cX6_readsItem 193 = .ok (.iload_n 2, 1) := dk_28 (dk_at dksX6_readsItem_8 5 rfl rfl)
theorem dX6_readsItem_194 : decode cX6_readsItem 194 = .ok (.iload_n 1, 1) := dk_27 (dk_at dksX6_readsItem_8 6 rfl rfl)
theorem dX6_readsItem_195 : decode cX6_readsItem 195 = .ok (.invokevirtual 367, 3) := dk_182 1 111 (dk_at dksX6_readsItem_8 7 rfl rfl)
theorem dX6_readsItem_198 : decode cX6_readsItem 198 = .ok (.ifCond .ne 5, 3) := dk_154 0 5 (dk_at dksX6_readsItem_8 10 rfl rfl)
theorem dX6_readsItem_201 : decode cX6_readsItem 201 = .ok (.iconst 0, 1) := dk_3 (dk_at dksX6_readsItem_8 13 rfl rfl)
theorem dX6_readsItem_202 : decode cX6_readsItem 202 = .ok (.ireturn, 1) := dk_172 (dk_at dksX6_readsItem_8 14 rfl rfl)
theorem dX6_readsItem_203 : decode cX6_readsItem 203 = .ok (.aload_n 0, 1) := dk_42 (dk_at dksX6_readsItem_8 15 rfl rfl)
theorem dX6_readsItem_204 : decode cX6_readsItem 204 = .ok (.invokevirtual 172, 3) := dk_182 0 172 (dk_at dksX6_readsItem_8 16 rfl rfl)
theorem dX6_readsItem_207 : decode cX6_readsItem 207 = .ok (.bipush 41, 2) := dk_16 41 (dk_at dksX6_readsItem_8 19 rfl rfl)
theorem dX6_readsItem_209 : decode cX6_readsItem 209 = .ok (.if_icmp .ne 66, 3) := dk_160 0 66 (dk_at dksX6_readsItem_8 21 rfl rfl)
theorem dX6_readsItem_212 : decode cX6_readsItem 212 = .ok (.aload_n 0, 1) := dk_42 (dk_at dksX6_readsItem_9 0 rfl rfl)
theorem dX6_readsItem_213 : decode cX6_readsItem 213 = .ok (.getfield 364, 3) := dk_180 1 108 (dk_at dksX6_readsItem_9 1 rfl rfl)
theorem dX6_readsItem_216 : decode cX6_readsItem 216 = .ok (.ifCond .le 59, 3) := dk_158 0 59 (dk_at dksX6_readsItem_9 4 rfl rfl)
theorem dX6_readsItem_219 : decode cX6_readsItem 219 = .ok (.aload_n 0, 1) := dk_42 (dk_at dksX6_readsItem_9 7 rfl rfl)
theorem dX6_readsItem_220 : decode cX6_readsItem 220 = .ok (.aload_n 0, 1) := dk_42 (dk_at dksX6_readsItem_9 8 rfl rfl)
theorem dX6_readsItem_221 : decode cX6_readsItem 221 = .ok (.getfield 166, 3) := dk_180 0 166 (dk_at dksX6_readsItem_9 9 rfl rfl)
theorem dX6_readsItem_224 : decode cX6_readsItem 224 = .ok (.iconst 1, 1) := dk_4 (dk_at dksX6_readsItem_9 12 rfl rfl)
theorem dX6_readsItem_225 : decode cX6_readsItem 225 = .ok (.iadd, 1) := dk_96 (dk_at dksX6_readsItem_9 13 rfl rfl)
theorem dX6_readsItem_226 : decode cX6_readsItem 226 = .ok (.putfield 166, 3) := dk_181 0 166 (dk_at dksX6_readsItem_9 14 rfl rfl)
theorem dX6_readsItem_229 : decode cX6_readsItem 229 = .ok (.aload_n 0, 1) := dk_42 (dk_at dksX6_readsItem_9 17 rfl rfl)
theorem dX6_readsItem_230 : decode cX6_readsItem 230 = .ok (.aload_n 0, 1) := dk_42 (dk_at dksX6_readsItem_9 18 rfl rfl)
theorem dX6_readsItem_231 : decode cX6_readsItem 231 = .ok (.getfield 364, 3) := dk_180 1 108 (dk_at dksX6_readsItem_9 19 rfl rfl)
theorem dX6_readsItem_234 : decode cX6_readsItem 234 = .ok (.iconst 1, 1) := dk_4 (dk_at dksX6_readsItem_9 22 rfl rfl)
theorem dX6_readsItem_235 : decode cX6_readsItem 235 = .ok (.isub, 1) := dk_100 (dk_at dksX6_readsItem_9 23 rfl rfl)
theorem dX6_readsItem_236 : decode cX6_readsItem 236 = .ok (.putfield 364, 3) := dk_181 1 108 (dk_at dksX6_readsItem_10 0 rfl rfl)
theorem dX6_readsItem_239 : decode cX6_readsItem 239 = .ok (.aload_n 0, 1) := dk_42 (dk_at dksX6_readsItem_10 3 rfl rfl)
theorem dX6_readsItem_240 : decode cX6_readsItem 240 = .ok (.aload_n 0, 1) := dk_42 (dk_at dksX6_readsItem_10 4 rfl rfl)
theorem dX6_readsItem_241 : decode cX6_readsItem 241 = .ok (.getfield 77, 3) := dk_180 0 77 (dk_at dksX6_readsItem_10 5 rfl rfl)
theorem dX6_readsItem_244 : decode cX6_readsItem 244 = .ok (.aload_n 0, 1) := dk_42 (dk_at dksX6_readsItem_10 8 rfl rfl)
theorem dX6_readsItem_245 : decode cX6_readsItem 245 = .ok (.getfield 364, 3) := dk_180 1 108 (dk_at dksX6_readsItem_10 9 rfl rfl)
theorem dX6_readsItem_248 : decode cX6_readsItem 248 = .ok (.iaload, 1) := dk_46 (dk_at dksX6_readsItem_10 12 rfl rfl)
theorem dX6_readsItem_249 : decode cX6_readsItem 249 = .ok (.aload_n 0, 1) := dk_42 (dk_at dksX6_readsItem_10 13 rfl rfl)
theorem dX6_readsItem_250 : decode cX6_readsItem 250 = .ok (.getfield 80, 3) := dk_180 0 80 (dk_at dksX6_readsItem_10 14 rfl rfl)
theorem dX6_readsItem_253 : decode cX6_readsItem 253 = .ok (.aload_n 0, 1) := dk_42 (dk_at dksX6_readsItem_10 17 rfl rfl)
theorem dX6_readsItem_254 : decode cX6_readsItem 254 = .ok (.getfield 364, 3) := dk_180 1 108 (dk_at dksX6_readsItem_10 18 rfl rfl)
theorem dX6_readsItem_257 : decode cX6_readsItem 257 = .ok (.iaload, 1) := dk_46 (dk_at dksX6_readsItem_10 21 rfl rfl)
theorem dX6_readsItem_258 : decode cX6_readsItem 258 = .ok (.aload_n 0, 1) := dk_42 (dk_at dksX6_readsItem_10 22 rfl rfl)
theorem dX6_readsItem_259 : decode cX6_readsItem 259 = .ok (.getfield 74, 3) := dk_180 0 74 (dk_at dksX6_readsItem_11 0 rfl rfl)
theorem dX6_readsItem_262 : decode cX6_readsItem 262 = .ok (.aload_n 0, 1) := dk_42 (dk_at dksX6_readsItem_11 3 rfl rfl)
theorem dX6_readsItem_263 : decode cX6_readsItem 263 = .ok (.getfield 364, 3) := dk_180 1 108 (dk_at dksX6_readsItem_11 4 rfl rfl)
theorem dX6_readsItem_266 : decode cX6_readsItem 266 = .ok (.iaload, 1) := dk_46 (dk_at dksX6_readsItem_11 7 rfl rfl)
theorem dX6_readsItem_267 : decode cX6_readsItem 267 = .ok (.invokevirtual 367, 3) := dk_182 1 111 (dk_at dksX6_readsItem_11 8 rfl rfl)
theorem dX6_readsItem_270 : decode cX6_readsItem 270 = .ok (.ifCond .ne (-67), 3) := dk_154 255 189 (dk_at dksX6_readsItem_11 11 rfl rfl)
theorem dX6_readsItem_273 : decode cX6_readsItem 273 = .ok (.iconst 0, 1) := dk_3 (dk_at dksX6_readsItem_11 14 rfl rfl)
theorem dX6_readsItem_274 : decode cX6_readsItem 274 = .ok (.ireturn, 1) := dk_172 (dk_at dksX6_readsItem_11 15 rfl rfl)
theorem dX6_readsItem_275 : decode cX6_readsItem 275 = .ok (.iconst 1, 1) := dk_4 (dk_at dksX6_readsItem_11 16 rfl rfl)
theorem dX6_readsItem_276 : decode cX6_readsItem 276 = .ok (.ireturn, 1) := dk_172 (dk_at dksX6_readsItem_11 17 rfl rfl)
abbrev cX6_readsTimes : ByteArray := prog_20_method_70_code
def yX6_readsTimes : MethodName := ⟨RX6, "readsTimes", "()V"⟩
def dkwX6_readsTimes_2 : List UInt8 := [181, 0, 166, 177]
abbrev dktX6_readsTimes_2 : List UInt8 := dkwX6_readsTimes_2 ++ []
def dkwX6_readsTimes_1 : List UInt8 := [154, 0, 4, 177, 42, 42, 182, 0, 172, 16, 48, 100, 181, 1, 102, 42, 42, 180, 0, 166, 4, 96]
abbrev dktX6_readsTimes_1 : List UInt8 := dkwX6_readsTimes_1 ++ dktX6_readsTimes_2
def dkwX6_readsTimes_0 : List UInt8 := [42, 42, 180, 0, 166, 181, 1, 99, 42, 4, 181, 1, 102, 42, 182, 0, 172, 16, 50, 16, 57, 184, 0, 123]
abbrev dktX6_readsTimes_0 : List UInt8 := dkwX6_readsTimes_0 ++ dktX6_readsTimes_1
theorem dksX6_readsTimes_0 : cX6_readsTimes.data.toList.drop 0 = dktX6_readsTimes_0 := by decide +kernel
theorem dksX6_readsTimes_1 : cX6_readsTimes.data.toList.drop 24 = dktX6_readsTimes_1 := dk_seg dksX6_readsTimes_0 24 rfl rfl
theorem dksX6_readsTimes_2 : cX6_readsTimes.data.toList.drop 46 = dktX6_readsTimes_2 := dk_seg dksX6_readsTimes_1 22 rfl rfl
theorem dX6_readsTimes_0 : decode cX6_readsTimes 0 = .ok (.aload_n 0, 1) := dk_42 (dk_at dksX6_readsTimes_0 0 rfl rfl)
theorem dX6_readsTimes_1 : decode cX6_readsTimes 1 = .ok (.aload_n 0, 1) := dk_42 (dk_at dksX6_readsTimes_0 1 rfl rfl)
theorem dX6_readsTimes_2 : decode cX6_readsTimes 2 = .ok (.getfield 166, 3) := dk_180 0 166 (dk_at dksX6_readsTimes_0 2 rfl rfl)
theorem dX6_readsTimes_5 : decode cX6_readsTimes 5 = .ok (.putfield 355, 3) := dk_181 1 99 (dk_at dksX6_readsTimes_0 5 rfl rfl)
theorem dX6_readsTimes_8 : decode cX6_readsTimes 8 = .ok (.aload_n 0, 1) := dk_42 (dk_at dksX6_readsTimes_0 8 rfl rfl)
theorem dX6_readsTimes_9 : decode cX6_readsTimes 9 = .ok (.iconst 1, 1) := dk_4 (dk_at dksX6_readsTimes_0 9 rfl rfl)
theorem dX6_readsTimes_10 : decode cX6_readsTimes 10 = .ok (.putfield 358, 3) := dk_181 1 102 (dk_at dksX6_readsTimes_0 10 rfl rfl)
theorem dX6_readsTimes_13 : decode cX6_readsTimes 13 = .ok (.aload_n 0, 1) := dk_42 (dk_at dksX6_readsTimes_0 13 rfl rfl)
theorem dX6_readsTimes_14 : decode cX6_readsTimes 14 = .ok (.invokevirtual 172, 3) := dk_182 0 172 (dk_at dksX6_readsTimes_0 14 rfl rfl)
theorem dX6_readsTimes_17 : decode cX6_readsTimes 17 = .ok (.bipush 50, 2) := dk_16 50 (dk_at dksX6_readsTimes_0 17 rfl rfl)
theorem dX6_readsTimes_19 : decode cX6_readsTimes 19 = .ok (.bipush 57, 2) := dk_16 57 (dk_at dksX6_readsTimes_0 19 rfl rfl)
theorem dX6_readsTimes_21 : decode cX6_readsTimes 21 = .ok (.invokestatic 123, 3) := dk_184 0 123 (dk_at dksX6_readsTimes_0 21 rfl rfl)
theorem dX6_readsTimes_24 : decode cX6_readsTimes 24 = .ok (.ifCond .ne 4, 3) := dk_154 0 4 (dk_at dksX6_readsTimes_1 0 rfl rfl)
theorem dX6_readsTimes_27 : decode cX6_readsTimes 27 = .ok (.return_, 1) := dk_177 (dk_at dksX6_readsTimes_1 3 rfl rfl)
theorem dX6_readsTimes_28 : decode cX6_readsTimes 28 = .ok (.aload_n 0, 1) := dk_42 (dk_at dksX6_readsTimes_1 4 rfl rfl)
theorem dX6_readsTimes_29 : decode cX6_readsTimes 29 = .ok (.aload_n 0, 1) := dk_42 (dk_at dksX6_readsTimes_1 5 rfl rfl)
theorem dX6_readsTimes_30 : decode cX6_readsTimes 30 = .ok (.invokevirtual 172, 3) := dk_182 0 172 (dk_at dksX6_readsTimes_1 6 rfl rfl)
theorem dX6_readsTimes_33 : decode cX6_readsTimes 33 = .ok (.bipush 48, 2) := dk_16 48 (dk_at dksX6_readsTimes_1 9 rfl rfl)
theorem dX6_readsTimes_35 : decode cX6_readsTimes 35 = .ok (.isub, 1) := dk_100 (dk_at dksX6_readsTimes_1 11 rfl rfl)
theorem dX6_readsTimes_36 : decode cX6_readsTimes 36 = .ok (.putfield 358, 3) := dk_181 1 102 (dk_at dksX6_readsTimes_1 12 rfl rfl)
theorem dX6_readsTimes_39 : decode cX6_readsTimes 39 = .ok (.aload_n 0, 1) := dk_42 (dk_at dksX6_readsTimes_1 15 rfl rfl)
theorem dX6_readsTimes_40 : decode cX6_readsTimes 40 = .ok (.aload_n 0, 1) := dk_42 (dk_at dksX6_readsTimes_1 16 rfl rfl)
theorem dX6_readsTimes_41 : decode cX6_readsTimes 41 = .ok (.getfield 166, 3) := dk_180 0 166 (dk_at dksX6_readsTimes_1 17 rfl rfl)
theorem dX6_readsTimes_44 : decode cX6_readsTimes 44 = .ok (.iconst 1, 1) := dk_4 (dk_at dksX6_readsTimes_1 20 rfl rfl)
theorem dX6_readsTimes_45 : decode cX6_readsTimes 45 = .ok (.iadd, 1) := dk_96 (dk_at dksX6_readsTimes_1 21 rfl rfl)
theorem dX6_readsTimes_46 : decode cX6_readsTimes 46 = .ok (.putfield 166, 3) := dk_181 0 166 (dk_at dksX6_readsTimes_2 0 rfl rfl)
theorem dX6_readsTimes_49 : decode cX6_readsTimes 49 = .ok (.return_, 1) := dk_177 (dk_at dksX6_readsTimes_2 3 rfl rfl)
abbrev cX6_repeats : ByteArray := prog_20_method_69_code
def yX6_repeats : MethodName := ⟨RX6, "repeats", "(III)Z"⟩
def dkwX6_repeats_3 : List UInt8 := [28, 104, 96, 181, 1, 96, 4, 172]
abbrev dktX6_repeats_3 : List UInt8 := dkwX6_repeats_3 ++ []
def dkwX6_repeats_2 : List UInt8 := [96, 42, 180, 0, 71, 27, 21, 5, 96, 21, 4, 100, 46, 79, 132, 5, 1, 167, 255, 223, 42, 27, 21, 4]
abbrev dktX6_repeats_2 : List UInt8 := dkwX6_repeats_2 ++ dktX6_repeats_3
def dkwX6_repeats_1 : List UInt8 := [182, 0, 179, 172, 21, 4, 54, 5, 21, 5, 21, 4, 28, 104, 162, 0, 30, 42, 180, 0, 71, 27, 21, 5]
abbrev dktX6_repeats_1 : List UInt8 := dkwX6_repeats_1 ++ dktX6_repeats_2
def dkwX6_repeats_0 : List UInt8 := [42, 180, 1, 96, 27, 100, 54, 4, 27, 21, 4, 28, 104, 96, 16, 60, 164, 0, 11, 42, 16, 6, 29]
abbrev dktX6_repeats_0 : List UInt8 := dkwX6_repeats_0 ++ dktX6_repeats_1
theorem dksX6_repeats_0 : cX6_repeats.data.toList.drop 0 = dktX6_repeats_0 := by decide +kernel
theorem dksX6_repeats_1 : cX6_repeats.data.toList.drop 23 = dktX6_repeats_1 := dk_seg dksX6_repeats_0 23 rfl rfl
theorem dksX6_repeats_2 : cX6_repeats.data.toList.drop 47 = dktX6_repeats_2 := dk_seg dksX6_repeats_1 24 rfl rfl
theorem dksX6_repeats_3 : cX6_repeats.data.toList.drop 71 = dktX6_repeats_3 := dk_seg dksX6_repeats_2 24 rfl rfl
theorem dX6_repeats_0 : decode cX6_repeats 0 = .ok (.aload_n 0, 1) := dk_42 (dk_at dksX6_repeats_0 0 rfl rfl)
theorem dX6_repeats_1 : decode cX6_repeats 1 = .ok (.getfield 352, 3) := dk_180 1 96 (dk_at dksX6_repeats_0 1 rfl rfl)
theorem dX6_repeats_4 : decode cX6_repeats 4 = .ok (.iload_n 1, 1) := dk_27 (dk_at dksX6_repeats_0 4 rfl rfl)
theorem dX6_repeats_5 : decode cX6_repeats 5 = .ok (.isub, 1) := dk_100 (dk_at dksX6_repeats_0 5 rfl rfl)
theorem dX6_repeats_6 : decode cX6_repeats 6 = .ok (.istore 4, 2) := dk_54 4 (dk_at dksX6_repeats_0 6 rfl rfl)
theorem dX6_repeats_8 : decode cX6_repeats 8 = .ok (.iload_n 1, 1) := dk_27 (dk_at dksX6_repeats_0 8 rfl rfl)
theorem dX6_repeats_9 : decode cX6_repeats 9 = .ok (.iload 4, 2) := dk_21 4 (dk_at dksX6_repeats_0 9 rfl rfl)
theorem dX6_repeats_11 : decode cX6_repeats 11 = .ok (.iload_n 2, 1) := dk_28 (dk_at dksX6_repeats_0 11 rfl rfl)
theorem dX6_repeats_12 : decode cX6_repeats 12 = .ok (.imul, 1) := dk_104 (dk_at dksX6_repeats_0 12 rfl rfl)
theorem dX6_repeats_13 : decode cX6_repeats 13 = .ok (.iadd, 1) := dk_96 (dk_at dksX6_repeats_0 13 rfl rfl)
theorem dX6_repeats_14 : decode cX6_repeats 14 = .ok (.bipush 60, 2) := dk_16 60 (dk_at dksX6_repeats_0 14 rfl rfl)
theorem dX6_repeats_16 : decode cX6_repeats 16 = .ok (.if_icmp .le 11, 3) := dk_164 0 11 (dk_at dksX6_repeats_0 16 rfl rfl)
theorem dX6_repeats_19 : decode cX6_repeats 19 = .ok (.aload_n 0, 1) := dk_42 (dk_at dksX6_repeats_0 19 rfl rfl)
theorem dX6_repeats_20 : decode cX6_repeats 20 = .ok (.bipush 6, 2) := dk_16 6 (dk_at dksX6_repeats_0 20 rfl rfl)
theorem dX6_repeats_22 : decode cX6_repeats 22 = .ok (.iload_n 3, 1) := dk_29 (dk_at dksX6_repeats_0 22 rfl rfl)
theorem dX6_repeats_23 : decode cX6_repeats 23 = .ok (.invokevirtual 179, 3) := dk_182 0 179 (dk_at dksX6_repeats_1 0 rfl rfl)
theorem dX6_repeats_26 : decode cX6_repeats 26 = .ok (.ireturn, 1) := dk_172 (dk_at dksX6_repeats_1 3 rfl rfl)
theorem dX6_repeats_27 : decode cX6_repeats 27 = .ok (.iload 4, 2) := dk_21 4 (dk_at dksX6_repeats_1 4 rfl rfl)
theorem dX6_repeats_29 : decode cX6_repeats 29 = .ok (.istore 5, 2) := dk_54 5 (dk_at dksX6_repeats_1 6 rfl rfl)
theorem dX6_repeats_31 : decode cX6_repeats 31 = .ok (.iload 5, 2) := dk_21 5 (dk_at dksX6_repeats_1 8 rfl rfl)
theorem dX6_repeats_33 : decode cX6_repeats 33 = .ok (.iload 4, 2) := dk_21 4 (dk_at dksX6_repeats_1 10 rfl rfl)
theorem dX6_repeats_35 : decode cX6_repeats 35 = .ok (.iload_n 2, 1) := dk_28 (dk_at dksX6_repeats_1 12 rfl rfl)
theorem dX6_repeats_36 : decode cX6_repeats 36 = .ok (.imul, 1) := dk_104 (dk_at dksX6_repeats_1 13 rfl rfl)
theorem dX6_repeats_37 : decode cX6_repeats 37 = .ok (.if_icmp .ge 30, 3) := dk_162 0 30 (dk_at dksX6_repeats_1 14 rfl rfl)
theorem dX6_repeats_40 : decode cX6_repeats 40 = .ok (.aload_n 0, 1) := dk_42 (dk_at dksX6_repeats_1 17 rfl rfl)
theorem dX6_repeats_41 : decode cX6_repeats 41 = .ok (.getfield 71, 3) := dk_180 0 71 (dk_at dksX6_repeats_1 18 rfl rfl)
theorem dX6_repeats_44 : decode cX6_repeats 44 = .ok (.iload_n 1, 1) := dk_27 (dk_at dksX6_repeats_1 21 rfl rfl)
theorem dX6_repeats_45 : decode cX6_repeats 45 = .ok (.iload 5, 2) := dk_21 5 (dk_at dksX6_repeats_1 22 rfl rfl)
theorem dX6_repeats_47 : decode cX6_repeats 47 = .ok (.iadd, 1) := dk_96 (dk_at dksX6_repeats_2 0 rfl rfl)
theorem dX6_repeats_48 : decode cX6_repeats 48 = .ok (.aload_n 0, 1) := dk_42 (dk_at dksX6_repeats_2 1 rfl rfl)
theorem dX6_repeats_49 : decode cX6_repeats 49 = .ok (.getfield 71, 3) := dk_180 0 71 (dk_at dksX6_repeats_2 2 rfl rfl)
theorem dX6_repeats_52 : decode cX6_repeats 52 = .ok (.iload_n 1, 1) := dk_27 (dk_at dksX6_repeats_2 5 rfl rfl)
theorem dX6_repeats_53 : decode cX6_repeats 53 = .ok (.iload 5, 2) := dk_21 5 (dk_at dksX6_repeats_2 6 rfl rfl)
theorem dX6_repeats_55 : decode cX6_repeats 55 = .ok (.iadd, 1) := dk_96 (dk_at dksX6_repeats_2 8 rfl rfl)
theorem dX6_repeats_56 : decode cX6_repeats 56 = .ok (.iload 4, 2) := dk_21 4 (dk_at dksX6_repeats_2 9 rfl rfl)
theorem dX6_repeats_58 : decode cX6_repeats 58 = .ok (.isub, 1) := dk_100 (dk_at dksX6_repeats_2 11 rfl rfl)
theorem dX6_repeats_59 : decode cX6_repeats 59 = .ok (.iaload, 1) := dk_46 (dk_at dksX6_repeats_2 12 rfl rfl)
theorem dX6_repeats_60 : decode cX6_repeats 60 = .ok (.iastore, 1) := dk_79 (dk_at dksX6_repeats_2 13 rfl rfl)
theorem dX6_repeats_61 : decode cX6_repeats 61 = .ok (.iinc 5 1, 3) := dk_132 5 1 (dk_at dksX6_repeats_2 14 rfl rfl)
theorem dX6_repeats_64 : decode cX6_repeats 64 = .ok (.goto (-33), 3) := dk_167 255 223 (dk_at dksX6_repeats_2 17 rfl rfl)
theorem dX6_repeats_67 : decode cX6_repeats 67 = .ok (.aload_n 0, 1) := dk_42 (dk_at dksX6_repeats_2 20 rfl rfl)
theorem dX6_repeats_68 : decode cX6_repeats 68 = .ok (.iload_n 1, 1) := dk_27 (dk_at dksX6_repeats_2 21 rfl rfl)
theorem dX6_repeats_69 : decode cX6_repeats 69 = .ok (.iload 4, 2) := dk_21 4 (dk_at dksX6_repeats_2 22 rfl rfl)
theorem dX6_repeats_71 : decode cX6_repeats 71 = .ok (.iload_n 2, 1) := dk_28 (dk_at dksX6_repeats_3 0 rfl rfl)
theorem dX6_repeats_72 : decode cX6_repeats 72 = .ok (.imul, 1) := dk_104 (dk_at dksX6_repeats_3 1 rfl rfl)
theorem dX6_repeats_73 : decode cX6_repeats 73 = .ok (.iadd, 1) := dk_96 (dk_at dksX6_repeats_3 2 rfl rfl)
theorem dX6_repeats_74 : decode cX6_repeats 74 = .ok (.putfield 352, 3) := dk_181 1 96 (dk_at dksX6_repeats_3 3 rfl rfl)
theorem dX6_repeats_77 : decode cX6_repeats 77 = .ok (.iconst 1, 1) := dk_4 (dk_at dksX6_repeats_3 6 rfl rfl)
theorem dX6_repeats_78 : decode cX6_repeats 78 = .ok (.ireturn, 1) := dk_172 (dk_at dksX6_repeats_3 7 rfl rfl)
abbrev cX6_walksRoute : ByteArray := prog_20_method_73_code
def yX6_walksRoute : MethodName := ⟨RX6, "walksRoute", "()V"⟩
def dkwX6_walksRoute_3 : List UInt8 := [182, 1, 71, 42, 42, 180, 1, 117, 4, 96, 181, 1, 117, 167, 255, 185, 177]
abbrev dktX6_walksRoute_3 : List UInt8 := dkwX6_walksRoute_3 ++ []
def dkwX6_walksRoute_2 : List UInt8 := [154, 0, 4, 177, 42, 42, 180, 1, 120, 42, 27, 28, 182, 1, 12, 96, 181, 1, 120, 42, 27, 28]
abbrev dktX6_walksRoute_2 : List UInt8 := dkwX6_walksRoute_2 ++ dktX6_walksRoute_3
def dkwX6_walksRoute_1 : List UInt8 := [180, 0, 7, 17, 0, 151, 46, 60, 42, 180, 0, 71, 42, 180, 1, 117, 46, 61, 42, 27, 28, 182, 0, 147]
abbrev dktX6_walksRoute_1 : List UInt8 := dkwX6_walksRoute_1 ++ dktX6_walksRoute_2
def dkwX6_walksRoute_0 : List UInt8 := [42, 3, 181, 1, 117, 42, 3, 181, 1, 120, 42, 180, 1, 117, 42, 180, 1, 96, 162, 0, 66, 42]
abbrev dktX6_walksRoute_0 : List UInt8 := dkwX6_walksRoute_0 ++ dktX6_walksRoute_1
theorem dksX6_walksRoute_0 : cX6_walksRoute.data.toList.drop 0 = dktX6_walksRoute_0 := by decide +kernel
theorem dksX6_walksRoute_1 : cX6_walksRoute.data.toList.drop 22 = dktX6_walksRoute_1 := dk_seg dksX6_walksRoute_0 22 rfl rfl
theorem dksX6_walksRoute_2 : cX6_walksRoute.data.toList.drop 46 = dktX6_walksRoute_2 := dk_seg dksX6_walksRoute_1 24 rfl rfl
theorem dksX6_walksRoute_3 : cX6_walksRoute.data.toList.drop 68 = dktX6_walksRoute_3 := dk_seg dksX6_walksRoute_2 22 rfl rfl
theorem dX6_walksRoute_0 : decode cX6_walksRoute 0 = .ok (.aload_n 0, 1) := dk_42 (dk_at dksX6_walksRoute_0 0 rfl rfl)
theorem dX6_walksRoute_1 : decode cX6_walksRoute 1 = .ok (.iconst 0, 1) := dk_3 (dk_at dksX6_walksRoute_0 1 rfl rfl)
theorem dX6_walksRoute_2 : decode cX6_walksRoute 2 = .ok (.putfield 373, 3) := dk_181 1 117 (dk_at dksX6_walksRoute_0 2 rfl rfl)
theorem dX6_walksRoute_5 : decode cX6_walksRoute 5 = .ok (.aload_n 0, 1) := dk_42 (dk_at dksX6_walksRoute_0 5 rfl rfl)
theorem dX6_walksRoute_6 : decode cX6_walksRoute 6 = .ok (.iconst 0, 1) := dk_3 (dk_at dksX6_walksRoute_0 6 rfl rfl)
theorem dX6_walksRoute_7 : decode cX6_walksRoute 7 = .ok (.putfield 376, 3) := dk_181 1 120 (dk_at dksX6_walksRoute_0 7 rfl rfl)
theorem dX6_walksRoute_10 : decode cX6_walksRoute 10 = .ok (.aload_n 0, 1) := dk_42 (dk_at dksX6_walksRoute_0 10 rfl rfl)
theorem dX6_walksRoute_11 : decode cX6_walksRoute 11 = .ok (.getfield 373, 3) := dk_180 1 117 (dk_at dksX6_walksRoute_0 11 rfl rfl)
theorem dX6_walksRoute_14 : decode cX6_walksRoute 14 = .ok (.aload_n 0, 1) := dk_42 (dk_at dksX6_walksRoute_0 14 rfl rfl)
theorem dX6_walksRoute_15 : decode cX6_walksRoute 15 = .ok (.getfield 352, 3) := dk_180 1 96 (dk_at dksX6_walksRoute_0 15 rfl rfl)
theorem dX6_walksRoute_18 : decode cX6_walksRoute 18 = .ok (.if_icmp .ge 66, 3) := dk_162 0 66 (dk_at dksX6_walksRoute_0 18 rfl rfl)
theorem dX6_walksRoute_21 : decode cX6_walksRoute 21 = .ok (.aload_n 0, 1) := dk_42 (dk_at dksX6_walksRoute_0 21 rfl rfl)
theorem dX6_walksRoute_22 : decode cX6_walksRoute 22 = .ok (.getfield 7, 3) := dk_180 0 7 (dk_at dksX6_walksRoute_1 0 rfl rfl)
theorem dX6_walksRoute_25 : decode cX6_walksRoute 25 = .ok (.sipush 151, 3) := dk_17 0 151 (dk_at dksX6_walksRoute_1 3 rfl rfl)
theorem dX6_walksRoute_28 : decode cX6_walksRoute 28 = .ok (.iaload, 1) := dk_46 (dk_at dksX6_walksRoute_1 6 rfl rfl)
theorem dX6_walksRoute_29 : decode cX6_walksRoute 29 = .ok (.istore_n 1, 1) := dk_60 (dk_at dksX6_walksRoute_1 7 rfl rfl)
theorem dX6_walksRoute_30 : decode cX6_walksRoute 30 = .ok (.aload_n 0, 1) := dk_42 (dk_at dksX6_walksRoute_1 8 rfl rfl)
theorem dX6_walksRoute_31 : decode cX6_walksRoute 31 = .ok (.getfield 71, 3) := dk_180 0 71 (dk_at dksX6_walksRoute_1 9 rfl rfl)
theorem dX6_walksRoute_34 : decode cX6_walksRoute 34 = .ok (.aload_n 0, 1) := dk_42 (dk_at dksX6_walksRoute_1 12 rfl rfl)
theorem dX6_walksRoute_35 : decode cX6_walksRoute 35 = .ok (.getfield 373, 3) := dk_180 1 117 (dk_at dksX6_walksRoute_1 13 rfl rfl)
theorem dX6_walksRoute_38 : decode cX6_walksRoute 38 = .ok (.iaload, 1) := dk_46 (dk_at dksX6_walksRoute_1 16 rfl rfl)
theorem dX6_walksRoute_39 : decode cX6_walksRoute 39 = .ok (.istore_n 2, 1) := dk_61 (dk_at dksX6_walksRoute_1 17 rfl rfl)
theorem dX6_walksRoute_40 : decode cX6_walksRoute 40 = .ok (.aload_n 0, 1) := dk_42 (dk_at dksX6_walksRoute_1 18 rfl rfl)
theorem dX6_walksRoute_41 : decode cX6_walksRoute 41 = .ok (.iload_n 1, 1) := dk_27 (dk_at dksX6_walksRoute_1 19 rfl rfl)
theorem dX6_walksRoute_42 : decode cX6_walksRoute 42 = .ok (.iload_n 2, 1) := dk_28 (dk_at dksX6_walksRoute_1 20 rfl rfl)
theorem dX6_walksRoute_43 : decode cX6_walksRoute 43 = .ok (.invokevirtual 147, 3) := dk_182 0 147 (dk_at dksX6_walksRoute_1 21 rfl rfl)
theorem dX6_walksRoute_46 : decode cX6_walksRoute 46 = .ok (.ifCond .ne 4, 3) := dk_154 0 4 (dk_at dksX6_walksRoute_2 0 rfl rfl)
theorem dX6_walksRoute_49 : decode cX6_walksRoute 49 = .ok (.return_, 1) := dk_177 (dk_at dksX6_walksRoute_2 3 rfl rfl)
theorem dX6_walksRoute_50 : decode cX6_walksRoute 50 = .ok (.aload_n 0, 1) := dk_42 (dk_at dksX6_walksRoute_2 4 rfl rfl)
theorem dX6_walksRoute_51 : decode cX6_walksRoute 51 = .ok (.aload_n 0, 1) := dk_42 (dk_at dksX6_walksRoute_2 5 rfl rfl)
theorem dX6_walksRoute_52 : decode cX6_walksRoute 52 = .ok (.getfield 376, 3) := dk_180 1 120 (dk_at dksX6_walksRoute_2 6 rfl rfl)
theorem dX6_walksRoute_55 : decode cX6_walksRoute 55 = .ok (.aload_n 0, 1) := dk_42 (dk_at dksX6_walksRoute_2 9 rfl rfl)
theorem dX6_walksRoute_56 : decode cX6_walksRoute 56 = .ok (.iload_n 1, 1) := dk_27 (dk_at dksX6_walksRoute_2 10 rfl rfl)
theorem dX6_walksRoute_57 : decode cX6_walksRoute 57 = .ok (.iload_n 2, 1) := dk_28 (dk_at dksX6_walksRoute_2 11 rfl rfl)
theorem dX6_walksRoute_58 : decode cX6_walksRoute 58 = .ok (.invokevirtual 268, 3) := dk_182 1 12 (dk_at dksX6_walksRoute_2 12 rfl rfl)
theorem dX6_walksRoute_61 : decode cX6_walksRoute 61 = .ok (.iadd, 1) := dk_96 (dk_at dksX6_walksRoute_2 15 rfl rfl)
theorem dX6_walksRoute_62 : decode cX6_walksRoute 62 = .ok (.putfield 376, 3) := dk_181 1 120 (dk_at dksX6_walksRoute_2 16 rfl rfl)
theorem dX6_walksRoute_65 : decode cX6_walksRoute 65 = .ok (.aload_n 0, 1) := dk_42 (dk_at dksX6_walksRoute_2 19 rfl rfl)
theorem dX6_walksRoute_66 : decode cX6_walksRoute 66 = .ok (.iload_n 1, 1) := dk_27 (dk_at dksX6_walksRoute_2 20 rfl rfl)
theorem dX6_walksRoute_67 : decode cX6_walksRoute 67 = .ok (.iload_n 2, 1) := dk_28 (dk_at dksX6_walksRoute_2 21 rfl rfl)
theorem dX6_walksRoute_68 : decode cX6_walksRoute 68 = .ok (.invokevirtual 327, 3) := dk_182 1 71 (dk_at dksX6_walksRoute_3 0 rfl rfl)
theorem dX6_walksRoute_71 : decode cX6_walksRoute 71 = .ok (.aload_n 0, 1) := dk_42 (dk_at dksX6_walksRoute_3 3 rfl rfl)
theorem dX6_walksRoute_72 : decode cX6_walksRoute 72 = .ok (.aload_n 0, 1) := dk_42 (dk_at dksX6_walksRoute_3 4 rfl rfl)
theorem dX6_walksRoute_73 : decode cX6_walksRoute 73 = .ok (.getfield 373, 3) := dk_180 1 117 (dk_at dksX6_walksRoute_3 5 rfl rfl)
theorem dX6_walksRoute_76 : decode cX6_walksRoute 76 = .ok (.iconst 1, 1) := dk_4 (dk_at dksX6_walksRoute_3 8 rfl rfl)
theorem dX6_walksRoute_77 : decode cX6_walksRoute 77 = .ok (.iadd, 1) := dk_96 (dk_at dksX6_walksRoute_3 9 rfl rfl)
theorem dX6_walksRoute_78 : decode cX6_walksRoute 78 = .ok (.putfield 373, 3) := dk_181 1 117 (dk_at dksX6_walksRoute_3 10 rfl rfl)
theorem dX6_walksRoute_81 : decode cX6_walksRoute 81 = .ok (.goto (-71), 3) := dk_167 255 185 (dk_at dksX6_walksRoute_3 13 rfl rfl)
theorem dX6_walksRoute_84 : decode cX6_walksRoute 84 = .ok (.return_, 1) := dk_177 (dk_at dksX6_walksRoute_3 16 rfl rfl)
abbrev cX6_walk : ByteArray := prog_20_method_75_code
def yX6_walk : MethodName := ⟨RX6, "walk", "(I)I"⟩
def dkwX6_walk_2 : List UInt8 := [42, 182, 1, 126, 42, 180, 1, 117, 172]
abbrev dktX6_walk_2 : List UInt8 := dkwX6_walk_2 ++ []
def dkwX6_walk_1 : List UInt8 := [182, 1, 123, 61, 28, 153, 0, 5, 28, 172, 42, 180, 0, 7, 17, 0, 151, 46, 156, 0, 6, 16, 254, 172]
abbrev dktX6_walk_1 : List UInt8 := dkwX6_walk_1 ++ dktX6_walk_2
def dkwX6_walk_0 : List UInt8 := [27, 4, 16, 60, 184, 0, 123, 153, 0, 11, 27, 42, 180, 0, 160, 164, 0, 5, 2, 172, 42, 27]
abbrev dktX6_walk_0 : List UInt8 := dkwX6_walk_0 ++ dktX6_walk_1
theorem dksX6_walk_0 : cX6_walk.data.toList.drop 0 = dktX6_walk_0 := by decide +kernel
theorem dksX6_walk_1 : cX6_walk.data.toList.drop 22 = dktX6_walk_1 := dk_seg dksX6_walk_0 22 rfl rfl
theorem dksX6_walk_2 : cX6_walk.data.toList.drop 46 = dktX6_walk_2 := dk_seg dksX6_walk_1 24 rfl rfl
theorem dX6_walk_0 : decode cX6_walk 0 = .ok (.iload_n 1, 1) := dk_27 (dk_at dksX6_walk_0 0 rfl rfl)
theorem dX6_walk_1 : decode cX6_walk 1 = .ok (.iconst 1, 1) := dk_4 (dk_at dksX6_walk_0 1 rfl rfl)
theorem dX6_walk_2 : decode cX6_walk 2 = .ok (.bipush 60, 2) := dk_16 60 (dk_at dksX6_walk_0 2 rfl rfl)
theorem dX6_walk_4 : decode cX6_walk 4 = .ok (.invokestatic 123, 3) := dk_184 0 123 (dk_at dksX6_walk_0 4 rfl rfl)
theorem dX6_walk_7 : decode cX6_walk 7 = .ok (.ifCond .eq 11, 3) := dk_153 0 11 (dk_at dksX6_walk_0 7 rfl rfl)
theorem dX6_walk_10 : decode cX6_walk 10 = .ok (.iload_n 1, 1) := dk_27 (dk_at dksX6_walk_0 10 rfl rfl)
theorem dX6_walk_11 : decode cX6_walk 11 = .ok (.aload_n 0, 1) := dk_42 (dk_at dksX6_walk_0 11 rfl rfl)
theorem dX6_walk_12 : decode cX6_walk 12 = .ok (.getfield 160, 3) := dk_180 0 160 (dk_at dksX6_walk_0 12 rfl rfl)
theorem dX6_walk_15 : decode cX6_walk 15 = .ok (.if_icmp .le 5, 3) := dk_164 0 5 (dk_at dksX6_walk_0 15 rfl rfl)
theorem dX6_walk_18 : decode cX6_walk 18 = .ok (.iconst (-1), 1) := dk_2 (dk_at dksX6_walk_0 18 rfl rfl)
theorem dX6_walk_19 : decode cX6_walk 19 = .ok (.ireturn, 1) := dk_172 (dk_at dksX6_walk_0 19 rfl rfl)
theorem dX6_walk_20 : decode cX6_walk 20 = .ok (.aload_n 0, 1) := dk_42 (dk_at dksX6_walk_0 20 rfl rfl)
theorem dX6_walk_21 : decode cX6_walk 21 = .ok (.iload_n 1, 1) := dk_27 (dk_at dksX6_walk_0 21 rfl rfl)
theorem dX6_walk_22 : decode cX6_walk 22 = .ok (.invokevirtual 379, 3) := dk_182 1 123 (dk_at dksX6_walk_1 0 rfl rfl)
theorem dX6_walk_25 : decode cX6_walk 25 = .ok (.istore_n 2, 1) := dk_61 (dk_at dksX6_walk_1 3 rfl rfl)
theorem dX6_walk_26 : decode cX6_walk 26 = .ok (.iload_n 2, 1) := dk_28 (dk_at dksX6_walk_1 4 rfl rfl)
theorem dX6_walk_27 : decode cX6_walk 27 = .ok (.ifCond .eq 5, 3) := dk_153 0 5 (dk_at dksX6_walk_1 5 rfl rfl)
theorem dX6_walk_30 : decode cX6_walk 30 = .ok (.iload_n 2, 1) := dk_28 (dk_at dksX6_walk_1 8 rfl rfl)
theorem dX6_walk_31 : decode cX6_walk 31 = .ok (.ireturn, 1) := dk_172 (dk_at dksX6_walk_1 9 rfl rfl)
theorem dX6_walk_32 : decode cX6_walk 32 = .ok (.aload_n 0, 1) := dk_42 (dk_at dksX6_walk_1 10 rfl rfl)
theorem dX6_walk_33 : decode cX6_walk 33 = .ok (.getfield 7, 3) := dk_180 0 7 (dk_at dksX6_walk_1 11 rfl rfl)
theorem dX6_walk_36 : decode cX6_walk 36 = .ok (.sipush 151, 3) := dk_17 0 151 (dk_at dksX6_walk_1 14 rfl rfl)
theorem dX6_walk_39 : decode cX6_walk 39 = .ok (.iaload, 1) := dk_46 (dk_at dksX6_walk_1 17 rfl rfl)
theorem dX6_walk_40 : decode cX6_walk 40 = .ok (.ifCond .ge 6, 3) := dk_156 0 6 (dk_at dksX6_walk_1 18 rfl rfl)
theorem dX6_walk_43 : decode cX6_walk 43 = .ok (.bipush (-2), 2) := dk_16 254 (dk_at dksX6_walk_1 21 rfl rfl)
theorem dX6_walk_45 : decode cX6_walk 45 = .ok (.ireturn, 1) := dk_172 (dk_at dksX6_walk_1 23 rfl rfl)
theorem dX6_walk_46 : decode cX6_walk 46 = .ok (.aload_n 0, 1) := dk_42 (dk_at dksX6_walk_2 0 rfl rfl)
theorem dX6_walk_47 : decode cX6_walk 47 = .ok (.invokevirtual 382, 3) := dk_182 1 126 (dk_at dksX6_walk_2 1 rfl rfl)
theorem dX6_walk_50 : decode cX6_walk 50 = .ok (.aload_n 0, 1) := dk_42 (dk_at dksX6_walk_2 4 rfl rfl)
theorem dX6_walk_51 : decode cX6_walk 51 = .ok (.getfield 373, 3) := dk_180 1 117 (dk_at dksX6_walk_2 5 rfl rfl)
theorem dX6_walk_54 : decode cX6_walk 54 = .ok (.ireturn, 1) := dk_172 (dk_at dksX6_walk_2 8 rfl rfl)
abbrev cX6_tour : ByteArray := prog_20_method_81_code
def yX6_tour : MethodName := ⟨RX6, "tour", "(I)I"⟩
def dkwX6_tour_6 : List UInt8 := [167, 0, 4, 3, 172]
abbrev dktX6_tour_6 : List UInt8 := dkwX6_tour_6 ++ []
def dkwX6_tour_5 : List UInt8 := [28, 153, 0, 22, 42, 180, 0, 86, 28, 4, 100, 46, 42, 180, 0, 7, 17, 0, 151, 46, 160, 0, 7, 4]
abbrev dktX6_tour_5 : List UInt8 := dkwX6_tour_5 ++ dktX6_tour_6
def dkwX6_tour_4 : List UInt8 := [162, 0, 11, 27, 28, 161, 0, 6, 16, 252, 172, 27, 16, 100, 162, 0, 10, 42, 180, 0, 86, 27, 46, 172]
abbrev dktX6_tour_4 : List UInt8 := dkwX6_tour_4 ++ dktX6_tour_5
def dkwX6_tour_3 : List UInt8 := [62, 27, 16, 100, 160, 0, 13, 29, 153, 0, 7, 4, 167, 0, 4, 3, 172, 29, 153, 0, 14, 27, 16, 100]
abbrev dktX6_tour_3 : List UInt8 := dkwX6_tour_3 ++ dktX6_tour_4
def dkwX6_tour_2 : List UInt8 := [16, 253, 172, 27, 16, 101, 160, 0, 5, 28, 172, 42, 42, 180, 0, 7, 17, 0, 151, 46, 28, 182, 1, 141]
abbrev dktX6_tour_2 : List UInt8 := dkwX6_tour_2 ++ dktX6_tour_3
def dkwX6_tour_1 : List UInt8 := [180, 0, 7, 17, 0, 151, 46, 156, 0, 6, 16, 254, 172, 42, 182, 1, 40, 61, 28, 16, 60, 164, 0, 6]
abbrev dktX6_tour_1 : List UInt8 := dkwX6_tour_1 ++ dktX6_tour_2
def dkwX6_tour_0 : List UInt8 := [27, 3, 16, 59, 184, 0, 123, 154, 0, 16, 27, 16, 100, 16, 102, 184, 0, 123, 154, 0, 5, 2, 172, 42]
abbrev dktX6_tour_0 : List UInt8 := dkwX6_tour_0 ++ dktX6_tour_1
theorem dksX6_tour_0 : cX6_tour.data.toList.drop 0 = dktX6_tour_0 := by decide +kernel
theorem dksX6_tour_1 : cX6_tour.data.toList.drop 24 = dktX6_tour_1 := dk_seg dksX6_tour_0 24 rfl rfl
theorem dksX6_tour_2 : cX6_tour.data.toList.drop 48 = dktX6_tour_2 := dk_seg dksX6_tour_1 24 rfl rfl
theorem dksX6_tour_3 : cX6_tour.data.toList.drop 72 = dktX6_tour_3 := dk_seg dksX6_tour_2 24 rfl rfl
theorem dksX6_tour_4 : cX6_tour.data.toList.drop 96 = dktX6_tour_4 := dk_seg dksX6_tour_3 24 rfl rfl
theorem dksX6_tour_5 : cX6_tour.data.toList.drop 120 = dktX6_tour_5 := dk_seg dksX6_tour_4 24 rfl rfl
theorem dksX6_tour_6 : cX6_tour.data.toList.drop 144 = dktX6_tour_6 := dk_seg dksX6_tour_5 24 rfl rfl
theorem dX6_tour_0 : decode cX6_tour 0 = .ok (.iload_n 1, 1) := dk_27 (dk_at dksX6_tour_0 0 rfl rfl)
theorem dX6_tour_1 : decode cX6_tour 1 = .ok (.iconst 0, 1) := dk_3 (dk_at dksX6_tour_0 1 rfl rfl)
theorem dX6_tour_2 : decode cX6_tour 2 = .ok (.bipush 59, 2) := dk_16 59 (dk_at dksX6_tour_0 2 rfl rfl)
theorem dX6_tour_4 : decode cX6_tour 4 = .ok (.invokestatic 123, 3) := dk_184 0 123 (dk_at dksX6_tour_0 4 rfl rfl)
theorem dX6_tour_7 : decode cX6_tour 7 = .ok (.ifCond .ne 16, 3) := dk_154 0 16 (dk_at dksX6_tour_0 7 rfl rfl)
theorem dX6_tour_10 : decode cX6_tour 10 = .ok (.iload_n 1, 1) := dk_27 (dk_at dksX6_tour_0 10 rfl rfl)
theorem dX6_tour_11 : decode cX6_tour 11 = .ok (.bipush 100, 2) := dk_16 100 (dk_at dksX6_tour_0 11 rfl rfl)
theorem dX6_tour_13 : decode cX6_tour 13 = .ok (.bipush 102, 2) := dk_16 102 (dk_at dksX6_tour_0 13 rfl rfl)
theorem dX6_tour_15 : decode cX6_tour 15 = .ok (.invokestatic 123, 3) := dk_184 0 123 (dk_at dksX6_tour_0 15 rfl rfl)
theorem dX6_tour_18 : decode cX6_tour 18 = .ok (.ifCond .ne 5, 3) := dk_154 0 5 (dk_at dksX6_tour_0 18 rfl rfl)
theorem dX6_tour_21 : decode cX6_tour 21 = .ok (.iconst (-1), 1) := dk_2 (dk_at dksX6_tour_0 21 rfl rfl)
theorem dX6_tour_22 : decode cX6_tour 22 = .ok (.ireturn, 1) := dk_172 (dk_at dksX6_tour_0 22 rfl rfl)
theorem dX6_tour_23 : decode cX6_tour 23 = .ok (.aload_n 0, 1) := dk_42 (dk_at dksX6_tour_0 23 rfl rfl)
theorem dX6_tour_24 : decode cX6_tour 24 = .ok (.getfield 7, 3) := dk_180 0 7 (dk_at dksX6_tour_1 0 rfl rfl)
theorem dX6_tour_27 : decode cX6_tour 27 = .ok (.sipush 151, 3) := dk_17 0 151 (dk_at dksX6_tour_1 3 rfl rfl)
theorem dX6_tour_30 : decode cX6_tour 30 = .ok (.iaload, 1) := dk_46 (dk_at dksX6_tour_1 6 rfl rfl)
theorem dX6_tour_31 : decode cX6_tour 31 = .ok (.ifCond .ge 6, 3) := dk_156 0 6 (dk_at dksX6_tour_1 7 rfl rfl)
theorem dX6_tour_34 : decode cX6_tour 34 = .ok (.bipush (-2), 2) := dk_16 254 (dk_at dksX6_tour_1 10 rfl rfl)
theorem dX6_tour_36 : decode cX6_tour 36 = .ok (.ireturn, 1) := dk_172 (dk_at dksX6_tour_1 12 rfl rfl)
theorem dX6_tour_37 : decode cX6_tour 37 = .ok (.aload_n 0, 1) := dk_42 (dk_at dksX6_tour_1 13 rfl rfl)
theorem dX6_tour_38 : decode cX6_tour 38 = .ok (.invokevirtual 296, 3) := dk_182 1 40 (dk_at dksX6_tour_1 14 rfl rfl)
theorem dX6_tour_41 : decode cX6_tour 41 = .ok (.istore_n 2, 1) := dk_61 (dk_at dksX6_tour_1 17 rfl rfl)
theorem dX6_tour_42 : decode cX6_tour 42 = .ok (.iload_n 2, 1) := dk_28 (dk_at dksX6_tour_1 18 rfl rfl)
theorem dX6_tour_43 : decode cX6_tour 43 = .ok (.bipush 60, 2) := dk_16 60 (dk_at dksX6_tour_1 19 rfl rfl)
theorem dX6_tour_45 : decode cX6_tour 45 = .ok (.if_icmp .le 6, 3) := dk_164 0 6 (dk_at dksX6_tour_1 21 rfl rfl)
theorem dX6_tour_48 : decode cX6_tour 48 = .ok (.bipush (-3), 2) := dk_16 253 (dk_at dksX6_tour_2 0 rfl rfl)
theorem dX6_tour_50 : decode cX6_tour 50 = .ok (.ireturn, 1) := dk_172 (dk_at dksX6_tour_2 2 rfl rfl)
theorem dX6_tour_51 : decode cX6_tour 51 = .ok (.iload_n 1, 1) := dk_27 (dk_at dksX6_tour_2 3 rfl rfl)
theorem dX6_tour_52 : decode cX6_tour 52 = .ok (.bipush 101, 2) := dk_16 101 (dk_at dksX6_tour_2 4 rfl rfl)
theorem dX6_tour_54 : decode cX6_tour 54 = .ok (.if_icmp .ne 5, 3) := dk_160 0 5 (dk_at dksX6_tour_2 6 rfl rfl)
theorem dX6_tour_57 : decode cX6_tour 57 = .ok (.iload_n 2, 1) := dk_28 (dk_at dksX6_tour_2 9 rfl rfl)
theorem dX6_tour_58 : decode cX6_tour 58 = .ok (.ireturn, 1) := dk_172 (dk_at dksX6_tour_2 10 rfl rfl)
theorem dX6_tour_59 : decode cX6_tour 59 = .ok (.aload_n 0, 1) := dk_42 (dk_at dksX6_tour_2 11 rfl rfl)
theorem dX6_tour_60 : decode cX6_tour 60 = .ok (.aload_n 0, 1) := dk_42 (dk_at dksX6_tour_2 12 rfl rfl)
theorem dX6_tour_61 : decode cX6_tour 61 = .ok (.getfield 7, 3) := dk_180 0 7 (dk_at dksX6_tour_2 13 rfl rfl)
theorem dX6_tour_64 : decode cX6_tour 64 = .ok (.sipush 151, 3) := dk_17 0 151 (dk_at dksX6_tour_2 16 rfl rfl)
theorem dX6_tour_67 : decode cX6_tour 67 = .ok (.iaload, 1) := dk_46 (dk_at dksX6_tour_2 19 rfl rfl)
theorem dX6_tour_68 : decode cX6_tour 68 = .ok (.iload_n 2, 1) := dk_28 (dk_at dksX6_tour_2 20 rfl rfl)
theorem dX6_tour_69 : decode cX6_tour 69 = .ok (.invokevirtual 397, 3) := dk_182 1 141 (dk_at dksX6_tour_2 21 rfl rfl)
theorem dX6_tour_72 : decode cX6_tour 72 = .ok (.istore_n 3, 1) := dk_62 (dk_at dksX6_tour_3 0 rfl rfl)
theorem dX6_tour_73 : decode cX6_tour 73 = .ok (.iload_n 1, 1) := dk_27 (dk_at dksX6_tour_3 1 rfl rfl)
theorem dX6_tour_74 : decode cX6_tour 74 = .ok (.bipush 100, 2) := dk_16 100 (dk_at dksX6_tour_3 2 rfl rfl)
theorem dX6_tour_76 : decode cX6_tour 76 = .ok (.if_icmp .ne 13, 3) := dk_160 0 13 (dk_at dksX6_tour_3 4 rfl rfl)
theorem dX6_tour_79 : decode cX6_tour 79 = .ok (.iload_n 3, 1) := dk_29 (dk_at dksX6_tour_3 7 rfl rfl)
theorem dX6_tour_80 : decode cX6_tour 80 = .ok (.ifCond .eq 7, 3) := dk_153 0 7 (dk_at dksX6_tour_3 8 rfl rfl)
theorem dX6_tour_83 : decode cX6_tour 83 = .ok (.iconst 1, 1) := dk_4 (dk_at dksX6_tour_3 11 rfl rfl)
theorem dX6_tour_84 : decode cX6_tour 84 = .ok (.goto 4, 3) := dk_167 0 4 (dk_at dksX6_tour_3 12 rfl rfl)
theorem dX6_tour_87 : decode cX6_tour 87 = .ok (.iconst 0, 1) := dk_3 (dk_at dksX6_tour_3 15 rfl rfl)
theorem dX6_tour_88 : decode cX6_tour 88 = .ok (.ireturn, 1) := dk_172 (dk_at dksX6_tour_3 16 rfl rfl)
theorem dX6_tour_89 : decode cX6_tour 89 = .ok (.iload_n 3, 1) := dk_29 (dk_at dksX6_tour_3 17 rfl rfl)
theorem dX6_tour_90 : decode cX6_tour 90 = .ok (.ifCond .eq 14, 3) := dk_153 0 14 (dk_at dksX6_tour_3 18 rfl rfl)
theorem dX6_tour_93 : decode cX6_tour 93 = .ok (.iload_n 1, 1) := dk_27 (dk_at dksX6_tour_3 21 rfl rfl)
theorem dX6_tour_94 : decode cX6_tour 94 = .ok (.bipush 100, 2) := dk_16 100 (dk_at dksX6_tour_3 22 rfl rfl)
theorem dX6_tour_96 : decode cX6_tour 96 = .ok (.if_icmp .ge 11, 3) := dk_162 0 11 (dk_at dksX6_tour_4 0 rfl rfl)
theorem dX6_tour_99 : decode cX6_tour 99 = .ok (.iload_n 1, 1) := dk_27 (dk_at dksX6_tour_4 3 rfl rfl)
theorem dX6_tour_100 : decode cX6_tour 100 = .ok (.iload_n 2, 1) := dk_28 (dk_at dksX6_tour_4 4 rfl rfl)
theorem dX6_tour_101 : decode cX6_tour 101 = .ok (.if_icmp .lt 6, 3) := dk_161 0 6 (dk_at dksX6_tour_4 5 rfl rfl)
theorem dX6_tour_104 : decode cX6_tour 104 = .ok (.bipush (-4), 2) := dk_16 252 (dk_at dksX6_tour_4 8 rfl rfl)
theorem dX6_tour_106 : decode cX6_tour 106 = .ok (.ireturn, 1) := dk_172 (dk_at dksX6_tour_4 10 rfl rfl)
theorem dX6_tour_107 : decode cX6_tour 107 = .ok (.iload_n 1, 1) := dk_27 (dk_at dksX6_tour_4 11 rfl rfl)
theorem dX6_tour_108 : decode cX6_tour 108 = .ok (.bipush 100, 2) := dk_16 100 (dk_at dksX6_tour_4 12 rfl rfl)
theorem dX6_tour_110 : decode cX6_tour 110 = .ok (.if_icmp .ge 10, 3) := dk_162 0 10 (dk_at dksX6_tour_4 14 rfl rfl)
theorem dX6_tour_113 : decode cX6_tour 113 = .ok (.aload_n 0, 1) := dk_42 (dk_at dksX6_tour_4 17 rfl rfl)
theorem dX6_tour_114 : decode cX6_tour 114 = .ok (.getfield 86, 3) := dk_180 0 86 (dk_at dksX6_tour_4 18 rfl rfl)
theorem dX6_tour_117 : decode cX6_tour 117 = .ok (.iload_n 1, 1) := dk_27 (dk_at dksX6_tour_4 21 rfl rfl)
theorem dX6_tour_118 : decode cX6_tour 118 = .ok (.iaload, 1) := dk_46 (dk_at dksX6_tour_4 22 rfl rfl)
theorem dX6_tour_119 : decode cX6_tour 119 = .ok (.ireturn, 1) := dk_172 (dk_at dksX6_tour_4 23 rfl rfl)
theorem dX6_tour_120 : decode cX6_tour 120 = .ok (.iload_n 2, 1) := dk_28 (dk_at dksX6_tour_5 0 rfl rfl)
theorem dX6_tour_121 : decode cX6_tour 121 = .ok (.ifCond .eq 22, 3) := dk_153 0 22 (dk_at dksX6_tour_5 1 rfl rfl)
theorem dX6_tour_124 : decode cX6_tour 124 = .ok (.aload_n 0, 1) := dk_42 (dk_at dksX6_tour_5 4 rfl rfl)
theorem dX6_tour_125 : decode cX6_tour 125 = .ok (.getfield 86, 3) := dk_180 0 86 (dk_at dksX6_tour_5 5 rfl rfl)
theorem dX6_tour_128 : decode cX6_tour 128 = .ok (.iload_n 2, 1) := dk_28 (dk_at dksX6_tour_5 8 rfl rfl)
theorem dX6_tour_129 : decode cX6_tour 129 = .ok (.iconst 1, 1) := dk_4 (dk_at dksX6_tour_5 9 rfl rfl)
theorem dX6_tour_130 : decode cX6_tour 130 = .ok (.isub, 1) := dk_100 (dk_at dksX6_tour_5 10 rfl rfl)
theorem dX6_tour_131 : decode cX6_tour 131 = .ok (.iaload, 1) := dk_46 (dk_at dksX6_tour_5 11 rfl rfl)
theorem dX6_tour_132 : decode cX6_tour 132 = .ok (.aload_n 0, 1) := dk_42 (dk_at dksX6_tour_5 12 rfl rfl)
theorem dX6_tour_133 : decode cX6_tour 133 = .ok (.getfield 7, 3) := dk_180 0 7 (dk_at dksX6_tour_5 13 rfl rfl)
theorem dX6_tour_136 : decode cX6_tour 136 = .ok (.sipush 151, 3) := dk_17 0 151 (dk_at dksX6_tour_5 16 rfl rfl)
theorem dX6_tour_139 : decode cX6_tour 139 = .ok (.iaload, 1) := dk_46 (dk_at dksX6_tour_5 19 rfl rfl)
theorem dX6_tour_140 : decode cX6_tour 140 = .ok (.if_icmp .ne 7, 3) := dk_160 0 7 (dk_at dksX6_tour_5 20 rfl rfl)
theorem dX6_tour_143 : decode cX6_tour 143 = .ok (.iconst 1, 1) := dk_4 (dk_at dksX6_tour_5 23 rfl rfl)
theorem dX6_tour_144 : decode cX6_tour 144 = .ok (.goto 4, 3) := dk_167 0 4 (dk_at dksX6_tour_6 0 rfl rfl)
theorem dX6_tour_147 : decode cX6_tour 147 = .ok (.iconst 0, 1) := dk_3 (dk_at dksX6_tour_6 3 rfl rfl)
theorem dX6_tour_148 : decode cX6_tour 148 = .ok (.ireturn, 1) := dk_172 (dk_at dksX6_tour_6 4 rfl rfl)
abbrev cX6_laysTour : ByteArray := prog_20_method_79_code
def yX6_laysTour : MethodName := ⟨RX6, "laysTour", "(II)Z"⟩
def dkwX6_laysTour_4 : List UInt8 := [42, 180, 0, 86, 21, 4, 21, 5, 79, 21, 5, 62, 132, 4, 1, 167, 255, 192, 4, 172]
abbrev dktX6_laysTour_4 : List UInt8 := dkwX6_laysTour_4 ++ []
def dkwX6_laysTour_3 : List UInt8 := [167, 255, 240, 42, 180, 0, 83, 16, 10, 29, 104, 21, 5, 96, 42, 29, 21, 5, 182, 1, 129, 4, 100, 79]
abbrev dktX6_laysTour_3 : List UInt8 := dkwX6_laysTour_3 ++ dktX6_laysTour_4
def dkwX6_laysTour_2 : List UInt8 := [162, 0, 64, 3, 54, 5, 42, 29, 21, 5, 182, 1, 138, 154, 0, 12, 21, 5, 4, 96, 54, 5]
abbrev dktX6_laysTour_2 : List UInt8 := dkwX6_laysTour_2 ++ dktX6_laysTour_3
def dkwX6_laysTour_1 : List UInt8 := [132, 3, 1, 167, 255, 233, 42, 27, 182, 1, 135, 154, 0, 5, 3, 172, 27, 62, 3, 54, 4, 21, 4, 28]
abbrev dktX6_laysTour_1 : List UInt8 := dkwX6_laysTour_1 ++ dktX6_laysTour_2
def dkwX6_laysTour_0 : List UInt8 := [3, 62, 29, 16, 100, 162, 0, 23, 42, 180, 0, 83, 29, 42, 180, 0, 7, 3, 29, 96, 46, 79]
abbrev dktX6_laysTour_0 : List UInt8 := dkwX6_laysTour_0 ++ dktX6_laysTour_1
theorem dksX6_laysTour_0 : cX6_laysTour.data.toList.drop 0 = dktX6_laysTour_0 := by decide +kernel
theorem dksX6_laysTour_1 : cX6_laysTour.data.toList.drop 22 = dktX6_laysTour_1 := dk_seg dksX6_laysTour_0 22 rfl rfl
theorem dksX6_laysTour_2 : cX6_laysTour.data.toList.drop 46 = dktX6_laysTour_2 := dk_seg dksX6_laysTour_1 24 rfl rfl
theorem dksX6_laysTour_3 : cX6_laysTour.data.toList.drop 68 = dktX6_laysTour_3 := dk_seg dksX6_laysTour_2 22 rfl rfl
theorem dksX6_laysTour_4 : cX6_laysTour.data.toList.drop 92 = dktX6_laysTour_4 := dk_seg dksX6_laysTour_3 24 rfl rfl
theorem dX6_laysTour_0 : decode cX6_laysTour 0 = .ok (.iconst 0, 1) := dk_3 (dk_at dksX6_laysTour_0 0 rfl rfl)
theorem dX6_laysTour_1 : decode cX6_laysTour 1 = .ok (.istore_n 3, 1) := dk_62 (dk_at dksX6_laysTour_0 1 rfl rfl)
theorem dX6_laysTour_2 : decode cX6_laysTour 2 = .ok (.iload_n 3, 1) := dk_29 (dk_at dksX6_laysTour_0 2 rfl rfl)
theorem dX6_laysTour_3 : decode cX6_laysTour 3 = .ok (.bipush 100, 2) := dk_16 100 (dk_at dksX6_laysTour_0 3 rfl rfl)
theorem dX6_laysTour_5 : decode cX6_laysTour 5 = .ok (.if_icmp .ge 23, 3) := dk_162 0 23 (dk_at dksX6_laysTour_0 5 rfl rfl)
theorem dX6_laysTour_8 : decode cX6_laysTour 8 = .ok (.aload_n 0, 1) := dk_42 (dk_at dksX6_laysTour_0 8 rfl rfl)
theorem dX6_laysTour_9 : decode cX6_laysTour 9 = .ok (.getfield 83, 3) := dk_180 0 83 (dk_at dksX6_laysTour_0 9 rfl rfl)
theorem dX6_laysTour_12 : decode cX6_laysTour 12 = .ok (.iload_n 3, 1) := dk_29 (dk_at dksX6_laysTour_0 12 rfl rfl)
theorem dX6_laysTour_13 : decode cX6_laysTour 13 = .ok (.aload_n 0, 1) := dk_42 (dk_at dksX6_laysTour_0 13 rfl rfl)
theorem dX6_laysTour_14 : decode cX6_laysTour 14 = .ok (.getfield 7, 3) := dk_180 0 7 (dk_at dksX6_laysTour_0 14 rfl rfl)
theorem dX6_laysTour_17 : decode cX6_laysTour 17 = .ok (.iconst 0, 1) := dk_3 (dk_at dksX6_laysTour_0 17 rfl rfl)
theorem dX6_laysTour_18 : decode cX6_laysTour 18 = .ok (.iload_n 3, 1) := dk_29 (dk_at dksX6_laysTour_0 18 rfl rfl)
theorem dX6_laysTour_19 : decode cX6_laysTour 19 = .ok (.iadd, 1) := dk_96 (dk_at dksX6_laysTour_0 19 rfl rfl)
theorem dX6_laysTour_20 : decode cX6_laysTour 20 = .ok (.iaload, 1) := dk_46 (dk_at dksX6_laysTour_0 20 rfl rfl)
theorem dX6_laysTour_21 : decode cX6_laysTour 21 = .ok (.iastore, 1) := dk_79 (dk_at dksX6_laysTour_0 21 rfl rfl)
theorem dX6_laysTour_22 : decode cX6_laysTour 22 = .ok (.iinc 3 1, 3) := dk_132 3 1 (dk_at dksX6_laysTour_1 0 rfl rfl)
theorem dX6_laysTour_25 : decode cX6_laysTour 25 = .ok (.goto (-23), 3) := dk_167 255 233 (dk_at dksX6_laysTour_1 3 rfl rfl)
theorem dX6_laysTour_28 : decode cX6_laysTour 28 = .ok (.aload_n 0, 1) := dk_42 (dk_at dksX6_laysTour_1 6 rfl rfl)
theorem dX6_laysTour_29 : decode cX6_laysTour 29 = .ok (.iload_n 1, 1) := dk_27 (dk_at dksX6_laysTour_1 7 rfl rfl)
theorem dX6_laysTour_30 : decode cX6_laysTour 30 = .ok (.invokevirtual 391, 3) := dk_182 1 135 (dk_at dksX6_laysTour_1 8 rfl rfl)
theorem dX6_laysTour_33 : decode cX6_laysTour 33 = .ok (.ifCond .ne 5, 3) := dk_154 0 5 (dk_at dksX6_laysTour_1 11 rfl rfl)
theorem dX6_laysTour_36 : decode cX6_laysTour 36 = .ok (.iconst 0, 1) := dk_3 (dk_at dksX6_laysTour_1 14 rfl rfl)
theorem dX6_laysTour_37 : decode cX6_laysTour 37 = .ok (.ireturn, 1) := dk_172 (dk_at dksX6_laysTour_1 15 rfl rfl)
theorem dX6_laysTour_38 : decode cX6_laysTour 38 = .ok (.iload_n 1, 1) := dk_27 (dk_at dksX6_laysTour_1 16 rfl rfl)
theorem dX6_laysTour_39 : decode cX6_laysTour 39 = .ok (.istore_n 3, 1) := dk_62 (dk_at dksX6_laysTour_1 17 rfl rfl)
theorem dX6_laysTour_40 : decode cX6_laysTour 40 = .ok (.iconst 0, 1) := dk_3 (dk_at dksX6_laysTour_1 18 rfl rfl)
theorem dX6_laysTour_41 : decode cX6_laysTour 41 = .ok (.istore 4, 2) := dk_54 4 (dk_at dksX6_laysTour_1 19 rfl rfl)
theorem dX6_laysTour_43 : decode cX6_laysTour 43 = .ok (.iload 4, 2) := dk_21 4 (dk_at dksX6_laysTour_1 21 rfl rfl)
theorem dX6_laysTour_45 : decode cX6_laysTour 45 = .ok (.iload_n 2, 1) := dk_28 (dk_at dksX6_laysTour_1 23 rfl rfl)
theorem dX6_laysTour_46 : decode cX6_laysTour 46 = .ok (.if_icmp .ge 64, 3) := dk_162 0 64 (dk_at dksX6_laysTour_2 0 rfl rfl)
theorem dX6_laysTour_49 : decode cX6_laysTour 49 = .ok (.iconst 0, 1) := dk_3 (dk_at dksX6_laysTour_2 3 rfl rfl)
theorem dX6_laysTour_50 : decode cX6_laysTour 50 = .ok (.istore 5, 2) := dk_54 5 (dk_at dksX6_laysTour_2 4 rfl rfl)
theorem dX6_laysTour_52 : decode cX6_laysTour 52 = .ok (.aload_n 0, 1) := dk_42 (dk_at dksX6_laysTour_2 6 rfl rfl)
theorem dX6_laysTour_53 : decode cX6_laysTour 53 = .ok (.iload_n 3, 1) := dk_29 (dk_at dksX6_laysTour_2 7 rfl rfl)
theorem dX6_laysTour_54 : decode cX6_laysTour 54 = .ok (.iload 5, 2) := dk_21 5 (dk_at dksX6_laysTour_2 8 rfl rfl)
theorem dX6_laysTour_56 : decode cX6_laysTour 56 = .ok (.invokevirtual 394, 3) := dk_182 1 138 (dk_at dksX6_laysTour_2 10 rfl rfl)
theorem dX6_laysTour_59 : decode cX6_laysTour 59 = .ok (.ifCond .ne 12, 3) := dk_154 0 12 (dk_at dksX6_laysTour_2 13 rfl rfl)
theorem dX6_laysTour_62 : decode cX6_laysTour 62 = .ok (.iload 5, 2) := dk_21 5 (dk_at dksX6_laysTour_2 16 rfl rfl)
theorem dX6_laysTour_64 : decode cX6_laysTour 64 = .ok (.iconst 1, 1) := dk_4 (dk_at dksX6_laysTour_2 18 rfl rfl)
theorem dX6_laysTour_65 : decode cX6_laysTour 65 = .ok (.iadd, 1) := dk_96 (dk_at dksX6_laysTour_2 19 rfl rfl)
theorem dX6_laysTour_66 : decode cX6_laysTour 66 = .ok (.istore 5, 2) := dk_54 5 (dk_at dksX6_laysTour_2 20 rfl rfl)
theorem dX6_laysTour_68 : decode cX6_laysTour 68 = .ok (.goto (-16), 3) := dk_167 255 240 (dk_at dksX6_laysTour_3 0 rfl rfl)
theorem dX6_laysTour_71 : decode cX6_laysTour 71 = .ok (.aload_n 0, 1) := dk_42 (dk_at dksX6_laysTour_3 3 rfl rfl)
theorem dX6_laysTour_72 : decode cX6_laysTour 72 = .ok (.getfield 83, 3) := dk_180 0 83 (dk_at dksX6_laysTour_3 4 rfl rfl)
theorem dX6_laysTour_75 : decode cX6_laysTour 75 = .ok (.bipush 10, 2) := dk_16 10 (dk_at dksX6_laysTour_3 7 rfl rfl)
theorem dX6_laysTour_77 : decode cX6_laysTour 77 = .ok (.iload_n 3, 1) := dk_29 (dk_at dksX6_laysTour_3 9 rfl rfl)
theorem dX6_laysTour_78 : decode cX6_laysTour 78 = .ok (.imul, 1) := dk_104 (dk_at dksX6_laysTour_3 10 rfl rfl)
theorem dX6_laysTour_79 : decode cX6_laysTour 79 = .ok (.iload 5, 2) := dk_21 5 (dk_at dksX6_laysTour_3 11 rfl rfl)
theorem dX6_laysTour_81 : decode cX6_laysTour 81 = .ok (.iadd, 1) := dk_96 (dk_at dksX6_laysTour_3 13 rfl rfl)
theorem dX6_laysTour_82 : decode cX6_laysTour 82 = .ok (.aload_n 0, 1) := dk_42 (dk_at dksX6_laysTour_3 14 rfl rfl)
theorem dX6_laysTour_83 : decode cX6_laysTour 83 = .ok (.iload_n 3, 1) := dk_29 (dk_at dksX6_laysTour_3 15 rfl rfl)
theorem dX6_laysTour_84 : decode cX6_laysTour 84 = .ok (.iload 5, 2) := dk_21 5 (dk_at dksX6_laysTour_3 16 rfl rfl)
theorem dX6_laysTour_86 : decode cX6_laysTour 86 = .ok (.invokevirtual 385, 3) := dk_182 1 129 (dk_at dksX6_laysTour_3 18 rfl rfl)
theorem dX6_laysTour_89 : decode cX6_laysTour 89 = .ok (.iconst 1, 1) := dk_4 (dk_at dksX6_laysTour_3 21 rfl rfl)
theorem dX6_laysTour_90 : decode cX6_laysTour 90 = .ok (.isub, 1) := dk_100 (dk_at dksX6_laysTour_3 22 rfl rfl)
theorem dX6_laysTour_91 : decode cX6_laysTour 91 = .ok (.iastore, 1) := dk_79 (dk_at dksX6_laysTour_3 23 rfl rfl)
theorem dX6_laysTour_92 : decode cX6_laysTour 92 = .ok (.aload_n 0, 1) := dk_42 (dk_at dksX6_laysTour_4 0 rfl rfl)
theorem dX6_laysTour_93 : decode cX6_laysTour 93 = .ok (.getfield 86, 3) := dk_180 0 86 (dk_at dksX6_laysTour_4 1 rfl rfl)
theorem dX6_laysTour_96 : decode cX6_laysTour 96 = .ok (.iload 4, 2) := dk_21 4 (dk_at dksX6_laysTour_4 4 rfl rfl)
theorem dX6_laysTour_98 : decode cX6_laysTour 98 = .ok (.iload 5, 2) := dk_21 5 (dk_at dksX6_laysTour_4 6 rfl rfl)
theorem dX6_laysTour_100 : decode cX6_laysTour 100 = .ok (.iastore, 1) := dk_79 (dk_at dksX6_laysTour_4 8 rfl rfl)
theorem dX6_laysTour_101 : decode cX6_laysTour 101 = .ok (.iload 5, 2) := dk_21 5 (dk_at dksX6_laysTour_4 9 rfl rfl)
theorem dX6_laysTour_103 : decode cX6_laysTour 103 = .ok (.istore_n 3, 1) := dk_62 (dk_at dksX6_laysTour_4 11 rfl rfl)
theorem dX6_laysTour_104 : decode cX6_laysTour 104 = .ok (.iinc 4 1, 3) := dk_132 4 1 (dk_at dksX6_laysTour_4 12 rfl rfl)
theorem dX6_laysTour_107 : decode cX6_laysTour 107 = .ok (.goto (-64), 3) := dk_167 255 192 (dk_at dksX6_laysTour_4 15 rfl rfl)
theorem dX6_laysTour_110 : decode cX6_laysTour 110 = .ok (.iconst 1, 1) := dk_4 (dk_at dksX6_laysTour_4 18 rfl rfl)
theorem dX6_laysTour_111 : decode cX6_laysTour 111 = .ok (.ireturn, 1) := dk_172 (dk_at dksX6_laysTour_4 19 rfl rfl)
abbrev cX6_isRow : ByteArray := prog_20_method_78_code
def yX6_isRow : MethodName := ⟨RX6, "isRow", "(I)Z"⟩
def dkwX6_isRow_6 : List UInt8 := [160, 0, 7, 4, 167, 0, 4, 3, 172]
abbrev dktX6_isRow_6 : List UInt8 := dkwX6_isRow_6 ++ []
def dkwX6_isRow_5 : List UInt8 := [132, 5, 1, 167, 255, 149, 29, 154, 0, 8, 21, 4, 153, 0, 14, 29, 4, 160, 0, 13, 21, 4, 4]
abbrev dktX6_isRow_5 : List UInt8 := dkwX6_isRow_5 ++ dktX6_isRow_6
def dkwX6_isRow_4 : List UInt8 := [21, 6, 21, 7, 164, 0, 7, 29, 4, 96, 62, 21, 5, 27, 160, 0, 10, 21, 6, 21, 7, 100, 54, 4]
abbrev dktX6_isRow_4 : List UInt8 := dkwX6_isRow_4 ++ dktX6_isRow_5
def dkwX6_isRow_3 : List UInt8 := [158, 0, 12, 28, 21, 5, 184, 0, 131, 153, 0, 12, 21, 6, 21, 7, 4, 96, 164, 0, 5, 3, 172]
abbrev dktX6_isRow_3 : List UInt8 := dkwX6_isRow_3 ++ dktX6_isRow_4
def dkwX6_isRow_2 : List UInt8 := [54, 6, 21, 7, 42, 21, 8, 21, 5, 182, 1, 129, 96, 54, 7, 132, 8, 1, 167, 255, 220, 21, 6]
abbrev dktX6_isRow_2 : List UInt8 := dkwX6_isRow_2 ++ dktX6_isRow_3
def dkwX6_isRow_1 : List UInt8 := [3, 54, 7, 3, 54, 8, 21, 8, 16, 10, 162, 0, 35, 21, 6, 42, 21, 5, 21, 8, 182, 1, 129, 96]
abbrev dktX6_isRow_1 : List UInt8 := dkwX6_isRow_1 ++ dktX6_isRow_2
def dkwX6_isRow_0 : List UInt8 := [42, 27, 182, 1, 132, 61, 3, 62, 3, 54, 4, 3, 54, 5, 21, 5, 16, 10, 162, 0, 106, 3, 54, 6]
abbrev dktX6_isRow_0 : List UInt8 := dkwX6_isRow_0 ++ dktX6_isRow_1
theorem dksX6_isRow_0 : cX6_isRow.data.toList.drop 0 = dktX6_isRow_0 := by decide +kernel
theorem dksX6_isRow_1 : cX6_isRow.data.toList.drop 24 = dktX6_isRow_1 := dk_seg dksX6_isRow_0 24 rfl rfl
theorem dksX6_isRow_2 : cX6_isRow.data.toList.drop 48 = dktX6_isRow_2 := dk_seg dksX6_isRow_1 24 rfl rfl
theorem dksX6_isRow_3 : cX6_isRow.data.toList.drop 71 = dktX6_isRow_3 := dk_seg dksX6_isRow_2 23 rfl rfl
theorem dksX6_isRow_4 : cX6_isRow.data.toList.drop 94 = dktX6_isRow_4 := dk_seg dksX6_isRow_3 23 rfl rfl
theorem dksX6_isRow_5 : cX6_isRow.data.toList.drop 118 = dktX6_isRow_5 := dk_seg dksX6_isRow_4 24 rfl rfl
theorem dksX6_isRow_6 : cX6_isRow.data.toList.drop 141 = dktX6_isRow_6 := dk_seg dksX6_isRow_5 23 rfl rfl
theorem dX6_isRow_0 : decode cX6_isRow 0 = .ok (.aload_n 0, 1) := dk_42 (dk_at dksX6_isRow_0 0 rfl rfl)
theorem dX6_isRow_1 : decode cX6_isRow 1 = .ok (.iload_n 1, 1) := dk_27 (dk_at dksX6_isRow_0 1 rfl rfl)
theorem dX6_isRow_2 : decode cX6_isRow 2 = .ok (.invokevirtual 388, 3) := dk_182 1 132 (dk_at dksX6_isRow_0 2 rfl rfl)
theorem dX6_isRow_5 : decode cX6_isRow 5 = .ok (.istore_n 2, 1) := dk_61 (dk_at dksX6_isRow_0 5 rfl rfl)
theorem dX6_isRow_6 : decode cX6_isRow 6 = .ok (.iconst 0, 1) := dk_3 (dk_at dksX6_isRow_0 6 rfl rfl)
theorem dX6_isRow_7 : decode cX6_isRow 7 = .ok (.istore_n 3, 1) := dk_62 (dk_at dksX6_isRow_0 7 rfl rfl)
theorem dX6_isRow_8 : decode cX6_isRow 8 = .ok (.iconst 0, 1) := dk_3 (dk_at dksX6_isRow_0 8 rfl rfl)
theorem dX6_isRow_9 : decode cX6_isRow 9 = .ok (.istore 4, 2) := dk_54 4 (dk_at dksX6_isRow_0 9 rfl rfl)
theorem dX6_isRow_11 : decode cX6_isRow 11 = .ok (.iconst 0, 1) := dk_3 (dk_at dksX6_isRow_0 11 rfl rfl)
theorem dX6_isRow_12 : decode cX6_isRow 12 = .ok (.istore 5, 2) := dk_54 5 (dk_at dksX6_isRow_0 12 rfl rfl)
theorem dX6_isRow_14 : decode cX6_isRow 14 = .ok (.iload 5, 2) := dk_21 5 (dk_at dksX6_isRow_0 14 rfl rfl)
theorem dX6_isRow_16 : decode cX6_isRow 16 = .ok (.bipush 10, 2) := dk_16 10 (dk_at dksX6_isRow_0 16 rfl rfl)
theorem dX6_isRow_18 : decode cX6_isRow 18 = .ok (.if_icmp .ge 106, 3) := dk_162 0 106 (dk_at dksX6_isRow_0 18 rfl rfl)
theorem dX6_isRow_21 : decode cX6_isRow 21 = .ok (.iconst 0, 1) := dk_3 (dk_at dksX6_isRow_0 21 rfl rfl)
theorem dX6_isRow_22 : decode cX6_isRow 22 = .ok (.istore 6, 2) := dk_54 6 (dk_at dksX6_isRow_0 22 rfl rfl)
theorem dX6_isRow_24 : decode cX6_isRow 24 = .ok (.iconst 0, 1) := dk_3 (dk_at dksX6_isRow_1 0 rfl rfl)
theorem dX6_isRow_25 : decode cX6_isRow 25 = .ok (.istore 7, 2) := dk_54 7 (dk_at dksX6_isRow_1 1 rfl rfl)
theorem dX6_isRow_27 : decode cX6_isRow 27 = .ok (.iconst 0, 1) := dk_3 (dk_at dksX6_isRow_1 3 rfl rfl)
theorem dX6_isRow_28 : decode cX6_isRow 28 = .ok (.istore 8, 2) := dk_54 8 (dk_at dksX6_isRow_1 4 rfl rfl)
theorem dX6_isRow_30 : decode cX6_isRow 30 = .ok (.iload 8, 2) := dk_21 8 (dk_at dksX6_isRow_1 6 rfl rfl)
theorem dX6_isRow_32 : decode cX6_isRow 32 = .ok (.bipush 10, 2) := dk_16 10 (dk_at dksX6_isRow_1 8 rfl rfl)
theorem dX6_isRow_34 : decode cX6_isRow 34 = .ok (.if_icmp .ge 35, 3) := dk_162 0 35 (dk_at dksX6_isRow_1 10 rfl rfl)
theorem dX6_isRow_37 : decode cX6_isRow 37 = .ok (.iload 6, 2) := dk_21 6 (dk_at dksX6_isRow_1 13 rfl rfl)
theorem dX6_isRow_39 : decode cX6_isRow 39 = .ok (.aload_n 0, 1) := dk_42 (dk_at dksX6_isRow_1 15 rfl rfl)
theorem dX6_isRow_40 : decode cX6_isRow 40 = .ok (.iload 5, 2) := dk_21 5 (dk_at dksX6_isRow_1 16 rfl rfl)
theorem dX6_isRow_42 : decode cX6_isRow 42 = .ok (.iload 8, 2) := dk_21 8 (dk_at dksX6_isRow_1 18 rfl rfl)
theorem dX6_isRow_44 : decode cX6_isRow 44 = .ok (.invokevirtual 385, 3) := dk_182 1 129 (dk_at dksX6_isRow_1 20 rfl rfl)
theorem dX6_isRow_47 : decode cX6_isRow 47 = .ok (.iadd, 1) := dk_96 (dk_at dksX6_isRow_1 23 rfl rfl)
theorem dX6_isRow_48 : decode cX6_isRow 48 = .ok (.istore 6, 2) := dk_54 6 (dk_at dksX6_isRow_2 0 rfl rfl)
theorem dX6_isRow_50 : decode cX6_isRow 50 = .ok (.iload 7, 2) := dk_21 7 (dk_at dksX6_isRow_2 2 rfl rfl)
theorem dX6_isRow_52 : decode cX6_isRow 52 = .ok (.aload_n 0, 1) := dk_42 (dk_at dksX6_isRow_2 4 rfl rfl)
theorem dX6_isRow_53 : decode cX6_isRow 53 = .ok (.iload 8, 2) := dk_21 8 (dk_at dksX6_isRow_2 5 rfl rfl)
theorem dX6_isRow_55 : decode cX6_isRow 55 = .ok (.iload 5, 2) := dk_21 5 (dk_at dksX6_isRow_2 7 rfl rfl)
theorem dX6_isRow_57 : decode cX6_isRow 57 = .ok (.invokevirtual 385, 3) := dk_182 1 129 (dk_at dksX6_isRow_2 9 rfl rfl)
theorem dX6_isRow_60 : decode cX6_isRow 60 = .ok (.iadd, 1) := dk_96 (dk_at dksX6_isRow_2 12 rfl rfl)
theorem dX6_isRow_61 : decode cX6_isRow 61 = .ok (.istore 7, 2) := dk_54 7 (dk_at dksX6_isRow_2 13 rfl rfl)
theorem dX6_isRow_63 : decode cX6_isRow 63 = .ok (.iinc 8 1, 3) := dk_132 8 1 (dk_at dksX6_isRow_2 15 rfl rfl)
theorem dX6_isRow_66 : decode cX6_isRow 66 = .ok (.goto (-36), 3) := dk_167 255 220 (dk_at dksX6_isRow_2 18 rfl rfl)
theorem dX6_isRow_69 : decode cX6_isRow 69 = .ok (.iload 6, 2) := dk_21 6 (dk_at dksX6_isRow_2 21 rfl rfl)
theorem dX6_isRow_71 : decode cX6_isRow 71 = .ok (.ifCond .le 12, 3) := dk_158 0 12 (dk_at dksX6_isRow_3 0 rfl rfl)
theorem dX6_isRow_74 : decode cX6_isRow 74 = .ok (.iload_n 2, 1) := dk_28 (dk_at dksX6_isRow_3 3 rfl rfl)
theorem dX6_isRow_75 : decode cX6_isRow 75 = .ok (.iload 5, 2) := dk_21 5 (dk_at dksX6_isRow_3 4 rfl rfl)
theorem dX6_isRow_77 : decode cX6_isRow 77 = .ok (.invokestatic 131, 3) := dk_184 0 131 (dk_at dksX6_isRow_3 6 rfl rfl)
theorem dX6_isRow_80 : decode cX6_isRow 80 = .ok (.ifCond .eq 12, 3) := dk_153 0 12 (dk_at dksX6_isRow_3 9 rfl rfl)
theorem dX6_isRow_83 : decode cX6_isRow 83 = .ok (.iload 6, 2) := dk_21 6 (dk_at dksX6_isRow_3 12 rfl rfl)
theorem dX6_isRow_85 : decode cX6_isRow 85 = .ok (.iload 7, 2) := dk_21 7 (dk_at dksX6_isRow_3 14 rfl rfl)
theorem dX6_isRow_87 : decode cX6_isRow 87 = .ok (.iconst 1, 1) := dk_4 (dk_at dksX6_isRow_3 16 rfl rfl)
theorem dX6_isRow_88 : decode cX6_isRow 88 = .ok (.iadd, 1) := dk_96 (dk_at dksX6_isRow_3 17 rfl rfl)
theorem dX6_isRow_89 : decode cX6_isRow 89 = .ok (.if_icmp .le 5, 3) := dk_164 0 5 (dk_at dksX6_isRow_3 18 rfl rfl)
theorem dX6_isRow_92 : decode cX6_isRow 92 = .ok (.iconst 0, 1) := dk_3 (dk_at dksX6_isRow_3 21 rfl rfl)
theorem dX6_isRow_93 : decode cX6_isRow 93 = .ok (.ireturn, 1) := dk_172 (dk_at dksX6_isRow_3 22 rfl rfl)
theorem dX6_isRow_94 : decode cX6_isRow 94 = .ok (.iload 6, 2) := dk_21 6 (dk_at dksX6_isRow_4 0 rfl rfl)
theorem dX6_isRow_96 : decode cX6_isRow 96 = .ok (.iload 7, 2) := dk_21 7 (dk_at dksX6_isRow_4 2 rfl rfl)
theorem dX6_isRow_98 : decode cX6_isRow 98 = .ok (.if_icmp .le 7, 3) := dk_164 0 7 (dk_at dksX6_isRow_4 4 rfl rfl)
theorem dX6_isRow_101 : decode cX6_isRow 101 = .ok (.iload_n 3, 1) := dk_29 (dk_at dksX6_isRow_4 7 rfl rfl)
theorem dX6_isRow_102 : decode cX6_isRow 102 = .ok (.iconst 1, 1) := dk_4 (dk_at dksX6_isRow_4 8 rfl rfl)
theorem dX6_isRow_103 : decode cX6_isRow 103 = .ok (.iadd, 1) := dk_96 (dk_at dksX6_isRow_4 9 rfl rfl)
theorem dX6_isRow_104 : decode cX6_isRow 104 = .ok (.istore_n 3, 1) := dk_62 (dk_at dksX6_isRow_4 10 rfl rfl)
theorem dX6_isRow_105 : decode cX6_isRow 105 = .ok (.iload 5, 2) := dk_21 5 (dk_at dksX6_isRow_4 11 rfl rfl)
theorem dX6_isRow_107 : decode cX6_isRow 107 = .ok (.iload_n 1, 1) := dk_27 (dk_at dksX6_isRow_4 13 rfl rfl)
theorem dX6_isRow_108 : decode cX6_isRow 108 = .ok (.if_icmp .ne 10, 3) := dk_160 0 10 (dk_at dksX6_isRow_4 14 rfl rfl)
theorem dX6_isRow_111 : decode cX6_isRow 111 = .ok (.iload 6, 2) := dk_21 6 (dk_at dksX6_isRow_4 17 rfl rfl)
theorem dX6_isRow_113 : decode cX6_isRow 113 = .ok (.iload 7, 2) := dk_21 7 (dk_at dksX6_isRow_4 19 rfl rfl)
theorem dX6_isRow_115 : decode cX6_isRow 115 = .ok (.isub, 1) := dk_100 (dk_at dksX6_isRow_4 21 rfl rfl)
theorem dX6_isRow_116 : decode cX6_isRow 116 = .ok (.istore 4, 2) := dk_54 4 (dk_at dksX6_isRow_4 22 rfl rfl)
theorem dX6_isRow_118 : decode cX6_isRow 118 = .ok (.iinc 5 1, 3) := dk_132 5 1 (dk_at dksX6_isRow_5 0 rfl rfl)
theorem dX6_isRow_121 : decode cX6_isRow 121 = .ok (.goto (-107), 3) := dk_167 255 149 (dk_at dksX6_isRow_5 3 rfl rfl)
theorem dX6_isRow_124 : decode cX6_isRow 124 = .ok (.iload_n 3, 1) := dk_29 (dk_at dksX6_isRow_5 6 rfl rfl)
theorem dX6_isRow_125 : decode cX6_isRow 125 = .ok (.ifCond .ne 8, 3) := dk_154 0 8 (dk_at dksX6_isRow_5 7 rfl rfl)
theorem dX6_isRow_128 : decode cX6_isRow 128 = .ok (.iload 4, 2) := dk_21 4 (dk_at dksX6_isRow_5 10 rfl rfl)
theorem dX6_isRow_130 : decode cX6_isRow 130 = .ok (.ifCond .eq 14, 3) := dk_153 0 14 (dk_at dksX6_isRow_5 12 rfl rfl)
theorem dX6_isRow_133 : decode cX6_isRow 133 = .ok (.iload_n 3, 1) := dk_29 (dk_at dksX6_isRow_5 15 rfl rfl)
theorem dX6_isRow_134 : decode cX6_isRow 134 = .ok (.iconst 1, 1) := dk_4 (dk_at dksX6_isRow_5 16 rfl rfl)
theorem dX6_isRow_135 : decode cX6_isRow 135 = .ok (.if_icmp .ne 13, 3) := dk_160 0 13 (dk_at dksX6_isRow_5 17 rfl rfl)
theorem dX6_isRow_138 : decode cX6_isRow 138 = .ok (.iload 4, 2) := dk_21 4 (dk_at dksX6_isRow_5 20 rfl rfl)
theorem dX6_isRow_140 : decode cX6_isRow 140 = .ok (.iconst 1, 1) := dk_4 (dk_at dksX6_isRow_5 22 rfl rfl)
theorem dX6_isRow_141 : decode cX6_isRow 141 = .ok (.if_icmp .ne 7, 3) := dk_160 0 7 (dk_at dksX6_isRow_6 0 rfl rfl)
theorem dX6_isRow_144 : decode cX6_isRow 144 = .ok (.iconst 1, 1) := dk_4 (dk_at dksX6_isRow_6 3 rfl rfl)
theorem dX6_isRow_145 : decode cX6_isRow 145 = .ok (.goto 4, 3) := dk_167 0 4 (dk_at dksX6_isRow_6 4 rfl rfl)
theorem dX6_isRow_148 : decode cX6_isRow 148 = .ok (.iconst 0, 1) := dk_3 (dk_at dksX6_isRow_6 7 rfl rfl)
theorem dX6_isRow_149 : decode cX6_isRow 149 = .ok (.ireturn, 1) := dk_172 (dk_at dksX6_isRow_6 8 rfl rfl)
abbrev cX6_reachLeft : ByteArray := prog_20_method_77_code
def yX6_reachLeft : MethodName := ⟨RX6, "reachLeft", "(I)I"⟩
def dkwX6_reachLeft_3 : List UInt8 := [167, 255, 203, 167, 255, 190, 28, 172]
abbrev dktX6_reachLeft_3 : List UInt8 := dkwX6_reachLeft_3 ++ []
def dkwX6_reachLeft_2 : List UInt8 := [182, 1, 129, 158, 0, 10, 28, 4, 21, 5, 120, 128, 61, 132, 5, 1, 167, 255, 219, 132, 4, 1]
abbrev dktX6_reachLeft_2 : List UInt8 := dkwX6_reachLeft_2 ++ dktX6_reachLeft_3
def dkwX6_reachLeft_1 : List UInt8 := [54, 5, 21, 5, 16, 10, 162, 0, 36, 28, 21, 4, 184, 0, 131, 153, 0, 21, 42, 21, 4, 21, 5]
abbrev dktX6_reachLeft_1 : List UInt8 := dkwX6_reachLeft_1 ++ dktX6_reachLeft_2
def dkwX6_reachLeft_0 : List UInt8 := [4, 27, 120, 61, 3, 62, 28, 29, 159, 0, 67, 28, 62, 3, 54, 4, 21, 4, 16, 10, 162, 0, 52, 3]
abbrev dktX6_reachLeft_0 : List UInt8 := dkwX6_reachLeft_0 ++ dktX6_reachLeft_1
theorem dksX6_reachLeft_0 : cX6_reachLeft.data.toList.drop 0 = dktX6_reachLeft_0 := by decide +kernel
theorem dksX6_reachLeft_1 : cX6_reachLeft.data.toList.drop 24 = dktX6_reachLeft_1 := dk_seg dksX6_reachLeft_0 24 rfl rfl
theorem dksX6_reachLeft_2 : cX6_reachLeft.data.toList.drop 47 = dktX6_reachLeft_2 := dk_seg dksX6_reachLeft_1 23 rfl rfl
theorem dksX6_reachLeft_3 : cX6_reachLeft.data.toList.drop 69 = dktX6_reachLeft_3 := dk_seg dksX6_reachLeft_2 22 rfl rfl
theorem dX6_reachLeft_0 : decode cX6_reachLeft 0 = .ok (.iconst 1, 1) := dk_4 (dk_at dksX6_reachLeft_0 0 rfl rfl)
theorem dX6_reachLeft_1 : decode cX6_reachLeft 1 = .ok (.iload_n 1, 1) := dk_27 (dk_at dksX6_reachLeft_0 1 rfl rfl)
theorem dX6_reachLeft_2 : decode cX6_reachLeft 2 = .ok (.ishl, 1) := dk_120 (dk_at dksX6_reachLeft_0 2 rfl rfl)
theorem dX6_reachLeft_3 : decode cX6_reachLeft 3 = .ok (.istore_n 2, 1) := dk_61 (dk_at dksX6_reachLeft_0 3 rfl rfl)
theorem dX6_reachLeft_4 : decode cX6_reachLeft 4 = .ok (.iconst 0, 1) := dk_3 (dk_at dksX6_reachLeft_0 4 rfl rfl)
theorem dX6_reachLeft_5 : decode cX6_reachLeft 5 = .ok (.istore_n 3, 1) := dk_62 (dk_at dksX6_reachLeft_0 5 rfl rfl)
theorem dX6_reachLeft_6 : decode cX6_reachLeft 6 = .ok (.iload_n 2, 1) := dk_28 (dk_at dksX6_reachLeft_0 6 rfl rfl)
theorem dX6_reachLeft_7 : decode cX6_reachLeft 7 = .ok (.iload_n 3, 1) := dk_29 (dk_at dksX6_reachLeft_0 7 rfl rfl)
theorem dX6_reachLeft_8 : decode cX6_reachLeft 8 = .ok (.if_icmp .eq 67, 3) := dk_159 0 67 (dk_at dksX6_reachLeft_0 8 rfl rfl)
theorem dX6_reachLeft_11 : decode cX6_reachLeft 11 = .ok (.iload_n 2, 1) := dk_28 (dk_at dksX6_reachLeft_0 11 rfl rfl)
theorem dX6_reachLeft_12 : decode cX6_reachLeft 12 = .ok (.istore_n 3, 1) := dk_62 (dk_at dksX6_reachLeft_0 12 rfl rfl)
theorem dX6_reachLeft_13 : decode cX6_reachLeft 13 = .ok (.iconst 0, 1) := dk_3 (dk_at dksX6_reachLeft_0 13 rfl rfl)
theorem dX6_reachLeft_14 : decode cX6_reachLeft 14 = .ok (.istore 4, 2) := dk_54 4 (dk_at dksX6_reachLeft_0 14 rfl rfl)
theorem dX6_reachLeft_16 : decode cX6_reachLeft 16 = .ok (.iload 4, 2) := dk_21 4 (dk_at dksX6_reachLeft_0 16 rfl rfl)
theorem dX6_reachLeft_18 : decode cX6_reachLeft 18 = .ok (.bipush 10, 2) := dk_16 10 (dk_at dksX6_reachLeft_0 18 rfl rfl)
theorem dX6_reachLeft_20 : decode cX6_reachLeft 20 = .ok (.if_icmp .ge 52, 3) := dk_162 0 52 (dk_at dksX6_reachLeft_0 20 rfl rfl)
theorem dX6_reachLeft_23 : decode cX6_reachLeft 23 = .ok (.iconst 0, 1) := dk_3 (dk_at dksX6_reachLeft_0 23 rfl rfl)
theorem dX6_reachLeft_24 : decode cX6_reachLeft 24 = .ok (.istore 5, 2) := dk_54 5 (dk_at dksX6_reachLeft_1 0 rfl rfl)
theorem dX6_reachLeft_26 : decode cX6_reachLeft 26 = .ok (.iload 5, 2) := dk_21 5 (dk_at dksX6_reachLeft_1 2 rfl rfl)
theorem dX6_reachLeft_28 : decode cX6_reachLeft 28 = .ok (.bipush 10, 2) := dk_16 10 (dk_at dksX6_reachLeft_1 4 rfl rfl)
theorem dX6_reachLeft_30 : decode cX6_reachLeft 30 = .ok (.if_icmp .ge 36, 3) := dk_162 0 36 (dk_at dksX6_reachLeft_1 6 rfl rfl)
theorem dX6_reachLeft_33 : decode cX6_reachLeft 33 = .ok (.iload_n 2, 1) := dk_28 (dk_at dksX6_reachLeft_1 9 rfl rfl)
theorem dX6_reachLeft_34 : decode cX6_reachLeft 34 = .ok (.iload 4, 2) := dk_21 4 (dk_at dksX6_reachLeft_1 10 rfl rfl)
theorem dX6_reachLeft_36 : decode cX6_reachLeft 36 = .ok (.invokestatic 131, 3) := dk_184 0 131 (dk_at dksX6_reachLeft_1 12 rfl rfl)
theorem dX6_reachLeft_39 : decode cX6_reachLeft 39 = .ok (.ifCond .eq 21, 3) := dk_153 0 21 (dk_at dksX6_reachLeft_1 15 rfl rfl)
theorem dX6_reachLeft_42 : decode cX6_reachLeft 42 = .ok (.aload_n 0, 1) := dk_42 (dk_at dksX6_reachLeft_1 18 rfl rfl)
theorem dX6_reachLeft_43 : decode cX6_reachLeft 43 = .ok (.iload 4, 2) := dk_21 4 (dk_at dksX6_reachLeft_1 19 rfl rfl)
theorem dX6_reachLeft_45 : decode cX6_reachLeft 45 = .ok (.iload 5, 2) := dk_21 5 (dk_at dksX6_reachLeft_1 21 rfl rfl)
theorem dX6_reachLeft_47 : decode cX6_reachLeft 47 = .ok (.invokevirtual 385, 3) := dk_182 1 129 (dk_at dksX6_reachLeft_2 0 rfl rfl)
theorem dX6_reachLeft_50 : decode cX6_reachLeft 50 = .ok (.ifCond .le 10, 3) := dk_158 0 10 (dk_at dksX6_reachLeft_2 3 rfl rfl)
theorem dX6_reachLeft_53 : decode cX6_reachLeft 53 = .ok (.iload_n 2, 1) := dk_28 (dk_at dksX6_reachLeft_2 6 rfl rfl)
theorem dX6_reachLeft_54 : decode cX6_reachLeft 54 = .ok (.iconst 1, 1) := dk_4 (dk_at dksX6_reachLeft_2 7 rfl rfl)
theorem dX6_reachLeft_55 : decode cX6_reachLeft 55 = .ok (.iload 5, 2) := dk_21 5 (dk_at dksX6_reachLeft_2 8 rfl rfl)
theorem dX6_reachLeft_57 : decode cX6_reachLeft 57 = .ok (.ishl, 1) := dk_120 (dk_at dksX6_reachLeft_2 10 rfl rfl)
theorem dX6_reachLeft_58 : decode cX6_reachLeft 58 = .ok (.ior, 1) := dk_128 (dk_at dksX6_reachLeft_2 11 rfl rfl)
theorem dX6_reachLeft_59 : decode cX6_reachLeft 59 = .ok (.istore_n 2, 1) := dk_61 (dk_at dksX6_reachLeft_2 12 rfl rfl)
theorem dX6_reachLeft_60 : decode cX6_reachLeft 60 = .ok (.iinc 5 1, 3) := dk_132 5 1 (dk_at dksX6_reachLeft_2 13 rfl rfl)
theorem dX6_reachLeft_63 : decode cX6_reachLeft 63 = .ok (.goto (-37), 3) := dk_167 255 219 (dk_at dksX6_reachLeft_2 16 rfl rfl)
theorem dX6_reachLeft_66 : decode cX6_reachLeft 66 = .ok (.iinc 4 1, 3) := dk_132 4 1 (dk_at dksX6_reachLeft_2 19 rfl rfl)
theorem dX6_reachLeft_69 : decode cX6_reachLeft 69 = .ok (.goto (-53), 3) := dk_167 255 203 (dk_at dksX6_reachLeft_3 0 rfl rfl)
theorem dX6_reachLeft_72 : decode cX6_reachLeft 72 = .ok (.goto (-66), 3) := dk_167 255 190 (dk_at dksX6_reachLeft_3 3 rfl rfl)
theorem dX6_reachLeft_75 : decode cX6_reachLeft 75 = .ok (.iload_n 2, 1) := dk_28 (dk_at dksX6_reachLeft_3 6 rfl rfl)
theorem dX6_reachLeft_76 : decode cX6_reachLeft 76 = .ok (.ireturn, 1) := dk_172 (dk_at dksX6_reachLeft_3 7 rfl rfl)
abbrev cX6_leftOf : ByteArray := prog_20_method_76_code
def yX6_leftOf : MethodName := ⟨RX6, "leftOf", "(II)I"⟩
def dkwX6_leftOf_0 : List UInt8 := [42, 180, 0, 83, 16, 10, 27, 104, 28, 96, 46, 172]
abbrev dktX6_leftOf_0 : List UInt8 := dkwX6_leftOf_0 ++ []
theorem dksX6_leftOf_0 : cX6_leftOf.data.toList.drop 0 = dktX6_leftOf_0 := by decide +kernel
theorem dX6_leftOf_0 : decode cX6_leftOf 0 = .ok (.aload_n 0, 1) := dk_42 (dk_at dksX6_leftOf_0 0 rfl rfl)
theorem dX6_leftOf_1 : decode cX6_leftOf 1 = .ok (.getfield 83, 3) := dk_180 0 83 (dk_at dksX6_leftOf_0 1 rfl rfl)
theorem dX6_leftOf_4 : decode cX6_leftOf 4 = .ok (.bipush 10, 2) := dk_16 10 (dk_at dksX6_leftOf_0 4 rfl rfl)
theorem dX6_leftOf_6 : decode cX6_leftOf 6 = .ok (.iload_n 1, 1) := dk_27 (dk_at dksX6_leftOf_0 6 rfl rfl)
theorem dX6_leftOf_7 : decode cX6_leftOf 7 = .ok (.imul, 1) := dk_104 (dk_at dksX6_leftOf_0 7 rfl rfl)
theorem dX6_leftOf_8 : decode cX6_leftOf 8 = .ok (.iload_n 2, 1) := dk_28 (dk_at dksX6_leftOf_0 8 rfl rfl)
theorem dX6_leftOf_9 : decode cX6_leftOf 9 = .ok (.iadd, 1) := dk_96 (dk_at dksX6_leftOf_0 9 rfl rfl)
theorem dX6_leftOf_10 : decode cX6_leftOf 10 = .ok (.iaload, 1) := dk_46 (dk_at dksX6_leftOf_0 10 rfl rfl)
theorem dX6_leftOf_11 : decode cX6_leftOf 11 = .ok (.ireturn, 1) := dk_172 (dk_at dksX6_leftOf_0 11 rfl rfl)
abbrev cX6_canGo : ByteArray := prog_20_method_80_code
def yX6_canGo : MethodName := ⟨RX6, "canGo", "(II)Z"⟩
def dkwX6_canGo_2 : List UInt8 := [28, 182, 1, 129, 4, 96, 79, 29, 172]
abbrev dktX6_canGo_2 : List UInt8 := dkwX6_canGo_2 ++ []
def dkwX6_canGo_1 : List UInt8 := [182, 1, 129, 4, 100, 79, 42, 28, 182, 1, 135, 62, 42, 180, 0, 83, 16, 10, 27, 104, 28, 96, 42, 27]
abbrev dktX6_canGo_1 : List UInt8 := dkwX6_canGo_1 ++ dktX6_canGo_2
def dkwX6_canGo_0 : List UInt8 := [42, 27, 28, 182, 1, 129, 154, 0, 5, 3, 172, 42, 180, 0, 83, 16, 10, 27, 104, 28, 96, 42, 27, 28]
abbrev dktX6_canGo_0 : List UInt8 := dkwX6_canGo_0 ++ dktX6_canGo_1
theorem dksX6_canGo_0 : cX6_canGo.data.toList.drop 0 = dktX6_canGo_0 := by decide +kernel
theorem dksX6_canGo_1 : cX6_canGo.data.toList.drop 24 = dktX6_canGo_1 := dk_seg dksX6_canGo_0 24 rfl rfl
theorem dksX6_canGo_2 : cX6_canGo.data.toList.drop 48 = dktX6_canGo_2 := dk_seg dksX6_canGo_1 24 rfl rfl
theorem dX6_canGo_0 : decode cX6_canGo 0 = .ok (.aload_n 0, 1) := dk_42 (dk_at dksX6_canGo_0 0 rfl rfl)
theorem dX6_canGo_1 : decode cX6_canGo 1 = .ok (.iload_n 1, 1) := dk_27 (dk_at dksX6_canGo_0 1 rfl rfl)
theorem dX6_canGo_2 : decode cX6_canGo 2 = .ok (.iload_n 2, 1) := dk_28 (dk_at dksX6_canGo_0 2 rfl rfl)
theorem dX6_canGo_3 : decode cX6_canGo 3 = .ok (.invokevirtual 385, 3) := dk_182 1 129 (dk_at dksX6_canGo_0 3 rfl rfl)
theorem dX6_canGo_6 : decode cX6_canGo 6 = .ok (.ifCond .ne 5, 3) := dk_154 0 5 (dk_at dksX6_canGo_0 6 rfl rfl)
theorem dX6_canGo_9 : decode cX6_canGo 9 = .ok (.iconst 0, 1) := dk_3 (dk_at dksX6_canGo_0 9 rfl rfl)
theorem dX6_canGo_10 : decode cX6_canGo 10 = .ok (.ireturn, 1) := dk_172 (dk_at dksX6_canGo_0 10 rfl rfl)
theorem dX6_canGo_11 : decode cX6_canGo 11 = .ok (.aload_n 0, 1) := dk_42 (dk_at dksX6_canGo_0 11 rfl rfl)
theorem dX6_canGo_12 : decode cX6_canGo 12 = .ok (.getfield 83, 3) := dk_180 0 83 (dk_at dksX6_canGo_0 12 rfl rfl)
theorem dX6_canGo_15 : decode cX6_canGo 15 = .ok (.bipush 10, 2) := dk_16 10 (dk_at dksX6_canGo_0 15 rfl rfl)
theorem dX6_canGo_17 : decode cX6_canGo 17 = .ok (.iload_n 1, 1) := dk_27 (dk_at dksX6_canGo_0 17 rfl rfl)
theorem dX6_canGo_18 : decode cX6_canGo 18 = .ok (.imul, 1) := dk_104 (dk_at dksX6_canGo_0 18 rfl rfl)
theorem dX6_canGo_19 : decode cX6_canGo 19 = .ok (.iload_n 2, 1) := dk_28 (dk_at dksX6_canGo_0 19 rfl rfl)
theorem dX6_canGo_20 : decode cX6_canGo 20 = .ok (.iadd, 1) := dk_96 (dk_at dksX6_canGo_0 20 rfl rfl)
theorem dX6_canGo_21 : decode cX6_canGo 21 = .ok (.aload_n 0, 1) := dk_42 (dk_at dksX6_canGo_0 21 rfl rfl)
theorem dX6_canGo_22 : decode cX6_canGo 22 = .ok (.iload_n 1, 1) := dk_27 (dk_at dksX6_canGo_0 22 rfl rfl)
theorem dX6_canGo_23 : decode cX6_canGo 23 = .ok (.iload_n 2, 1) := dk_28 (dk_at dksX6_canGo_0 23 rfl rfl)
theorem dX6_canGo_24 : decode cX6_canGo 24 = .ok (.invokevirtual 385, 3) := dk_182 1 129 (dk_at dksX6_canGo_1 0 rfl rfl)
theorem dX6_canGo_27 : decode cX6_canGo 27 = .ok (.iconst 1, 1) := dk_4 (dk_at dksX6_canGo_1 3 rfl rfl)
theorem dX6_canGo_28 : decode cX6_canGo 28 = .ok (.isub, 1) := dk_100 (dk_at dksX6_canGo_1 4 rfl rfl)
theorem dX6_canGo_29 : decode cX6_canGo 29 = .ok (.iastore, 1) := dk_79 (dk_at dksX6_canGo_1 5 rfl rfl)
theorem dX6_canGo_30 : decode cX6_canGo 30 = .ok (.aload_n 0, 1) := dk_42 (dk_at dksX6_canGo_1 6 rfl rfl)
theorem dX6_canGo_31 : decode cX6_canGo 31 = .ok (.iload_n 2, 1) := dk_28 (dk_at dksX6_canGo_1 7 rfl rfl)
theorem dX6_canGo_32 : decode cX6_canGo 32 = .ok (.invokevirtual 391, 3) := dk_182 1 135 (dk_at dksX6_canGo_1 8 rfl rfl)
theorem dX6_canGo_35 : decode cX6_canGo 35 = .ok (.istore_n 3, 1) := dk_62 (dk_at dksX6_canGo_1 11 rfl rfl)
theorem dX6_canGo_36 : decode cX6_canGo 36 = .ok (.aload_n 0, 1) := dk_42 (dk_at dksX6_canGo_1 12 rfl rfl)
theorem dX6_canGo_37 : decode cX6_canGo 37 = .ok (.getfield 83, 3) := dk_180 0 83 (dk_at dksX6_canGo_1 13 rfl rfl)
theorem dX6_canGo_40 : decode cX6_canGo 40 = .ok (.bipush 10, 2) := dk_16 10 (dk_at dksX6_canGo_1 16 rfl rfl)
theorem dX6_canGo_42 : decode cX6_canGo 42 = .ok (.iload_n 1, 1) := dk_27 (dk_at dksX6_canGo_1 18 rfl rfl)
theorem dX6_canGo_43 : decode cX6_canGo 43 = .ok (.imul, 1) := dk_104 (dk_at dksX6_canGo_1 19 rfl rfl)
theorem dX6_canGo_44 : decode cX6_canGo 44 = .ok (.iload_n 2, 1) := dk_28 (dk_at dksX6_canGo_1 20 rfl rfl)
theorem dX6_canGo_45 : decode cX6_canGo 45 = .ok (.iadd, 1) := dk_96 (dk_at dksX6_canGo_1 21 rfl rfl)
theorem dX6_canGo_46 : decode cX6_canGo 46 = .ok (.aload_n 0, 1) := dk_42 (dk_at dksX6_canGo_1 22 rfl rfl)
theorem dX6_canGo_47 : decode cX6_canGo 47 = .ok (.iload_n 1, 1) := dk_27 (dk_at dksX6_canGo_1 23 rfl rfl)
theorem dX6_canGo_48 : decode cX6_canGo 48 = .ok (.iload_n 2, 1) := dk_28 (dk_at dksX6_canGo_2 0 rfl rfl)
theorem dX6_canGo_49 : decode cX6_canGo 49 = .ok (.invokevirtual 385, 3) := dk_182 1 129 (dk_at dksX6_canGo_2 1 rfl rfl)
theorem dX6_canGo_52 : decode cX6_canGo 52 = .ok (.iconst 1, 1) := dk_4 (dk_at dksX6_canGo_2 4 rfl rfl)
theorem dX6_canGo_53 : decode cX6_canGo 53 = .ok (.iadd, 1) := dk_96 (dk_at dksX6_canGo_2 5 rfl rfl)
theorem dX6_canGo_54 : decode cX6_canGo 54 = .ok (.iastore, 1) := dk_79 (dk_at dksX6_canGo_2 6 rfl rfl)
theorem dX6_canGo_55 : decode cX6_canGo 55 = .ok (.iload_n 3, 1) := dk_29 (dk_at dksX6_canGo_2 7 rfl rfl)
theorem dX6_canGo_56 : decode cX6_canGo 56 = .ok (.ireturn, 1) := dk_172 (dk_at dksX6_canGo_2 8 rfl rfl)
abbrev cX6_most : ByteArray := prog_20_method_85_code
def yX6_most : MethodName := ⟨RX6, "most", "(I)I"⟩
def dkwX6_most_6 : List UInt8 := [172]
abbrev dktX6_most_6 : List UInt8 := dkwX6_most_6 ++ []
def dkwX6_most_5 : List UInt8 := [54, 5, 28, 4, 21, 5, 120, 128, 61, 42, 180, 0, 92, 21, 5, 46, 62, 132, 4, 1, 167, 255, 224, 29]
abbrev dktX6_most_5 : List UInt8 := dkwX6_most_5 ++ dktX6_most_6
def dkwX6_most_4 : List UInt8 := [180, 0, 7, 17, 0, 151, 46, 62, 3, 54, 4, 21, 4, 27, 163, 0, 32, 42, 28, 29, 182, 1, 153]
abbrev dktX6_most_4 : List UInt8 := dkwX6_most_4 ++ dktX6_most_5
def dkwX6_most_3 : List UInt8 := [42, 180, 0, 96, 42, 180, 0, 7, 17, 0, 151, 46, 51, 161, 0, 6, 16, 252, 172, 3, 61, 42]
abbrev dktX6_most_3 : List UInt8 := dkwX6_most_3 ++ dktX6_most_4
def dkwX6_most_2 : List UInt8 := [182, 1, 150, 27, 16, 100, 160, 0, 17, 42, 180, 0, 96, 42, 180, 0, 7, 17, 0, 151, 46, 51, 172, 27]
abbrev dktX6_most_2 : List UInt8 := dkwX6_most_2 ++ dktX6_most_3
def dkwX6_most_1 : List UInt8 := [17, 0, 151, 46, 156, 0, 6, 16, 254, 172, 42, 16, 12, 182, 1, 147, 154, 0, 6, 16, 253, 172, 42]
abbrev dktX6_most_1 : List UInt8 := dkwX6_most_1 ++ dktX6_most_2
def dkwX6_most_0 : List UInt8 := [27, 3, 16, 11, 184, 0, 123, 154, 0, 11, 27, 16, 100, 159, 0, 5, 2, 172, 42, 180, 0, 7]
abbrev dktX6_most_0 : List UInt8 := dkwX6_most_0 ++ dktX6_most_1
theorem dksX6_most_0 : cX6_most.data.toList.drop 0 = dktX6_most_0 := by decide +kernel
theorem dksX6_most_1 : cX6_most.data.toList.drop 22 = dktX6_most_1 := dk_seg dksX6_most_0 22 rfl rfl
theorem dksX6_most_2 : cX6_most.data.toList.drop 45 = dktX6_most_2 := dk_seg dksX6_most_1 23 rfl rfl
theorem dksX6_most_3 : cX6_most.data.toList.drop 69 = dktX6_most_3 := dk_seg dksX6_most_2 24 rfl rfl
theorem dksX6_most_4 : cX6_most.data.toList.drop 91 = dktX6_most_4 := dk_seg dksX6_most_3 22 rfl rfl
theorem dksX6_most_5 : cX6_most.data.toList.drop 114 = dktX6_most_5 := dk_seg dksX6_most_4 23 rfl rfl
theorem dksX6_most_6 : cX6_most.data.toList.drop 138 = dktX6_most_6 := dk_seg dksX6_most_5 24 rfl rfl
theorem dX6_most_0 : decode cX6_most 0 = .ok (.iload_n 1, 1) := dk_27 (dk_at dksX6_most_0 0 rfl rfl)
theorem dX6_most_1 : decode cX6_most 1 = .ok (.iconst 0, 1) := dk_3 (dk_at dksX6_most_0 1 rfl rfl)
theorem dX6_most_2 : decode cX6_most 2 = .ok (.bipush 11, 2) := dk_16 11 (dk_at dksX6_most_0 2 rfl rfl)
theorem dX6_most_4 : decode cX6_most 4 = .ok (.invokestatic 123, 3) := dk_184 0 123 (dk_at dksX6_most_0 4 rfl rfl)
theorem dX6_most_7 : decode cX6_most 7 = .ok (.ifCond .ne 11, 3) := dk_154 0 11 (dk_at dksX6_most_0 7 rfl rfl)
theorem dX6_most_10 : decode cX6_most 10 = .ok (.iload_n 1, 1) := dk_27 (dk_at dksX6_most_0 10 rfl rfl)
theorem dX6_most_11 : decode cX6_most 11 = .ok (.bipush 100, 2) := dk_16 100 (dk_at dksX6_most_0 11 rfl rfl)
theorem dX6_most_13 : decode cX6_most 13 = .ok (.if_icmp .eq 5, 3) := dk_159 0 5 (dk_at dksX6_most_0 13 rfl rfl)
theorem dX6_most_16 : decode cX6_most 16 = .ok (.iconst (-1), 1) := dk_2 (dk_at dksX6_most_0 16 rfl rfl)
theorem dX6_most_17 : decode cX6_most 17 = .ok (.ireturn, 1) := dk_172 (dk_at dksX6_most_0 17 rfl rfl)
theorem dX6_most_18 : decode cX6_most 18 = .ok (.aload_n 0, 1) := dk_42 (dk_at dksX6_most_0 18 rfl rfl)
theorem dX6_most_19 : decode cX6_most 19 = .ok (.getfield 7, 3) := dk_180 0 7 (dk_at dksX6_most_0 19 rfl rfl)
theorem dX6_most_22 : decode cX6_most 22 = .ok (.sipush 151, 3) := dk_17 0 151 (dk_at dksX6_most_1 0 rfl rfl)
theorem dX6_most_25 : decode cX6_most 25 = .ok (.iaload, 1) := dk_46 (dk_at dksX6_most_1 3 rfl rfl)
theorem dX6_most_26 : decode cX6_most 26 = .ok (.ifCond .ge 6, 3) := dk_156 0 6 (dk_at dksX6_most_1 4 rfl rfl)
theorem dX6_most_29 : decode cX6_most 29 = .ok (.bipush (-2), 2) := dk_16 254 (dk_at dksX6_most_1 7 rfl rfl)
theorem dX6_most_31 : decode cX6_most 31 = .ok (.ireturn, 1) := dk_172 (dk_at dksX6_most_1 9 rfl rfl)
theorem dX6_most_32 : decode cX6_most 32 = .ok (.aload_n 0, 1) := dk_42 (dk_at dksX6_most_1 10 rfl rfl)
theorem dX6_most_33 : decode cX6_most 33 = .ok (.bipush 12, 2) := dk_16 12 (dk_at dksX6_most_1 11 rfl rfl)
theorem dX6_most_35 : decode cX6_most 35 = .ok (.invokevirtual 403, 3) := dk_182 1 147 (dk_at dksX6_most_1 13 rfl rfl)
theorem dX6_most_38 : decode cX6_most 38 = .ok (.ifCond .ne 6, 3) := dk_154 0 6 (dk_at dksX6_most_1 16 rfl rfl)
theorem dX6_most_41 : decode cX6_most 41 = .ok (.bipush (-3), 2) := dk_16 253 (dk_at dksX6_most_1 19 rfl rfl)
theorem dX6_most_43 : decode cX6_most 43 = .ok (.ireturn, 1) := dk_172 (dk_at dksX6_most_1 21 rfl rfl)
theorem dX6_most_44 : decode cX6_most 44 = .ok (.aload_n 0, 1) := dk_42 (dk_at dksX6_most_1 22 rfl rfl)
theorem dX6_most_45 : decode cX6_most 45 = .ok (.invokevirtual 406, 3) := dk_182 1 150 (dk_at dksX6_most_2 0 rfl rfl)
theorem dX6_most_48 : decode cX6_most 48 = .ok (.iload_n 1, 1) := dk_27 (dk_at dksX6_most_2 3 rfl rfl)
theorem dX6_most_49 : decode cX6_most 49 = .ok (.bipush 100, 2) := dk_16 100 (dk_at dksX6_most_2 4 rfl rfl)
theorem dX6_most_51 : decode cX6_most 51 = .ok (.if_icmp .ne 17, 3) := dk_160 0 17 (dk_at dksX6_most_2 6 rfl rfl)
theorem dX6_most_54 : decode cX6_most 54 = .ok (.aload_n 0, 1) := dk_42 (dk_at dksX6_most_2 9 rfl rfl)
theorem dX6_most_55 : decode cX6_most 55 = .ok (.getfield 96, 3) := dk_180 0 96 (dk_at dksX6_most_2 10 rfl rfl)
theorem dX6_most_58 : decode cX6_most 58 = .ok (.aload_n 0, 1) := dk_42 (dk_at dksX6_most_2 13 rfl rfl)
theorem dX6_most_59 : decode cX6_most 59 = .ok (.getfield 7, 3) := dk_180 0 7 (dk_at dksX6_most_2 14 rfl rfl)
theorem dX6_most_62 : decode cX6_most 62 = .ok (.sipush 151, 3) := dk_17 0 151 (dk_at dksX6_most_2 17 rfl rfl)
theorem dX6_most_65 : decode cX6_most 65 = .ok (.iaload, 1) := dk_46 (dk_at dksX6_most_2 20 rfl rfl)
theorem dX6_most_66 : decode cX6_most 66 = .ok (.baload, 1) := dk_51 (dk_at dksX6_most_2 21 rfl rfl)
theorem dX6_most_67 : decode cX6_most 67 = .ok (.ireturn, 1) := dk_172 (dk_at dksX6_most_2 22 rfl rfl)
theorem dX6_most_68 : decode cX6_most 68 = .ok (.iload_n 1, 1) := dk_27 (dk_at dksX6_most_2 23 rfl rfl)
theorem dX6_most_69 : decode cX6_most 69 = .ok (.aload_n 0, 1) := dk_42 (dk_at dksX6_most_3 0 rfl rfl)
theorem dX6_most_70 : decode cX6_most 70 = .ok (.getfield 96, 3) := dk_180 0 96 (dk_at dksX6_most_3 1 rfl rfl)
theorem dX6_most_73 : decode cX6_most 73 = .ok (.aload_n 0, 1) := dk_42 (dk_at dksX6_most_3 4 rfl rfl)
theorem dX6_most_74 : decode cX6_most 74 = .ok (.getfield 7, 3) := dk_180 0 7 (dk_at dksX6_most_3 5 rfl rfl)
theorem dX6_most_77 : decode cX6_most 77 = .ok (.sipush 151, 3) := dk_17 0 151 (dk_at dksX6_most_3 8 rfl rfl)
theorem dX6_most_80 : decode cX6_most 80 = .ok (.iaload, 1) := dk_46 (dk_at dksX6_most_3 11 rfl rfl)
theorem dX6_most_81 : decode cX6_most 81 = .ok (.baload, 1) := dk_51 (dk_at dksX6_most_3 12 rfl rfl)
theorem dX6_most_82 : decode cX6_most 82 = .ok (.if_icmp .lt 6, 3) := dk_161 0 6 (dk_at dksX6_most_3 13 rfl rfl)
theorem dX6_most_85 : decode cX6_most 85 = .ok (.bipush (-4), 2) := dk_16 252 (dk_at dksX6_most_3 16 rfl rfl)
theorem dX6_most_87 : decode cX6_most 87 = .ok (.ireturn, 1) := dk_172 (dk_at dksX6_most_3 18 rfl rfl)
theorem dX6_most_88 : decode cX6_most 88 = .ok (.iconst 0, 1) := dk_3 (dk_at dksX6_most_3 19 rfl rfl)
theorem dX6_most_89 : decode cX6_most 89 = .ok (.istore_n 2, 1) := dk_61 (dk_at dksX6_most_3 20 rfl rfl)
theorem dX6_most_90 : decode cX6_most 90 = .ok (.aload_n 0, 1) := dk_42 (dk_at dksX6_most_3 21 rfl rfl)
theorem dX6_most_91 : decode cX6_most 91 = .ok (.getfield 7, 3) := dk_180 0 7 (dk_at dksX6_most_4 0 rfl rfl)
theorem dX6_most_94 : decode cX6_most 94 = .ok (.sipush 151, 3) := dk_17 0 151 (dk_at dksX6_most_4 3 rfl rfl)
theorem dX6_most_97 : decode cX6_most 97 = .ok (.iaload, 1) := dk_46 (dk_at dksX6_most_4 6 rfl rfl)
theorem dX6_most_98 : decode cX6_most 98 = .ok (.istore_n 3, 1) := dk_62 (dk_at dksX6_most_4 7 rfl rfl)
theorem dX6_most_99 : decode cX6_most 99 = .ok (.iconst 0, 1) := dk_3 (dk_at dksX6_most_4 8 rfl rfl)
theorem dX6_most_100 : decode cX6_most 100 = .ok (.istore 4, 2) := dk_54 4 (dk_at dksX6_most_4 9 rfl rfl)
theorem dX6_most_102 : decode cX6_most 102 = .ok (.iload 4, 2) := dk_21 4 (dk_at dksX6_most_4 11 rfl rfl)
theorem dX6_most_104 : decode cX6_most 104 = .ok (.iload_n 1, 1) := dk_27 (dk_at dksX6_most_4 13 rfl rfl)
theorem dX6_most_105 : decode cX6_most 105 = .ok (.if_icmp .gt 32, 3) := dk_163 0 32 (dk_at dksX6_most_4 14 rfl rfl)
theorem dX6_most_108 : decode cX6_most 108 = .ok (.aload_n 0, 1) := dk_42 (dk_at dksX6_most_4 17 rfl rfl)
theorem dX6_most_109 : decode cX6_most 109 = .ok (.iload_n 2, 1) := dk_28 (dk_at dksX6_most_4 18 rfl rfl)
theorem dX6_most_110 : decode cX6_most 110 = .ok (.iload_n 3, 1) := dk_29 (dk_at dksX6_most_4 19 rfl rfl)
theorem dX6_most_111 : decode cX6_most 111 = .ok (.invokevirtual 409, 3) := dk_182 1 153 (dk_at dksX6_most_4 20 rfl rfl)
theorem dX6_most_114 : decode cX6_most 114 = .ok (.istore 5, 2) := dk_54 5 (dk_at dksX6_most_5 0 rfl rfl)
theorem dX6_most_116 : decode cX6_most 116 = .ok (.iload_n 2, 1) := dk_28 (dk_at dksX6_most_5 2 rfl rfl)
theorem dX6_most_117 : decode cX6_most 117 = .ok (.iconst 1, 1) := dk_4 (dk_at dksX6_most_5 3 rfl rfl)
theorem dX6_most_118 : decode cX6_most 118 = .ok (.iload 5, 2) := dk_21 5 (dk_at dksX6_most_5 4 rfl rfl)
theorem dX6_most_120 : decode cX6_most 120 = .ok (.ishl, 1) := dk_120 (dk_at dksX6_most_5 6 rfl rfl)
theorem dX6_most_121 : decode cX6_most 121 = .ok (.ior, 1) := dk_128 (dk_at dksX6_most_5 7 rfl rfl)
theorem dX6_most_122 : decode cX6_most 122 = .ok (.istore_n 2, 1) := dk_61 (dk_at dksX6_most_5 8 rfl rfl)
theorem dX6_most_123 : decode cX6_most 123 = .ok (.aload_n 0, 1) := dk_42 (dk_at dksX6_most_5 9 rfl rfl)
theorem dX6_most_124 : decode cX6_most 124 = .ok (.getfield 92, 3) := dk_180 0 92 (dk_at dksX6_most_5 10 rfl rfl)
theorem dX6_most_127 : decode cX6_most 127 = .ok (.iload 5, 2) := dk_21 5 (dk_at dksX6_most_5 13 rfl rfl)
theorem dX6_most_129 : decode cX6_most 129 = .ok (.iaload, 1) := dk_46 (dk_at dksX6_most_5 15 rfl rfl)
theorem dX6_most_130 : decode cX6_most 130 = .ok (.istore_n 3, 1) := dk_62 (dk_at dksX6_most_5 16 rfl rfl)
theorem dX6_most_131 : decode cX6_most 131 = .ok (.iinc 4 1, 3) := dk_132 4 1 (dk_at dksX6_most_5 17 rfl rfl)
theorem dX6_most_134 : decode cX6_most 134 = .ok (.goto (-32), 3) := dk_167 255 224 (dk_at dksX6_most_5 20 rfl rfl)
theorem dX6_most_137 : decode cX6_most 137 = .ok (.iload_n 3, 1) := dk_29 (dk_at dksX6_most_5 23 rfl rfl)
theorem dX6_most_138 : decode cX6_most 138 = .ok (.ireturn, 1) := dk_172 (dk_at dksX6_most_6 0 rfl rfl)
abbrev cX6_laysCoins : ByteArray := prog_20_method_82_code
def yX6_laysCoins : MethodName := ⟨RX6, "laysCoins", "(I)Z"⟩
def dkwX6_laysCoins_4 : List UInt8 := [172]
abbrev dktX6_laysCoins_4 : List UInt8 := dkwX6_laysCoins_4 ++ []
def dkwX6_laysCoins_3 : List UInt8 := [4, 96, 181, 1, 144, 132, 4, 1, 167, 255, 212, 132, 3, 1, 167, 255, 197, 132, 2, 1, 167, 255, 183, 4]
abbrev dktX6_laysCoins_3 : List UInt8 := dkwX6_laysCoins_3 ++ dktX6_laysCoins_4
def dkwX6_laysCoins_2 : List UInt8 := [180, 0, 89, 42, 180, 1, 144, 28, 79, 42, 180, 0, 92, 42, 180, 1, 144, 29, 79, 42, 42, 180, 1, 144]
abbrev dktX6_laysCoins_2 : List UInt8 := dkwX6_laysCoins_2 ++ dktX6_laysCoins_3
def dkwX6_laysCoins_1 : List UInt8 := [62, 29, 16, 10, 162, 0, 59, 3, 54, 4, 21, 4, 42, 28, 29, 182, 0, 147, 162, 0, 39, 42]
abbrev dktX6_laysCoins_1 : List UInt8 := dkwX6_laysCoins_1 ++ dktX6_laysCoins_2
def dkwX6_laysCoins_0 : List UInt8 := [42, 3, 181, 1, 144, 42, 182, 1, 40, 27, 164, 0, 5, 3, 172, 3, 61, 28, 16, 10, 162, 0, 73, 3]
abbrev dktX6_laysCoins_0 : List UInt8 := dkwX6_laysCoins_0 ++ dktX6_laysCoins_1
theorem dksX6_laysCoins_0 : cX6_laysCoins.data.toList.drop 0 = dktX6_laysCoins_0 := by decide +kernel
theorem dksX6_laysCoins_1 : cX6_laysCoins.data.toList.drop 24 = dktX6_laysCoins_1 := dk_seg dksX6_laysCoins_0 24 rfl rfl
theorem dksX6_laysCoins_2 : cX6_laysCoins.data.toList.drop 46 = dktX6_laysCoins_2 := dk_seg dksX6_laysCoins_1 22 rfl rfl
theorem dksX6_laysCoins_3 : cX6_laysCoins.data.toList.drop 70 = dktX6_laysCoins_3 := dk_seg dksX6_laysCoins_2 24 rfl rfl
theorem dksX6_laysCoins_4 : cX6_laysCoins.data.toList.drop 94 = dktX6_laysCoins_4 := dk_seg dksX6_laysCoins_3 24 rfl rfl
theorem dX6_laysCoins_0 : decode cX6_laysCoins 0 = .ok (.aload_n 0, 1) := dk_42 (dk_at dksX6_laysCoins_0 0 rfl rfl)
theorem dX6_laysCoins_1 : decode cX6_laysCoins 1 = .ok (.iconst 0, 1) := dk_3 (dk_at dksX6_laysCoins_0 1 rfl rfl)
theorem dX6_laysCoins_2 : decode cX6_laysCoins 2 = .ok (.putfield 400, 3) := dk_181 1 144 (dk_at dksX6_laysCoins_0 2 rfl rfl)
theorem dX6_laysCoins_5 : decode cX6_laysCoins 5 = .ok (.aload_n 0, 1) := dk_42 (dk_at dksX6_laysCoins_0 5 rfl rfl)
theorem dX6_laysCoins_6 : decode cX6_laysCoins 6 = .ok (.invokevirtual 296, 3) := dk_182 1 40 (dk_at dksX6_laysCoins_0 6 rfl rfl)
theorem dX6_laysCoins_9 : decode cX6_laysCoins 9 = .ok (.iload_n 1, 1) := dk_27 (dk_at dksX6_laysCoins_0 9 rfl rfl)
theorem dX6_laysCoins_10 : decode cX6_laysCoins 10 = .ok (.if_icmp .le 5, 3) := dk_164 0 5 (dk_at dksX6_laysCoins_0 10 rfl rfl)
theorem dX6_laysCoins_13 : decode cX6_laysCoins 13 = .ok (.iconst 0, 1) := dk_3 (dk_at dksX6_laysCoins_0 13 rfl rfl)
theorem dX6_laysCoins_14 : decode cX6_laysCoins 14 = .ok (.ireturn, 1) := dk_172 (dk_at dksX6_laysCoins_0 14 rfl rfl)
theorem dX6_laysCoins_15 : decode cX6_laysCoins 15 = .ok (.iconst 0, 1) := dk_3 (dk_at dksX6_laysCoins_0 15 rfl rfl)
theorem dX6_laysCoins_16 : decode cX6_laysCoins 16 = .ok (.istore_n 2, 1) := dk_61 (dk_at dksX6_laysCoins_0 16 rfl rfl)
theorem dX6_laysCoins_17 : decode cX6_laysCoins 17 = .ok (.iload_n 2, 1) := dk_28 (dk_at dksX6_laysCoins_0 17 rfl rfl)
theorem dX6_laysCoins_18 : decode cX6_laysCoins 18 = .ok (.bipush 10, 2) := dk_16 10 (dk_at dksX6_laysCoins_0 18 rfl rfl)
theorem dX6_laysCoins_20 : decode cX6_laysCoins 20 = .ok (.if_icmp .ge 73, 3) := dk_162 0 73 (dk_at dksX6_laysCoins_0 20 rfl rfl)
theorem dX6_laysCoins_23 : decode cX6_laysCoins 23 = .ok (.iconst 0, 1) := dk_3 (dk_at dksX6_laysCoins_0 23 rfl rfl)
theorem dX6_laysCoins_24 : decode cX6_laysCoins 24 = .ok (.istore_n 3, 1) := dk_62 (dk_at dksX6_laysCoins_1 0 rfl rfl)
theorem dX6_laysCoins_25 : decode cX6_laysCoins 25 = .ok (.iload_n 3, 1) := dk_29 (dk_at dksX6_laysCoins_1 1 rfl rfl)
theorem dX6_laysCoins_26 : decode cX6_laysCoins 26 = .ok (.bipush 10, 2) := dk_16 10 (dk_at dksX6_laysCoins_1 2 rfl rfl)
theorem dX6_laysCoins_28 : decode cX6_laysCoins 28 = .ok (.if_icmp .ge 59, 3) := dk_162 0 59 (dk_at dksX6_laysCoins_1 4 rfl rfl)
theorem dX6_laysCoins_31 : decode cX6_laysCoins 31 = .ok (.iconst 0, 1) := dk_3 (dk_at dksX6_laysCoins_1 7 rfl rfl)
theorem dX6_laysCoins_32 : decode cX6_laysCoins 32 = .ok (.istore 4, 2) := dk_54 4 (dk_at dksX6_laysCoins_1 8 rfl rfl)
theorem dX6_laysCoins_34 : decode cX6_laysCoins 34 = .ok (.iload 4, 2) := dk_21 4 (dk_at dksX6_laysCoins_1 10 rfl rfl)
theorem dX6_laysCoins_36 : decode cX6_laysCoins 36 = .ok (.aload_n 0, 1) := dk_42 (dk_at dksX6_laysCoins_1 12 rfl rfl)
theorem dX6_laysCoins_37 : decode cX6_laysCoins 37 = .ok (.iload_n 2, 1) := dk_28 (dk_at dksX6_laysCoins_1 13 rfl rfl)
theorem dX6_laysCoins_38 : decode cX6_laysCoins 38 = .ok (.iload_n 3, 1) := dk_29 (dk_at dksX6_laysCoins_1 14 rfl rfl)
theorem dX6_laysCoins_39 : decode cX6_laysCoins 39 = .ok (.invokevirtual 147, 3) := dk_182 0 147 (dk_at dksX6_laysCoins_1 15 rfl rfl)
theorem dX6_laysCoins_42 : decode cX6_laysCoins 42 = .ok (.if_icmp .ge 39, 3) := dk_162 0 39 (dk_at dksX6_laysCoins_1 18 rfl rfl)
theorem dX6_laysCoins_45 : decode cX6_laysCoins 45 = .ok (.aload_n 0, 1) := dk_42 (dk_at dksX6_laysCoins_1 21 rfl rfl)
theorem dX6_laysCoins_46 : decode cX6_laysCoins 46 = .ok (.getfield 89, 3) := dk_180 0 89 (dk_at dksX6_laysCoins_2 0 rfl rfl)
theorem dX6_laysCoins_49 : decode cX6_laysCoins 49 = .ok (.aload_n 0, 1) := dk_42 (dk_at dksX6_laysCoins_2 3 rfl rfl)
theorem dX6_laysCoins_50 : decode cX6_laysCoins 50 = .ok (.getfield 400, 3) := dk_180 1 144 (dk_at dksX6_laysCoins_2 4 rfl rfl)
theorem dX6_laysCoins_53 : decode cX6_laysCoins 53 = .ok (.iload_n 2, 1) := dk_28 (dk_at dksX6_laysCoins_2 7 rfl rfl)
theorem dX6_laysCoins_54 : decode cX6_laysCoins 54 = .ok (.iastore, 1) := dk_79 (dk_at dksX6_laysCoins_2 8 rfl rfl)
theorem dX6_laysCoins_55 : decode cX6_laysCoins 55 = .ok (.aload_n 0, 1) := dk_42 (dk_at dksX6_laysCoins_2 9 rfl rfl)
theorem dX6_laysCoins_56 : decode cX6_laysCoins 56 = .ok (.getfield 92, 3) := dk_180 0 92 (dk_at dksX6_laysCoins_2 10 rfl rfl)
theorem dX6_laysCoins_59 : decode cX6_laysCoins 59 = .ok (.aload_n 0, 1) := dk_42 (dk_at dksX6_laysCoins_2 13 rfl rfl)
theorem dX6_laysCoins_60 : decode cX6_laysCoins 60 = .ok (.getfield 400, 3) := dk_180 1 144 (dk_at dksX6_laysCoins_2 14 rfl rfl)
theorem dX6_laysCoins_63 : decode cX6_laysCoins 63 = .ok (.iload_n 3, 1) := dk_29 (dk_at dksX6_laysCoins_2 17 rfl rfl)
theorem dX6_laysCoins_64 : decode cX6_laysCoins 64 = .ok (.iastore, 1) := dk_79 (dk_at dksX6_laysCoins_2 18 rfl rfl)
theorem dX6_laysCoins_65 : decode cX6_laysCoins 65 = .ok (.aload_n 0, 1) := dk_42 (dk_at dksX6_laysCoins_2 19 rfl rfl)
theorem dX6_laysCoins_66 : decode cX6_laysCoins 66 = .ok (.aload_n 0, 1) := dk_42 (dk_at dksX6_laysCoins_2 20 rfl rfl)
theorem dX6_laysCoins_67 : decode cX6_laysCoins 67 = .ok (.getfield 400, 3) := dk_180 1 144 (dk_at dksX6_laysCoins_2 21 rfl rfl)
theorem dX6_laysCoins_70 : decode cX6_laysCoins 70 = .ok (.iconst 1, 1) := dk_4 (dk_at dksX6_laysCoins_3 0 rfl rfl)
theorem dX6_laysCoins_71 : decode cX6_laysCoins 71 = .ok (.iadd, 1) := dk_96 (dk_at dksX6_laysCoins_3 1 rfl rfl)
theorem dX6_laysCoins_72 : decode cX6_laysCoins 72 = .ok (.putfield 400, 3) := dk_181 1 144 (dk_at dksX6_laysCoins_3 2 rfl rfl)
theorem dX6_laysCoins_75 : decode cX6_laysCoins 75 = .ok (.iinc 4 1, 3) := dk_132 4 1 (dk_at dksX6_laysCoins_3 5 rfl rfl)
theorem dX6_laysCoins_78 : decode cX6_laysCoins 78 = .ok (.goto (-44), 3) := dk_167 255 212 (dk_at dksX6_laysCoins_3 8 rfl rfl)
theorem dX6_laysCoins_81 : decode cX6_laysCoins 81 = .ok (.iinc 3 1, 3) := dk_132 3 1 (dk_at dksX6_laysCoins_3 11 rfl rfl)
theorem dX6_laysCoins_84 : decode cX6_laysCoins 84 = .ok (.goto (-59), 3) := dk_167 255 197 (dk_at dksX6_laysCoins_3 14 rfl rfl)
theorem dX6_laysCoins_87 : decode cX6_laysCoins 87 = .ok (.iinc 2 1, 3) := dk_132 2 1 (dk_at dksX6_laysCoins_3 17 rfl rfl)
theorem dX6_laysCoins_90 : decode cX6_laysCoins 90 = .ok (.goto (-73), 3) := dk_167 255 183 (dk_at dksX6_laysCoins_3 20 rfl rfl)
theorem dX6_laysCoins_93 : decode cX6_laysCoins 93 = .ok (.iconst 1, 1) := dk_4 (dk_at dksX6_laysCoins_3 23 rfl rfl)
theorem dX6_laysCoins_94 : decode cX6_laysCoins 94 = .ok (.ireturn, 1) := dk_172 (dk_at dksX6_laysCoins_4 0 rfl rfl)
abbrev cX6_laysMore : ByteArray := prog_20_method_83_code
def yX6_laysMore : MethodName := ⟨RX6, "laysMore", "()V"⟩
def dkwX6_laysMore_5 : List UInt8 := [132, 2, 255, 167, 255, 149, 177]
abbrev dktX6_laysMore_5 : List UInt8 := dkwX6_laysMore_5 ++ []
def dkwX6_laysMore_4 : List UInt8 := [167, 255, 193, 42, 180, 0, 96, 16, 10, 28, 104, 29, 96, 21, 4, 145, 84, 132, 3, 1, 167, 255, 161]
abbrev dktX6_laysMore_4 : List UInt8 := dkwX6_laysMore_4 ++ dktX6_laysMore_5
def dkwX6_laysMore_3 : List UInt8 := [21, 5, 120, 128, 104, 42, 180, 0, 92, 21, 5, 46, 96, 51, 96, 184, 0, 143, 54, 4, 132, 5, 1]
abbrev dktX6_laysMore_3 : List UInt8 := dkwX6_laysMore_3 ++ dktX6_laysMore_4
def dkwX6_laysMore_2 : List UInt8 := [160, 0, 43, 28, 21, 5, 184, 0, 131, 154, 0, 34, 21, 4, 4, 42, 180, 0, 96, 16, 10, 28, 4]
abbrev dktX6_laysMore_2 : List UInt8 := dkwX6_laysMore_2 ++ dktX6_laysMore_3
def dkwX6_laysMore_1 : List UInt8 := [54, 4, 3, 54, 5, 21, 5, 42, 180, 1, 144, 162, 0, 60, 42, 180, 0, 89, 21, 5, 46, 29]
abbrev dktX6_laysMore_1 : List UInt8 := dkwX6_laysMore_1 ++ dktX6_laysMore_2
def dkwX6_laysMore_0 : List UInt8 := [4, 42, 180, 1, 144, 120, 4, 100, 60, 27, 61, 28, 155, 0, 109, 3, 62, 29, 16, 10, 162, 0, 95, 3]
abbrev dktX6_laysMore_0 : List UInt8 := dkwX6_laysMore_0 ++ dktX6_laysMore_1
theorem dksX6_laysMore_0 : cX6_laysMore.data.toList.drop 0 = dktX6_laysMore_0 := by decide +kernel
theorem dksX6_laysMore_1 : cX6_laysMore.data.toList.drop 24 = dktX6_laysMore_1 := dk_seg dksX6_laysMore_0 24 rfl rfl
theorem dksX6_laysMore_2 : cX6_laysMore.data.toList.drop 46 = dktX6_laysMore_2 := dk_seg dksX6_laysMore_1 22 rfl rfl
theorem dksX6_laysMore_3 : cX6_laysMore.data.toList.drop 69 = dktX6_laysMore_3 := dk_seg dksX6_laysMore_2 23 rfl rfl
theorem dksX6_laysMore_4 : cX6_laysMore.data.toList.drop 92 = dktX6_laysMore_4 := dk_seg dksX6_laysMore_3 23 rfl rfl
theorem dksX6_laysMore_5 : cX6_laysMore.data.toList.drop 115 = dktX6_laysMore_5 := dk_seg dksX6_laysMore_4 23 rfl rfl
theorem dX6_laysMore_0 : decode cX6_laysMore 0 = .ok (.iconst 1, 1) := dk_4 (dk_at dksX6_laysMore_0 0 rfl rfl)
theorem dX6_laysMore_1 : decode cX6_laysMore 1 = .ok (.aload_n 0, 1) := dk_42 (dk_at dksX6_laysMore_0 1 rfl rfl)
theorem dX6_laysMore_2 : decode cX6_laysMore 2 = .ok (.getfield 400, 3) := dk_180 1 144 (dk_at dksX6_laysMore_0 2 rfl rfl)
theorem dX6_laysMore_5 : decode cX6_laysMore 5 = .ok (.ishl, 1) := dk_120 (dk_at dksX6_laysMore_0 5 rfl rfl)
theorem dX6_laysMore_6 : decode cX6_laysMore 6 = .ok (.iconst 1, 1) := dk_4 (dk_at dksX6_laysMore_0 6 rfl rfl)
theorem dX6_laysMore_7 : decode cX6_laysMore 7 = .ok (.isub, 1) := dk_100 (dk_at dksX6_laysMore_0 7 rfl rfl)
theorem dX6_laysMore_8 : decode cX6_laysMore 8 = .ok (.istore_n 1, 1) := dk_60 (dk_at dksX6_laysMore_0 8 rfl rfl)
theorem dX6_laysMore_9 : decode cX6_laysMore 9 = .ok (.iload_n 1, 1) := dk_27 (dk_at dksX6_laysMore_0 9 rfl rfl)
theorem dX6_laysMore_10 : decode cX6_laysMore 10 = .ok (.istore_n 2, 1) := dk_61 (dk_at dksX6_laysMore_0 10 rfl rfl)
theorem dX6_laysMore_11 : decode cX6_laysMore 11 = .ok (.iload_n 2, 1) := dk_28 (dk_at dksX6_laysMore_0 11 rfl rfl)
theorem dX6_laysMore_12 : decode cX6_laysMore 12 = .ok (.ifCond .lt 109, 3) := dk_155 0 109 (dk_at dksX6_laysMore_0 12 rfl rfl)
theorem dX6_laysMore_15 : decode cX6_laysMore 15 = .ok (.iconst 0, 1) := dk_3 (dk_at dksX6_laysMore_0 15 rfl rfl)
theorem dX6_laysMore_16 : decode cX6_laysMore 16 = .ok (.istore_n 3, 1) := dk_62 (dk_at dksX6_laysMore_0 16 rfl rfl)
theorem dX6_laysMore_17 : decode cX6_laysMore 17 = .ok (.iload_n 3, 1) := dk_29 (dk_at dksX6_laysMore_0 17 rfl rfl)
theorem dX6_laysMore_18 : decode cX6_laysMore 18 = .ok (.bipush 10, 2) := dk_16 10 (dk_at dksX6_laysMore_0 18 rfl rfl)
theorem dX6_laysMore_20 : decode cX6_laysMore 20 = .ok (.if_icmp .ge 95, 3) := dk_162 0 95 (dk_at dksX6_laysMore_0 20 rfl rfl)
theorem dX6_laysMore_23 : decode cX6_laysMore 23 = .ok (.iconst 0, 1) := dk_3 (dk_at dksX6_laysMore_0 23 rfl rfl)
theorem dX6_laysMore_24 : decode cX6_laysMore 24 = .ok (.istore 4, 2) := dk_54 4 (dk_at dksX6_laysMore_1 0 rfl rfl)
theorem dX6_laysMore_26 : decode cX6_laysMore 26 = .ok (.iconst 0, 1) := dk_3 (dk_at dksX6_laysMore_1 2 rfl rfl)
theorem dX6_laysMore_27 : decode cX6_laysMore 27 = .ok (.istore 5, 2) := dk_54 5 (dk_at dksX6_laysMore_1 3 rfl rfl)
theorem dX6_laysMore_29 : decode cX6_laysMore 29 = .ok (.iload 5, 2) := dk_21 5 (dk_at dksX6_laysMore_1 5 rfl rfl)
theorem dX6_laysMore_31 : decode cX6_laysMore 31 = .ok (.aload_n 0, 1) := dk_42 (dk_at dksX6_laysMore_1 7 rfl rfl)
theorem dX6_laysMore_32 : decode cX6_laysMore 32 = .ok (.getfield 400, 3) := dk_180 1 144 (dk_at dksX6_laysMore_1 8 rfl rfl)
theorem dX6_laysMore_35 : decode cX6_laysMore 35 = .ok (.if_icmp .ge 60, 3) := dk_162 0 60 (dk_at dksX6_laysMore_1 11 rfl rfl)
theorem dX6_laysMore_38 : decode cX6_laysMore 38 = .ok (.aload_n 0, 1) := dk_42 (dk_at dksX6_laysMore_1 14 rfl rfl)
theorem dX6_laysMore_39 : decode cX6_laysMore 39 = .ok (.getfield 89, 3) := dk_180 0 89 (dk_at dksX6_laysMore_1 15 rfl rfl)
theorem dX6_laysMore_42 : decode cX6_laysMore 42 = .ok (.iload 5, 2) := dk_21 5 (dk_at dksX6_laysMore_1 18 rfl rfl)
theorem dX6_laysMore_44 : decode cX6_laysMore 44 = .ok (.iaload, 1) := dk_46 (dk_at dksX6_laysMore_1 20 rfl rfl)
theorem dX6_laysMore_45 : decode cX6_laysMore 45 = .ok (.iload_n 3, 1) := dk_29 (dk_at dksX6_laysMore_1 21 rfl rfl)
theorem dX6_laysMore_46 : decode cX6_laysMore 46 = .ok (.if_icmp .ne 43, 3) := dk_160 0 43 (dk_at dksX6_laysMore_2 0 rfl rfl)
theorem dX6_laysMore_49 : decode cX6_laysMore 49 = .ok (.iload_n 2, 1) := dk_28 (dk_at dksX6_laysMore_2 3 rfl rfl)
theorem dX6_laysMore_50 : decode cX6_laysMore 50 = .ok (.iload 5, 2) := dk_21 5 (dk_at dksX6_laysMore_2 4 rfl rfl)
theorem dX6_laysMore_52 : decode cX6_laysMore 52 = .ok (.invokestatic 131, 3) := dk_184 0 131 (dk_at dksX6_laysMore_2 6 rfl rfl)
theorem dX6_laysMore_55 : decode cX6_laysMore 55 = .ok (.ifCond .ne 34, 3) := dk_154 0 34 (dk_at dksX6_laysMore_2 9 rfl rfl)
theorem dX6_laysMore_58 : decode cX6_laysMore 58 = .ok (.iload 4, 2) := dk_21 4 (dk_at dksX6_laysMore_2 12 rfl rfl)
theorem dX6_laysMore_60 : decode cX6_laysMore 60 = .ok (.iconst 1, 1) := dk_4 (dk_at dksX6_laysMore_2 14 rfl rfl)
theorem dX6_laysMore_61 : decode cX6_laysMore 61 = .ok (.aload_n 0, 1) := dk_42 (dk_at dksX6_laysMore_2 15 rfl rfl)
theorem dX6_laysMore_62 : decode cX6_laysMore 62 = .ok (.getfield 96, 3) := dk_180 0 96 (dk_at dksX6_laysMore_2 16 rfl rfl)
theorem dX6_laysMore_65 : decode cX6_laysMore 65 = .ok (.bipush 10, 2) := dk_16 10 (dk_at dksX6_laysMore_2 19 rfl rfl)
theorem dX6_laysMore_67 : decode cX6_laysMore 67 = .ok (.iload_n 2, 1) := dk_28 (dk_at dksX6_laysMore_2 21 rfl rfl)
theorem dX6_laysMore_68 : decode cX6_laysMore 68 = .ok (.iconst 1, 1) := dk_4 (dk_at dksX6_laysMore_2 22 rfl rfl)
theorem dX6_laysMore_69 : decode cX6_laysMore 69 = .ok (.iload 5, 2) := dk_21 5 (dk_at dksX6_laysMore_3 0 rfl rfl)
theorem dX6_laysMore_71 : decode cX6_laysMore 71 = .ok (.ishl, 1) := dk_120 (dk_at dksX6_laysMore_3 2 rfl rfl)
theorem dX6_laysMore_72 : decode cX6_laysMore 72 = .ok (.ior, 1) := dk_128 (dk_at dksX6_laysMore_3 3 rfl rfl)
theorem dX6_laysMore_73 : decode cX6_laysMore 73 = .ok (.imul, 1) := dk_104 (dk_at dksX6_laysMore_3 4 rfl rfl)
theorem dX6_laysMore_74 : decode cX6_laysMore 74 = .ok (.aload_n 0, 1) := dk_42 (dk_at dksX6_laysMore_3 5 rfl rfl)
theorem dX6_laysMore_75 : decode cX6_laysMore 75 = .ok (.getfield 92, 3) := dk_180 0 92 (dk_at dksX6_laysMore_3 6 rfl rfl)
theorem dX6_laysMore_78 : decode cX6_laysMore 78 = .ok (.iload 5, 2) := dk_21 5 (dk_at dksX6_laysMore_3 9 rfl rfl)
theorem dX6_laysMore_80 : decode cX6_laysMore 80 = .ok (.iaload, 1) := dk_46 (dk_at dksX6_laysMore_3 11 rfl rfl)
theorem dX6_laysMore_81 : decode cX6_laysMore 81 = .ok (.iadd, 1) := dk_96 (dk_at dksX6_laysMore_3 12 rfl rfl)
theorem dX6_laysMore_82 : decode cX6_laysMore 82 = .ok (.baload, 1) := dk_51 (dk_at dksX6_laysMore_3 13 rfl rfl)
theorem dX6_laysMore_83 : decode cX6_laysMore 83 = .ok (.iadd, 1) := dk_96 (dk_at dksX6_laysMore_3 14 rfl rfl)
theorem dX6_laysMore_84 : decode cX6_laysMore 84 = .ok (.invokestatic 143, 3) := dk_184 0 143 (dk_at dksX6_laysMore_3 15 rfl rfl)
theorem dX6_laysMore_87 : decode cX6_laysMore 87 = .ok (.istore 4, 2) := dk_54 4 (dk_at dksX6_laysMore_3 18 rfl rfl)
theorem dX6_laysMore_89 : decode cX6_laysMore 89 = .ok (.iinc 5 1, 3) := dk_132 5 1 (dk_at dksX6_laysMore_3 20 rfl rfl)
theorem dX6_laysMore_92 : decode cX6_laysMore 92 = .ok (.goto (-63), 3) := dk_167 255 193 (dk_at dksX6_laysMore_4 0 rfl rfl)
theorem dX6_laysMore_95 : decode cX6_laysMore 95 = .ok (.aload_n 0, 1) := dk_42 (dk_at dksX6_laysMore_4 3 rfl rfl)
theorem dX6_laysMore_96 : decode cX6_laysMore 96 = .ok (.getfield 96, 3) := dk_180 0 96 (dk_at dksX6_laysMore_4 4 rfl rfl)
theorem dX6_laysMore_99 : decode cX6_laysMore 99 = .ok (.bipush 10, 2) := dk_16 10 (dk_at dksX6_laysMore_4 7 rfl rfl)
theorem dX6_laysMore_101 : decode cX6_laysMore 101 = .ok (.iload_n 2, 1) := dk_28 (dk_at dksX6_laysMore_4 9 rfl rfl)
theorem dX6_laysMore_102 : decode cX6_laysMore 102 = .ok (.imul, 1) := dk_104 (dk_at dksX6_laysMore_4 10 rfl rfl)
theorem dX6_laysMore_103 : decode cX6_laysMore 103 = .ok (.iload_n 3, 1) := dk_29 (dk_at dksX6_laysMore_4 11 rfl rfl)
theorem dX6_laysMore_104 : decode cX6_laysMore 104 = .ok (.iadd, 1) := dk_96 (dk_at dksX6_laysMore_4 12 rfl rfl)
theorem dX6_laysMore_105 : decode cX6_laysMore 105 = .ok (.iload 4, 2) := dk_21 4 (dk_at dksX6_laysMore_4 13 rfl rfl)
theorem dX6_laysMore_107 : decode cX6_laysMore 107 = .ok (.i2b, 1) := dk_145 (dk_at dksX6_laysMore_4 15 rfl rfl)
theorem dX6_laysMore_108 : decode cX6_laysMore 108 = .ok (.bastore, 1) := dk_84 (dk_at dksX6_laysMore_4 16 rfl rfl)
theorem dX6_laysMore_109 : decode cX6_laysMore 109 = .ok (.iinc 3 1, 3) := dk_132 3 1 (dk_at dksX6_laysMore_4 17 rfl rfl)
theorem dX6_laysMore_112 : decode cX6_laysMore 112 = .ok (.goto (-95), 3) := dk_167 255 161 (dk_at dksX6_laysMore_4 20 rfl rfl)
theorem dX6_laysMore_115 : decode cX6_laysMore 115 = .ok (.iinc 2 (-1), 3) := dk_132 2 255 (dk_at dksX6_laysMore_5 0 rfl rfl)
theorem dX6_laysMore_118 : decode cX6_laysMore 118 = .ok (.goto (-107), 3) := dk_167 255 149 (dk_at dksX6_laysMore_5 3 rfl rfl)
theorem dX6_laysMore_121 : decode cX6_laysMore 121 = .ok (.return_, 1) := dk_177 (dk_at dksX6_laysMore_5 6 rfl rfl)
abbrev cX6_bestCoin : ByteArray := prog_20_method_84_code
def yX6_bestCoin : MethodName := ⟨RX6, "bestCoin", "(II)I"⟩
def dkwX6_bestCoin_4 : List UInt8 := [162, 0, 6, 21, 4, 62, 132, 4, 1, 167, 255, 159, 29, 172]
abbrev dktX6_bestCoin_4 : List UInt8 := dkwX6_bestCoin_4 ++ []
def dkwX6_bestCoin_3 : List UInt8 := [159, 0, 6, 167, 0, 27, 29, 2, 159, 0, 19, 42, 180, 0, 92, 21, 4, 46, 42, 180, 0, 92, 29, 46]
abbrev dktX6_bestCoin_3 : List UInt8 := dkwX6_bestCoin_3 ++ dktX6_bestCoin_4
def dkwX6_bestCoin_2 : List UInt8 := [128, 104, 42, 180, 0, 92, 21, 4, 46, 96, 51, 96, 42, 180, 0, 96, 16, 10, 27, 104, 28, 96, 51]
abbrev dktX6_bestCoin_2 : List UInt8 := dkwX6_bestCoin_2 ++ dktX6_bestCoin_3
def dkwX6_bestCoin_1 : List UInt8 := [160, 0, 77, 27, 21, 4, 184, 0, 131, 154, 0, 68, 4, 42, 180, 0, 96, 16, 10, 27, 4, 21, 4, 120]
abbrev dktX6_bestCoin_1 : List UInt8 := dkwX6_bestCoin_1 ++ dktX6_bestCoin_2
def dkwX6_bestCoin_0 : List UInt8 := [2, 62, 3, 54, 4, 21, 4, 42, 180, 1, 144, 162, 0, 94, 42, 180, 0, 89, 21, 4, 46, 28]
abbrev dktX6_bestCoin_0 : List UInt8 := dkwX6_bestCoin_0 ++ dktX6_bestCoin_1
theorem dksX6_bestCoin_0 : cX6_bestCoin.data.toList.drop 0 = dktX6_bestCoin_0 := by decide +kernel
theorem dksX6_bestCoin_1 : cX6_bestCoin.data.toList.drop 22 = dktX6_bestCoin_1 := dk_seg dksX6_bestCoin_0 22 rfl rfl
theorem dksX6_bestCoin_2 : cX6_bestCoin.data.toList.drop 46 = dktX6_bestCoin_2 := dk_seg dksX6_bestCoin_1 24 rfl rfl
theorem dksX6_bestCoin_3 : cX6_bestCoin.data.toList.drop 69 = dktX6_bestCoin_3 := dk_seg dksX6_bestCoin_2 23 rfl rfl
theorem dksX6_bestCoin_4 : cX6_bestCoin.data.toList.drop 93 = dktX6_bestCoin_4 := dk_seg dksX6_bestCoin_3 24 rfl rfl
theorem dX6_bestCoin_0 : decode cX6_bestCoin 0 = .ok (.iconst (-1), 1) := dk_2 (dk_at dksX6_bestCoin_0 0 rfl rfl)
theorem dX6_bestCoin_1 : decode cX6_bestCoin 1 = .ok (.istore_n 3, 1) := dk_62 (dk_at dksX6_bestCoin_0 1 rfl rfl)
theorem dX6_bestCoin_2 : decode cX6_bestCoin 2 = .ok (.iconst 0, 1) := dk_3 (dk_at dksX6_bestCoin_0 2 rfl rfl)
theorem dX6_bestCoin_3 : decode cX6_bestCoin 3 = .ok (.istore 4, 2) := dk_54 4 (dk_at dksX6_bestCoin_0 3 rfl rfl)
theorem dX6_bestCoin_5 : decode cX6_bestCoin 5 = .ok (.iload 4, 2) := dk_21 4 (dk_at dksX6_bestCoin_0 5 rfl rfl)
theorem dX6_bestCoin_7 : decode cX6_bestCoin 7 = .ok (.aload_n 0, 1) := dk_42 (dk_at dksX6_bestCoin_0 7 rfl rfl)
theorem dX6_bestCoin_8 : decode cX6_bestCoin 8 = .ok (.getfield 400, 3) := dk_180 1 144 (dk_at dksX6_bestCoin_0 8 rfl rfl)
theorem dX6_bestCoin_11 : decode cX6_bestCoin 11 = .ok (.if_icmp .ge 94, 3) := dk_162 0 94 (dk_at dksX6_bestCoin_0 11 rfl rfl)
theorem dX6_bestCoin_14 : decode cX6_bestCoin 14 = .ok (.aload_n 0, 1) := dk_42 (dk_at dksX6_bestCoin_0 14 rfl rfl)
theorem dX6_bestCoin_15 : decode cX6_bestCoin 15 = .ok (.getfield 89, 3) := dk_180 0 89 (dk_at dksX6_bestCoin_0 15 rfl rfl)
theorem dX6_bestCoin_18 : decode cX6_bestCoin 18 = .ok (.iload 4, 2) := dk_21 4 (dk_at dksX6_bestCoin_0 18 rfl rfl)
theorem dX6_bestCoin_20 : decode cX6_bestCoin 20 = .ok (.iaload, 1) := dk_46 (dk_at dksX6_bestCoin_0 20 rfl rfl)
theorem dX6_bestCoin_21 : decode cX6_bestCoin 21 = .ok (.iload_n 2, 1) := dk_28 (dk_at dksX6_bestCoin_0 21 rfl rfl)
theorem dX6_bestCoin_22 : decode cX6_bestCoin 22 = .ok (.if_icmp .ne 77, 3) := dk_160 0 77 (dk_at dksX6_bestCoin_1 0 rfl rfl)
theorem dX6_bestCoin_25 : decode cX6_bestCoin 25 = .ok (.iload_n 1, 1) := dk_27 (dk_at dksX6_bestCoin_1 3 rfl rfl)
theorem dX6_bestCoin_26 : decode cX6_bestCoin 26 = .ok (.iload 4, 2) := dk_21 4 (dk_at dksX6_bestCoin_1 4 rfl rfl)
theorem dX6_bestCoin_28 : decode cX6_bestCoin 28 = .ok (.invokestatic 131, 3) := dk_184 0 131 (dk_at dksX6_bestCoin_1 6 rfl rfl)
theorem dX6_bestCoin_31 : decode cX6_bestCoin 31 = .ok (.ifCond .ne 68, 3) := dk_154 0 68 (dk_at dksX6_bestCoin_1 9 rfl rfl)
theorem dX6_bestCoin_34 : decode cX6_bestCoin 34 = .ok (.iconst 1, 1) := dk_4 (dk_at dksX6_bestCoin_1 12 rfl rfl)
theorem dX6_bestCoin_35 : decode cX6_bestCoin 35 = .ok (.aload_n 0, 1) := dk_42 (dk_at dksX6_bestCoin_1 13 rfl rfl)
theorem dX6_bestCoin_36 : decode cX6_bestCoin 36 = .ok (.getfield 96, 3) := dk_180 0 96 (dk_at dksX6_bestCoin_1 14 rfl rfl)
theorem dX6_bestCoin_39 : decode cX6_bestCoin 39 = .ok (.bipush 10, 2) := dk_16 10 (dk_at dksX6_bestCoin_1 17 rfl rfl)
theorem dX6_bestCoin_41 : decode cX6_bestCoin 41 = .ok (.iload_n 1, 1) := dk_27 (dk_at dksX6_bestCoin_1 19 rfl rfl)
theorem dX6_bestCoin_42 : decode cX6_bestCoin 42 = .ok (.iconst 1, 1) := dk_4 (dk_at dksX6_bestCoin_1 20 rfl rfl)
theorem dX6_bestCoin_43 : decode cX6_bestCoin 43 = .ok (.iload 4, 2) := dk_21 4 (dk_at dksX6_bestCoin_1 21 rfl rfl)
theorem dX6_bestCoin_45 : decode cX6_bestCoin 45 = .ok (.ishl, 1) := dk_120 (dk_at dksX6_bestCoin_1 23 rfl rfl)
theorem dX6_bestCoin_46 : decode cX6_bestCoin 46 = .ok (.ior, 1) := dk_128 (dk_at dksX6_bestCoin_2 0 rfl rfl)
theorem dX6_bestCoin_47 : decode cX6_bestCoin 47 = .ok (.imul, 1) := dk_104 (dk_at dksX6_bestCoin_2 1 rfl rfl)
theorem dX6_bestCoin_48 : decode cX6_bestCoin 48 = .ok (.aload_n 0, 1) := dk_42 (dk_at dksX6_bestCoin_2 2 rfl rfl)
theorem dX6_bestCoin_49 : decode cX6_bestCoin 49 = .ok (.getfield 92, 3) := dk_180 0 92 (dk_at dksX6_bestCoin_2 3 rfl rfl)
theorem dX6_bestCoin_52 : decode cX6_bestCoin 52 = .ok (.iload 4, 2) := dk_21 4 (dk_at dksX6_bestCoin_2 6 rfl rfl)
theorem dX6_bestCoin_54 : decode cX6_bestCoin 54 = .ok (.iaload, 1) := dk_46 (dk_at dksX6_bestCoin_2 8 rfl rfl)
theorem dX6_bestCoin_55 : decode cX6_bestCoin 55 = .ok (.iadd, 1) := dk_96 (dk_at dksX6_bestCoin_2 9 rfl rfl)
theorem dX6_bestCoin_56 : decode cX6_bestCoin 56 = .ok (.baload, 1) := dk_51 (dk_at dksX6_bestCoin_2 10 rfl rfl)
theorem dX6_bestCoin_57 : decode cX6_bestCoin 57 = .ok (.iadd, 1) := dk_96 (dk_at dksX6_bestCoin_2 11 rfl rfl)
theorem dX6_bestCoin_58 : decode cX6_bestCoin 58 = .ok (.aload_n 0, 1) := dk_42 (dk_at dksX6_bestCoin_2 12 rfl rfl)
theorem dX6_bestCoin_59 : decode cX6_bestCoin 59 = .ok (.getfield 96, 3) := dk_180 0 96 (dk_at dksX6_bestCoin_2 13 rfl rfl)
theorem dX6_bestCoin_62 : decode cX6_bestCoin 62 = .ok (.bipush 10, 2) := dk_16 10 (dk_at dksX6_bestCoin_2 16 rfl rfl)
theorem dX6_bestCoin_64 : decode cX6_bestCoin 64 = .ok (.iload_n 1, 1) := dk_27 (dk_at dksX6_bestCoin_2 18 rfl rfl)
theorem dX6_bestCoin_65 : decode cX6_bestCoin 65 = .ok (.imul, 1) := dk_104 (dk_at dksX6_bestCoin_2 19 rfl rfl)
theorem dX6_bestCoin_66 : decode cX6_bestCoin 66 = .ok (.iload_n 2, 1) := dk_28 (dk_at dksX6_bestCoin_2 20 rfl rfl)
theorem dX6_bestCoin_67 : decode cX6_bestCoin 67 = .ok (.iadd, 1) := dk_96 (dk_at dksX6_bestCoin_2 21 rfl rfl)
theorem dX6_bestCoin_68 : decode cX6_bestCoin 68 = .ok (.baload, 1) := dk_51 (dk_at dksX6_bestCoin_2 22 rfl rfl)
theorem dX6_bestCoin_69 : decode cX6_bestCoin 69 = .ok (.if_icmp .eq 6, 3) := dk_159 0 6 (dk_at dksX6_bestCoin_3 0 rfl rfl)
theorem dX6_bestCoin_72 : decode cX6_bestCoin 72 = .ok (.goto 27, 3) := dk_167 0 27 (dk_at dksX6_bestCoin_3 3 rfl rfl)
theorem dX6_bestCoin_75 : decode cX6_bestCoin 75 = .ok (.iload_n 3, 1) := dk_29 (dk_at dksX6_bestCoin_3 6 rfl rfl)
theorem dX6_bestCoin_76 : decode cX6_bestCoin 76 = .ok (.iconst (-1), 1) := dk_2 (dk_at dksX6_bestCoin_3 7 rfl rfl)
theorem dX6_bestCoin_77 : decode cX6_bestCoin 77 = .ok (.if_icmp .eq 19, 3) := dk_159 0 19 (dk_at dksX6_bestCoin_3 8 rfl rfl)
theorem dX6_bestCoin_80 : decode cX6_bestCoin 80 = .ok (.aload_n 0, 1) := dk_42 (dk_at dksX6_bestCoin_3 11 rfl rfl)
theorem dX6_bestCoin_81 : decode cX6_bestCoin 81 = .ok (.getfield 92, 3) := dk_180 0 92 (dk_at dksX6_bestCoin_3 12 rfl rfl)
theorem dX6_bestCoin_84 : decode cX6_bestCoin 84 = .ok (.iload 4, 2) := dk_21 4 (dk_at dksX6_bestCoin_3 15 rfl rfl)
theorem dX6_bestCoin_86 : decode cX6_bestCoin 86 = .ok (.iaload, 1) := dk_46 (dk_at dksX6_bestCoin_3 17 rfl rfl)
theorem dX6_bestCoin_87 : decode cX6_bestCoin 87 = .ok (.aload_n 0, 1) := dk_42 (dk_at dksX6_bestCoin_3 18 rfl rfl)
theorem dX6_bestCoin_88 : decode cX6_bestCoin 88 = .ok (.getfield 92, 3) := dk_180 0 92 (dk_at dksX6_bestCoin_3 19 rfl rfl)
theorem dX6_bestCoin_91 : decode cX6_bestCoin 91 = .ok (.iload_n 3, 1) := dk_29 (dk_at dksX6_bestCoin_3 22 rfl rfl)
theorem dX6_bestCoin_92 : decode cX6_bestCoin 92 = .ok (.iaload, 1) := dk_46 (dk_at dksX6_bestCoin_3 23 rfl rfl)
theorem dX6_bestCoin_93 : decode cX6_bestCoin 93 = .ok (.if_icmp .ge 6, 3) := dk_162 0 6 (dk_at dksX6_bestCoin_4 0 rfl rfl)
theorem dX6_bestCoin_96 : decode cX6_bestCoin 96 = .ok (.iload 4, 2) := dk_21 4 (dk_at dksX6_bestCoin_4 3 rfl rfl)
theorem dX6_bestCoin_98 : decode cX6_bestCoin 98 = .ok (.istore_n 3, 1) := dk_62 (dk_at dksX6_bestCoin_4 5 rfl rfl)
theorem dX6_bestCoin_99 : decode cX6_bestCoin 99 = .ok (.iinc 4 1, 3) := dk_132 4 1 (dk_at dksX6_bestCoin_4 6 rfl rfl)
theorem dX6_bestCoin_102 : decode cX6_bestCoin 102 = .ok (.goto (-97), 3) := dk_167 255 159 (dk_at dksX6_bestCoin_4 9 rfl rfl)
theorem dX6_bestCoin_105 : decode cX6_bestCoin 105 = .ok (.iload_n 3, 1) := dk_29 (dk_at dksX6_bestCoin_4 12 rfl rfl)
theorem dX6_bestCoin_106 : decode cX6_bestCoin 106 = .ok (.ireturn, 1) := dk_172 (dk_at dksX6_bestCoin_4 13 rfl rfl)
abbrev cX6_back : ByteArray := prog_20_method_87_code
def yX6_back : MethodName := ⟨RX6, "back", "(II)I"⟩
def dkwX6_back_2 : List UInt8 := [62, 29, 19, 1, 156, 161, 0, 8, 16, 254, 167, 0, 4, 29, 172]
abbrev dktX6_back_2 : List UInt8 := dkwX6_back_2 ++ []
def dkwX6_back_1 : List UInt8 := [154, 0, 15, 42, 180, 0, 99, 16, 11, 27, 104, 46, 167, 0, 12, 42, 180, 0, 102, 16, 11, 27, 104, 46]
abbrev dktX6_back_1 : List UInt8 := dkwX6_back_1 ++ dktX6_back_2
def dkwX6_back_0 : List UInt8 := [42, 27, 182, 0, 135, 153, 0, 12, 28, 3, 4, 184, 0, 123, 154, 0, 5, 2, 172, 42, 182, 1, 157, 28]
abbrev dktX6_back_0 : List UInt8 := dkwX6_back_0 ++ dktX6_back_1
theorem dksX6_back_0 : cX6_back.data.toList.drop 0 = dktX6_back_0 := by decide +kernel
theorem dksX6_back_1 : cX6_back.data.toList.drop 24 = dktX6_back_1 := dk_seg dksX6_back_0 24 rfl rfl
theorem dksX6_back_2 : cX6_back.data.toList.drop 48 = dktX6_back_2 := dk_seg dksX6_back_1 24 rfl rfl
theorem dX6_back_0 : decode cX6_back 0 = .ok (.aload_n 0, 1) := dk_42 (dk_at dksX6_back_0 0 rfl rfl)
theorem dX6_back_1 : decode cX6_back 1 = .ok (.iload_n 1, 1) := dk_27 (dk_at dksX6_back_0 1 rfl rfl)
theorem dX6_back_2 : decode cX6_back 2 = .ok (.invokevirtual 135, 3) := dk_182 0 135 (dk_at dksX6_back_0 2 rfl rfl)
theorem dX6_back_5 : decode cX6_back 5 = .ok (.ifCond .eq 12, 3) := dk_153 0 12 (dk_at dksX6_back_0 5 rfl rfl)
theorem dX6_back_8 : decode cX6_back 8 = .ok (.iload_n 2, 1) := dk_28 (dk_at dksX6_back_0 8 rfl rfl)
theorem dX6_back_9 : decode cX6_back 9 = .ok (.iconst 0, 1) := dk_3 (dk_at dksX6_back_0 9 rfl rfl)
theorem dX6_back_10 : decode cX6_back 10 = .ok (.iconst 1, 1) := dk_4 (dk_at dksX6_back_0 10 rfl rfl)
theorem dX6_back_11 : decode cX6_back 11 = .ok (.invokestatic 123, 3) := dk_184 0 123 (dk_at dksX6_back_0 11 rfl rfl)
theorem dX6_back_14 : decode cX6_back 14 = .ok (.ifCond .ne 5, 3) := dk_154 0 5 (dk_at dksX6_back_0 14 rfl rfl)
theorem dX6_back_17 : decode cX6_back 17 = .ok (.iconst (-1), 1) := dk_2 (dk_at dksX6_back_0 17 rfl rfl)
theorem dX6_back_18 : decode cX6_back 18 = .ok (.ireturn, 1) := dk_172 (dk_at dksX6_back_0 18 rfl rfl)
theorem dX6_back_19 : decode cX6_back 19 = .ok (.aload_n 0, 1) := dk_42 (dk_at dksX6_back_0 19 rfl rfl)
theorem dX6_back_20 : decode cX6_back 20 = .ok (.invokevirtual 413, 3) := dk_182 1 157 (dk_at dksX6_back_0 20 rfl rfl)
theorem dX6_back_23 : decode cX6_back 23 = .ok (.iload_n 2, 1) := dk_28 (dk_at dksX6_back_0 23 rfl rfl)
theorem dX6_back_24 : decode cX6_back 24 = .ok (.ifCond .ne 15, 3) := dk_154 0 15 (dk_at dksX6_back_1 0 rfl rfl)
theorem dX6_back_27 : decode cX6_back 27 = .ok (.aload_n 0, 1) := dk_42 (dk_at dksX6_back_1 3 rfl rfl)
theorem dX6_back_28 : decode cX6_back 28 = .ok (.getfield 99, 3) := dk_180 0 99 (dk_at dksX6_back_1 4 rfl rfl)
theorem dX6_back_31 : decode cX6_back 31 = .ok (.bipush 11, 2) := dk_16 11 (dk_at dksX6_back_1 7 rfl rfl)
theorem dX6_back_33 : decode cX6_back 33 = .ok (.iload_n 1, 1) := dk_27 (dk_at dksX6_back_1 9 rfl rfl)
theorem dX6_back_34 : decode cX6_back 34 = .ok (.imul, 1) := dk_104 (dk_at dksX6_back_1 10 rfl rfl)
theorem dX6_back_35 : decode cX6_back 35 = .ok (.iaload, 1) := dk_46 (dk_at dksX6_back_1 11 rfl rfl)
theorem dX6_back_36 : decode cX6_back 36 = .ok (.goto 12, 3) := dk_167 0 12 (dk_at dksX6_back_1 12 rfl rfl)
theorem dX6_back_39 : decode cX6_back 39 = .ok (.aload_n 0, 1) := dk_42 (dk_at dksX6_back_1 15 rfl rfl)
theorem dX6_back_40 : decode cX6_back 40 = .ok (.getfield 102, 3) := dk_180 0 102 (dk_at dksX6_back_1 16 rfl rfl)
theorem dX6_back_43 : decode cX6_back 43 = .ok (.bipush 11, 2) := dk_16 11 (dk_at dksX6_back_1 19 rfl rfl)
theorem dX6_back_45 : decode cX6_back 45 = .ok (.iload_n 1, 1) := dk_27 (dk_at dksX6_back_1 21 rfl rfl)
theorem dX6_back_46 : decode cX6_back 46 = .ok (.imul, 1) := dk_104 (dk_at dksX6_back_1 22 rfl rfl)
theorem dX6_back_47 : decode cX6_back 47 = .ok (.iaload, 1) := dk_46 (dk_at dksX6_back_1 23 rfl rfl)
theorem dX6_back_48 : decode cX6_back 48 = .ok (.istore_n 3, 1) := dk_62 (dk_at dksX6_back_2 0 rfl rfl)
theorem dX6_back_49 : decode cX6_back 49 = .ok (.iload_n 3, 1) := dk_29 (dk_at dksX6_back_2 1 rfl rfl)
theorem dX6_back_50 : decode cX6_back 50 = .ok (.ldc_w 412, 3) := dk_19 1 156 (dk_at dksX6_back_2 2 rfl rfl)
theorem dX6_back_53 : decode cX6_back 53 = .ok (.if_icmp .lt 8, 3) := dk_161 0 8 (dk_at dksX6_back_2 5 rfl rfl)
theorem dX6_back_56 : decode cX6_back 56 = .ok (.bipush (-2), 2) := dk_16 254 (dk_at dksX6_back_2 8 rfl rfl)
theorem dX6_back_58 : decode cX6_back 58 = .ok (.goto 4, 3) := dk_167 0 4 (dk_at dksX6_back_2 10 rfl rfl)
theorem dX6_back_61 : decode cX6_back 61 = .ok (.iload_n 3, 1) := dk_29 (dk_at dksX6_back_2 13 rfl rfl)
theorem dX6_back_62 : decode cX6_back 62 = .ok (.ireturn, 1) := dk_172 (dk_at dksX6_back_2 14 rfl rfl)
abbrev cX6_laysBack : ByteArray := prog_20_method_86_code
def yX6_laysBack : MethodName := ⟨RX6, "laysBack", "()V"⟩
def dkwX6_laysBack_9 : List UInt8 := [132, 3, 1, 167, 255, 151, 132, 2, 1, 167, 255, 137, 132, 1, 1, 167, 255, 123, 177]
abbrev dktX6_laysBack_9 : List UInt8 := dkwX6_laysBack_9 ++ []
def dkwX6_laysBack_8 : List UInt8 := [16, 10, 28, 104, 27, 96, 46, 42, 180, 0, 102, 16, 10, 27, 104, 29, 96, 46, 96, 184, 1, 34, 79]
abbrev dktX6_laysBack_8 : List UInt8 := dkwX6_laysBack_8 ++ dktX6_laysBack_9
def dkwX6_laysBack_7 : List UInt8 := [180, 0, 102, 16, 10, 28, 104, 29, 96, 42, 180, 0, 102, 16, 10, 28, 104, 29, 96, 46, 42, 180, 0, 102]
abbrev dktX6_laysBack_7 : List UInt8 := dkwX6_laysBack_7 ++ dktX6_laysBack_8
def dkwX6_laysBack_6 : List UInt8 := [16, 10, 28, 104, 27, 96, 46, 42, 180, 0, 99, 16, 10, 27, 104, 29, 96, 46, 96, 184, 1, 34, 79, 42]
abbrev dktX6_laysBack_6 : List UInt8 := dkwX6_laysBack_6 ++ dktX6_laysBack_7
def dkwX6_laysBack_5 : List UInt8 := [180, 0, 99, 16, 10, 28, 104, 29, 96, 42, 180, 0, 99, 16, 10, 28, 104, 29, 96, 46, 42, 180, 0, 99]
abbrev dktX6_laysBack_5 : List UInt8 := dkwX6_laysBack_5 ++ dktX6_laysBack_6
def dkwX6_laysBack_4 : List UInt8 := [27, 16, 10, 162, 0, 133, 3, 61, 28, 16, 10, 162, 0, 119, 3, 62, 29, 16, 10, 162, 0, 105, 42]
abbrev dktX6_laysBack_4 : List UInt8 := dkwX6_laysBack_4 ++ dktX6_laysBack_5
def dkwX6_laysBack_3 : List UInt8 := [182, 1, 12, 167, 0, 6, 19, 1, 156, 79, 132, 2, 1, 167, 255, 183, 132, 1, 1, 167, 255, 169, 3, 60]
abbrev dktX6_laysBack_3 : List UInt8 := dkwX6_laysBack_3 ++ dktX6_laysBack_4
def dkwX6_laysBack_2 : List UInt8 := [167, 0, 6, 19, 1, 156, 79, 42, 180, 0, 102, 16, 10, 27, 104, 28, 96, 29, 153, 0, 12, 42, 27, 28]
abbrev dktX6_laysBack_2 : List UInt8 := dkwX6_laysBack_2 ++ dktX6_laysBack_3
def dkwX6_laysBack_1 : List UInt8 := [158, 0, 7, 4, 167, 0, 4, 3, 62, 42, 180, 0, 99, 16, 10, 27, 104, 28, 96, 29, 153, 0, 7, 4]
abbrev dktX6_laysBack_1 : List UInt8 := dkwX6_laysBack_1 ++ dktX6_laysBack_2
def dkwX6_laysBack_0 : List UInt8 := [3, 60, 27, 16, 10, 162, 0, 87, 3, 61, 28, 16, 10, 162, 0, 73, 42, 27, 28, 182, 0, 147]
abbrev dktX6_laysBack_0 : List UInt8 := dkwX6_laysBack_0 ++ dktX6_laysBack_1
theorem dksX6_laysBack_0 : cX6_laysBack.data.toList.drop 0 = dktX6_laysBack_0 := by decide +kernel
theorem dksX6_laysBack_1 : cX6_laysBack.data.toList.drop 22 = dktX6_laysBack_1 := dk_seg dksX6_laysBack_0 22 rfl rfl
theorem dksX6_laysBack_2 : cX6_laysBack.data.toList.drop 46 = dktX6_laysBack_2 := dk_seg dksX6_laysBack_1 24 rfl rfl
theorem dksX6_laysBack_3 : cX6_laysBack.data.toList.drop 70 = dktX6_laysBack_3 := dk_seg dksX6_laysBack_2 24 rfl rfl
theorem dksX6_laysBack_4 : cX6_laysBack.data.toList.drop 94 = dktX6_laysBack_4 := dk_seg dksX6_laysBack_3 24 rfl rfl
theorem dksX6_laysBack_5 : cX6_laysBack.data.toList.drop 117 = dktX6_laysBack_5 := dk_seg dksX6_laysBack_4 23 rfl rfl
theorem dksX6_laysBack_6 : cX6_laysBack.data.toList.drop 141 = dktX6_laysBack_6 := dk_seg dksX6_laysBack_5 24 rfl rfl
theorem dksX6_laysBack_7 : cX6_laysBack.data.toList.drop 165 = dktX6_laysBack_7 := dk_seg dksX6_laysBack_6 24 rfl rfl
theorem dksX6_laysBack_8 : cX6_laysBack.data.toList.drop 189 = dktX6_laysBack_8 := dk_seg dksX6_laysBack_7 24 rfl rfl
theorem dksX6_laysBack_9 : cX6_laysBack.data.toList.drop 212 = dktX6_laysBack_9 := dk_seg dksX6_laysBack_8 23 rfl rfl
theorem dX6_laysBack_0 : decode cX6_laysBack 0 = .ok (.iconst 0, 1) := dk_3 (dk_at dksX6_laysBack_0 0 rfl rfl)
theorem dX6_laysBack_1 : decode cX6_laysBack 1 = .ok (.istore_n 1, 1) := dk_60 (dk_at dksX6_laysBack_0 1 rfl rfl)
theorem dX6_laysBack_2 : decode cX6_laysBack 2 = .ok (.iload_n 1, 1) := dk_27 (dk_at dksX6_laysBack_0 2 rfl rfl)
theorem dX6_laysBack_3 : decode cX6_laysBack 3 = .ok (.bipush 10, 2) := dk_16 10 (dk_at dksX6_laysBack_0 3 rfl rfl)
theorem dX6_laysBack_5 : decode cX6_laysBack 5 = .ok (.if_icmp .ge 87, 3) := dk_162 0 87 (dk_at dksX6_laysBack_0 5 rfl rfl)
theorem dX6_laysBack_8 : decode cX6_laysBack 8 = .ok (.iconst 0, 1) := dk_3 (dk_at dksX6_laysBack_0 8 rfl rfl)
theorem dX6_laysBack_9 : decode cX6_laysBack 9 = .ok (.istore_n 2, 1) := dk_61 (dk_at dksX6_laysBack_0 9 rfl rfl)
theorem dX6_laysBack_10 : decode cX6_laysBack 10 = .ok (.iload_n 2, 1) := dk_28 (dk_at dksX6_laysBack_0 10 rfl rfl)
theorem dX6_laysBack_11 : decode cX6_laysBack 11 = .ok (.bipush 10, 2) := dk_16 10 (dk_at dksX6_laysBack_0 11 rfl rfl)
theorem dX6_laysBack_13 : decode cX6_laysBack 13 = .ok (.if_icmp .ge 73, 3) := dk_162 0 73 (dk_at dksX6_laysBack_0 13 rfl rfl)
theorem dX6_laysBack_16 : decode cX6_laysBack 16 = .ok (.aload_n 0, 1) := dk_42 (dk_at dksX6_laysBack_0 16 rfl rfl)
theorem dX6_laysBack_17 : decode cX6_laysBack 17 = .ok (.iload_n 1, 1) := dk_27 (dk_at dksX6_laysBack_0 17 rfl rfl)
theorem dX6_laysBack_18 : decode cX6_laysBack 18 = .ok (.iload_n 2, 1) := dk_28 (dk_at dksX6_laysBack_0 18 rfl rfl)
theorem dX6_laysBack_19 : decode cX6_laysBack 19 = .ok (.invokevirtual 147, 3) := dk_182 0 147 (dk_at dksX6_laysBack_0 19 rfl rfl)
theorem dX6_laysBack_22 : decode cX6_laysBack 22 = .ok (.ifCond .le 7, 3) := dk_158 0 7 (dk_at dksX6_laysBack_1 0 rfl rfl)
theorem dX6_laysBack_25 : decode cX6_laysBack 25 = .ok (.iconst 1, 1) := dk_4 (dk_at dksX6_laysBack_1 3 rfl rfl)
theorem dX6_laysBack_26 : decode cX6_laysBack 26 = .ok (.goto 4, 3) := dk_167 0 4 (dk_at dksX6_laysBack_1 4 rfl rfl)
theorem dX6_laysBack_29 : decode cX6_laysBack 29 = .ok (.iconst 0, 1) := dk_3 (dk_at dksX6_laysBack_1 7 rfl rfl)
theorem dX6_laysBack_30 : decode cX6_laysBack 30 = .ok (.istore_n 3, 1) := dk_62 (dk_at dksX6_laysBack_1 8 rfl rfl)
theorem dX6_laysBack_31 : decode cX6_laysBack 31 = .ok (.aload_n 0, 1) := dk_42 (dk_at dksX6_laysBack_1 9 rfl rfl)
theorem dX6_laysBack_32 : decode cX6_laysBack 32 = .ok (.getfield 99, 3) := dk_180 0 99 (dk_at dksX6_laysBack_1 10 rfl rfl)
theorem dX6_laysBack_35 : decode cX6_laysBack 35 = .ok (.bipush 10, 2) := dk_16 10 (dk_at dksX6_laysBack_1 13 rfl rfl)
theorem dX6_laysBack_37 : decode cX6_laysBack 37 = .ok (.iload_n 1, 1) := dk_27 (dk_at dksX6_laysBack_1 15 rfl rfl)
theorem dX6_laysBack_38 : decode cX6_laysBack 38 = .ok (.imul, 1) := dk_104 (dk_at dksX6_laysBack_1 16 rfl rfl)
theorem dX6_laysBack_39 : decode cX6_laysBack 39 = .ok (.iload_n 2, 1) := dk_28 (dk_at dksX6_laysBack_1 17 rfl rfl)
theorem dX6_laysBack_40 : decode cX6_laysBack 40 = .ok (.iadd, 1) := dk_96 (dk_at dksX6_laysBack_1 18 rfl rfl)
theorem dX6_laysBack_41 : decode cX6_laysBack 41 = .ok (.iload_n 3, 1) := dk_29 (dk_at dksX6_laysBack_1 19 rfl rfl)
theorem dX6_laysBack_42 : decode cX6_laysBack 42 = .ok (.ifCond .eq 7, 3) := dk_153 0 7 (dk_at dksX6_laysBack_1 20 rfl rfl)
theorem dX6_laysBack_45 : decode cX6_laysBack 45 = .ok (.iconst 1, 1) := dk_4 (dk_at dksX6_laysBack_1 23 rfl rfl)
theorem dX6_laysBack_46 : decode cX6_laysBack 46 = .ok (.goto 6, 3) := dk_167 0 6 (dk_at dksX6_laysBack_2 0 rfl rfl)
theorem dX6_laysBack_49 : decode cX6_laysBack 49 = .ok (.ldc_w 412, 3) := dk_19 1 156 (dk_at dksX6_laysBack_2 3 rfl rfl)
theorem dX6_laysBack_52 : decode cX6_laysBack 52 = .ok (.iastore, 1) := dk_79 (dk_at dksX6_laysBack_2 6 rfl rfl)
theorem dX6_laysBack_53 : decode cX6_laysBack 53 = .ok (.aload_n 0, 1) := dk_42 (dk_at dksX6_laysBack_2 7 rfl rfl)
theorem dX6_laysBack_54 : decode cX6_laysBack 54 = .ok (.getfield 102, 3) := dk_180 0 102 (dk_at dksX6_laysBack_2 8 rfl rfl)
theorem dX6_laysBack_57 : decode cX6_laysBack 57 = .ok (.bipush 10, 2) := dk_16 10 (dk_at dksX6_laysBack_2 11 rfl rfl)
theorem dX6_laysBack_59 : decode cX6_laysBack 59 = .ok (.iload_n 1, 1) := dk_27 (dk_at dksX6_laysBack_2 13 rfl rfl)
theorem dX6_laysBack_60 : decode cX6_laysBack 60 = .ok (.imul, 1) := dk_104 (dk_at dksX6_laysBack_2 14 rfl rfl)
theorem dX6_laysBack_61 : decode cX6_laysBack 61 = .ok (.iload_n 2, 1) := dk_28 (dk_at dksX6_laysBack_2 15 rfl rfl)
theorem dX6_laysBack_62 : decode cX6_laysBack 62 = .ok (.iadd, 1) := dk_96 (dk_at dksX6_laysBack_2 16 rfl rfl)
theorem dX6_laysBack_63 : decode cX6_laysBack 63 = .ok (.iload_n 3, 1) := dk_29 (dk_at dksX6_laysBack_2 17 rfl rfl)
theorem dX6_laysBack_64 : decode cX6_laysBack 64 = .ok (.ifCond .eq 12, 3) := dk_153 0 12 (dk_at dksX6_laysBack_2 18 rfl rfl)
theorem dX6_laysBack_67 : decode cX6_laysBack 67 = .ok (.aload_n 0, 1) := dk_42 (dk_at dksX6_laysBack_2 21 rfl rfl)
theorem dX6_laysBack_68 : decode cX6_laysBack 68 = .ok (.iload_n 1, 1) := dk_27 (dk_at dksX6_laysBack_2 22 rfl rfl)
theorem dX6_laysBack_69 : decode cX6_laysBack 69 = .ok (.iload_n 2, 1) := dk_28 (dk_at dksX6_laysBack_2 23 rfl rfl)
theorem dX6_laysBack_70 : decode cX6_laysBack 70 = .ok (.invokevirtual 268, 3) := dk_182 1 12 (dk_at dksX6_laysBack_3 0 rfl rfl)
theorem dX6_laysBack_73 : decode cX6_laysBack 73 = .ok (.goto 6, 3) := dk_167 0 6 (dk_at dksX6_laysBack_3 3 rfl rfl)
theorem dX6_laysBack_76 : decode cX6_laysBack 76 = .ok (.ldc_w 412, 3) := dk_19 1 156 (dk_at dksX6_laysBack_3 6 rfl rfl)
theorem dX6_laysBack_79 : decode cX6_laysBack 79 = .ok (.iastore, 1) := dk_79 (dk_at dksX6_laysBack_3 9 rfl rfl)
theorem dX6_laysBack_80 : decode cX6_laysBack 80 = .ok (.iinc 2 1, 3) := dk_132 2 1 (dk_at dksX6_laysBack_3 10 rfl rfl)
theorem dX6_laysBack_83 : decode cX6_laysBack 83 = .ok (.goto (-73), 3) := dk_167 255 183 (dk_at dksX6_laysBack_3 13 rfl rfl)
theorem dX6_laysBack_86 : decode cX6_laysBack 86 = .ok (.iinc 1 1, 3) := dk_132 1 1 (dk_at dksX6_laysBack_3 16 rfl rfl)
theorem dX6_laysBack_89 : decode cX6_laysBack 89 = .ok (.goto (-87), 3) := dk_167 255 169 (dk_at dksX6_laysBack_3 19 rfl rfl)
theorem dX6_laysBack_92 : decode cX6_laysBack 92 = .ok (.iconst 0, 1) := dk_3 (dk_at dksX6_laysBack_3 22 rfl rfl)
theorem dX6_laysBack_93 : decode cX6_laysBack 93 = .ok (.istore_n 1, 1) := dk_60 (dk_at dksX6_laysBack_3 23 rfl rfl)
theorem dX6_laysBack_94 : decode cX6_laysBack 94 = .ok (.iload_n 1, 1) := dk_27 (dk_at dksX6_laysBack_4 0 rfl rfl)
theorem dX6_laysBack_95 : decode cX6_laysBack 95 = .ok (.bipush 10, 2) := dk_16 10 (dk_at dksX6_laysBack_4 1 rfl rfl)
theorem dX6_laysBack_97 : decode cX6_laysBack 97 = .ok (.if_icmp .ge 133, 3) := dk_162 0 133 (dk_at dksX6_laysBack_4 3 rfl rfl)
theorem dX6_laysBack_100 : decode cX6_laysBack 100 = .ok (.iconst 0, 1) := dk_3 (dk_at dksX6_laysBack_4 6 rfl rfl)
theorem dX6_laysBack_101 : decode cX6_laysBack 101 = .ok (.istore_n 2, 1) := dk_61 (dk_at dksX6_laysBack_4 7 rfl rfl)
theorem dX6_laysBack_102 : decode cX6_laysBack 102 = .ok (.iload_n 2, 1) := dk_28 (dk_at dksX6_laysBack_4 8 rfl rfl)
theorem dX6_laysBack_103 : decode cX6_laysBack 103 = .ok (.bipush 10, 2) := dk_16 10 (dk_at dksX6_laysBack_4 9 rfl rfl)
theorem dX6_laysBack_105 : decode cX6_laysBack 105 = .ok (.if_icmp .ge 119, 3) := dk_162 0 119 (dk_at dksX6_laysBack_4 11 rfl rfl)
theorem dX6_laysBack_108 : decode cX6_laysBack 108 = .ok (.iconst 0, 1) := dk_3 (dk_at dksX6_laysBack_4 14 rfl rfl)
theorem dX6_laysBack_109 : decode cX6_laysBack 109 = .ok (.istore_n 3, 1) := dk_62 (dk_at dksX6_laysBack_4 15 rfl rfl)
theorem dX6_laysBack_110 : decode cX6_laysBack 110 = .ok (.iload_n 3, 1) := dk_29 (dk_at dksX6_laysBack_4 16 rfl rfl)
theorem dX6_laysBack_111 : decode cX6_laysBack 111 = .ok (.bipush 10, 2) := dk_16 10 (dk_at dksX6_laysBack_4 17 rfl rfl)
theorem dX6_laysBack_113 : decode cX6_laysBack 113 = .ok (.if_icmp .ge 105, 3) := dk_162 0 105 (dk_at dksX6_laysBack_4 19 rfl rfl)
theorem dX6_laysBack_116 : decode cX6_laysBack 116 = .ok (.aload_n 0, 1) := dk_42 (dk_at dksX6_laysBack_4 22 rfl rfl)
theorem dX6_laysBack_117 : decode cX6_laysBack 117 = .ok (.getfield 99, 3) := dk_180 0 99 (dk_at dksX6_laysBack_5 0 rfl rfl)
theorem dX6_laysBack_120 : decode cX6_laysBack 120 = .ok (.bipush 10, 2) := dk_16 10 (dk_at dksX6_laysBack_5 3 rfl rfl)
theorem dX6_laysBack_122 : decode cX6_laysBack 122 = .ok (.iload_n 2, 1) := dk_28 (dk_at dksX6_laysBack_5 5 rfl rfl)
theorem dX6_laysBack_123 : decode cX6_laysBack 123 = .ok (.imul, 1) := dk_104 (dk_at dksX6_laysBack_5 6 rfl rfl)
theorem dX6_laysBack_124 : decode cX6_laysBack 124 = .ok (.iload_n 3, 1) := dk_29 (dk_at dksX6_laysBack_5 7 rfl rfl)
theorem dX6_laysBack_125 : decode cX6_laysBack 125 = .ok (.iadd, 1) := dk_96 (dk_at dksX6_laysBack_5 8 rfl rfl)
theorem dX6_laysBack_126 : decode cX6_laysBack 126 = .ok (.aload_n 0, 1) := dk_42 (dk_at dksX6_laysBack_5 9 rfl rfl)
theorem dX6_laysBack_127 : decode cX6_laysBack 127 = .ok (.getfield 99, 3) := dk_180 0 99 (dk_at dksX6_laysBack_5 10 rfl rfl)
theorem dX6_laysBack_130 : decode cX6_laysBack 130 = .ok (.bipush 10, 2) := dk_16 10 (dk_at dksX6_laysBack_5 13 rfl rfl)
theorem dX6_laysBack_132 : decode cX6_laysBack 132 = .ok (.iload_n 2, 1) := dk_28 (dk_at dksX6_laysBack_5 15 rfl rfl)
theorem dX6_laysBack_133 : decode cX6_laysBack 133 = .ok (.imul, 1) := dk_104 (dk_at dksX6_laysBack_5 16 rfl rfl)
theorem dX6_laysBack_134 : decode cX6_laysBack 134 = .ok (.iload_n 3, 1) := dk_29 (dk_at dksX6_laysBack_5 17 rfl rfl)
theorem dX6_laysBack_135 : decode cX6_laysBack 135 = .ok (.iadd, 1) := dk_96 (dk_at dksX6_laysBack_5 18 rfl rfl)
theorem dX6_laysBack_136 : decode cX6_laysBack 136 = .ok (.iaload, 1) := dk_46 (dk_at dksX6_laysBack_5 19 rfl rfl)
theorem dX6_laysBack_137 : decode cX6_laysBack 137 = .ok (.aload_n 0, 1) := dk_42 (dk_at dksX6_laysBack_5 20 rfl rfl)
theorem dX6_laysBack_138 : decode cX6_laysBack 138 = .ok (.getfield 99, 3) := dk_180 0 99 (dk_at dksX6_laysBack_5 21 rfl rfl)
theorem dX6_laysBack_141 : decode cX6_laysBack 141 = .ok (.bipush 10, 2) := dk_16 10 (dk_at dksX6_laysBack_6 0 rfl rfl)
theorem dX6_laysBack_143 : decode cX6_laysBack 143 = .ok (.iload_n 2, 1) := dk_28 (dk_at dksX6_laysBack_6 2 rfl rfl)
theorem dX6_laysBack_144 : decode cX6_laysBack 144 = .ok (.imul, 1) := dk_104 (dk_at dksX6_laysBack_6 3 rfl rfl)
theorem dX6_laysBack_145 : decode cX6_laysBack 145 = .ok (.iload_n 1, 1) := dk_27 (dk_at dksX6_laysBack_6 4 rfl rfl)
theorem dX6_laysBack_146 : decode cX6_laysBack 146 = .ok (.iadd, 1) := dk_96 (dk_at dksX6_laysBack_6 5 rfl rfl)
theorem dX6_laysBack_147 : decode cX6_laysBack 147 = .ok (.iaload, 1) := dk_46 (dk_at dksX6_laysBack_6 6 rfl rfl)
theorem dX6_laysBack_148 : decode cX6_laysBack 148 = .ok (.aload_n 0, 1) := dk_42 (dk_at dksX6_laysBack_6 7 rfl rfl)
theorem dX6_laysBack_149 : decode cX6_laysBack 149 = .ok (.getfield 99, 3) := dk_180 0 99 (dk_at dksX6_laysBack_6 8 rfl rfl)
theorem dX6_laysBack_152 : decode cX6_laysBack 152 = .ok (.bipush 10, 2) := dk_16 10 (dk_at dksX6_laysBack_6 11 rfl rfl)
theorem dX6_laysBack_154 : decode cX6_laysBack 154 = .ok (.iload_n 1, 1) := dk_27 (dk_at dksX6_laysBack_6 13 rfl rfl)
theorem dX6_laysBack_155 : decode cX6_laysBack 155 = .ok (.imul, 1) := dk_104 (dk_at dksX6_laysBack_6 14 rfl rfl)
theorem dX6_laysBack_156 : decode cX6_laysBack 156 = .ok (.iload_n 3, 1) := dk_29 (dk_at dksX6_laysBack_6 15 rfl rfl)
theorem dX6_laysBack_157 : decode cX6_laysBack 157 = .ok (.iadd, 1) := dk_96 (dk_at dksX6_laysBack_6 16 rfl rfl)
theorem dX6_laysBack_158 : decode cX6_laysBack 158 = .ok (.iaload, 1) := dk_46 (dk_at dksX6_laysBack_6 17 rfl rfl)
theorem dX6_laysBack_159 : decode cX6_laysBack 159 = .ok (.iadd, 1) := dk_96 (dk_at dksX6_laysBack_6 18 rfl rfl)
theorem dX6_laysBack_160 : decode cX6_laysBack 160 = .ok (.invokestatic 290, 3) := dk_184 1 34 (dk_at dksX6_laysBack_6 19 rfl rfl)
theorem dX6_laysBack_163 : decode cX6_laysBack 163 = .ok (.iastore, 1) := dk_79 (dk_at dksX6_laysBack_6 22 rfl rfl)
theorem dX6_laysBack_164 : decode cX6_laysBack 164 = .ok (.aload_n 0, 1) := dk_42 (dk_at dksX6_laysBack_6 23 rfl rfl)
theorem dX6_laysBack_165 : decode cX6_laysBack 165 = .ok (.getfield 102, 3) := dk_180 0 102 (dk_at dksX6_laysBack_7 0 rfl rfl)
theorem dX6_laysBack_168 : decode cX6_laysBack 168 = .ok (.bipush 10, 2) := dk_16 10 (dk_at dksX6_laysBack_7 3 rfl rfl)
theorem dX6_laysBack_170 : decode cX6_laysBack 170 = .ok (.iload_n 2, 1) := dk_28 (dk_at dksX6_laysBack_7 5 rfl rfl)
theorem dX6_laysBack_171 : decode cX6_laysBack 171 = .ok (.imul, 1) := dk_104 (dk_at dksX6_laysBack_7 6 rfl rfl)
theorem dX6_laysBack_172 : decode cX6_laysBack 172 = .ok (.iload_n 3, 1) := dk_29 (dk_at dksX6_laysBack_7 7 rfl rfl)
theorem dX6_laysBack_173 : decode cX6_laysBack 173 = .ok (.iadd, 1) := dk_96 (dk_at dksX6_laysBack_7 8 rfl rfl)
theorem dX6_laysBack_174 : decode cX6_laysBack 174 = .ok (.aload_n 0, 1) := dk_42 (dk_at dksX6_laysBack_7 9 rfl rfl)
theorem dX6_laysBack_175 : decode cX6_laysBack 175 = .ok (.getfield 102, 3) := dk_180 0 102 (dk_at dksX6_laysBack_7 10 rfl rfl)
theorem dX6_laysBack_178 : decode cX6_laysBack 178 = .ok (.bipush 10, 2) := dk_16 10 (dk_at dksX6_laysBack_7 13 rfl rfl)
theorem dX6_laysBack_180 : decode cX6_laysBack 180 = .ok (.iload_n 2, 1) := dk_28 (dk_at dksX6_laysBack_7 15 rfl rfl)
theorem dX6_laysBack_181 : decode cX6_laysBack 181 = .ok (.imul, 1) := dk_104 (dk_at dksX6_laysBack_7 16 rfl rfl)
theorem dX6_laysBack_182 : decode cX6_laysBack 182 = .ok (.iload_n 3, 1) := dk_29 (dk_at dksX6_laysBack_7 17 rfl rfl)
theorem dX6_laysBack_183 : decode cX6_laysBack 183 = .ok (.iadd, 1) := dk_96 (dk_at dksX6_laysBack_7 18 rfl rfl)
theorem dX6_laysBack_184 : decode cX6_laysBack 184 = .ok (.iaload, 1) := dk_46 (dk_at dksX6_laysBack_7 19 rfl rfl)
theorem dX6_laysBack_185 : decode cX6_laysBack 185 = .ok (.aload_n 0, 1) := dk_42 (dk_at dksX6_laysBack_7 20 rfl rfl)
theorem dX6_laysBack_186 : decode cX6_laysBack 186 = .ok (.getfield 102, 3) := dk_180 0 102 (dk_at dksX6_laysBack_7 21 rfl rfl)
theorem dX6_laysBack_189 : decode cX6_laysBack 189 = .ok (.bipush 10, 2) := dk_16 10 (dk_at dksX6_laysBack_8 0 rfl rfl)
theorem dX6_laysBack_191 : decode cX6_laysBack 191 = .ok (.iload_n 2, 1) := dk_28 (dk_at dksX6_laysBack_8 2 rfl rfl)
theorem dX6_laysBack_192 : decode cX6_laysBack 192 = .ok (.imul, 1) := dk_104 (dk_at dksX6_laysBack_8 3 rfl rfl)
theorem dX6_laysBack_193 : decode cX6_laysBack 193 = .ok (.iload_n 1, 1) := dk_27 (dk_at dksX6_laysBack_8 4 rfl rfl)
theorem dX6_laysBack_194 : decode cX6_laysBack 194 = .ok (.iadd, 1) := dk_96 (dk_at dksX6_laysBack_8 5 rfl rfl)
theorem dX6_laysBack_195 : decode cX6_laysBack 195 = .ok (.iaload, 1) := dk_46 (dk_at dksX6_laysBack_8 6 rfl rfl)
theorem dX6_laysBack_196 : decode cX6_laysBack 196 = .ok (.aload_n 0, 1) := dk_42 (dk_at dksX6_laysBack_8 7 rfl rfl)
theorem dX6_laysBack_197 : decode cX6_laysBack 197 = .ok (.getfield 102, 3) := dk_180 0 102 (dk_at dksX6_laysBack_8 8 rfl rfl)
theorem dX6_laysBack_200 : decode cX6_laysBack 200 = .ok (.bipush 10, 2) := dk_16 10 (dk_at dksX6_laysBack_8 11 rfl rfl)
theorem dX6_laysBack_202 : decode cX6_laysBack 202 = .ok (.iload_n 1, 1) := dk_27 (dk_at dksX6_laysBack_8 13 rfl rfl)
theorem dX6_laysBack_203 : decode cX6_laysBack 203 = .ok (.imul, 1) := dk_104 (dk_at dksX6_laysBack_8 14 rfl rfl)
theorem dX6_laysBack_204 : decode cX6_laysBack 204 = .ok (.iload_n 3, 1) := dk_29 (dk_at dksX6_laysBack_8 15 rfl rfl)
theorem dX6_laysBack_205 : decode cX6_laysBack 205 = .ok (.iadd, 1) := dk_96 (dk_at dksX6_laysBack_8 16 rfl rfl)
theorem dX6_laysBack_206 : decode cX6_laysBack 206 = .ok (.iaload, 1) := dk_46 (dk_at dksX6_laysBack_8 17 rfl rfl)
theorem dX6_laysBack_207 : decode cX6_laysBack 207 = .ok (.iadd, 1) := dk_96 (dk_at dksX6_laysBack_8 18 rfl rfl)
theorem dX6_laysBack_208 : decode cX6_laysBack 208 = .ok (.invokestatic 290, 3) := dk_184 1 34 (dk_at dksX6_laysBack_8 19 rfl rfl)
theorem dX6_laysBack_211 : decode cX6_laysBack 211 = .ok (.iastore, 1) := dk_79 (dk_at dksX6_laysBack_8 22 rfl rfl)
theorem dX6_laysBack_212 : decode cX6_laysBack 212 = .ok (.iinc 3 1, 3) := dk_132 3 1 (dk_at dksX6_laysBack_9 0 rfl rfl)
theorem dX6_laysBack_215 : decode cX6_laysBack 215 = .ok (.goto (-105), 3) := dk_167 255 151 (dk_at dksX6_laysBack_9 3 rfl rfl)
theorem dX6_laysBack_218 : decode cX6_laysBack 218 = .ok (.iinc 2 1, 3) := dk_132 2 1 (dk_at dksX6_laysBack_9 6 rfl rfl)
theorem dX6_laysBack_221 : decode cX6_laysBack 221 = .ok (.goto (-119), 3) := dk_167 255 137 (dk_at dksX6_laysBack_9 9 rfl rfl)
theorem dX6_laysBack_224 : decode cX6_laysBack 224 = .ok (.iinc 1 1, 3) := dk_132 1 1 (dk_at dksX6_laysBack_9 12 rfl rfl)
theorem dX6_laysBack_227 : decode cX6_laysBack 227 = .ok (.goto (-133), 3) := dk_167 255 123 (dk_at dksX6_laysBack_9 15 rfl rfl)
theorem dX6_laysBack_230 : decode cX6_laysBack 230 = .ok (.return_, 1) := dk_177 (dk_at dksX6_laysBack_9 18 rfl rfl)
abbrev cX6_even : ByteArray := prog_20_method_92_code
def yX6_even : MethodName := ⟨RX6, "even", "(I)I"⟩
def dkwX6_even_8 : List UInt8 := [160, 0, 7, 29, 167, 0, 9, 42, 180, 0, 114, 27, 46, 172]
abbrev dktX6_even_8 : List UInt8 := dkwX6_even_8 ++ []
def dkwX6_even_7 : List UInt8 := [180, 0, 111, 21, 5, 46, 46, 79, 132, 5, 1, 167, 255, 225, 132, 4, 1, 167, 255, 173, 27, 16, 101]
abbrev dktX6_even_7 : List UInt8 := dkwX6_even_7 ++ dktX6_even_8
def dkwX6_even_6 : List UInt8 := [54, 5, 21, 5, 42, 180, 1, 160, 162, 0, 28, 42, 180, 0, 114, 21, 5, 42, 180, 0, 108, 42]
abbrev dktX6_even_6 : List UInt8 := dkwX6_even_6 ++ dktX6_even_7
def dkwX6_even_5 : List UInt8 := [42, 180, 1, 160, 182, 1, 172, 29, 161, 0, 6, 167, 0, 49, 42, 42, 180, 1, 160, 182, 1, 172, 62, 3]
abbrev dktX6_even_5 : List UInt8 := dkwX6_even_5 ++ dktX6_even_6
def dkwX6_even_4 : List UInt8 := [62, 3, 54, 4, 21, 4, 28, 162, 0, 83, 42, 21, 4, 42, 180, 1, 160, 182, 1, 169, 153, 0, 64, 42]
abbrev dktX6_even_4 : List UInt8 := dkwX6_even_4 ++ dktX6_even_5
def dkwX6_even_3 : List UInt8 := [29, 42, 180, 1, 160, 162, 0, 16, 28, 42, 180, 1, 160, 104, 61, 132, 3, 1, 167, 255, 238, 19, 1, 156]
abbrev dktX6_even_3 : List UInt8 := dkwX6_even_3 ++ dktX6_even_4
def dkwX6_even_2 : List UInt8 := [16, 253, 172, 27, 16, 100, 162, 0, 14, 27, 42, 180, 1, 160, 161, 0, 6, 16, 252, 172, 4, 61, 3, 62]
abbrev dktX6_even_2 : List UInt8 := dkwX6_even_2 ++ dktX6_even_3
def dkwX6_even_1 : List UInt8 := [182, 1, 166, 27, 16, 100, 160, 0, 8, 42, 180, 1, 160, 172, 42, 180, 1, 160, 16, 6, 164, 0, 6]
abbrev dktX6_even_1 : List UInt8 := dkwX6_even_1 ++ dktX6_even_2
def dkwX6_even_0 : List UInt8 := [27, 3, 8, 184, 0, 123, 154, 0, 16, 27, 16, 100, 16, 101, 184, 0, 123, 154, 0, 5, 2, 172, 42]
abbrev dktX6_even_0 : List UInt8 := dkwX6_even_0 ++ dktX6_even_1
theorem dksX6_even_0 : cX6_even.data.toList.drop 0 = dktX6_even_0 := by decide +kernel
theorem dksX6_even_1 : cX6_even.data.toList.drop 23 = dktX6_even_1 := dk_seg dksX6_even_0 23 rfl rfl
theorem dksX6_even_2 : cX6_even.data.toList.drop 46 = dktX6_even_2 := dk_seg dksX6_even_1 23 rfl rfl
theorem dksX6_even_3 : cX6_even.data.toList.drop 70 = dktX6_even_3 := dk_seg dksX6_even_2 24 rfl rfl
theorem dksX6_even_4 : cX6_even.data.toList.drop 94 = dktX6_even_4 := dk_seg dksX6_even_3 24 rfl rfl
theorem dksX6_even_5 : cX6_even.data.toList.drop 118 = dktX6_even_5 := dk_seg dksX6_even_4 24 rfl rfl
theorem dksX6_even_6 : cX6_even.data.toList.drop 142 = dktX6_even_6 := dk_seg dksX6_even_5 24 rfl rfl
theorem dksX6_even_7 : cX6_even.data.toList.drop 164 = dktX6_even_7 := dk_seg dksX6_even_6 22 rfl rfl
theorem dksX6_even_8 : cX6_even.data.toList.drop 187 = dktX6_even_8 := dk_seg dksX6_even_7 23 rfl rfl
theorem dX6_even_0 : decode cX6_even 0 = .ok (.iload_n 1, 1) := dk_27 (dk_at dksX6_even_0 0 rfl rfl)
theorem dX6_even_1 : decode cX6_even 1 = .ok (.iconst 0, 1) := dk_3 (dk_at dksX6_even_0 1 rfl rfl)
theorem dX6_even_2 : decode cX6_even 2 = .ok (.iconst 5, 1) := dk_8 (dk_at dksX6_even_0 2 rfl rfl)
theorem dX6_even_3 : decode cX6_even 3 = .ok (.invokestatic 123, 3) := dk_184 0 123 (dk_at dksX6_even_0 3 rfl rfl)
theorem dX6_even_6 : decode cX6_even 6 = .ok (.ifCond .ne 16, 3) := dk_154 0 16 (dk_at dksX6_even_0 6 rfl rfl)
theorem dX6_even_9 : decode cX6_even 9 = .ok (.iload_n 1, 1) := dk_27 (dk_at dksX6_even_0 9 rfl rfl)
theorem dX6_even_10 : decode cX6_even 10 = .ok (.bipush 100, 2) := dk_16 100 (dk_at dksX6_even_0 10 rfl rfl)
theorem dX6_even_12 : decode cX6_even 12 = .ok (.bipush 101, 2) := dk_16 101 (dk_at dksX6_even_0 12 rfl rfl)
theorem dX6_even_14 : decode cX6_even 14 = .ok (.invokestatic 123, 3) := dk_184 0 123 (dk_at dksX6_even_0 14 rfl rfl)
theorem dX6_even_17 : decode cX6_even 17 = .ok (.ifCond .ne 5, 3) := dk_154 0 5 (dk_at dksX6_even_0 17 rfl rfl)
theorem dX6_even_20 : decode cX6_even 20 = .ok (.iconst (-1), 1) := dk_2 (dk_at dksX6_even_0 20 rfl rfl)
theorem dX6_even_21 : decode cX6_even 21 = .ok (.ireturn, 1) := dk_172 (dk_at dksX6_even_0 21 rfl rfl)
theorem dX6_even_22 : decode cX6_even 22 = .ok (.aload_n 0, 1) := dk_42 (dk_at dksX6_even_0 22 rfl rfl)
theorem dX6_even_23 : decode cX6_even 23 = .ok (.invokevirtual 422, 3) := dk_182 1 166 (dk_at dksX6_even_1 0 rfl rfl)
theorem dX6_even_26 : decode cX6_even 26 = .ok (.iload_n 1, 1) := dk_27 (dk_at dksX6_even_1 3 rfl rfl)
theorem dX6_even_27 : decode cX6_even 27 = .ok (.bipush 100, 2) := dk_16 100 (dk_at dksX6_even_1 4 rfl rfl)
theorem dX6_even_29 : decode cX6_even 29 = .ok (.if_icmp .ne 8, 3) := dk_160 0 8 (dk_at dksX6_even_1 6 rfl rfl)
theorem dX6_even_32 : decode cX6_even 32 = .ok (.aload_n 0, 1) := dk_42 (dk_at dksX6_even_1 9 rfl rfl)
theorem dX6_even_33 : decode cX6_even 33 = .ok (.getfield 416, 3) := dk_180 1 160 (dk_at dksX6_even_1 10 rfl rfl)
theorem dX6_even_36 : decode cX6_even 36 = .ok (.ireturn, 1) := dk_172 (dk_at dksX6_even_1 13 rfl rfl)
theorem dX6_even_37 : decode cX6_even 37 = .ok (.aload_n 0, 1) := dk_42 (dk_at dksX6_even_1 14 rfl rfl)
theorem dX6_even_38 : decode cX6_even 38 = .ok (.getfield 416, 3) := dk_180 1 160 (dk_at dksX6_even_1 15 rfl rfl)
theorem dX6_even_41 : decode cX6_even 41 = .ok (.bipush 6, 2) := dk_16 6 (dk_at dksX6_even_1 18 rfl rfl)
theorem dX6_even_43 : decode cX6_even 43 = .ok (.if_icmp .le 6, 3) := dk_164 0 6 (dk_at dksX6_even_1 20 rfl rfl)
theorem dX6_even_46 : decode cX6_even 46 = .ok (.bipush (-3), 2) := dk_16 253 (dk_at dksX6_even_2 0 rfl rfl)
theorem dX6_even_48 : decode cX6_even 48 = .ok (.ireturn, 1) := dk_172 (dk_at dksX6_even_2 2 rfl rfl)
theorem dX6_even_49 : decode cX6_even 49 = .ok (.iload_n 1, 1) := dk_27 (dk_at dksX6_even_2 3 rfl rfl)
theorem dX6_even_50 : decode cX6_even 50 = .ok (.bipush 100, 2) := dk_16 100 (dk_at dksX6_even_2 4 rfl rfl)
theorem dX6_even_52 : decode cX6_even 52 = .ok (.if_icmp .ge 14, 3) := dk_162 0 14 (dk_at dksX6_even_2 6 rfl rfl)
theorem dX6_even_55 : decode cX6_even 55 = .ok (.iload_n 1, 1) := dk_27 (dk_at dksX6_even_2 9 rfl rfl)
theorem dX6_even_56 : decode cX6_even 56 = .ok (.aload_n 0, 1) := dk_42 (dk_at dksX6_even_2 10 rfl rfl)
theorem dX6_even_57 : decode cX6_even 57 = .ok (.getfield 416, 3) := dk_180 1 160 (dk_at dksX6_even_2 11 rfl rfl)
theorem dX6_even_60 : decode cX6_even 60 = .ok (.if_icmp .lt 6, 3) := dk_161 0 6 (dk_at dksX6_even_2 14 rfl rfl)
theorem dX6_even_63 : decode cX6_even 63 = .ok (.bipush (-4), 2) := dk_16 252 (dk_at dksX6_even_2 17 rfl rfl)
theorem dX6_even_65 : decode cX6_even 65 = .ok (.ireturn, 1) := dk_172 (dk_at dksX6_even_2 19 rfl rfl)
theorem dX6_even_66 : decode cX6_even 66 = .ok (.iconst 1, 1) := dk_4 (dk_at dksX6_even_2 20 rfl rfl)
theorem dX6_even_67 : decode cX6_even 67 = .ok (.istore_n 2, 1) := dk_61 (dk_at dksX6_even_2 21 rfl rfl)
theorem dX6_even_68 : decode cX6_even 68 = .ok (.iconst 0, 1) := dk_3 (dk_at dksX6_even_2 22 rfl rfl)
theorem dX6_even_69 : decode cX6_even 69 = .ok (.istore_n 3, 1) := dk_62 (dk_at dksX6_even_2 23 rfl rfl)
theorem dX6_even_70 : decode cX6_even 70 = .ok (.iload_n 3, 1) := dk_29 (dk_at dksX6_even_3 0 rfl rfl)
theorem dX6_even_71 : decode cX6_even 71 = .ok (.aload_n 0, 1) := dk_42 (dk_at dksX6_even_3 1 rfl rfl)
theorem dX6_even_72 : decode cX6_even 72 = .ok (.getfield 416, 3) := dk_180 1 160 (dk_at dksX6_even_3 2 rfl rfl)
theorem dX6_even_75 : decode cX6_even 75 = .ok (.if_icmp .ge 16, 3) := dk_162 0 16 (dk_at dksX6_even_3 5 rfl rfl)
theorem dX6_even_78 : decode cX6_even 78 = .ok (.iload_n 2, 1) := dk_28 (dk_at dksX6_even_3 8 rfl rfl)
theorem dX6_even_79 : decode cX6_even 79 = .ok (.aload_n 0, 1) := dk_42 (dk_at dksX6_even_3 9 rfl rfl)
theorem dX6_even_80 : decode cX6_even 80 = .ok (.getfield 416, 3) := dk_180 1 160 (dk_at dksX6_even_3 10 rfl rfl)
theorem dX6_even_83 : decode cX6_even 83 = .ok (.imul, 1) := dk_104 (dk_at dksX6_even_3 13 rfl rfl)
theorem dX6_even_84 : decode cX6_even 84 = .ok (.istore_n 2, 1) := dk_61 (dk_at dksX6_even_3 14 rfl rfl)
theorem dX6_even_85 : decode cX6_even 85 = .ok (.iinc 3 1, 3) := dk_132 3 1 (dk_at dksX6_even_3 15 rfl rfl)
theorem dX6_even_88 : decode cX6_even 88 = .ok (.goto (-18), 3) := dk_167 255 238 (dk_at dksX6_even_3 18 rfl rfl)
theorem dX6_even_91 : decode cX6_even 91 = .ok (.ldc_w 412, 3) := dk_19 1 156 (dk_at dksX6_even_3 21 rfl rfl)
theorem dX6_even_94 : decode cX6_even 94 = .ok (.istore_n 3, 1) := dk_62 (dk_at dksX6_even_4 0 rfl rfl)
theorem dX6_even_95 : decode cX6_even 95 = .ok (.iconst 0, 1) := dk_3 (dk_at dksX6_even_4 1 rfl rfl)
theorem dX6_even_96 : decode cX6_even 96 = .ok (.istore 4, 2) := dk_54 4 (dk_at dksX6_even_4 2 rfl rfl)
theorem dX6_even_98 : decode cX6_even 98 = .ok (.iload 4, 2) := dk_21 4 (dk_at dksX6_even_4 4 rfl rfl)
theorem dX6_even_100 : decode cX6_even 100 = .ok (.iload_n 2, 1) := dk_28 (dk_at dksX6_even_4 6 rfl rfl)
theorem dX6_even_101 : decode cX6_even 101 = .ok (.if_icmp .ge 83, 3) := dk_162 0 83 (dk_at dksX6_even_4 7 rfl rfl)
theorem dX6_even_104 : decode cX6_even 104 = .ok (.aload_n 0, 1) := dk_42 (dk_at dksX6_even_4 10 rfl rfl)
theorem dX6_even_105 : decode cX6_even 105 = .ok (.iload 4, 2) := dk_21 4 (dk_at dksX6_even_4 11 rfl rfl)
theorem dX6_even_107 : decode cX6_even 107 = .ok (.aload_n 0, 1) := dk_42 (dk_at dksX6_even_4 13 rfl rfl)
theorem dX6_even_108 : decode cX6_even 108 = .ok (.getfield 416, 3) := dk_180 1 160 (dk_at dksX6_even_4 14 rfl rfl)
theorem dX6_even_111 : decode cX6_even 111 = .ok (.invokevirtual 425, 3) := dk_182 1 169 (dk_at dksX6_even_4 17 rfl rfl)
theorem dX6_even_114 : decode cX6_even 114 = .ok (.ifCond .eq 64, 3) := dk_153 0 64 (dk_at dksX6_even_4 20 rfl rfl)
theorem dX6_even_117 : decode cX6_even 117 = .ok (.aload_n 0, 1) := dk_42 (dk_at dksX6_even_4 23 rfl rfl)
theorem dX6_even_118 : decode cX6_even 118 = .ok (.aload_n 0, 1) := dk_42 (dk_at dksX6_even_5 0 rfl rfl)
theorem dX6_even_119 : decode cX6_even 119 = .ok (.getfield 416, 3) := dk_180 1 160 (dk_at dksX6_even_5 1 rfl rfl)
theorem dX6_even_122 : decode cX6_even 122 = .ok (.invokevirtual 428, 3) := dk_182 1 172 (dk_at dksX6_even_5 4 rfl rfl)
theorem dX6_even_125 : decode cX6_even 125 = .ok (.iload_n 3, 1) := dk_29 (dk_at dksX6_even_5 7 rfl rfl)
theorem dX6_even_126 : decode cX6_even 126 = .ok (.if_icmp .lt 6, 3) := dk_161 0 6 (dk_at dksX6_even_5 8 rfl rfl)
theorem dX6_even_129 : decode cX6_even 129 = .ok (.goto 49, 3) := dk_167 0 49 (dk_at dksX6_even_5 11 rfl rfl)
theorem dX6_even_132 : decode cX6_even 132 = .ok (.aload_n 0, 1) := dk_42 (dk_at dksX6_even_5 14 rfl rfl)
theorem dX6_even_133 : decode cX6_even 133 = .ok (.aload_n 0, 1) := dk_42 (dk_at dksX6_even_5 15 rfl rfl)
theorem dX6_even_134 : decode cX6_even 134 = .ok (.getfield 416, 3) := dk_180 1 160 (dk_at dksX6_even_5 16 rfl rfl)
theorem dX6_even_137 : decode cX6_even 137 = .ok (.invokevirtual 428, 3) := dk_182 1 172 (dk_at dksX6_even_5 19 rfl rfl)
theorem dX6_even_140 : decode cX6_even 140 = .ok (.istore_n 3, 1) := dk_62 (dk_at dksX6_even_5 22 rfl rfl)
theorem dX6_even_141 : decode cX6_even 141 = .ok (.iconst 0, 1) := dk_3 (dk_at dksX6_even_5 23 rfl rfl)
theorem dX6_even_142 : decode cX6_even 142 = .ok (.istore 5, 2) := dk_54 5 (dk_at dksX6_even_6 0 rfl rfl)
theorem dX6_even_144 : decode cX6_even 144 = .ok (.iload 5, 2) := dk_21 5 (dk_at dksX6_even_6 2 rfl rfl)
theorem dX6_even_146 : decode cX6_even 146 = .ok (.aload_n 0, 1) := dk_42 (dk_at dksX6_even_6 4 rfl rfl)
theorem dX6_even_147 : decode cX6_even 147 = .ok (.getfield 416, 3) := dk_180 1 160 (dk_at dksX6_even_6 5 rfl rfl)
theorem dX6_even_150 : decode cX6_even 150 = .ok (.if_icmp .ge 28, 3) := dk_162 0 28 (dk_at dksX6_even_6 8 rfl rfl)
theorem dX6_even_153 : decode cX6_even 153 = .ok (.aload_n 0, 1) := dk_42 (dk_at dksX6_even_6 11 rfl rfl)
theorem dX6_even_154 : decode cX6_even 154 = .ok (.getfield 114, 3) := dk_180 0 114 (dk_at dksX6_even_6 12 rfl rfl)
theorem dX6_even_157 : decode cX6_even 157 = .ok (.iload 5, 2) := dk_21 5 (dk_at dksX6_even_6 15 rfl rfl)
theorem dX6_even_159 : decode cX6_even 159 = .ok (.aload_n 0, 1) := dk_42 (dk_at dksX6_even_6 17 rfl rfl)
theorem dX6_even_160 : decode cX6_even 160 = .ok (.getfield 108, 3) := dk_180 0 108 (dk_at dksX6_even_6 18 rfl rfl)
theorem dX6_even_163 : decode cX6_even 163 = .ok (.aload_n 0, 1) := dk_42 (dk_at dksX6_even_6 21 rfl rfl)
theorem dX6_even_164 : decode cX6_even 164 = .ok (.getfield 111, 3) := dk_180 0 111 (dk_at dksX6_even_7 0 rfl rfl)
theorem dX6_even_167 : decode cX6_even 167 = .ok (.iload 5, 2) := dk_21 5 (dk_at dksX6_even_7 3 rfl rfl)
theorem dX6_even_169 : decode cX6_even 169 = .ok (.iaload, 1) := dk_46 (dk_at dksX6_even_7 5 rfl rfl)
theorem dX6_even_170 : decode cX6_even 170 = .ok (.iaload, 1) := dk_46 (dk_at dksX6_even_7 6 rfl rfl)
theorem dX6_even_171 : decode cX6_even 171 = .ok (.iastore, 1) := dk_79 (dk_at dksX6_even_7 7 rfl rfl)
theorem dX6_even_172 : decode cX6_even 172 = .ok (.iinc 5 1, 3) := dk_132 5 1 (dk_at dksX6_even_7 8 rfl rfl)
theorem dX6_even_175 : decode cX6_even 175 = .ok (.goto (-31), 3) := dk_167 255 225 (dk_at dksX6_even_7 11 rfl rfl)
theorem dX6_even_178 : decode cX6_even 178 = .ok (.iinc 4 1, 3) := dk_132 4 1 (dk_at dksX6_even_7 14 rfl rfl)
theorem dX6_even_181 : decode cX6_even 181 = .ok (.goto (-83), 3) := dk_167 255 173 (dk_at dksX6_even_7 17 rfl rfl)
theorem dX6_even_184 : decode cX6_even 184 = .ok (.iload_n 1, 1) := dk_27 (dk_at dksX6_even_7 20 rfl rfl)
theorem dX6_even_185 : decode cX6_even 185 = .ok (.bipush 101, 2) := dk_16 101 (dk_at dksX6_even_7 21 rfl rfl)
theorem dX6_even_187 : decode cX6_even 187 = .ok (.if_icmp .ne 7, 3) := dk_160 0 7 (dk_at dksX6_even_8 0 rfl rfl)
theorem dX6_even_190 : decode cX6_even 190 = .ok (.iload_n 3, 1) := dk_29 (dk_at dksX6_even_8 3 rfl rfl)
theorem dX6_even_191 : decode cX6_even 191 = .ok (.goto 9, 3) := dk_167 0 9 (dk_at dksX6_even_8 4 rfl rfl)
theorem dX6_even_194 : decode cX6_even 194 = .ok (.aload_n 0, 1) := dk_42 (dk_at dksX6_even_8 7 rfl rfl)
theorem dX6_even_195 : decode cX6_even 195 = .ok (.getfield 114, 3) := dk_180 0 114 (dk_at dksX6_even_8 8 rfl rfl)
theorem dX6_even_198 : decode cX6_even 198 = .ok (.iload_n 1, 1) := dk_27 (dk_at dksX6_even_8 11 rfl rfl)
theorem dX6_even_199 : decode cX6_even 199 = .ok (.iaload, 1) := dk_46 (dk_at dksX6_even_8 12 rfl rfl)
theorem dX6_even_200 : decode cX6_even 200 = .ok (.ireturn, 1) := dk_172 (dk_at dksX6_even_8 13 rfl rfl)
abbrev cX6_laysLacks : ByteArray := prog_20_method_89_code
def yX6_laysLacks : MethodName := ⟨RX6, "laysLacks", "()V"⟩
def dkwX6_laysLacks_4 : List UInt8 := [167, 255, 229, 132, 2, 1, 167, 255, 164, 177]
abbrev dktX6_laysLacks_4 : List UInt8 := dkwX6_laysLacks_4 ++ []
def dkwX6_laysLacks_3 : List UInt8 := [162, 0, 26, 27, 16, 6, 162, 0, 10, 42, 180, 0, 108, 27, 28, 79, 27, 4, 96, 60, 132, 4, 1]
abbrev dktX6_laysLacks_3 : List UInt8 := dkwX6_laysLacks_3 ++ dktX6_laysLacks_4
def dkwX6_laysLacks_2 : List UInt8 := [79, 42, 42, 180, 1, 160, 4, 96, 181, 1, 160, 132, 4, 1, 167, 255, 218, 3, 54, 4, 21, 4, 29, 116]
abbrev dktX6_laysLacks_2 : List UInt8 := dkwX6_laysLacks_2 ++ dktX6_laysLacks_3
def dkwX6_laysLacks_1 : List UInt8 := [21, 4, 29, 162, 0, 38, 42, 180, 1, 160, 16, 6, 162, 0, 13, 42, 180, 0, 105, 42, 180, 1, 160, 28]
abbrev dktX6_laysLacks_1 : List UInt8 := dkwX6_laysLacks_1 ++ dktX6_laysLacks_2
def dkwX6_laysLacks_0 : List UInt8 := [42, 3, 181, 1, 160, 3, 60, 3, 61, 28, 16, 10, 162, 0, 92, 42, 28, 182, 1, 163, 62, 3, 54, 4]
abbrev dktX6_laysLacks_0 : List UInt8 := dkwX6_laysLacks_0 ++ dktX6_laysLacks_1
theorem dksX6_laysLacks_0 : cX6_laysLacks.data.toList.drop 0 = dktX6_laysLacks_0 := by decide +kernel
theorem dksX6_laysLacks_1 : cX6_laysLacks.data.toList.drop 24 = dktX6_laysLacks_1 := dk_seg dksX6_laysLacks_0 24 rfl rfl
theorem dksX6_laysLacks_2 : cX6_laysLacks.data.toList.drop 48 = dktX6_laysLacks_2 := dk_seg dksX6_laysLacks_1 24 rfl rfl
theorem dksX6_laysLacks_3 : cX6_laysLacks.data.toList.drop 72 = dktX6_laysLacks_3 := dk_seg dksX6_laysLacks_2 24 rfl rfl
theorem dksX6_laysLacks_4 : cX6_laysLacks.data.toList.drop 95 = dktX6_laysLacks_4 := dk_seg dksX6_laysLacks_3 23 rfl rfl
theorem dX6_laysLacks_0 : decode cX6_laysLacks 0 = .ok (.aload_n 0, 1) := dk_42 (dk_at dksX6_laysLacks_0 0 rfl rfl)
theorem dX6_laysLacks_1 : decode cX6_laysLacks 1 = .ok (.iconst 0, 1) := dk_3 (dk_at dksX6_laysLacks_0 1 rfl rfl)
theorem dX6_laysLacks_2 : decode cX6_laysLacks 2 = .ok (.putfield 416, 3) := dk_181 1 160 (dk_at dksX6_laysLacks_0 2 rfl rfl)
theorem dX6_laysLacks_5 : decode cX6_laysLacks 5 = .ok (.iconst 0, 1) := dk_3 (dk_at dksX6_laysLacks_0 5 rfl rfl)
theorem dX6_laysLacks_6 : decode cX6_laysLacks 6 = .ok (.istore_n 1, 1) := dk_60 (dk_at dksX6_laysLacks_0 6 rfl rfl)
theorem dX6_laysLacks_7 : decode cX6_laysLacks 7 = .ok (.iconst 0, 1) := dk_3 (dk_at dksX6_laysLacks_0 7 rfl rfl)
theorem dX6_laysLacks_8 : decode cX6_laysLacks 8 = .ok (.istore_n 2, 1) := dk_61 (dk_at dksX6_laysLacks_0 8 rfl rfl)
theorem dX6_laysLacks_9 : decode cX6_laysLacks 9 = .ok (.iload_n 2, 1) := dk_28 (dk_at dksX6_laysLacks_0 9 rfl rfl)
theorem dX6_laysLacks_10 : decode cX6_laysLacks 10 = .ok (.bipush 10, 2) := dk_16 10 (dk_at dksX6_laysLacks_0 10 rfl rfl)
theorem dX6_laysLacks_12 : decode cX6_laysLacks 12 = .ok (.if_icmp .ge 92, 3) := dk_162 0 92 (dk_at dksX6_laysLacks_0 12 rfl rfl)
theorem dX6_laysLacks_15 : decode cX6_laysLacks 15 = .ok (.aload_n 0, 1) := dk_42 (dk_at dksX6_laysLacks_0 15 rfl rfl)
theorem dX6_laysLacks_16 : decode cX6_laysLacks 16 = .ok (.iload_n 2, 1) := dk_28 (dk_at dksX6_laysLacks_0 16 rfl rfl)
theorem dX6_laysLacks_17 : decode cX6_laysLacks 17 = .ok (.invokevirtual 419, 3) := dk_182 1 163 (dk_at dksX6_laysLacks_0 17 rfl rfl)
theorem dX6_laysLacks_20 : decode cX6_laysLacks 20 = .ok (.istore_n 3, 1) := dk_62 (dk_at dksX6_laysLacks_0 20 rfl rfl)
theorem dX6_laysLacks_21 : decode cX6_laysLacks 21 = .ok (.iconst 0, 1) := dk_3 (dk_at dksX6_laysLacks_0 21 rfl rfl)
theorem dX6_laysLacks_22 : decode cX6_laysLacks 22 = .ok (.istore 4, 2) := dk_54 4 (dk_at dksX6_laysLacks_0 22 rfl rfl)
theorem dX6_laysLacks_24 : decode cX6_laysLacks 24 = .ok (.iload 4, 2) := dk_21 4 (dk_at dksX6_laysLacks_1 0 rfl rfl)
theorem dX6_laysLacks_26 : decode cX6_laysLacks 26 = .ok (.iload_n 3, 1) := dk_29 (dk_at dksX6_laysLacks_1 2 rfl rfl)
theorem dX6_laysLacks_27 : decode cX6_laysLacks 27 = .ok (.if_icmp .ge 38, 3) := dk_162 0 38 (dk_at dksX6_laysLacks_1 3 rfl rfl)
theorem dX6_laysLacks_30 : decode cX6_laysLacks 30 = .ok (.aload_n 0, 1) := dk_42 (dk_at dksX6_laysLacks_1 6 rfl rfl)
theorem dX6_laysLacks_31 : decode cX6_laysLacks 31 = .ok (.getfield 416, 3) := dk_180 1 160 (dk_at dksX6_laysLacks_1 7 rfl rfl)
theorem dX6_laysLacks_34 : decode cX6_laysLacks 34 = .ok (.bipush 6, 2) := dk_16 6 (dk_at dksX6_laysLacks_1 10 rfl rfl)
theorem dX6_laysLacks_36 : decode cX6_laysLacks 36 = .ok (.if_icmp .ge 13, 3) := dk_162 0 13 (dk_at dksX6_laysLacks_1 12 rfl rfl)
theorem dX6_laysLacks_39 : decode cX6_laysLacks 39 = .ok (.aload_n 0, 1) := dk_42 (dk_at dksX6_laysLacks_1 15 rfl rfl)
theorem dX6_laysLacks_40 : decode cX6_laysLacks 40 = .ok (.getfield 105, 3) := dk_180 0 105 (dk_at dksX6_laysLacks_1 16 rfl rfl)
theorem dX6_laysLacks_43 : decode cX6_laysLacks 43 = .ok (.aload_n 0, 1) := dk_42 (dk_at dksX6_laysLacks_1 19 rfl rfl)
theorem dX6_laysLacks_44 : decode cX6_laysLacks 44 = .ok (.getfield 416, 3) := dk_180 1 160 (dk_at dksX6_laysLacks_1 20 rfl rfl)
theorem dX6_laysLacks_47 : decode cX6_laysLacks 47 = .ok (.iload_n 2, 1) := dk_28 (dk_at dksX6_laysLacks_1 23 rfl rfl)
theorem dX6_laysLacks_48 : decode cX6_laysLacks 48 = .ok (.iastore, 1) := dk_79 (dk_at dksX6_laysLacks_2 0 rfl rfl)
theorem dX6_laysLacks_49 : decode cX6_laysLacks 49 = .ok (.aload_n 0, 1) := dk_42 (dk_at dksX6_laysLacks_2 1 rfl rfl)
theorem dX6_laysLacks_50 : decode cX6_laysLacks 50 = .ok (.aload_n 0, 1) := dk_42 (dk_at dksX6_laysLacks_2 2 rfl rfl)
theorem dX6_laysLacks_51 : decode cX6_laysLacks 51 = .ok (.getfield 416, 3) := dk_180 1 160 (dk_at dksX6_laysLacks_2 3 rfl rfl)
theorem dX6_laysLacks_54 : decode cX6_laysLacks 54 = .ok (.iconst 1, 1) := dk_4 (dk_at dksX6_laysLacks_2 6 rfl rfl)
theorem dX6_laysLacks_55 : decode cX6_laysLacks 55 = .ok (.iadd, 1) := dk_96 (dk_at dksX6_laysLacks_2 7 rfl rfl)
theorem dX6_laysLacks_56 : decode cX6_laysLacks 56 = .ok (.putfield 416, 3) := dk_181 1 160 (dk_at dksX6_laysLacks_2 8 rfl rfl)
theorem dX6_laysLacks_59 : decode cX6_laysLacks 59 = .ok (.iinc 4 1, 3) := dk_132 4 1 (dk_at dksX6_laysLacks_2 11 rfl rfl)
theorem dX6_laysLacks_62 : decode cX6_laysLacks 62 = .ok (.goto (-38), 3) := dk_167 255 218 (dk_at dksX6_laysLacks_2 14 rfl rfl)
theorem dX6_laysLacks_65 : decode cX6_laysLacks 65 = .ok (.iconst 0, 1) := dk_3 (dk_at dksX6_laysLacks_2 17 rfl rfl)
theorem dX6_laysLacks_66 : decode cX6_laysLacks 66 = .ok (.istore 4, 2) := dk_54 4 (dk_at dksX6_laysLacks_2 18 rfl rfl)
theorem dX6_laysLacks_68 : decode cX6_laysLacks 68 = .ok (.iload 4, 2) := dk_21 4 (dk_at dksX6_laysLacks_2 20 rfl rfl)
theorem dX6_laysLacks_70 : decode cX6_laysLacks 70 = .ok (.iload_n 3, 1) := dk_29 (dk_at dksX6_laysLacks_2 22 rfl rfl)
theorem dX6_laysLacks_71 : decode cX6_laysLacks 71 = .ok (.ineg, 1) := dk_116 (dk_at dksX6_laysLacks_2 23 rfl rfl)
theorem dX6_laysLacks_72 : decode cX6_laysLacks 72 = .ok (.if_icmp .ge 26, 3) := dk_162 0 26 (dk_at dksX6_laysLacks_3 0 rfl rfl)
theorem dX6_laysLacks_75 : decode cX6_laysLacks 75 = .ok (.iload_n 1, 1) := dk_27 (dk_at dksX6_laysLacks_3 3 rfl rfl)
theorem dX6_laysLacks_76 : decode cX6_laysLacks 76 = .ok (.bipush 6, 2) := dk_16 6 (dk_at dksX6_laysLacks_3 4 rfl rfl)
theorem dX6_laysLacks_78 : decode cX6_laysLacks 78 = .ok (.if_icmp .ge 10, 3) := dk_162 0 10 (dk_at dksX6_laysLacks_3 6 rfl rfl)
theorem dX6_laysLacks_81 : decode cX6_laysLacks 81 = .ok (.aload_n 0, 1) := dk_42 (dk_at dksX6_laysLacks_3 9 rfl rfl)
theorem dX6_laysLacks_82 : decode cX6_laysLacks 82 = .ok (.getfield 108, 3) := dk_180 0 108 (dk_at dksX6_laysLacks_3 10 rfl rfl)
theorem dX6_laysLacks_85 : decode cX6_laysLacks 85 = .ok (.iload_n 1, 1) := dk_27 (dk_at dksX6_laysLacks_3 13 rfl rfl)
theorem dX6_laysLacks_86 : decode cX6_laysLacks 86 = .ok (.iload_n 2, 1) := dk_28 (dk_at dksX6_laysLacks_3 14 rfl rfl)
theorem dX6_laysLacks_87 : decode cX6_laysLacks 87 = .ok (.iastore, 1) := dk_79 (dk_at dksX6_laysLacks_3 15 rfl rfl)
theorem dX6_laysLacks_88 : decode cX6_laysLacks 88 = .ok (.iload_n 1, 1) := dk_27 (dk_at dksX6_laysLacks_3 16 rfl rfl)
theorem dX6_laysLacks_89 : decode cX6_laysLacks 89 = .ok (.iconst 1, 1) := dk_4 (dk_at dksX6_laysLacks_3 17 rfl rfl)
theorem dX6_laysLacks_90 : decode cX6_laysLacks 90 = .ok (.iadd, 1) := dk_96 (dk_at dksX6_laysLacks_3 18 rfl rfl)
theorem dX6_laysLacks_91 : decode cX6_laysLacks 91 = .ok (.istore_n 1, 1) := dk_60 (dk_at dksX6_laysLacks_3 19 rfl rfl)
theorem dX6_laysLacks_92 : decode cX6_laysLacks 92 = .ok (.iinc 4 1, 3) := dk_132 4 1 (dk_at dksX6_laysLacks_3 20 rfl rfl)
theorem dX6_laysLacks_95 : decode cX6_laysLacks 95 = .ok (.goto (-27), 3) := dk_167 255 229 (dk_at dksX6_laysLacks_4 0 rfl rfl)
theorem dX6_laysLacks_98 : decode cX6_laysLacks 98 = .ok (.iinc 2 1, 3) := dk_132 2 1 (dk_at dksX6_laysLacks_4 3 rfl rfl)
theorem dX6_laysLacks_101 : decode cX6_laysLacks 101 = .ok (.goto (-92), 3) := dk_167 255 164 (dk_at dksX6_laysLacks_4 6 rfl rfl)
theorem dX6_laysLacks_104 : decode cX6_laysLacks 104 = .ok (.return_, 1) := dk_177 (dk_at dksX6_laysLacks_4 9 rfl rfl)
abbrev cX6_setOffOf : ByteArray := prog_20_method_88_code
def yX6_setOffOf : MethodName := ⟨RX6, "setOffOf", "(I)I"⟩
def dkwX6_setOffOf_0 : List UInt8 := [42, 27, 182, 1, 93, 42, 27, 182, 0, 150, 100, 172]
abbrev dktX6_setOffOf_0 : List UInt8 := dkwX6_setOffOf_0 ++ []
theorem dksX6_setOffOf_0 : cX6_setOffOf.data.toList.drop 0 = dktX6_setOffOf_0 := by decide +kernel
theorem dX6_setOffOf_0 : decode cX6_setOffOf 0 = .ok (.aload_n 0, 1) := dk_42 (dk_at dksX6_setOffOf_0 0 rfl rfl)
theorem dX6_setOffOf_1 : decode cX6_setOffOf 1 = .ok (.iload_n 1, 1) := dk_27 (dk_at dksX6_setOffOf_0 1 rfl rfl)
theorem dX6_setOffOf_2 : decode cX6_setOffOf 2 = .ok (.invokevirtual 349, 3) := dk_182 1 93 (dk_at dksX6_setOffOf_0 2 rfl rfl)
theorem dX6_setOffOf_5 : decode cX6_setOffOf 5 = .ok (.aload_n 0, 1) := dk_42 (dk_at dksX6_setOffOf_0 5 rfl rfl)
theorem dX6_setOffOf_6 : decode cX6_setOffOf 6 = .ok (.iload_n 1, 1) := dk_27 (dk_at dksX6_setOffOf_0 6 rfl rfl)
theorem dX6_setOffOf_7 : decode cX6_setOffOf 7 = .ok (.invokevirtual 150, 3) := dk_182 0 150 (dk_at dksX6_setOffOf_0 7 rfl rfl)
theorem dX6_setOffOf_10 : decode cX6_setOffOf 10 = .ok (.isub, 1) := dk_100 (dk_at dksX6_setOffOf_0 10 rfl rfl)
theorem dX6_setOffOf_11 : decode cX6_setOffOf 11 = .ok (.ireturn, 1) := dk_172 (dk_at dksX6_setOffOf_0 11 rfl rfl)
abbrev cX6_readsRow : ByteArray := prog_20_method_90_code
def yX6_readsRow : MethodName := ⟨RX6, "readsRow", "(II)Z"⟩
def dkwX6_readsRow_2 : List UInt8 := [4, 42, 180, 0, 111, 21, 5, 46, 120, 128, 54, 4, 132, 5, 255, 167, 255, 203, 4, 172]
abbrev dktX6_readsRow_2 : List UInt8 := dkwX6_readsRow_2 ++ []
def dkwX6_readsRow_1 : List UInt8 := [79, 29, 28, 108, 62, 21, 4, 42, 180, 0, 111, 21, 5, 46, 184, 0, 131, 153, 0, 5, 3, 172, 21, 4]
abbrev dktX6_readsRow_1 : List UInt8 := dkwX6_readsRow_1 ++ dktX6_readsRow_2
def dkwX6_readsRow_0 : List UInt8 := [27, 62, 3, 54, 4, 28, 4, 100, 54, 5, 21, 5, 155, 0, 54, 42, 180, 0, 111, 21, 5, 29, 28, 112]
abbrev dktX6_readsRow_0 : List UInt8 := dkwX6_readsRow_0 ++ dktX6_readsRow_1
theorem dksX6_readsRow_0 : cX6_readsRow.data.toList.drop 0 = dktX6_readsRow_0 := by decide +kernel
theorem dksX6_readsRow_1 : cX6_readsRow.data.toList.drop 24 = dktX6_readsRow_1 := dk_seg dksX6_readsRow_0 24 rfl rfl
theorem dksX6_readsRow_2 : cX6_readsRow.data.toList.drop 48 = dktX6_readsRow_2 := dk_seg dksX6_readsRow_1 24 rfl rfl
theorem dX6_readsRow_0 : decode cX6_readsRow 0 = .ok (.iload_n 1, 1) := dk_27 (dk_at dksX6_readsRow_0 0 rfl rfl)
theorem dX6_readsRow_1 : decode cX6_readsRow 1 = .ok (.istore_n 3, 1) := dk_62 (dk_at dksX6_readsRow_0 1 rfl rfl)
theorem dX6_readsRow_2 : decode cX6_readsRow 2 = .ok (.iconst 0, 1) := dk_3 (dk_at dksX6_readsRow_0 2 rfl rfl)
theorem dX6_readsRow_3 : decode cX6_readsRow 3 = .ok (.istore 4, 2) := dk_54 4 (dk_at dksX6_readsRow_0 3 rfl rfl)
theorem dX6_readsRow_5 : decode cX6_readsRow 5 = .ok (.iload_n 2, 1) := dk_28 (dk_at dksX6_readsRow_0 5 rfl rfl)
theorem dX6_readsRow_6 : decode cX6_readsRow 6 = .ok (.iconst 1, 1) := dk_4 (dk_at dksX6_readsRow_0 6 rfl rfl)
theorem dX6_readsRow_7 : decode cX6_readsRow 7 = .ok (.isub, 1) := dk_100 (dk_at dksX6_readsRow_0 7 rfl rfl)
theorem dX6_readsRow_8 : decode cX6_readsRow 8 = .ok (.istore 5, 2) := dk_54 5 (dk_at dksX6_readsRow_0 8 rfl rfl)
theorem dX6_readsRow_10 : decode cX6_readsRow 10 = .ok (.iload 5, 2) := dk_21 5 (dk_at dksX6_readsRow_0 10 rfl rfl)
theorem dX6_readsRow_12 : decode cX6_readsRow 12 = .ok (.ifCond .lt 54, 3) := dk_155 0 54 (dk_at dksX6_readsRow_0 12 rfl rfl)
theorem dX6_readsRow_15 : decode cX6_readsRow 15 = .ok (.aload_n 0, 1) := dk_42 (dk_at dksX6_readsRow_0 15 rfl rfl)
theorem dX6_readsRow_16 : decode cX6_readsRow 16 = .ok (.getfield 111, 3) := dk_180 0 111 (dk_at dksX6_readsRow_0 16 rfl rfl)
theorem dX6_readsRow_19 : decode cX6_readsRow 19 = .ok (.iload 5, 2) := dk_21 5 (dk_at dksX6_readsRow_0 19 rfl rfl)
theorem dX6_readsRow_21 : decode cX6_readsRow 21 = .ok (.iload_n 3, 1) := dk_29 (dk_at dksX6_readsRow_0 21 rfl rfl)
theorem dX6_readsRow_22 : decode cX6_readsRow 22 = .ok (.iload_n 2, 1) := dk_28 (dk_at dksX6_readsRow_0 22 rfl rfl)
theorem dX6_readsRow_23 : decode cX6_readsRow 23 = .ok (.irem, 1) := dk_112 (dk_at dksX6_readsRow_0 23 rfl rfl)
theorem dX6_readsRow_24 : decode cX6_readsRow 24 = .ok (.iastore, 1) := dk_79 (dk_at dksX6_readsRow_1 0 rfl rfl)
theorem dX6_readsRow_25 : decode cX6_readsRow 25 = .ok (.iload_n 3, 1) := dk_29 (dk_at dksX6_readsRow_1 1 rfl rfl)
theorem dX6_readsRow_26 : decode cX6_readsRow 26 = .ok (.iload_n 2, 1) := dk_28 (dk_at dksX6_readsRow_1 2 rfl rfl)
theorem dX6_readsRow_27 : decode cX6_readsRow 27 = .ok (.idiv, 1) := dk_108 (dk_at dksX6_readsRow_1 3 rfl rfl)
theorem dX6_readsRow_28 : decode cX6_readsRow 28 = .ok (.istore_n 3, 1) := dk_62 (dk_at dksX6_readsRow_1 4 rfl rfl)
theorem dX6_readsRow_29 : decode cX6_readsRow 29 = .ok (.iload 4, 2) := dk_21 4 (dk_at dksX6_readsRow_1 5 rfl rfl)
theorem dX6_readsRow_31 : decode cX6_readsRow 31 = .ok (.aload_n 0, 1) := dk_42 (dk_at dksX6_readsRow_1 7 rfl rfl)
theorem dX6_readsRow_32 : decode cX6_readsRow 32 = .ok (.getfield 111, 3) := dk_180 0 111 (dk_at dksX6_readsRow_1 8 rfl rfl)
theorem dX6_readsRow_35 : decode cX6_readsRow 35 = .ok (.iload 5, 2) := dk_21 5 (dk_at dksX6_readsRow_1 11 rfl rfl)
theorem dX6_readsRow_37 : decode cX6_readsRow 37 = .ok (.iaload, 1) := dk_46 (dk_at dksX6_readsRow_1 13 rfl rfl)
theorem dX6_readsRow_38 : decode cX6_readsRow 38 = .ok (.invokestatic 131, 3) := dk_184 0 131 (dk_at dksX6_readsRow_1 14 rfl rfl)
theorem dX6_readsRow_41 : decode cX6_readsRow 41 = .ok (.ifCond .eq 5, 3) := dk_153 0 5 (dk_at dksX6_readsRow_1 17 rfl rfl)
theorem dX6_readsRow_44 : decode cX6_readsRow 44 = .ok (.iconst 0, 1) := dk_3 (dk_at dksX6_readsRow_1 20 rfl rfl)
theorem dX6_readsRow_45 : decode cX6_readsRow 45 = .ok (.ireturn, 1) := dk_172 (dk_at dksX6_readsRow_1 21 rfl rfl)
theorem dX6_readsRow_46 : decode cX6_readsRow 46 = .ok (.iload 4, 2) := dk_21 4 (dk_at dksX6_readsRow_1 22 rfl rfl)
theorem dX6_readsRow_48 : decode cX6_readsRow 48 = .ok (.iconst 1, 1) := dk_4 (dk_at dksX6_readsRow_2 0 rfl rfl)
theorem dX6_readsRow_49 : decode cX6_readsRow 49 = .ok (.aload_n 0, 1) := dk_42 (dk_at dksX6_readsRow_2 1 rfl rfl)
theorem dX6_readsRow_50 : decode cX6_readsRow 50 = .ok (.getfield 111, 3) := dk_180 0 111 (dk_at dksX6_readsRow_2 2 rfl rfl)
theorem dX6_readsRow_53 : decode cX6_readsRow 53 = .ok (.iload 5, 2) := dk_21 5 (dk_at dksX6_readsRow_2 5 rfl rfl)
theorem dX6_readsRow_55 : decode cX6_readsRow 55 = .ok (.iaload, 1) := dk_46 (dk_at dksX6_readsRow_2 7 rfl rfl)
theorem dX6_readsRow_56 : decode cX6_readsRow 56 = .ok (.ishl, 1) := dk_120 (dk_at dksX6_readsRow_2 8 rfl rfl)
theorem dX6_readsRow_57 : decode cX6_readsRow 57 = .ok (.ior, 1) := dk_128 (dk_at dksX6_readsRow_2 9 rfl rfl)
theorem dX6_readsRow_58 : decode cX6_readsRow 58 = .ok (.istore 4, 2) := dk_54 4 (dk_at dksX6_readsRow_2 10 rfl rfl)
theorem dX6_readsRow_60 : decode cX6_readsRow 60 = .ok (.iinc 5 (-1), 3) := dk_132 5 255 (dk_at dksX6_readsRow_2 12 rfl rfl)
theorem dX6_readsRow_63 : decode cX6_readsRow 63 = .ok (.goto (-53), 3) := dk_167 255 203 (dk_at dksX6_readsRow_2 15 rfl rfl)
theorem dX6_readsRow_66 : decode cX6_readsRow 66 = .ok (.iconst 1, 1) := dk_4 (dk_at dksX6_readsRow_2 18 rfl rfl)
theorem dX6_readsRow_67 : decode cX6_readsRow 67 = .ok (.ireturn, 1) := dk_172 (dk_at dksX6_readsRow_2 19 rfl rfl)
abbrev cX6_hoursOfRow : ByteArray := prog_20_method_91_code
def yX6_hoursOfRow : MethodName := ⟨RX6, "hoursOfRow", "(I)I"⟩
def dkwX6_hoursOfRow_1 : List UInt8 := [180, 0, 111, 29, 46, 46, 182, 1, 12, 96, 61, 132, 3, 1, 167, 255, 224, 28, 172]
abbrev dktX6_hoursOfRow_1 : List UInt8 := dkwX6_hoursOfRow_1 ++ []
def dkwX6_hoursOfRow_0 : List UInt8 := [3, 61, 3, 62, 29, 27, 162, 0, 33, 28, 42, 42, 180, 0, 105, 29, 46, 42, 180, 0, 108, 42]
abbrev dktX6_hoursOfRow_0 : List UInt8 := dkwX6_hoursOfRow_0 ++ dktX6_hoursOfRow_1
theorem dksX6_hoursOfRow_0 : cX6_hoursOfRow.data.toList.drop 0 = dktX6_hoursOfRow_0 := by decide +kernel
theorem dksX6_hoursOfRow_1 : cX6_hoursOfRow.data.toList.drop 22 = dktX6_hoursOfRow_1 := dk_seg dksX6_hoursOfRow_0 22 rfl rfl
theorem dX6_hoursOfRow_0 : decode cX6_hoursOfRow 0 = .ok (.iconst 0, 1) := dk_3 (dk_at dksX6_hoursOfRow_0 0 rfl rfl)
theorem dX6_hoursOfRow_1 : decode cX6_hoursOfRow 1 = .ok (.istore_n 2, 1) := dk_61 (dk_at dksX6_hoursOfRow_0 1 rfl rfl)
theorem dX6_hoursOfRow_2 : decode cX6_hoursOfRow 2 = .ok (.iconst 0, 1) := dk_3 (dk_at dksX6_hoursOfRow_0 2 rfl rfl)
theorem dX6_hoursOfRow_3 : decode cX6_hoursOfRow 3 = .ok (.istore_n 3, 1) := dk_62 (dk_at dksX6_hoursOfRow_0 3 rfl rfl)
theorem dX6_hoursOfRow_4 : decode cX6_hoursOfRow 4 = .ok (.iload_n 3, 1) := dk_29 (dk_at dksX6_hoursOfRow_0 4 rfl rfl)
theorem dX6_hoursOfRow_5 : decode cX6_hoursOfRow 5 = .ok (.iload_n 1, 1) := dk_27 (dk_at dksX6_hoursOfRow_0 5 rfl rfl)
theorem dX6_hoursOfRow_6 : decode cX6_hoursOfRow 6 = .ok (.if_icmp .ge 33, 3) := dk_162 0 33 (dk_at dksX6_hoursOfRow_0 6 rfl rfl)
theorem dX6_hoursOfRow_9 : decode cX6_hoursOfRow 9 = .ok (.iload_n 2, 1) := dk_28 (dk_at dksX6_hoursOfRow_0 9 rfl rfl)
theorem dX6_hoursOfRow_10 : decode cX6_hoursOfRow 10 = .ok (.aload_n 0, 1) := dk_42 (dk_at dksX6_hoursOfRow_0 10 rfl rfl)
theorem dX6_hoursOfRow_11 : decode cX6_hoursOfRow 11 = .ok (.aload_n 0, 1) := dk_42 (dk_at dksX6_hoursOfRow_0 11 rfl rfl)
theorem dX6_hoursOfRow_12 : decode cX6_hoursOfRow 12 = .ok (.getfield 105, 3) := dk_180 0 105 (dk_at dksX6_hoursOfRow_0 12 rfl rfl)
theorem dX6_hoursOfRow_15 : decode cX6_hoursOfRow 15 = .ok (.iload_n 3, 1) := dk_29 (dk_at dksX6_hoursOfRow_0 15 rfl rfl)
theorem dX6_hoursOfRow_16 : decode cX6_hoursOfRow 16 = .ok (.iaload, 1) := dk_46 (dk_at dksX6_hoursOfRow_0 16 rfl rfl)
theorem dX6_hoursOfRow_17 : decode cX6_hoursOfRow 17 = .ok (.aload_n 0, 1) := dk_42 (dk_at dksX6_hoursOfRow_0 17 rfl rfl)
theorem dX6_hoursOfRow_18 : decode cX6_hoursOfRow 18 = .ok (.getfield 108, 3) := dk_180 0 108 (dk_at dksX6_hoursOfRow_0 18 rfl rfl)
theorem dX6_hoursOfRow_21 : decode cX6_hoursOfRow 21 = .ok (.aload_n 0, 1) := dk_42 (dk_at dksX6_hoursOfRow_0 21 rfl rfl)
theorem dX6_hoursOfRow_22 : decode cX6_hoursOfRow 22 = .ok (.getfield 111, 3) := dk_180 0 111 (dk_at dksX6_hoursOfRow_1 0 rfl rfl)
theorem dX6_hoursOfRow_25 : decode cX6_hoursOfRow 25 = .ok (.iload_n 3, 1) := dk_29 (dk_at dksX6_hoursOfRow_1 3 rfl rfl)
theorem dX6_hoursOfRow_26 : decode cX6_hoursOfRow 26 = .ok (.iaload, 1) := dk_46 (dk_at dksX6_hoursOfRow_1 4 rfl rfl)
theorem dX6_hoursOfRow_27 : decode cX6_hoursOfRow 27 = .ok (.iaload, 1) := dk_46 (dk_at dksX6_hoursOfRow_1 5 rfl rfl)
theorem dX6_hoursOfRow_28 : decode cX6_hoursOfRow 28 = .ok (.invokevirtual 268, 3) := dk_182 1 12 (dk_at dksX6_hoursOfRow_1 6 rfl rfl)
theorem dX6_hoursOfRow_31 : decode cX6_hoursOfRow 31 = .ok (.iadd, 1) := dk_96 (dk_at dksX6_hoursOfRow_1 9 rfl rfl)
theorem dX6_hoursOfRow_32 : decode cX6_hoursOfRow 32 = .ok (.istore_n 2, 1) := dk_61 (dk_at dksX6_hoursOfRow_1 10 rfl rfl)
theorem dX6_hoursOfRow_33 : decode cX6_hoursOfRow 33 = .ok (.iinc 3 1, 3) := dk_132 3 1 (dk_at dksX6_hoursOfRow_1 11 rfl rfl)
theorem dX6_hoursOfRow_36 : decode cX6_hoursOfRow 36 = .ok (.goto (-32), 3) := dk_167 255 224 (dk_at dksX6_hoursOfRow_1 14 rfl rfl)
theorem dX6_hoursOfRow_39 : decode cX6_hoursOfRow 39 = .ok (.iload_n 2, 1) := dk_28 (dk_at dksX6_hoursOfRow_1 17 rfl rfl)
theorem dX6_hoursOfRow_40 : decode cX6_hoursOfRow 40 = .ok (.ireturn, 1) := dk_172 (dk_at dksX6_hoursOfRow_1 18 rfl rfl)
abbrev cX6_turned : ByteArray := prog_20_method_94_code
def yX6_turned : MethodName := ⟨RX6, "turned", "(I)I"⟩
def dkwX6_turned_4 : List UInt8 := [184, 1, 175, 172]
abbrev dktX6_turned_4 : List UInt8 := dkwX6_turned_4 ++ []
def dkwX6_turned_3 : List UInt8 := [132, 3, 1, 167, 255, 213, 27, 4, 159, 0, 9, 28, 16, 254, 160, 0, 7, 28, 167, 0, 7, 28]
abbrev dktX6_turned_3 : List UInt8 := dkwX6_turned_3 ++ dktX6_turned_4
def dkwX6_turned_2 : List UInt8 := [184, 1, 175, 28, 184, 1, 175, 162, 0, 16, 42, 29, 182, 1, 178, 154, 0, 6, 167, 0, 5, 29, 61]
abbrev dktX6_turned_2 : List UInt8 := dkwX6_turned_2 ++ dktX6_turned_3
def dkwX6_turned_1 : List UInt8 := [16, 254, 61, 3, 62, 29, 4, 42, 180, 1, 144, 120, 162, 0, 39, 28, 16, 254, 159, 0, 14, 29]
abbrev dktX6_turned_1 : List UInt8 := dkwX6_turned_1 ++ dktX6_turned_2
def dkwX6_turned_0 : List UInt8 := [27, 3, 4, 184, 0, 123, 154, 0, 5, 2, 172, 42, 16, 12, 182, 1, 147, 154, 0, 6, 16, 253, 172]
abbrev dktX6_turned_0 : List UInt8 := dkwX6_turned_0 ++ dktX6_turned_1
theorem dksX6_turned_0 : cX6_turned.data.toList.drop 0 = dktX6_turned_0 := by decide +kernel
theorem dksX6_turned_1 : cX6_turned.data.toList.drop 23 = dktX6_turned_1 := dk_seg dksX6_turned_0 23 rfl rfl
theorem dksX6_turned_2 : cX6_turned.data.toList.drop 45 = dktX6_turned_2 := dk_seg dksX6_turned_1 22 rfl rfl
theorem dksX6_turned_3 : cX6_turned.data.toList.drop 68 = dktX6_turned_3 := dk_seg dksX6_turned_2 23 rfl rfl
theorem dksX6_turned_4 : cX6_turned.data.toList.drop 90 = dktX6_turned_4 := dk_seg dksX6_turned_3 22 rfl rfl
theorem dX6_turned_0 : decode cX6_turned 0 = .ok (.iload_n 1, 1) := dk_27 (dk_at dksX6_turned_0 0 rfl rfl)
theorem dX6_turned_1 : decode cX6_turned 1 = .ok (.iconst 0, 1) := dk_3 (dk_at dksX6_turned_0 1 rfl rfl)
theorem dX6_turned_2 : decode cX6_turned 2 = .ok (.iconst 1, 1) := dk_4 (dk_at dksX6_turned_0 2 rfl rfl)
theorem dX6_turned_3 : decode cX6_turned 3 = .ok (.invokestatic 123, 3) := dk_184 0 123 (dk_at dksX6_turned_0 3 rfl rfl)
theorem dX6_turned_6 : decode cX6_turned 6 = .ok (.ifCond .ne 5, 3) := dk_154 0 5 (dk_at dksX6_turned_0 6 rfl rfl)
theorem dX6_turned_9 : decode cX6_turned 9 = .ok (.iconst (-1), 1) := dk_2 (dk_at dksX6_turned_0 9 rfl rfl)
theorem dX6_turned_10 : decode cX6_turned 10 = .ok (.ireturn, 1) := dk_172 (dk_at dksX6_turned_0 10 rfl rfl)
theorem dX6_turned_11 : decode cX6_turned 11 = .ok (.aload_n 0, 1) := dk_42 (dk_at dksX6_turned_0 11 rfl rfl)
theorem dX6_turned_12 : decode cX6_turned 12 = .ok (.bipush 12, 2) := dk_16 12 (dk_at dksX6_turned_0 12 rfl rfl)
theorem dX6_turned_14 : decode cX6_turned 14 = .ok (.invokevirtual 403, 3) := dk_182 1 147 (dk_at dksX6_turned_0 14 rfl rfl)
theorem dX6_turned_17 : decode cX6_turned 17 = .ok (.ifCond .ne 6, 3) := dk_154 0 6 (dk_at dksX6_turned_0 17 rfl rfl)
theorem dX6_turned_20 : decode cX6_turned 20 = .ok (.bipush (-3), 2) := dk_16 253 (dk_at dksX6_turned_0 20 rfl rfl)
theorem dX6_turned_22 : decode cX6_turned 22 = .ok (.ireturn, 1) := dk_172 (dk_at dksX6_turned_0 22 rfl rfl)
theorem dX6_turned_23 : decode cX6_turned 23 = .ok (.bipush (-2), 2) := dk_16 254 (dk_at dksX6_turned_1 0 rfl rfl)
theorem dX6_turned_25 : decode cX6_turned 25 = .ok (.istore_n 2, 1) := dk_61 (dk_at dksX6_turned_1 2 rfl rfl)
theorem dX6_turned_26 : decode cX6_turned 26 = .ok (.iconst 0, 1) := dk_3 (dk_at dksX6_turned_1 3 rfl rfl)
theorem dX6_turned_27 : decode cX6_turned 27 = .ok (.istore_n 3, 1) := dk_62 (dk_at dksX6_turned_1 4 rfl rfl)
theorem dX6_turned_28 : decode cX6_turned 28 = .ok (.iload_n 3, 1) := dk_29 (dk_at dksX6_turned_1 5 rfl rfl)
theorem dX6_turned_29 : decode cX6_turned 29 = .ok (.iconst 1, 1) := dk_4 (dk_at dksX6_turned_1 6 rfl rfl)
theorem dX6_turned_30 : decode cX6_turned 30 = .ok (.aload_n 0, 1) := dk_42 (dk_at dksX6_turned_1 7 rfl rfl)
theorem dX6_turned_31 : decode cX6_turned 31 = .ok (.getfield 400, 3) := dk_180 1 144 (dk_at dksX6_turned_1 8 rfl rfl)
theorem dX6_turned_34 : decode cX6_turned 34 = .ok (.ishl, 1) := dk_120 (dk_at dksX6_turned_1 11 rfl rfl)
theorem dX6_turned_35 : decode cX6_turned 35 = .ok (.if_icmp .ge 39, 3) := dk_162 0 39 (dk_at dksX6_turned_1 12 rfl rfl)
theorem dX6_turned_38 : decode cX6_turned 38 = .ok (.iload_n 2, 1) := dk_28 (dk_at dksX6_turned_1 15 rfl rfl)
theorem dX6_turned_39 : decode cX6_turned 39 = .ok (.bipush (-2), 2) := dk_16 254 (dk_at dksX6_turned_1 16 rfl rfl)
theorem dX6_turned_41 : decode cX6_turned 41 = .ok (.if_icmp .eq 14, 3) := dk_159 0 14 (dk_at dksX6_turned_1 18 rfl rfl)
theorem dX6_turned_44 : decode cX6_turned 44 = .ok (.iload_n 3, 1) := dk_29 (dk_at dksX6_turned_1 21 rfl rfl)
theorem dX6_turned_45 : decode cX6_turned 45 = .ok (.invokestatic 431, 3) := dk_184 1 175 (dk_at dksX6_turned_2 0 rfl rfl)
theorem dX6_turned_48 : decode cX6_turned 48 = .ok (.iload_n 2, 1) := dk_28 (dk_at dksX6_turned_2 3 rfl rfl)
theorem dX6_turned_49 : decode cX6_turned 49 = .ok (.invokestatic 431, 3) := dk_184 1 175 (dk_at dksX6_turned_2 4 rfl rfl)
theorem dX6_turned_52 : decode cX6_turned 52 = .ok (.if_icmp .ge 16, 3) := dk_162 0 16 (dk_at dksX6_turned_2 7 rfl rfl)
theorem dX6_turned_55 : decode cX6_turned 55 = .ok (.aload_n 0, 1) := dk_42 (dk_at dksX6_turned_2 10 rfl rfl)
theorem dX6_turned_56 : decode cX6_turned 56 = .ok (.iload_n 3, 1) := dk_29 (dk_at dksX6_turned_2 11 rfl rfl)
theorem dX6_turned_57 : decode cX6_turned 57 = .ok (.invokevirtual 434, 3) := dk_182 1 178 (dk_at dksX6_turned_2 12 rfl rfl)
theorem dX6_turned_60 : decode cX6_turned 60 = .ok (.ifCond .ne 6, 3) := dk_154 0 6 (dk_at dksX6_turned_2 15 rfl rfl)
theorem dX6_turned_63 : decode cX6_turned 63 = .ok (.goto 5, 3) := dk_167 0 5 (dk_at dksX6_turned_2 18 rfl rfl)
theorem dX6_turned_66 : decode cX6_turned 66 = .ok (.iload_n 3, 1) := dk_29 (dk_at dksX6_turned_2 21 rfl rfl)
theorem dX6_turned_67 : decode cX6_turned 67 = .ok (.istore_n 2, 1) := dk_61 (dk_at dksX6_turned_2 22 rfl rfl)
theorem dX6_turned_68 : decode cX6_turned 68 = .ok (.iinc 3 1, 3) := dk_132 3 1 (dk_at dksX6_turned_3 0 rfl rfl)
theorem dX6_turned_71 : decode cX6_turned 71 = .ok (.goto (-43), 3) := dk_167 255 213 (dk_at dksX6_turned_3 3 rfl rfl)
theorem dX6_turned_74 : decode cX6_turned 74 = .ok (.iload_n 1, 1) := dk_27 (dk_at dksX6_turned_3 6 rfl rfl)
theorem dX6_turned_75 : decode cX6_turned 75 = .ok (.iconst 1, 1) := dk_4 (dk_at dksX6_turned_3 7 rfl rfl)
theorem dX6_turned_76 : decode cX6_turned 76 = .ok (.if_icmp .eq 9, 3) := dk_159 0 9 (dk_at dksX6_turned_3 8 rfl rfl)
theorem dX6_turned_79 : decode cX6_turned 79 = .ok (.iload_n 2, 1) := dk_28 (dk_at dksX6_turned_3 11 rfl rfl)
theorem dX6_turned_80 : decode cX6_turned 80 = .ok (.bipush (-2), 2) := dk_16 254 (dk_at dksX6_turned_3 12 rfl rfl)
theorem dX6_turned_82 : decode cX6_turned 82 = .ok (.if_icmp .ne 7, 3) := dk_160 0 7 (dk_at dksX6_turned_3 14 rfl rfl)
theorem dX6_turned_85 : decode cX6_turned 85 = .ok (.iload_n 2, 1) := dk_28 (dk_at dksX6_turned_3 17 rfl rfl)
theorem dX6_turned_86 : decode cX6_turned 86 = .ok (.goto 7, 3) := dk_167 0 7 (dk_at dksX6_turned_3 18 rfl rfl)
theorem dX6_turned_89 : decode cX6_turned 89 = .ok (.iload_n 2, 1) := dk_28 (dk_at dksX6_turned_3 21 rfl rfl)
theorem dX6_turned_90 : decode cX6_turned 90 = .ok (.invokestatic 431, 3) := dk_184 1 175 (dk_at dksX6_turned_4 0 rfl rfl)
theorem dX6_turned_93 : decode cX6_turned 93 = .ok (.ireturn, 1) := dk_172 (dk_at dksX6_turned_4 3 rfl rfl)
abbrev cX6_bits : ByteArray := prog_20_method_7_code
def yX6_bits : MethodName := ⟨RX6, "bits", "(I)I"⟩
def dkwX6_bits_1 : List UInt8 := [27, 172]
abbrev dktX6_bits_1 : List UInt8 := dkwX6_bits_1 ++ []
def dkwX6_bits_0 : List UInt8 := [3, 60, 3, 61, 28, 16, 12, 162, 0, 17, 27, 26, 28, 122, 4, 126, 96, 60, 132, 2, 1, 167, 255, 239]
abbrev dktX6_bits_0 : List UInt8 := dkwX6_bits_0 ++ dktX6_bits_1
theorem dksX6_bits_0 : cX6_bits.data.toList.drop 0 = dktX6_bits_0 := by decide +kernel
theorem dksX6_bits_1 : cX6_bits.data.toList.drop 24 = dktX6_bits_1 := dk_seg dksX6_bits_0 24 rfl rfl
theorem dX6_bits_0 : decode cX6_bits 0 = .ok (.iconst 0, 1) := dk_3 (dk_at dksX6_bits_0 0 rfl rfl)
theorem dX6_bits_1 : decode cX6_bits 1 = .ok (.istore_n 1, 1) := dk_60 (dk_at dksX6_bits_0 1 rfl rfl)
theorem dX6_bits_2 : decode cX6_bits 2 = .ok (.iconst 0, 1) := dk_3 (dk_at dksX6_bits_0 2 rfl rfl)
theorem dX6_bits_3 : decode cX6_bits 3 = .ok (.istore_n 2, 1) := dk_61 (dk_at dksX6_bits_0 3 rfl rfl)
theorem dX6_bits_4 : decode cX6_bits 4 = .ok (.iload_n 2, 1) := dk_28 (dk_at dksX6_bits_0 4 rfl rfl)
theorem dX6_bits_5 : decode cX6_bits 5 = .ok (.bipush 12, 2) := dk_16 12 (dk_at dksX6_bits_0 5 rfl rfl)
theorem dX6_bits_7 : decode cX6_bits 7 = .ok (.if_icmp .ge 17, 3) := dk_162 0 17 (dk_at dksX6_bits_0 7 rfl rfl)
theorem dX6_bits_10 : decode cX6_bits 10 = .ok (.iload_n 1, 1) := dk_27 (dk_at dksX6_bits_0 10 rfl rfl)
theorem dX6_bits_11 : decode cX6_bits 11 = .ok (.iload_n 0, 1) := dk_26 (dk_at dksX6_bits_0 11 rfl rfl)
theorem dX6_bits_12 : decode cX6_bits 12 = .ok (.iload_n 2, 1) := dk_28 (dk_at dksX6_bits_0 12 rfl rfl)
theorem dX6_bits_13 : decode cX6_bits 13 = .ok (.ishr, 1) := dk_122 (dk_at dksX6_bits_0 13 rfl rfl)
theorem dX6_bits_14 : decode cX6_bits 14 = .ok (.iconst 1, 1) := dk_4 (dk_at dksX6_bits_0 14 rfl rfl)
theorem dX6_bits_15 : decode cX6_bits 15 = .ok (.iand, 1) := dk_126 (dk_at dksX6_bits_0 15 rfl rfl)
theorem dX6_bits_16 : decode cX6_bits 16 = .ok (.iadd, 1) := dk_96 (dk_at dksX6_bits_0 16 rfl rfl)
theorem dX6_bits_17 : decode cX6_bits 17 = .ok (.istore_n 1, 1) := dk_60 (dk_at dksX6_bits_0 17 rfl rfl)
theorem dX6_bits_18 : decode cX6_bits 18 = .ok (.iinc 2 1, 3) := dk_132 2 1 (dk_at dksX6_bits_0 18 rfl rfl)
theorem dX6_bits_21 : decode cX6_bits 21 = .ok (.goto (-17), 3) := dk_167 255 239 (dk_at dksX6_bits_0 21 rfl rfl)
theorem dX6_bits_24 : decode cX6_bits 24 = .ok (.iload_n 1, 1) := dk_27 (dk_at dksX6_bits_1 0 rfl rfl)
theorem dX6_bits_25 : decode cX6_bits 25 = .ok (.ireturn, 1) := dk_172 (dk_at dksX6_bits_1 1 rfl rfl)
abbrev cX6_isEven : ByteArray := prog_20_method_93_code
def yX6_isEven : MethodName := ⟨RX6, "isEven", "(I)Z"⟩
def dkwX6_isEven_3 : List UInt8 := [132, 4, 1, 167, 255, 196, 29, 153, 0, 5, 3, 172, 132, 2, 1, 167, 255, 173, 4, 172]
abbrev dktX6_isEven_3 : List UInt8 := dkwX6_isEven_3 ++ []
def dkwX6_isEven_2 : List UInt8 := [160, 0, 8, 29, 21, 5, 96, 62, 42, 180, 0, 89, 21, 4, 46, 28, 160, 0, 8, 29, 21, 5, 100, 62]
abbrev dktX6_isEven_2 : List UInt8 := dkwX6_isEven_2 ++ dktX6_isEven_3
def dkwX6_isEven_1 : List UInt8 := [21, 4, 184, 0, 131, 153, 0, 7, 2, 167, 0, 4, 4, 54, 5, 42, 180, 0, 92, 21, 4, 46, 28]
abbrev dktX6_isEven_1 : List UInt8 := dkwX6_isEven_1 ++ dktX6_isEven_2
def dkwX6_isEven_0 : List UInt8 := [3, 61, 28, 16, 10, 162, 0, 83, 3, 62, 3, 54, 4, 21, 4, 42, 180, 1, 144, 162, 0, 57, 27]
abbrev dktX6_isEven_0 : List UInt8 := dkwX6_isEven_0 ++ dktX6_isEven_1
theorem dksX6_isEven_0 : cX6_isEven.data.toList.drop 0 = dktX6_isEven_0 := by decide +kernel
theorem dksX6_isEven_1 : cX6_isEven.data.toList.drop 23 = dktX6_isEven_1 := dk_seg dksX6_isEven_0 23 rfl rfl
theorem dksX6_isEven_2 : cX6_isEven.data.toList.drop 46 = dktX6_isEven_2 := dk_seg dksX6_isEven_1 23 rfl rfl
theorem dksX6_isEven_3 : cX6_isEven.data.toList.drop 70 = dktX6_isEven_3 := dk_seg dksX6_isEven_2 24 rfl rfl
theorem dX6_isEven_0 : decode cX6_isEven 0 = .ok (.iconst 0, 1) := dk_3 (dk_at dksX6_isEven_0 0 rfl rfl)
theorem dX6_isEven_1 : decode cX6_isEven 1 = .ok (.istore_n 2, 1) := dk_61 (dk_at dksX6_isEven_0 1 rfl rfl)
theorem dX6_isEven_2 : decode cX6_isEven 2 = .ok (.iload_n 2, 1) := dk_28 (dk_at dksX6_isEven_0 2 rfl rfl)
theorem dX6_isEven_3 : decode cX6_isEven 3 = .ok (.bipush 10, 2) := dk_16 10 (dk_at dksX6_isEven_0 3 rfl rfl)
theorem dX6_isEven_5 : decode cX6_isEven 5 = .ok (.if_icmp .ge 83, 3) := dk_162 0 83 (dk_at dksX6_isEven_0 5 rfl rfl)
theorem dX6_isEven_8 : decode cX6_isEven 8 = .ok (.iconst 0, 1) := dk_3 (dk_at dksX6_isEven_0 8 rfl rfl)
theorem dX6_isEven_9 : decode cX6_isEven 9 = .ok (.istore_n 3, 1) := dk_62 (dk_at dksX6_isEven_0 9 rfl rfl)
theorem dX6_isEven_10 : decode cX6_isEven 10 = .ok (.iconst 0, 1) := dk_3 (dk_at dksX6_isEven_0 10 rfl rfl)
theorem dX6_isEven_11 : decode cX6_isEven 11 = .ok (.istore 4, 2) := dk_54 4 (dk_at dksX6_isEven_0 11 rfl rfl)
theorem dX6_isEven_13 : decode cX6_isEven 13 = .ok (.iload 4, 2) := dk_21 4 (dk_at dksX6_isEven_0 13 rfl rfl)
theorem dX6_isEven_15 : decode cX6_isEven 15 = .ok (.aload_n 0, 1) := dk_42 (dk_at dksX6_isEven_0 15 rfl rfl)
theorem dX6_isEven_16 : decode cX6_isEven 16 = .ok (.getfield 400, 3) := dk_180 1 144 (dk_at dksX6_isEven_0 16 rfl rfl)
theorem dX6_isEven_19 : decode cX6_isEven 19 = .ok (.if_icmp .ge 57, 3) := dk_162 0 57 (dk_at dksX6_isEven_0 19 rfl rfl)
theorem dX6_isEven_22 : decode cX6_isEven 22 = .ok (.iload_n 1, 1) := dk_27 (dk_at dksX6_isEven_0 22 rfl rfl)
theorem dX6_isEven_23 : decode cX6_isEven 23 = .ok (.iload 4, 2) := dk_21 4 (dk_at dksX6_isEven_1 0 rfl rfl)
theorem dX6_isEven_25 : decode cX6_isEven 25 = .ok (.invokestatic 131, 3) := dk_184 0 131 (dk_at dksX6_isEven_1 2 rfl rfl)
theorem dX6_isEven_28 : decode cX6_isEven 28 = .ok (.ifCond .eq 7, 3) := dk_153 0 7 (dk_at dksX6_isEven_1 5 rfl rfl)
theorem dX6_isEven_31 : decode cX6_isEven 31 = .ok (.iconst (-1), 1) := dk_2 (dk_at dksX6_isEven_1 8 rfl rfl)
theorem dX6_isEven_32 : decode cX6_isEven 32 = .ok (.goto 4, 3) := dk_167 0 4 (dk_at dksX6_isEven_1 9 rfl rfl)
theorem dX6_isEven_35 : decode cX6_isEven 35 = .ok (.iconst 1, 1) := dk_4 (dk_at dksX6_isEven_1 12 rfl rfl)
theorem dX6_isEven_36 : decode cX6_isEven 36 = .ok (.istore 5, 2) := dk_54 5 (dk_at dksX6_isEven_1 13 rfl rfl)
theorem dX6_isEven_38 : decode cX6_isEven 38 = .ok (.aload_n 0, 1) := dk_42 (dk_at dksX6_isEven_1 15 rfl rfl)
theorem dX6_isEven_39 : decode cX6_isEven 39 = .ok (.getfield 92, 3) := dk_180 0 92 (dk_at dksX6_isEven_1 16 rfl rfl)
theorem dX6_isEven_42 : decode cX6_isEven 42 = .ok (.iload 4, 2) := dk_21 4 (dk_at dksX6_isEven_1 19 rfl rfl)
theorem dX6_isEven_44 : decode cX6_isEven 44 = .ok (.iaload, 1) := dk_46 (dk_at dksX6_isEven_1 21 rfl rfl)
theorem dX6_isEven_45 : decode cX6_isEven 45 = .ok (.iload_n 2, 1) := dk_28 (dk_at dksX6_isEven_1 22 rfl rfl)
theorem dX6_isEven_46 : decode cX6_isEven 46 = .ok (.if_icmp .ne 8, 3) := dk_160 0 8 (dk_at dksX6_isEven_2 0 rfl rfl)
theorem dX6_isEven_49 : decode cX6_isEven 49 = .ok (.iload_n 3, 1) := dk_29 (dk_at dksX6_isEven_2 3 rfl rfl)
theorem dX6_isEven_50 : decode cX6_isEven 50 = .ok (.iload 5, 2) := dk_21 5 (dk_at dksX6_isEven_2 4 rfl rfl)
theorem dX6_isEven_52 : decode cX6_isEven 52 = .ok (.iadd, 1) := dk_96 (dk_at dksX6_isEven_2 6 rfl rfl)
theorem dX6_isEven_53 : decode cX6_isEven 53 = .ok (.istore_n 3, 1) := dk_62 (dk_at dksX6_isEven_2 7 rfl rfl)
theorem dX6_isEven_54 : decode cX6_isEven 54 = .ok (.aload_n 0, 1) := dk_42 (dk_at dksX6_isEven_2 8 rfl rfl)
theorem dX6_isEven_55 : decode cX6_isEven 55 = .ok (.getfield 89, 3) := dk_180 0 89 (dk_at dksX6_isEven_2 9 rfl rfl)
theorem dX6_isEven_58 : decode cX6_isEven 58 = .ok (.iload 4, 2) := dk_21 4 (dk_at dksX6_isEven_2 12 rfl rfl)
theorem dX6_isEven_60 : decode cX6_isEven 60 = .ok (.iaload, 1) := dk_46 (dk_at dksX6_isEven_2 14 rfl rfl)
theorem dX6_isEven_61 : decode cX6_isEven 61 = .ok (.iload_n 2, 1) := dk_28 (dk_at dksX6_isEven_2 15 rfl rfl)
theorem dX6_isEven_62 : decode cX6_isEven 62 = .ok (.if_icmp .ne 8, 3) := dk_160 0 8 (dk_at dksX6_isEven_2 16 rfl rfl)
theorem dX6_isEven_65 : decode cX6_isEven 65 = .ok (.iload_n 3, 1) := dk_29 (dk_at dksX6_isEven_2 19 rfl rfl)
theorem dX6_isEven_66 : decode cX6_isEven 66 = .ok (.iload 5, 2) := dk_21 5 (dk_at dksX6_isEven_2 20 rfl rfl)
theorem dX6_isEven_68 : decode cX6_isEven 68 = .ok (.isub, 1) := dk_100 (dk_at dksX6_isEven_2 22 rfl rfl)
theorem dX6_isEven_69 : decode cX6_isEven 69 = .ok (.istore_n 3, 1) := dk_62 (dk_at dksX6_isEven_2 23 rfl rfl)
theorem dX6_isEven_70 : decode cX6_isEven 70 = .ok (.iinc 4 1, 3) := dk_132 4 1 (dk_at dksX6_isEven_3 0 rfl rfl)
theorem dX6_isEven_73 : decode cX6_isEven 73 = .ok (.goto (-60), 3) := dk_167 255 196 (dk_at dksX6_isEven_3 3 rfl rfl)
theorem dX6_isEven_76 : decode cX6_isEven 76 = .ok (.iload_n 3, 1) := dk_29 (dk_at dksX6_isEven_3 6 rfl rfl)
theorem dX6_isEven_77 : decode cX6_isEven 77 = .ok (.ifCond .eq 5, 3) := dk_153 0 5 (dk_at dksX6_isEven_3 7 rfl rfl)
theorem dX6_isEven_80 : decode cX6_isEven 80 = .ok (.iconst 0, 1) := dk_3 (dk_at dksX6_isEven_3 10 rfl rfl)
theorem dX6_isEven_81 : decode cX6_isEven 81 = .ok (.ireturn, 1) := dk_172 (dk_at dksX6_isEven_3 11 rfl rfl)
theorem dX6_isEven_82 : decode cX6_isEven 82 = .ok (.iinc 2 1, 3) := dk_132 2 1 (dk_at dksX6_isEven_3 12 rfl rfl)
theorem dX6_isEven_85 : decode cX6_isEven 85 = .ok (.goto (-83), 3) := dk_167 255 173 (dk_at dksX6_isEven_3 15 rfl rfl)
theorem dX6_isEven_88 : decode cX6_isEven 88 = .ok (.iconst 1, 1) := dk_4 (dk_at dksX6_isEven_3 18 rfl rfl)
theorem dX6_isEven_89 : decode cX6_isEven 89 = .ok (.ireturn, 1) := dk_172 (dk_at dksX6_isEven_3 19 rfl rfl)
abbrev cX6_setOff : ByteArray := prog_20_method_95_code
def yX6_setOff : MethodName := ⟨RX6, "setOff", "(I)I"⟩
def dkwX6_setOff_0 : List UInt8 := [42, 27, 182, 0, 135, 153, 0, 11, 42, 27, 182, 1, 163, 167, 0, 6, 19, 1, 181, 172]
abbrev dktX6_setOff_0 : List UInt8 := dkwX6_setOff_0 ++ []
theorem dksX6_setOff_0 : cX6_setOff.data.toList.drop 0 = dktX6_setOff_0 := by decide +kernel
theorem dX6_setOff_0 : decode cX6_setOff 0 = .ok (.aload_n 0, 1) := dk_42 (dk_at dksX6_setOff_0 0 rfl rfl)
theorem dX6_setOff_1 : decode cX6_setOff 1 = .ok (.iload_n 1, 1) := dk_27 (dk_at dksX6_setOff_0 1 rfl rfl)
theorem dX6_setOff_2 : decode cX6_setOff 2 = .ok (.invokevirtual 135, 3) := dk_182 0 135 (dk_at dksX6_setOff_0 2 rfl rfl)
theorem dX6_setOff_5 : decode cX6_setOff 5 = .ok (.ifCond .eq 11, 3) := dk_153 0 11 (dk_at dksX6_setOff_0 5 rfl rfl)
theorem dX6_setOff_8 : decode cX6_setOff 8 = .ok (.aload_n 0, 1) := dk_42 (dk_at dksX6_setOff_0 8 rfl rfl)
theorem dX6_setOff_9 : decode cX6_setOff 9 = .ok (.iload_n 1, 1) := dk_27 (dk_at dksX6_setOff_0 9 rfl rfl)
theorem dX6_setOff_10 : decode cX6_setOff 10 = .ok (.invokevirtual 419, 3) := dk_182 1 163 (dk_at dksX6_setOff_0 10 rfl rfl)
theorem dX6_setOff_13 : decode cX6_setOff 13 = .ok (.goto 6, 3) := dk_167 0 6 (dk_at dksX6_setOff_0 13 rfl rfl)
theorem dX6_setOff_16 : decode cX6_setOff 16 = .ok (.ldc_w 437, 3) := dk_19 1 181 (dk_at dksX6_setOff_0 16 rfl rfl)
theorem dX6_setOff_19 : decode cX6_setOff 19 = .ok (.ireturn, 1) := dk_172 (dk_at dksX6_setOff_0 19 rfl rfl)
abbrev cX6_fewest : ByteArray := prog_20_method_97_code
def yX6_fewest : MethodName := ⟨RX6, "fewest", "()I"⟩
def dkwX6_fewest_1 : List UInt8 := [132, 2, 1, 167, 255, 233, 42, 182, 1, 182, 27, 184, 1, 175, 42, 180, 0, 120, 27, 46, 100, 172]
abbrev dktX6_fewest_1 : List UInt8 := dkwX6_fewest_1 ++ []
def dkwX6_fewest_0 : List UInt8 := [3, 60, 3, 61, 28, 16, 10, 162, 0, 23, 42, 28, 182, 1, 163, 153, 0, 9, 27, 4, 28, 120, 128, 60]
abbrev dktX6_fewest_0 : List UInt8 := dkwX6_fewest_0 ++ dktX6_fewest_1
theorem dksX6_fewest_0 : cX6_fewest.data.toList.drop 0 = dktX6_fewest_0 := by decide +kernel
theorem dksX6_fewest_1 : cX6_fewest.data.toList.drop 24 = dktX6_fewest_1 := dk_seg dksX6_fewest_0 24 rfl rfl
theorem dX6_fewest_0 : decode cX6_fewest 0 = .ok (.iconst 0, 1) := dk_3 (dk_at dksX6_fewest_0 0 rfl rfl)
theorem dX6_fewest_1 : decode cX6_fewest 1 = .ok (.istore_n 1, 1) := dk_60 (dk_at dksX6_fewest_0 1 rfl rfl)
theorem dX6_fewest_2 : decode cX6_fewest 2 = .ok (.iconst 0, 1) := dk_3 (dk_at dksX6_fewest_0 2 rfl rfl)
theorem dX6_fewest_3 : decode cX6_fewest 3 = .ok (.istore_n 2, 1) := dk_61 (dk_at dksX6_fewest_0 3 rfl rfl)
theorem dX6_fewest_4 : decode cX6_fewest 4 = .ok (.iload_n 2, 1) := dk_28 (dk_at dksX6_fewest_0 4 rfl rfl)
theorem dX6_fewest_5 : decode cX6_fewest 5 = .ok (.bipush 10, 2) := dk_16 10 (dk_at dksX6_fewest_0 5 rfl rfl)
theorem dX6_fewest_7 : decode cX6_fewest 7 = .ok (.if_icmp .ge 23, 3) := dk_162 0 23 (dk_at dksX6_fewest_0 7 rfl rfl)
theorem dX6_fewest_10 : decode cX6_fewest 10 = .ok (.aload_n 0, 1) := dk_42 (dk_at dksX6_fewest_0 10 rfl rfl)
theorem dX6_fewest_11 : decode cX6_fewest 11 = .ok (.iload_n 2, 1) := dk_28 (dk_at dksX6_fewest_0 11 rfl rfl)
theorem dX6_fewest_12 : decode cX6_fewest 12 = .ok (.invokevirtual 419, 3) := dk_182 1 163 (dk_at dksX6_fewest_0 12 rfl rfl)
theorem dX6_fewest_15 : decode cX6_fewest 15 = .ok (.ifCond .eq 9, 3) := dk_153 0 9 (dk_at dksX6_fewest_0 15 rfl rfl)
theorem dX6_fewest_18 : decode cX6_fewest 18 = .ok (.iload_n 1, 1) := dk_27 (dk_at dksX6_fewest_0 18 rfl rfl)
theorem dX6_fewest_19 : decode cX6_fewest 19 = .ok (.iconst 1, 1) := dk_4 (dk_at dksX6_fewest_0 19 rfl rfl)
theorem dX6_fewest_20 : decode cX6_fewest 20 = .ok (.iload_n 2, 1) := dk_28 (dk_at dksX6_fewest_0 20 rfl rfl)
theorem dX6_fewest_21 : decode cX6_fewest 21 = .ok (.ishl, 1) := dk_120 (dk_at dksX6_fewest_0 21 rfl rfl)
theorem dX6_fewest_22 : decode cX6_fewest 22 = .ok (.ior, 1) := dk_128 (dk_at dksX6_fewest_0 22 rfl rfl)
theorem dX6_fewest_23 : decode cX6_fewest 23 = .ok (.istore_n 1, 1) := dk_60 (dk_at dksX6_fewest_0 23 rfl rfl)
theorem dX6_fewest_24 : decode cX6_fewest 24 = .ok (.iinc 2 1, 3) := dk_132 2 1 (dk_at dksX6_fewest_1 0 rfl rfl)
theorem dX6_fewest_27 : decode cX6_fewest 27 = .ok (.goto (-23), 3) := dk_167 255 233 (dk_at dksX6_fewest_1 3 rfl rfl)
theorem dX6_fewest_30 : decode cX6_fewest 30 = .ok (.aload_n 0, 1) := dk_42 (dk_at dksX6_fewest_1 6 rfl rfl)
theorem dX6_fewest_31 : decode cX6_fewest 31 = .ok (.invokevirtual 438, 3) := dk_182 1 182 (dk_at dksX6_fewest_1 7 rfl rfl)
theorem dX6_fewest_34 : decode cX6_fewest 34 = .ok (.iload_n 1, 1) := dk_27 (dk_at dksX6_fewest_1 10 rfl rfl)
theorem dX6_fewest_35 : decode cX6_fewest 35 = .ok (.invokestatic 431, 3) := dk_184 1 175 (dk_at dksX6_fewest_1 11 rfl rfl)
theorem dX6_fewest_38 : decode cX6_fewest 38 = .ok (.aload_n 0, 1) := dk_42 (dk_at dksX6_fewest_1 14 rfl rfl)
theorem dX6_fewest_39 : decode cX6_fewest 39 = .ok (.getfield 120, 3) := dk_180 0 120 (dk_at dksX6_fewest_1 15 rfl rfl)
theorem dX6_fewest_42 : decode cX6_fewest 42 = .ok (.iload_n 1, 1) := dk_27 (dk_at dksX6_fewest_1 18 rfl rfl)
theorem dX6_fewest_43 : decode cX6_fewest 43 = .ok (.iaload, 1) := dk_46 (dk_at dksX6_fewest_1 19 rfl rfl)
theorem dX6_fewest_44 : decode cX6_fewest 44 = .ok (.isub, 1) := dk_100 (dk_at dksX6_fewest_1 20 rfl rfl)
theorem dX6_fewest_45 : decode cX6_fewest 45 = .ok (.ireturn, 1) := dk_172 (dk_at dksX6_fewest_1 21 rfl rfl)
abbrev cX6_laysGroups : ByteArray := prog_20_method_96_code
def yX6_laysGroups : MethodName := ⟨RX6, "laysGroups", "()V"⟩
def dkwX6_laysGroups_5 : List UInt8 := [96, 79, 132, 1, 1, 167, 255, 135, 177]
abbrev dktX6_laysGroups_5 : List UInt8 := dkwX6_laysGroups_5 ++ []
def dkwX6_laysGroups_4 : List UInt8 := [153, 0, 26, 42, 180, 0, 117, 27, 46, 154, 0, 17, 42, 180, 0, 120, 27, 42, 180, 0, 120, 27, 46, 4]
abbrev dktX6_laysGroups_4 : List UInt8 := dkwX6_laysGroups_4 ++ dktX6_laysGroups_5
def dkwX6_laysGroups_3 : List UInt8 := [180, 0, 120, 27, 4, 28, 120, 2, 130, 126, 46, 184, 0, 143, 79, 132, 2, 1, 167, 255, 191, 27]
abbrev dktX6_laysGroups_3 : List UInt8 := dkwX6_laysGroups_3 ++ dktX6_laysGroups_4
def dkwX6_laysGroups_2 : List UInt8 := [180, 0, 117, 27, 46, 42, 28, 182, 1, 163, 96, 79, 42, 180, 0, 120, 27, 42, 180, 0, 120, 27, 46, 42]
abbrev dktX6_laysGroups_2 : List UInt8 := dkwX6_laysGroups_2 ++ dktX6_laysGroups_3
def dkwX6_laysGroups_1 : List UInt8 := [61, 28, 16, 10, 162, 0, 65, 27, 28, 184, 0, 131, 154, 0, 6, 167, 0, 48, 42, 180, 0, 117, 27, 42]
abbrev dktX6_laysGroups_1 : List UInt8 := dkwX6_laysGroups_1 ++ dktX6_laysGroups_2
def dkwX6_laysGroups_0 : List UInt8 := [3, 60, 27, 17, 4, 0, 162, 0, 120, 42, 180, 0, 117, 27, 3, 79, 42, 180, 0, 120, 27, 3, 79, 3]
abbrev dktX6_laysGroups_0 : List UInt8 := dkwX6_laysGroups_0 ++ dktX6_laysGroups_1
theorem dksX6_laysGroups_0 : cX6_laysGroups.data.toList.drop 0 = dktX6_laysGroups_0 := by decide +kernel
theorem dksX6_laysGroups_1 : cX6_laysGroups.data.toList.drop 24 = dktX6_laysGroups_1 := dk_seg dksX6_laysGroups_0 24 rfl rfl
theorem dksX6_laysGroups_2 : cX6_laysGroups.data.toList.drop 48 = dktX6_laysGroups_2 := dk_seg dksX6_laysGroups_1 24 rfl rfl
theorem dksX6_laysGroups_3 : cX6_laysGroups.data.toList.drop 72 = dktX6_laysGroups_3 := dk_seg dksX6_laysGroups_2 24 rfl rfl
theorem dksX6_laysGroups_4 : cX6_laysGroups.data.toList.drop 94 = dktX6_laysGroups_4 := dk_seg dksX6_laysGroups_3 22 rfl rfl
theorem dksX6_laysGroups_5 : cX6_laysGroups.data.toList.drop 118 = dktX6_laysGroups_5 := dk_seg dksX6_laysGroups_4 24 rfl rfl
theorem dX6_laysGroups_0 : decode cX6_laysGroups 0 = .ok (.iconst 0, 1) := dk_3 (dk_at dksX6_laysGroups_0 0 rfl rfl)
theorem dX6_laysGroups_1 : decode cX6_laysGroups 1 = .ok (.istore_n 1, 1) := dk_60 (dk_at dksX6_laysGroups_0 1 rfl rfl)
theorem dX6_laysGroups_2 : decode cX6_laysGroups 2 = .ok (.iload_n 1, 1) := dk_27 (dk_at dksX6_laysGroups_0 2 rfl rfl)
theorem dX6_laysGroups_3 : decode cX6_laysGroups 3 = .ok (.sipush 1024, 3) := dk_17 4 0 (dk_at dksX6_laysGroups_0 3 rfl rfl)
theorem dX6_laysGroups_6 : decode cX6_laysGroups 6 = .ok (.if_icmp .ge 120, 3) := dk_162 0 120 (dk_at dksX6_laysGroups_0 6 rfl rfl)
theorem dX6_laysGroups_9 : decode cX6_laysGroups 9 = .ok (.aload_n 0, 1) := dk_42 (dk_at dksX6_laysGroups_0 9 rfl rfl)
theorem dX6_laysGroups_10 : decode cX6_laysGroups 10 = .ok (.getfield 117, 3) := dk_180 0 117 (dk_at dksX6_laysGroups_0 10 rfl rfl)
theorem dX6_laysGroups_13 : decode cX6_laysGroups 13 = .ok (.iload_n 1, 1) := dk_27 (dk_at dksX6_laysGroups_0 13 rfl rfl)
theorem dX6_laysGroups_14 : decode cX6_laysGroups 14 = .ok (.iconst 0, 1) := dk_3 (dk_at dksX6_laysGroups_0 14 rfl rfl)
theorem dX6_laysGroups_15 : decode cX6_laysGroups 15 = .ok (.iastore, 1) := dk_79 (dk_at dksX6_laysGroups_0 15 rfl rfl)
theorem dX6_laysGroups_16 : decode cX6_laysGroups 16 = .ok (.aload_n 0, 1) := dk_42 (dk_at dksX6_laysGroups_0 16 rfl rfl)
theorem dX6_laysGroups_17 : decode cX6_laysGroups 17 = .ok (.getfield 120, 3) := dk_180 0 120 (dk_at dksX6_laysGroups_0 17 rfl rfl)
theorem dX6_laysGroups_20 : decode cX6_laysGroups 20 = .ok (.iload_n 1, 1) := dk_27 (dk_at dksX6_laysGroups_0 20 rfl rfl)
theorem dX6_laysGroups_21 : decode cX6_laysGroups 21 = .ok (.iconst 0, 1) := dk_3 (dk_at dksX6_laysGroups_0 21 rfl rfl)
theorem dX6_laysGroups_22 : decode cX6_laysGroups 22 = .ok (.iastore, 1) := dk_79 (dk_at dksX6_laysGroups_0 22 rfl rfl)
theorem dX6_laysGroups_23 : decode cX6_laysGroups 23 = .ok (.iconst 0, 1) := dk_3 (dk_at dksX6_laysGroups_0 23 rfl rfl)
theorem dX6_laysGroups_24 : decode cX6_laysGroups 24 = .ok (.istore_n 2, 1) := dk_61 (dk_at dksX6_laysGroups_1 0 rfl rfl)
theorem dX6_laysGroups_25 : decode cX6_laysGroups 25 = .ok (.iload_n 2, 1) := dk_28 (dk_at dksX6_laysGroups_1 1 rfl rfl)
theorem dX6_laysGroups_26 : decode cX6_laysGroups 26 = .ok (.bipush 10, 2) := dk_16 10 (dk_at dksX6_laysGroups_1 2 rfl rfl)
theorem dX6_laysGroups_28 : decode cX6_laysGroups 28 = .ok (.if_icmp .ge 65, 3) := dk_162 0 65 (dk_at dksX6_laysGroups_1 4 rfl rfl)
theorem dX6_laysGroups_31 : decode cX6_laysGroups 31 = .ok (.iload_n 1, 1) := dk_27 (dk_at dksX6_laysGroups_1 7 rfl rfl)
theorem dX6_laysGroups_32 : decode cX6_laysGroups 32 = .ok (.iload_n 2, 1) := dk_28 (dk_at dksX6_laysGroups_1 8 rfl rfl)
theorem dX6_laysGroups_33 : decode cX6_laysGroups 33 = .ok (.invokestatic 131, 3) := dk_184 0 131 (dk_at dksX6_laysGroups_1 9 rfl rfl)
theorem dX6_laysGroups_36 : decode cX6_laysGroups 36 = .ok (.ifCond .ne 6, 3) := dk_154 0 6 (dk_at dksX6_laysGroups_1 12 rfl rfl)
theorem dX6_laysGroups_39 : decode cX6_laysGroups 39 = .ok (.goto 48, 3) := dk_167 0 48 (dk_at dksX6_laysGroups_1 15 rfl rfl)
theorem dX6_laysGroups_42 : decode cX6_laysGroups 42 = .ok (.aload_n 0, 1) := dk_42 (dk_at dksX6_laysGroups_1 18 rfl rfl)
theorem dX6_laysGroups_43 : decode cX6_laysGroups 43 = .ok (.getfield 117, 3) := dk_180 0 117 (dk_at dksX6_laysGroups_1 19 rfl rfl)
theorem dX6_laysGroups_46 : decode cX6_laysGroups 46 = .ok (.iload_n 1, 1) := dk_27 (dk_at dksX6_laysGroups_1 22 rfl rfl)
theorem dX6_laysGroups_47 : decode cX6_laysGroups 47 = .ok (.aload_n 0, 1) := dk_42 (dk_at dksX6_laysGroups_1 23 rfl rfl)
theorem dX6_laysGroups_48 : decode cX6_laysGroups 48 = .ok (.getfield 117, 3) := dk_180 0 117 (dk_at dksX6_laysGroups_2 0 rfl rfl)
theorem dX6_laysGroups_51 : decode cX6_laysGroups 51 = .ok (.iload_n 1, 1) := dk_27 (dk_at dksX6_laysGroups_2 3 rfl rfl)
theorem dX6_laysGroups_52 : decode cX6_laysGroups 52 = .ok (.iaload, 1) := dk_46 (dk_at dksX6_laysGroups_2 4 rfl rfl)
theorem dX6_laysGroups_53 : decode cX6_laysGroups 53 = .ok (.aload_n 0, 1) := dk_42 (dk_at dksX6_laysGroups_2 5 rfl rfl)
theorem dX6_laysGroups_54 : decode cX6_laysGroups 54 = .ok (.iload_n 2, 1) := dk_28 (dk_at dksX6_laysGroups_2 6 rfl rfl)
theorem dX6_laysGroups_55 : decode cX6_laysGroups 55 = .ok (.invokevirtual 419, 3) := dk_182 1 163 (dk_at dksX6_laysGroups_2 7 rfl rfl)
theorem dX6_laysGroups_58 : decode cX6_laysGroups 58 = .ok (.iadd, 1) := dk_96 (dk_at dksX6_laysGroups_2 10 rfl rfl)
theorem dX6_laysGroups_59 : decode cX6_laysGroups 59 = .ok (.iastore, 1) := dk_79 (dk_at dksX6_laysGroups_2 11 rfl rfl)
theorem dX6_laysGroups_60 : decode cX6_laysGroups 60 = .ok (.aload_n 0, 1) := dk_42 (dk_at dksX6_laysGroups_2 12 rfl rfl)
theorem dX6_laysGroups_61 : decode cX6_laysGroups 61 = .ok (.getfield 120, 3) := dk_180 0 120 (dk_at dksX6_laysGroups_2 13 rfl rfl)
theorem dX6_laysGroups_64 : decode cX6_laysGroups 64 = .ok (.iload_n 1, 1) := dk_27 (dk_at dksX6_laysGroups_2 16 rfl rfl)
theorem dX6_laysGroups_65 : decode cX6_laysGroups 65 = .ok (.aload_n 0, 1) := dk_42 (dk_at dksX6_laysGroups_2 17 rfl rfl)
theorem dX6_laysGroups_66 : decode cX6_laysGroups 66 = .ok (.getfield 120, 3) := dk_180 0 120 (dk_at dksX6_laysGroups_2 18 rfl rfl)
theorem dX6_laysGroups_69 : decode cX6_laysGroups 69 = .ok (.iload_n 1, 1) := dk_27 (dk_at dksX6_laysGroups_2 21 rfl rfl)
theorem dX6_laysGroups_70 : decode cX6_laysGroups 70 = .ok (.iaload, 1) := dk_46 (dk_at dksX6_laysGroups_2 22 rfl rfl)
theorem dX6_laysGroups_71 : decode cX6_laysGroups 71 = .ok (.aload_n 0, 1) := dk_42 (dk_at dksX6_laysGroups_2 23 rfl rfl)
theorem dX6_laysGroups_72 : decode cX6_laysGroups 72 = .ok (.getfield 120, 3) := dk_180 0 120 (dk_at dksX6_laysGroups_3 0 rfl rfl)
theorem dX6_laysGroups_75 : decode cX6_laysGroups 75 = .ok (.iload_n 1, 1) := dk_27 (dk_at dksX6_laysGroups_3 3 rfl rfl)
theorem dX6_laysGroups_76 : decode cX6_laysGroups 76 = .ok (.iconst 1, 1) := dk_4 (dk_at dksX6_laysGroups_3 4 rfl rfl)
theorem dX6_laysGroups_77 : decode cX6_laysGroups 77 = .ok (.iload_n 2, 1) := dk_28 (dk_at dksX6_laysGroups_3 5 rfl rfl)
theorem dX6_laysGroups_78 : decode cX6_laysGroups 78 = .ok (.ishl, 1) := dk_120 (dk_at dksX6_laysGroups_3 6 rfl rfl)
theorem dX6_laysGroups_79 : decode cX6_laysGroups 79 = .ok (.iconst (-1), 1) := dk_2 (dk_at dksX6_laysGroups_3 7 rfl rfl)
theorem dX6_laysGroups_80 : decode cX6_laysGroups 80 = .ok (.ixor, 1) := dk_130 (dk_at dksX6_laysGroups_3 8 rfl rfl)
theorem dX6_laysGroups_81 : decode cX6_laysGroups 81 = .ok (.iand, 1) := dk_126 (dk_at dksX6_laysGroups_3 9 rfl rfl)
theorem dX6_laysGroups_82 : decode cX6_laysGroups 82 = .ok (.iaload, 1) := dk_46 (dk_at dksX6_laysGroups_3 10 rfl rfl)
theorem dX6_laysGroups_83 : decode cX6_laysGroups 83 = .ok (.invokestatic 143, 3) := dk_184 0 143 (dk_at dksX6_laysGroups_3 11 rfl rfl)
theorem dX6_laysGroups_86 : decode cX6_laysGroups 86 = .ok (.iastore, 1) := dk_79 (dk_at dksX6_laysGroups_3 14 rfl rfl)
theorem dX6_laysGroups_87 : decode cX6_laysGroups 87 = .ok (.iinc 2 1, 3) := dk_132 2 1 (dk_at dksX6_laysGroups_3 15 rfl rfl)
theorem dX6_laysGroups_90 : decode cX6_laysGroups 90 = .ok (.goto (-65), 3) := dk_167 255 191 (dk_at dksX6_laysGroups_3 18 rfl rfl)
theorem dX6_laysGroups_93 : decode cX6_laysGroups 93 = .ok (.iload_n 1, 1) := dk_27 (dk_at dksX6_laysGroups_3 21 rfl rfl)
theorem dX6_laysGroups_94 : decode cX6_laysGroups 94 = .ok (.ifCond .eq 26, 3) := dk_153 0 26 (dk_at dksX6_laysGroups_4 0 rfl rfl)
theorem dX6_laysGroups_97 : decode cX6_laysGroups 97 = .ok (.aload_n 0, 1) := dk_42 (dk_at dksX6_laysGroups_4 3 rfl rfl)
theorem dX6_laysGroups_98 : decode cX6_laysGroups 98 = .ok (.getfield 117, 3) := dk_180 0 117 (dk_at dksX6_laysGroups_4 4 rfl rfl)
theorem dX6_laysGroups_101 : decode cX6_laysGroups 101 = .ok (.iload_n 1, 1) := dk_27 (dk_at dksX6_laysGroups_4 7 rfl rfl)
theorem dX6_laysGroups_102 : decode cX6_laysGroups 102 = .ok (.iaload, 1) := dk_46 (dk_at dksX6_laysGroups_4 8 rfl rfl)
theorem dX6_laysGroups_103 : decode cX6_laysGroups 103 = .ok (.ifCond .ne 17, 3) := dk_154 0 17 (dk_at dksX6_laysGroups_4 9 rfl rfl)
theorem dX6_laysGroups_106 : decode cX6_laysGroups 106 = .ok (.aload_n 0, 1) := dk_42 (dk_at dksX6_laysGroups_4 12 rfl rfl)
theorem dX6_laysGroups_107 : decode cX6_laysGroups 107 = .ok (.getfield 120, 3) := dk_180 0 120 (dk_at dksX6_laysGroups_4 13 rfl rfl)
theorem dX6_laysGroups_110 : decode cX6_laysGroups 110 = .ok (.iload_n 1, 1) := dk_27 (dk_at dksX6_laysGroups_4 16 rfl rfl)
theorem dX6_laysGroups_111 : decode cX6_laysGroups 111 = .ok (.aload_n 0, 1) := dk_42 (dk_at dksX6_laysGroups_4 17 rfl rfl)
theorem dX6_laysGroups_112 : decode cX6_laysGroups 112 = .ok (.getfield 120, 3) := dk_180 0 120 (dk_at dksX6_laysGroups_4 18 rfl rfl)
theorem dX6_laysGroups_115 : decode cX6_laysGroups 115 = .ok (.iload_n 1, 1) := dk_27 (dk_at dksX6_laysGroups_4 21 rfl rfl)
theorem dX6_laysGroups_116 : decode cX6_laysGroups 116 = .ok (.iaload, 1) := dk_46 (dk_at dksX6_laysGroups_4 22 rfl rfl)
theorem dX6_laysGroups_117 : decode cX6_laysGroups 117 = .ok (.iconst 1, 1) := dk_4 (dk_at dksX6_laysGroups_4 23 rfl rfl)
theorem dX6_laysGroups_118 : decode cX6_laysGroups 118 = .ok (.iadd, 1) := dk_96 (dk_at dksX6_laysGroups_5 0 rfl rfl)
theorem dX6_laysGroups_119 : decode cX6_laysGroups 119 = .ok (.iastore, 1) := dk_79 (dk_at dksX6_laysGroups_5 1 rfl rfl)
theorem dX6_laysGroups_120 : decode cX6_laysGroups 120 = .ok (.iinc 1 1, 3) := dk_132 1 1 (dk_at dksX6_laysGroups_5 2 rfl rfl)
theorem dX6_laysGroups_123 : decode cX6_laysGroups 123 = .ok (.goto (-121), 3) := dk_167 255 135 (dk_at dksX6_laysGroups_5 5 rfl rfl)
theorem dX6_laysGroups_126 : decode cX6_laysGroups 126 = .ok (.return_, 1) := dk_177 (dk_at dksX6_laysGroups_5 8 rfl rfl)
abbrev cX6_rings : ByteArray := prog_20_method_100_code
def yX6_rings : MethodName := ⟨RX6, "rings", "(I)I"⟩
def dkwX6_rings_3 : List UInt8 := [167, 255, 219, 29, 172]
abbrev dktX6_rings_3 : List UInt8 := dkwX6_rings_3 ++ []
def dkwX6_rings_2 : List UInt8 := [154, 0, 6, 167, 0, 18, 28, 42, 21, 4, 182, 1, 188, 2, 130, 126, 61, 29, 4, 96, 62, 132, 4, 1]
abbrev dktX6_rings_2 : List UInt8 := dkwX6_rings_2 ++ dktX6_rings_3
def dkwX6_rings_1 : List UInt8 := [42, 180, 0, 127, 61, 3, 62, 3, 54, 4, 21, 4, 16, 10, 162, 0, 36, 28, 21, 4, 184, 0, 131]
abbrev dktX6_rings_1 : List UInt8 := dkwX6_rings_1 ++ dktX6_rings_2
def dkwX6_rings_0 : List UInt8 := [27, 16, 100, 159, 0, 21, 42, 27, 182, 0, 135, 153, 0, 11, 42, 27, 182, 1, 188, 167, 0, 4, 2, 172]
abbrev dktX6_rings_0 : List UInt8 := dkwX6_rings_0 ++ dktX6_rings_1
theorem dksX6_rings_0 : cX6_rings.data.toList.drop 0 = dktX6_rings_0 := by decide +kernel
theorem dksX6_rings_1 : cX6_rings.data.toList.drop 24 = dktX6_rings_1 := dk_seg dksX6_rings_0 24 rfl rfl
theorem dksX6_rings_2 : cX6_rings.data.toList.drop 47 = dktX6_rings_2 := dk_seg dksX6_rings_1 23 rfl rfl
theorem dksX6_rings_3 : cX6_rings.data.toList.drop 71 = dktX6_rings_3 := dk_seg dksX6_rings_2 24 rfl rfl
theorem dX6_rings_0 : decode cX6_rings 0 = .ok (.iload_n 1, 1) := dk_27 (dk_at dksX6_rings_0 0 rfl rfl)
theorem dX6_rings_1 : decode cX6_rings 1 = .ok (.bipush 100, 2) := dk_16 100 (dk_at dksX6_rings_0 1 rfl rfl)
theorem dX6_rings_3 : decode cX6_rings 3 = .ok (.if_icmp .eq 21, 3) := dk_159 0 21 (dk_at dksX6_rings_0 3 rfl rfl)
theorem dX6_rings_6 : decode cX6_rings 6 = .ok (.aload_n 0, 1) := dk_42 (dk_at dksX6_rings_0 6 rfl rfl)
theorem dX6_rings_7 : decode cX6_rings 7 = .ok (.iload_n 1, 1) := dk_27 (dk_at dksX6_rings_0 7 rfl rfl)
theorem dX6_rings_8 : decode cX6_rings 8 = .ok (.invokevirtual 135, 3) := dk_182 0 135 (dk_at dksX6_rings_0 8 rfl rfl)
theorem dX6_rings_11 : decode cX6_rings 11 = .ok (.ifCond .eq 11, 3) := dk_153 0 11 (dk_at dksX6_rings_0 11 rfl rfl)
theorem dX6_rings_14 : decode cX6_rings 14 = .ok (.aload_n 0, 1) := dk_42 (dk_at dksX6_rings_0 14 rfl rfl)
theorem dX6_rings_15 : decode cX6_rings 15 = .ok (.iload_n 1, 1) := dk_27 (dk_at dksX6_rings_0 15 rfl rfl)
theorem dX6_rings_16 : decode cX6_rings 16 = .ok (.invokevirtual 444, 3) := dk_182 1 188 (dk_at dksX6_rings_0 16 rfl rfl)
theorem dX6_rings_19 : decode cX6_rings 19 = .ok (.goto 4, 3) := dk_167 0 4 (dk_at dksX6_rings_0 19 rfl rfl)
theorem dX6_rings_22 : decode cX6_rings 22 = .ok (.iconst (-1), 1) := dk_2 (dk_at dksX6_rings_0 22 rfl rfl)
theorem dX6_rings_23 : decode cX6_rings 23 = .ok (.ireturn, 1) := dk_172 (dk_at dksX6_rings_0 23 rfl rfl)
theorem dX6_rings_24 : decode cX6_rings 24 = .ok (.aload_n 0, 1) := dk_42 (dk_at dksX6_rings_1 0 rfl rfl)
theorem dX6_rings_25 : decode cX6_rings 25 = .ok (.getfield 127, 3) := dk_180 0 127 (dk_at dksX6_rings_1 1 rfl rfl)
theorem dX6_rings_28 : decode cX6_rings 28 = .ok (.istore_n 2, 1) := dk_61 (dk_at dksX6_rings_1 4 rfl rfl)
theorem dX6_rings_29 : decode cX6_rings 29 = .ok (.iconst 0, 1) := dk_3 (dk_at dksX6_rings_1 5 rfl rfl)
theorem dX6_rings_30 : decode cX6_rings 30 = .ok (.istore_n 3, 1) := dk_62 (dk_at dksX6_rings_1 6 rfl rfl)
theorem dX6_rings_31 : decode cX6_rings 31 = .ok (.iconst 0, 1) := dk_3 (dk_at dksX6_rings_1 7 rfl rfl)
theorem dX6_rings_32 : decode cX6_rings 32 = .ok (.istore 4, 2) := dk_54 4 (dk_at dksX6_rings_1 8 rfl rfl)
theorem dX6_rings_34 : decode cX6_rings 34 = .ok (.iload 4, 2) := dk_21 4 (dk_at dksX6_rings_1 10 rfl rfl)
theorem dX6_rings_36 : decode cX6_rings 36 = .ok (.bipush 10, 2) := dk_16 10 (dk_at dksX6_rings_1 12 rfl rfl)
theorem dX6_rings_38 : decode cX6_rings 38 = .ok (.if_icmp .ge 36, 3) := dk_162 0 36 (dk_at dksX6_rings_1 14 rfl rfl)
theorem dX6_rings_41 : decode cX6_rings 41 = .ok (.iload_n 2, 1) := dk_28 (dk_at dksX6_rings_1 17 rfl rfl)
theorem dX6_rings_42 : decode cX6_rings 42 = .ok (.iload 4, 2) := dk_21 4 (dk_at dksX6_rings_1 18 rfl rfl)
theorem dX6_rings_44 : decode cX6_rings 44 = .ok (.invokestatic 131, 3) := dk_184 0 131 (dk_at dksX6_rings_1 20 rfl rfl)
theorem dX6_rings_47 : decode cX6_rings 47 = .ok (.ifCond .ne 6, 3) := dk_154 0 6 (dk_at dksX6_rings_2 0 rfl rfl)
theorem dX6_rings_50 : decode cX6_rings 50 = .ok (.goto 18, 3) := dk_167 0 18 (dk_at dksX6_rings_2 3 rfl rfl)
theorem dX6_rings_53 : decode cX6_rings 53 = .ok (.iload_n 2, 1) := dk_28 (dk_at dksX6_rings_2 6 rfl rfl)
theorem dX6_rings_54 : decode cX6_rings 54 = .ok (.aload_n 0, 1) := dk_42 (dk_at dksX6_rings_2 7 rfl rfl)
theorem dX6_rings_55 : decode cX6_rings 55 = .ok (.iload 4, 2) := dk_21 4 (dk_at dksX6_rings_2 8 rfl rfl)
theorem dX6_rings_57 : decode cX6_rings 57 = .ok (.invokevirtual 444, 3) := dk_182 1 188 (dk_at dksX6_rings_2 10 rfl rfl)
theorem dX6_rings_60 : decode cX6_rings 60 = .ok (.iconst (-1), 1) := dk_2 (dk_at dksX6_rings_2 13 rfl rfl)
theorem dX6_rings_61 : decode cX6_rings 61 = .ok (.ixor, 1) := dk_130 (dk_at dksX6_rings_2 14 rfl rfl)
theorem dX6_rings_62 : decode cX6_rings 62 = .ok (.iand, 1) := dk_126 (dk_at dksX6_rings_2 15 rfl rfl)
theorem dX6_rings_63 : decode cX6_rings 63 = .ok (.istore_n 2, 1) := dk_61 (dk_at dksX6_rings_2 16 rfl rfl)
theorem dX6_rings_64 : decode cX6_rings 64 = .ok (.iload_n 3, 1) := dk_29 (dk_at dksX6_rings_2 17 rfl rfl)
theorem dX6_rings_65 : decode cX6_rings 65 = .ok (.iconst 1, 1) := dk_4 (dk_at dksX6_rings_2 18 rfl rfl)
theorem dX6_rings_66 : decode cX6_rings 66 = .ok (.iadd, 1) := dk_96 (dk_at dksX6_rings_2 19 rfl rfl)
theorem dX6_rings_67 : decode cX6_rings 67 = .ok (.istore_n 3, 1) := dk_62 (dk_at dksX6_rings_2 20 rfl rfl)
theorem dX6_rings_68 : decode cX6_rings 68 = .ok (.iinc 4 1, 3) := dk_132 4 1 (dk_at dksX6_rings_2 21 rfl rfl)
theorem dX6_rings_71 : decode cX6_rings 71 = .ok (.goto (-37), 3) := dk_167 255 219 (dk_at dksX6_rings_3 0 rfl rfl)
theorem dX6_rings_74 : decode cX6_rings 74 = .ok (.iload_n 3, 1) := dk_29 (dk_at dksX6_rings_3 3 rfl rfl)
theorem dX6_rings_75 : decode cX6_rings 75 = .ok (.ireturn, 1) := dk_172 (dk_at dksX6_rings_3 4 rfl rfl)
abbrev cX6_ringOf : ByteArray := prog_20_method_99_code
def yX6_ringOf : MethodName := ⟨RX6, "ringOf", "(I)I"⟩
def dkwX6_ringOf_2 : List UInt8 := [153, 0, 10, 28, 4, 21, 4, 120, 128, 61, 132, 4, 1, 167, 255, 208, 28, 172]
abbrev dktX6_ringOf_2 : List UInt8 := dkwX6_ringOf_2 ++ []
def dkwX6_ringOf_1 : List UInt8 := [153, 0, 32, 29, 21, 4, 184, 0, 131, 153, 0, 23, 42, 21, 4, 182, 1, 185, 27, 184, 0, 131]
abbrev dktX6_ringOf_1 : List UInt8 := dkwX6_ringOf_1 ++ dktX6_ringOf_2
def dkwX6_ringOf_0 : List UInt8 := [3, 61, 42, 27, 182, 1, 185, 62, 3, 54, 4, 21, 4, 16, 10, 162, 0, 47, 42, 21, 4, 182, 0, 135]
abbrev dktX6_ringOf_0 : List UInt8 := dkwX6_ringOf_0 ++ dktX6_ringOf_1
theorem dksX6_ringOf_0 : cX6_ringOf.data.toList.drop 0 = dktX6_ringOf_0 := by decide +kernel
theorem dksX6_ringOf_1 : cX6_ringOf.data.toList.drop 24 = dktX6_ringOf_1 := dk_seg dksX6_ringOf_0 24 rfl rfl
theorem dksX6_ringOf_2 : cX6_ringOf.data.toList.drop 46 = dktX6_ringOf_2 := dk_seg dksX6_ringOf_1 22 rfl rfl
theorem dX6_ringOf_0 : decode cX6_ringOf 0 = .ok (.iconst 0, 1) := dk_3 (dk_at dksX6_ringOf_0 0 rfl rfl)
theorem dX6_ringOf_1 : decode cX6_ringOf 1 = .ok (.istore_n 2, 1) := dk_61 (dk_at dksX6_ringOf_0 1 rfl rfl)
theorem dX6_ringOf_2 : decode cX6_ringOf 2 = .ok (.aload_n 0, 1) := dk_42 (dk_at dksX6_ringOf_0 2 rfl rfl)
theorem dX6_ringOf_3 : decode cX6_ringOf 3 = .ok (.iload_n 1, 1) := dk_27 (dk_at dksX6_ringOf_0 3 rfl rfl)
theorem dX6_ringOf_4 : decode cX6_ringOf 4 = .ok (.invokevirtual 441, 3) := dk_182 1 185 (dk_at dksX6_ringOf_0 4 rfl rfl)
theorem dX6_ringOf_7 : decode cX6_ringOf 7 = .ok (.istore_n 3, 1) := dk_62 (dk_at dksX6_ringOf_0 7 rfl rfl)
theorem dX6_ringOf_8 : decode cX6_ringOf 8 = .ok (.iconst 0, 1) := dk_3 (dk_at dksX6_ringOf_0 8 rfl rfl)
theorem dX6_ringOf_9 : decode cX6_ringOf 9 = .ok (.istore 4, 2) := dk_54 4 (dk_at dksX6_ringOf_0 9 rfl rfl)
theorem dX6_ringOf_11 : decode cX6_ringOf 11 = .ok (.iload 4, 2) := dk_21 4 (dk_at dksX6_ringOf_0 11 rfl rfl)
theorem dX6_ringOf_13 : decode cX6_ringOf 13 = .ok (.bipush 10, 2) := dk_16 10 (dk_at dksX6_ringOf_0 13 rfl rfl)
theorem dX6_ringOf_15 : decode cX6_ringOf 15 = .ok (.if_icmp .ge 47, 3) := dk_162 0 47 (dk_at dksX6_ringOf_0 15 rfl rfl)
theorem dX6_ringOf_18 : decode cX6_ringOf 18 = .ok (.aload_n 0, 1) := dk_42 (dk_at dksX6_ringOf_0 18 rfl rfl)
theorem dX6_ringOf_19 : decode cX6_ringOf 19 = .ok (.iload 4, 2) := dk_21 4 (dk_at dksX6_ringOf_0 19 rfl rfl)
theorem dX6_ringOf_21 : decode cX6_ringOf 21 = .ok (.invokevirtual 135, 3) := dk_182 0 135 (dk_at dksX6_ringOf_0 21 rfl rfl)
theorem dX6_ringOf_24 : decode cX6_ringOf 24 = .ok (.ifCond .eq 32, 3) := dk_153 0 32 (dk_at dksX6_ringOf_1 0 rfl rfl)
theorem dX6_ringOf_27 : decode cX6_ringOf 27 = .ok (.iload_n 3, 1) := dk_29 (dk_at dksX6_ringOf_1 3 rfl rfl)
theorem dX6_ringOf_28 : decode cX6_ringOf 28 = .ok (.iload 4, 2) := dk_21 4 (dk_at dksX6_ringOf_1 4 rfl rfl)
theorem dX6_ringOf_30 : decode cX6_ringOf 30 = .ok (.invokestatic 131, 3) := dk_184 0 131 (dk_at dksX6_ringOf_1 6 rfl rfl)
theorem dX6_ringOf_33 : decode cX6_ringOf 33 = .ok (.ifCond .eq 23, 3) := dk_153 0 23 (dk_at dksX6_ringOf_1 9 rfl rfl)
theorem dX6_ringOf_36 : decode cX6_ringOf 36 = .ok (.aload_n 0, 1) := dk_42 (dk_at dksX6_ringOf_1 12 rfl rfl)
theorem dX6_ringOf_37 : decode cX6_ringOf 37 = .ok (.iload 4, 2) := dk_21 4 (dk_at dksX6_ringOf_1 13 rfl rfl)
theorem dX6_ringOf_39 : decode cX6_ringOf 39 = .ok (.invokevirtual 441, 3) := dk_182 1 185 (dk_at dksX6_ringOf_1 15 rfl rfl)
theorem dX6_ringOf_42 : decode cX6_ringOf 42 = .ok (.iload_n 1, 1) := dk_27 (dk_at dksX6_ringOf_1 18 rfl rfl)
theorem dX6_ringOf_43 : decode cX6_ringOf 43 = .ok (.invokestatic 131, 3) := dk_184 0 131 (dk_at dksX6_ringOf_1 19 rfl rfl)
theorem dX6_ringOf_46 : decode cX6_ringOf 46 = .ok (.ifCond .eq 10, 3) := dk_153 0 10 (dk_at dksX6_ringOf_2 0 rfl rfl)
theorem dX6_ringOf_49 : decode cX6_ringOf 49 = .ok (.iload_n 2, 1) := dk_28 (dk_at dksX6_ringOf_2 3 rfl rfl)
theorem dX6_ringOf_50 : decode cX6_ringOf 50 = .ok (.iconst 1, 1) := dk_4 (dk_at dksX6_ringOf_2 4 rfl rfl)
theorem dX6_ringOf_51 : decode cX6_ringOf 51 = .ok (.iload 4, 2) := dk_21 4 (dk_at dksX6_ringOf_2 5 rfl rfl)
theorem dX6_ringOf_53 : decode cX6_ringOf 53 = .ok (.ishl, 1) := dk_120 (dk_at dksX6_ringOf_2 7 rfl rfl)
theorem dX6_ringOf_54 : decode cX6_ringOf 54 = .ok (.ior, 1) := dk_128 (dk_at dksX6_ringOf_2 8 rfl rfl)
theorem dX6_ringOf_55 : decode cX6_ringOf 55 = .ok (.istore_n 2, 1) := dk_61 (dk_at dksX6_ringOf_2 9 rfl rfl)
theorem dX6_ringOf_56 : decode cX6_ringOf 56 = .ok (.iinc 4 1, 3) := dk_132 4 1 (dk_at dksX6_ringOf_2 10 rfl rfl)
theorem dX6_ringOf_59 : decode cX6_ringOf 59 = .ok (.goto (-48), 3) := dk_167 255 208 (dk_at dksX6_ringOf_2 13 rfl rfl)
theorem dX6_ringOf_62 : decode cX6_ringOf 62 = .ok (.iload_n 2, 1) := dk_28 (dk_at dksX6_ringOf_2 16 rfl rfl)
theorem dX6_ringOf_63 : decode cX6_ringOf 63 = .ok (.ireturn, 1) := dk_172 (dk_at dksX6_ringOf_2 17 rfl rfl)
abbrev cX6_reachOf : ByteArray := prog_20_method_98_code
def yX6_reachOf : MethodName := ⟨RX6, "reachOf", "(I)I"⟩
def dkwX6_reachOf_1 : List UInt8 := [132, 2, 1, 167, 255, 233, 42, 27, 182, 1, 132, 172]
abbrev dktX6_reachOf_1 : List UInt8 := dkwX6_reachOf_1 ++ []
def dkwX6_reachOf_0 : List UInt8 := [3, 61, 28, 16, 100, 162, 0, 23, 42, 180, 0, 83, 28, 42, 180, 0, 7, 3, 28, 96, 46, 79]
abbrev dktX6_reachOf_0 : List UInt8 := dkwX6_reachOf_0 ++ dktX6_reachOf_1
theorem dksX6_reachOf_0 : cX6_reachOf.data.toList.drop 0 = dktX6_reachOf_0 := by decide +kernel
theorem dksX6_reachOf_1 : cX6_reachOf.data.toList.drop 22 = dktX6_reachOf_1 := dk_seg dksX6_reachOf_0 22 rfl rfl
theorem dX6_reachOf_0 : decode cX6_reachOf 0 = .ok (.iconst 0, 1) := dk_3 (dk_at dksX6_reachOf_0 0 rfl rfl)
theorem dX6_reachOf_1 : decode cX6_reachOf 1 = .ok (.istore_n 2, 1) := dk_61 (dk_at dksX6_reachOf_0 1 rfl rfl)
theorem dX6_reachOf_2 : decode cX6_reachOf 2 = .ok (.iload_n 2, 1) := dk_28 (dk_at dksX6_reachOf_0 2 rfl rfl)
theorem dX6_reachOf_3 : decode cX6_reachOf 3 = .ok (.bipush 100, 2) := dk_16 100 (dk_at dksX6_reachOf_0 3 rfl rfl)
theorem dX6_reachOf_5 : decode cX6_reachOf 5 = .ok (.if_icmp .ge 23, 3) := dk_162 0 23 (dk_at dksX6_reachOf_0 5 rfl rfl)
theorem dX6_reachOf_8 : decode cX6_reachOf 8 = .ok (.aload_n 0, 1) := dk_42 (dk_at dksX6_reachOf_0 8 rfl rfl)
theorem dX6_reachOf_9 : decode cX6_reachOf 9 = .ok (.getfield 83, 3) := dk_180 0 83 (dk_at dksX6_reachOf_0 9 rfl rfl)
theorem dX6_reachOf_12 : decode cX6_reachOf 12 = .ok (.iload_n 2, 1) := dk_28 (dk_at dksX6_reachOf_0 12 rfl rfl)
theorem dX6_reachOf_13 : decode cX6_reachOf 13 = .ok (.aload_n 0, 1) := dk_42 (dk_at dksX6_reachOf_0 13 rfl rfl)
theorem dX6_reachOf_14 : decode cX6_reachOf 14 = .ok (.getfield 7, 3) := dk_180 0 7 (dk_at dksX6_reachOf_0 14 rfl rfl)
theorem dX6_reachOf_17 : decode cX6_reachOf 17 = .ok (.iconst 0, 1) := dk_3 (dk_at dksX6_reachOf_0 17 rfl rfl)
theorem dX6_reachOf_18 : decode cX6_reachOf 18 = .ok (.iload_n 2, 1) := dk_28 (dk_at dksX6_reachOf_0 18 rfl rfl)
theorem dX6_reachOf_19 : decode cX6_reachOf 19 = .ok (.iadd, 1) := dk_96 (dk_at dksX6_reachOf_0 19 rfl rfl)
theorem dX6_reachOf_20 : decode cX6_reachOf 20 = .ok (.iaload, 1) := dk_46 (dk_at dksX6_reachOf_0 20 rfl rfl)
theorem dX6_reachOf_21 : decode cX6_reachOf 21 = .ok (.iastore, 1) := dk_79 (dk_at dksX6_reachOf_0 21 rfl rfl)
theorem dX6_reachOf_22 : decode cX6_reachOf 22 = .ok (.iinc 2 1, 3) := dk_132 2 1 (dk_at dksX6_reachOf_1 0 rfl rfl)
theorem dX6_reachOf_25 : decode cX6_reachOf 25 = .ok (.goto (-23), 3) := dk_167 255 233 (dk_at dksX6_reachOf_1 3 rfl rfl)
theorem dX6_reachOf_28 : decode cX6_reachOf 28 = .ok (.aload_n 0, 1) := dk_42 (dk_at dksX6_reachOf_1 6 rfl rfl)
theorem dX6_reachOf_29 : decode cX6_reachOf 29 = .ok (.iload_n 1, 1) := dk_27 (dk_at dksX6_reachOf_1 7 rfl rfl)
theorem dX6_reachOf_30 : decode cX6_reachOf 30 = .ok (.invokevirtual 388, 3) := dk_182 1 132 (dk_at dksX6_reachOf_1 8 rfl rfl)
theorem dX6_reachOf_33 : decode cX6_reachOf 33 = .ok (.ireturn, 1) := dk_172 (dk_at dksX6_reachOf_1 11 rfl rfl)
abbrev cX6_off : ByteArray := prog_20_method_101_code
def yX6_off : MethodName := ⟨RX6, "off", "()I"⟩
def dkwX6_off_1 : List UInt8 := [180, 0, 7, 17, 0, 151, 46, 182, 1, 185, 2, 130, 126, 172]
abbrev dktX6_off_1 : List UInt8 := dkwX6_off_1 ++ []
def dkwX6_off_0 : List UInt8 := [42, 180, 0, 7, 17, 0, 151, 46, 156, 0, 8, 16, 254, 167, 0, 22, 42, 180, 0, 127, 42, 42]
abbrev dktX6_off_0 : List UInt8 := dkwX6_off_0 ++ dktX6_off_1
theorem dksX6_off_0 : cX6_off.data.toList.drop 0 = dktX6_off_0 := by decide +kernel
theorem dksX6_off_1 : cX6_off.data.toList.drop 22 = dktX6_off_1 := dk_seg dksX6_off_0 22 rfl rfl
theorem dX6_off_0 : decode cX6_off 0 = .ok (.aload_n 0, 1) := dk_42 (dk_at dksX6_off_0 0 rfl rfl)
theorem dX6_off_1 : decode cX6_off 1 = .ok (.getfield 7, 3) := dk_180 0 7 (dk_at dksX6_off_0 1 rfl rfl)
theorem dX6_off_4 : decode cX6_off 4 = .ok (.sipush 151, 3) := dk_17 0 151 (dk_at dksX6_off_0 4 rfl rfl)
theorem dX6_off_7 : decode cX6_off 7 = .ok (.iaload, 1) := dk_46 (dk_at dksX6_off_0 7 rfl rfl)
theorem dX6_off_8 : decode cX6_off 8 = .ok (.ifCond .ge 8, 3) := dk_156 0 8 (dk_at dksX6_off_0 8 rfl rfl)
theorem dX6_off_11 : decode cX6_off 11 = .ok (.bipush (-2), 2) := dk_16 254 (dk_at dksX6_off_0 11 rfl rfl)
theorem dX6_off_13 : decode cX6_off 13 = .ok (.goto 22, 3) := dk_167 0 22 (dk_at dksX6_off_0 13 rfl rfl)
theorem dX6_off_16 : decode cX6_off 16 = .ok (.aload_n 0, 1) := dk_42 (dk_at dksX6_off_0 16 rfl rfl)
theorem dX6_off_17 : decode cX6_off 17 = .ok (.getfield 127, 3) := dk_180 0 127 (dk_at dksX6_off_0 17 rfl rfl)
theorem dX6_off_20 : decode cX6_off 20 = .ok (.aload_n 0, 1) := dk_42 (dk_at dksX6_off_0 20 rfl rfl)
theorem dX6_off_21 : decode cX6_off 21 = .ok (.aload_n 0, 1) := dk_42 (dk_at dksX6_off_0 21 rfl rfl)
theorem dX6_off_22 : decode cX6_off 22 = .ok (.getfield 7, 3) := dk_180 0 7 (dk_at dksX6_off_1 0 rfl rfl)
theorem dX6_off_25 : decode cX6_off 25 = .ok (.sipush 151, 3) := dk_17 0 151 (dk_at dksX6_off_1 3 rfl rfl)
theorem dX6_off_28 : decode cX6_off 28 = .ok (.iaload, 1) := dk_46 (dk_at dksX6_off_1 6 rfl rfl)
theorem dX6_off_29 : decode cX6_off 29 = .ok (.invokevirtual 441, 3) := dk_182 1 185 (dk_at dksX6_off_1 7 rfl rfl)
theorem dX6_off_32 : decode cX6_off 32 = .ok (.iconst (-1), 1) := dk_2 (dk_at dksX6_off_1 10 rfl rfl)
theorem dX6_off_33 : decode cX6_off 33 = .ok (.ixor, 1) := dk_130 (dk_at dksX6_off_1 11 rfl rfl)
theorem dX6_off_34 : decode cX6_off 34 = .ok (.iand, 1) := dk_126 (dk_at dksX6_off_1 12 rfl rfl)
theorem dX6_off_35 : decode cX6_off 35 = .ok (.ireturn, 1) := dk_172 (dk_at dksX6_off_1 13 rfl rfl)
abbrev cX6_when : ByteArray := prog_20_method_102_code
def yX6_when : MethodName := ⟨RX6, "when", "(II)I"⟩
def dkwX6_when_4 : List UInt8 := [21, 4, 62, 132, 4, 1, 167, 255, 212, 42, 180, 0, 13, 42, 180, 0, 7, 184, 1, 89, 29, 172]
abbrev dktX6_when_4 : List UInt8 := dkwX6_when_4 ++ []
def dkwX6_when_3 : List UInt8 := [17, 39, 15, 162, 0, 30, 29, 16, 254, 160, 0, 24, 42, 182, 1, 83, 42, 180, 1, 65, 27, 160, 0, 6]
abbrev dktX6_when_3 : List UInt8 := dkwX6_when_3 ++ dktX6_when_4
def dkwX6_when_2 : List UInt8 := [42, 182, 1, 80, 16, 254, 62, 4, 54, 4, 21, 4, 28, 163, 0, 44, 42, 180, 0, 7, 17, 0, 156, 46]
abbrev dktX6_when_2 : List UInt8 := dkwX6_when_2 ++ dktX6_when_3
def dkwX6_when_1 : List UInt8 := [180, 0, 7, 17, 0, 151, 46, 27, 160, 0, 5, 3, 172, 42, 180, 0, 7, 42, 180, 0, 13, 184, 1, 89]
abbrev dktX6_when_1 : List UInt8 := dkwX6_when_1 ++ dktX6_when_2
def dkwX6_when_0 : List UInt8 := [42, 27, 182, 0, 135, 153, 0, 14, 28, 4, 17, 0, 240, 184, 0, 123, 154, 0, 5, 2, 172, 42]
abbrev dktX6_when_0 : List UInt8 := dkwX6_when_0 ++ dktX6_when_1
theorem dksX6_when_0 : cX6_when.data.toList.drop 0 = dktX6_when_0 := by decide +kernel
theorem dksX6_when_1 : cX6_when.data.toList.drop 22 = dktX6_when_1 := dk_seg dksX6_when_0 22 rfl rfl
theorem dksX6_when_2 : cX6_when.data.toList.drop 46 = dktX6_when_2 := dk_seg dksX6_when_1 24 rfl rfl
theorem dksX6_when_3 : cX6_when.data.toList.drop 70 = dktX6_when_3 := dk_seg dksX6_when_2 24 rfl rfl
theorem dksX6_when_4 : cX6_when.data.toList.drop 94 = dktX6_when_4 := dk_seg dksX6_when_3 24 rfl rfl
theorem dX6_when_0 : decode cX6_when 0 = .ok (.aload_n 0, 1) := dk_42 (dk_at dksX6_when_0 0 rfl rfl)
theorem dX6_when_1 : decode cX6_when 1 = .ok (.iload_n 1, 1) := dk_27 (dk_at dksX6_when_0 1 rfl rfl)
theorem dX6_when_2 : decode cX6_when 2 = .ok (.invokevirtual 135, 3) := dk_182 0 135 (dk_at dksX6_when_0 2 rfl rfl)
theorem dX6_when_5 : decode cX6_when 5 = .ok (.ifCond .eq 14, 3) := dk_153 0 14 (dk_at dksX6_when_0 5 rfl rfl)
theorem dX6_when_8 : decode cX6_when 8 = .ok (.iload_n 2, 1) := dk_28 (dk_at dksX6_when_0 8 rfl rfl)
theorem dX6_when_9 : decode cX6_when 9 = .ok (.iconst 1, 1) := dk_4 (dk_at dksX6_when_0 9 rfl rfl)
theorem dX6_when_10 : decode cX6_when 10 = .ok (.sipush 240, 3) := dk_17 0 240 (dk_at dksX6_when_0 10 rfl rfl)
theorem dX6_when_13 : decode cX6_when 13 = .ok (.invokestatic 123, 3) := dk_184 0 123 (dk_at dksX6_when_0 13 rfl rfl)
theorem dX6_when_16 : decode cX6_when 16 = .ok (.ifCond .ne 5, 3) := dk_154 0 5 (dk_at dksX6_when_0 16 rfl rfl)
theorem dX6_when_19 : decode cX6_when 19 = .ok (.iconst (-1), 1) := dk_2 (dk_at dksX6_when_0 19 rfl rfl)
theorem dX6_when_20 : decode cX6_when 20 = .ok (.ireturn, 1) := dk_172 (dk_at dksX6_when_0 20 rfl rfl)
theorem dX6_when_21 : decode cX6_when 21 = .ok (.aload_n 0, 1) := dk_42 (dk_at dksX6_when_0 21 rfl rfl)
theorem dX6_when_22 : decode cX6_when 22 = .ok (.getfield 7, 3) := dk_180 0 7 (dk_at dksX6_when_1 0 rfl rfl)
theorem dX6_when_25 : decode cX6_when 25 = .ok (.sipush 151, 3) := dk_17 0 151 (dk_at dksX6_when_1 3 rfl rfl)
theorem dX6_when_28 : decode cX6_when 28 = .ok (.iaload, 1) := dk_46 (dk_at dksX6_when_1 6 rfl rfl)
theorem dX6_when_29 : decode cX6_when 29 = .ok (.iload_n 1, 1) := dk_27 (dk_at dksX6_when_1 7 rfl rfl)
theorem dX6_when_30 : decode cX6_when 30 = .ok (.if_icmp .ne 5, 3) := dk_160 0 5 (dk_at dksX6_when_1 8 rfl rfl)
theorem dX6_when_33 : decode cX6_when 33 = .ok (.iconst 0, 1) := dk_3 (dk_at dksX6_when_1 11 rfl rfl)
theorem dX6_when_34 : decode cX6_when 34 = .ok (.ireturn, 1) := dk_172 (dk_at dksX6_when_1 12 rfl rfl)
theorem dX6_when_35 : decode cX6_when 35 = .ok (.aload_n 0, 1) := dk_42 (dk_at dksX6_when_1 13 rfl rfl)
theorem dX6_when_36 : decode cX6_when 36 = .ok (.getfield 7, 3) := dk_180 0 7 (dk_at dksX6_when_1 14 rfl rfl)
theorem dX6_when_39 : decode cX6_when 39 = .ok (.aload_n 0, 1) := dk_42 (dk_at dksX6_when_1 17 rfl rfl)
theorem dX6_when_40 : decode cX6_when 40 = .ok (.getfield 13, 3) := dk_180 0 13 (dk_at dksX6_when_1 18 rfl rfl)
theorem dX6_when_43 : decode cX6_when 43 = .ok (.invokestatic 345, 3) := dk_184 1 89 (dk_at dksX6_when_1 21 rfl rfl)
theorem dX6_when_46 : decode cX6_when 46 = .ok (.aload_n 0, 1) := dk_42 (dk_at dksX6_when_2 0 rfl rfl)
theorem dX6_when_47 : decode cX6_when 47 = .ok (.invokevirtual 336, 3) := dk_182 1 80 (dk_at dksX6_when_2 1 rfl rfl)
theorem dX6_when_50 : decode cX6_when 50 = .ok (.bipush (-2), 2) := dk_16 254 (dk_at dksX6_when_2 4 rfl rfl)
theorem dX6_when_52 : decode cX6_when 52 = .ok (.istore_n 3, 1) := dk_62 (dk_at dksX6_when_2 6 rfl rfl)
theorem dX6_when_53 : decode cX6_when 53 = .ok (.iconst 1, 1) := dk_4 (dk_at dksX6_when_2 7 rfl rfl)
theorem dX6_when_54 : decode cX6_when 54 = .ok (.istore 4, 2) := dk_54 4 (dk_at dksX6_when_2 8 rfl rfl)
theorem dX6_when_56 : decode cX6_when 56 = .ok (.iload 4, 2) := dk_21 4 (dk_at dksX6_when_2 10 rfl rfl)
theorem dX6_when_58 : decode cX6_when 58 = .ok (.iload_n 2, 1) := dk_28 (dk_at dksX6_when_2 12 rfl rfl)
theorem dX6_when_59 : decode cX6_when 59 = .ok (.if_icmp .gt 44, 3) := dk_163 0 44 (dk_at dksX6_when_2 13 rfl rfl)
theorem dX6_when_62 : decode cX6_when 62 = .ok (.aload_n 0, 1) := dk_42 (dk_at dksX6_when_2 16 rfl rfl)
theorem dX6_when_63 : decode cX6_when 63 = .ok (.getfield 7, 3) := dk_180 0 7 (dk_at dksX6_when_2 17 rfl rfl)
theorem dX6_when_66 : decode cX6_when 66 = .ok (.sipush 156, 3) := dk_17 0 156 (dk_at dksX6_when_2 20 rfl rfl)
theorem dX6_when_69 : decode cX6_when 69 = .ok (.iaload, 1) := dk_46 (dk_at dksX6_when_2 23 rfl rfl)
theorem dX6_when_70 : decode cX6_when 70 = .ok (.sipush 9999, 3) := dk_17 39 15 (dk_at dksX6_when_3 0 rfl rfl)
theorem dX6_when_73 : decode cX6_when 73 = .ok (.if_icmp .ge 30, 3) := dk_162 0 30 (dk_at dksX6_when_3 3 rfl rfl)
theorem dX6_when_76 : decode cX6_when 76 = .ok (.iload_n 3, 1) := dk_29 (dk_at dksX6_when_3 6 rfl rfl)
theorem dX6_when_77 : decode cX6_when 77 = .ok (.bipush (-2), 2) := dk_16 254 (dk_at dksX6_when_3 7 rfl rfl)
theorem dX6_when_79 : decode cX6_when 79 = .ok (.if_icmp .ne 24, 3) := dk_160 0 24 (dk_at dksX6_when_3 9 rfl rfl)
theorem dX6_when_82 : decode cX6_when 82 = .ok (.aload_n 0, 1) := dk_42 (dk_at dksX6_when_3 12 rfl rfl)
theorem dX6_when_83 : decode cX6_when 83 = .ok (.invokevirtual 339, 3) := dk_182 1 83 (dk_at dksX6_when_3 13 rfl rfl)
theorem dX6_when_86 : decode cX6_when 86 = .ok (.aload_n 0, 1) := dk_42 (dk_at dksX6_when_3 16 rfl rfl)
theorem dX6_when_87 : decode cX6_when 87 = .ok (.getfield 321, 3) := dk_180 1 65 (dk_at dksX6_when_3 17 rfl rfl)
theorem dX6_when_90 : decode cX6_when 90 = .ok (.iload_n 1, 1) := dk_27 (dk_at dksX6_when_3 20 rfl rfl)
theorem dX6_when_91 : decode cX6_when 91 = .ok (.if_icmp .ne 6, 3) := dk_160 0 6 (dk_at dksX6_when_3 21 rfl rfl)
theorem dX6_when_94 : decode cX6_when 94 = .ok (.iload 4, 2) := dk_21 4 (dk_at dksX6_when_4 0 rfl rfl)
theorem dX6_when_96 : decode cX6_when 96 = .ok (.istore_n 3, 1) := dk_62 (dk_at dksX6_when_4 2 rfl rfl)
theorem dX6_when_97 : decode cX6_when 97 = .ok (.iinc 4 1, 3) := dk_132 4 1 (dk_at dksX6_when_4 3 rfl rfl)
theorem dX6_when_100 : decode cX6_when 100 = .ok (.goto (-44), 3) := dk_167 255 212 (dk_at dksX6_when_4 6 rfl rfl)
theorem dX6_when_103 : decode cX6_when 103 = .ok (.aload_n 0, 1) := dk_42 (dk_at dksX6_when_4 9 rfl rfl)
theorem dX6_when_104 : decode cX6_when 104 = .ok (.getfield 13, 3) := dk_180 0 13 (dk_at dksX6_when_4 10 rfl rfl)
theorem dX6_when_107 : decode cX6_when 107 = .ok (.aload_n 0, 1) := dk_42 (dk_at dksX6_when_4 13 rfl rfl)
theorem dX6_when_108 : decode cX6_when 108 = .ok (.getfield 7, 3) := dk_180 0 7 (dk_at dksX6_when_4 14 rfl rfl)
theorem dX6_when_111 : decode cX6_when 111 = .ok (.invokestatic 345, 3) := dk_184 1 89 (dk_at dksX6_when_4 17 rfl rfl)
theorem dX6_when_114 : decode cX6_when 114 = .ok (.iload_n 3, 1) := dk_29 (dk_at dksX6_when_4 20 rfl rfl)
theorem dX6_when_115 : decode cX6_when 115 = .ok (.ireturn, 1) := dk_172 (dk_at dksX6_when_4 21 rfl rfl)
abbrev cX6_wedding : ByteArray := prog_20_method_103_code
def yX6_wedding : MethodName := ⟨RX6, "wedding", "(III)I"⟩
def dkwX6_wedding_6 : List UInt8 := [132, 6, 1, 167, 255, 158, 42, 180, 0, 13, 42, 180, 0, 7, 184, 1, 89, 21, 4, 172]
abbrev dktX6_wedding_6 : List UInt8 := dkwX6_wedding_6 ++ []
def dkwX6_wedding_5 : List UInt8 := [54, 5, 21, 5, 27, 184, 0, 131, 153, 0, 16, 21, 5, 28, 184, 0, 131, 153, 0, 7, 21, 7, 54, 4]
abbrev dktX6_wedding_5 : List UInt8 := dkwX6_wedding_5 ++ dktX6_wedding_6
def dkwX6_wedding_4 : List UInt8 := [3, 54, 5, 42, 182, 1, 83, 42, 180, 1, 65, 155, 0, 14, 21, 5, 4, 42, 180, 1, 65, 120, 128]
abbrev dktX6_wedding_4 : List UInt8 := dkwX6_wedding_4 ++ dktX6_wedding_5
def dkwX6_wedding_3 : List UInt8 := [160, 0, 77, 42, 180, 0, 7, 17, 0, 156, 46, 54, 7, 42, 180, 0, 7, 17, 0, 155, 46, 154, 0, 6]
abbrev dktX6_wedding_3 : List UInt8 := dkwX6_wedding_3 ++ dktX6_wedding_4
def dkwX6_wedding_2 : List UInt8 := [21, 6, 29, 162, 0, 98, 42, 180, 0, 7, 17, 0, 156, 46, 17, 39, 15, 162, 0, 84, 21, 4, 16, 254]
abbrev dktX6_wedding_2 : List UInt8 := dkwX6_wedding_2 ++ dktX6_wedding_3
def dkwX6_wedding_1 : List UInt8 := [180, 0, 7, 42, 180, 0, 13, 184, 1, 89, 42, 182, 1, 80, 16, 254, 54, 4, 3, 54, 5, 3, 54, 6]
abbrev dktX6_wedding_1 : List UInt8 := dkwX6_wedding_1 ++ dktX6_wedding_2
def dkwX6_wedding_0 : List UInt8 := [42, 27, 28, 182, 0, 153, 153, 0, 14, 29, 4, 17, 0, 240, 184, 0, 123, 154, 0, 5, 2, 172, 42]
abbrev dktX6_wedding_0 : List UInt8 := dkwX6_wedding_0 ++ dktX6_wedding_1
theorem dksX6_wedding_0 : cX6_wedding.data.toList.drop 0 = dktX6_wedding_0 := by decide +kernel
theorem dksX6_wedding_1 : cX6_wedding.data.toList.drop 23 = dktX6_wedding_1 := dk_seg dksX6_wedding_0 23 rfl rfl
theorem dksX6_wedding_2 : cX6_wedding.data.toList.drop 47 = dktX6_wedding_2 := dk_seg dksX6_wedding_1 24 rfl rfl
theorem dksX6_wedding_3 : cX6_wedding.data.toList.drop 71 = dktX6_wedding_3 := dk_seg dksX6_wedding_2 24 rfl rfl
theorem dksX6_wedding_4 : cX6_wedding.data.toList.drop 95 = dktX6_wedding_4 := dk_seg dksX6_wedding_3 24 rfl rfl
theorem dksX6_wedding_5 : cX6_wedding.data.toList.drop 118 = dktX6_wedding_5 := dk_seg dksX6_wedding_4 23 rfl rfl
theorem dksX6_wedding_6 : cX6_wedding.data.toList.drop 142 = dktX6_wedding_6 := dk_seg dksX6_wedding_5 24 rfl rfl
theorem dX6_wedding_0 : decode cX6_wedding 0 = .ok (.aload_n 0, 1) := dk_42 (dk_at dksX6_wedding_0 0 rfl rfl)
theorem dX6_wedding_1 : decode cX6_wedding 1 = .ok (.iload_n 1, 1) := dk_27 (dk_at dksX6_wedding_0 1 rfl rfl)
theorem dX6_wedding_2 : decode cX6_wedding 2 = .ok (.iload_n 2, 1) := dk_28 (dk_at dksX6_wedding_0 2 rfl rfl)
theorem dX6_wedding_3 : decode cX6_wedding 3 = .ok (.invokevirtual 153, 3) := dk_182 0 153 (dk_at dksX6_wedding_0 3 rfl rfl)
theorem dX6_wedding_6 : decode cX6_wedding 6 = .ok (.ifCond .eq 14, 3) := dk_153 0 14 (dk_at dksX6_wedding_0 6 rfl rfl)
theorem dX6_wedding_9 : decode cX6_wedding 9 = .ok (.iload_n 3, 1) := dk_29 (dk_at dksX6_wedding_0 9 rfl rfl)
theorem dX6_wedding_10 : decode cX6_wedding 10 = .ok (.iconst 1, 1) := dk_4 (dk_at dksX6_wedding_0 10 rfl rfl)
theorem dX6_wedding_11 : decode cX6_wedding 11 = .ok (.sipush 240, 3) := dk_17 0 240 (dk_at dksX6_wedding_0 11 rfl rfl)
theorem dX6_wedding_14 : decode cX6_wedding 14 = .ok (.invokestatic 123, 3) := dk_184 0 123 (dk_at dksX6_wedding_0 14 rfl rfl)
theorem dX6_wedding_17 : decode cX6_wedding 17 = .ok (.ifCond .ne 5, 3) := dk_154 0 5 (dk_at dksX6_wedding_0 17 rfl rfl)
theorem dX6_wedding_20 : decode cX6_wedding 20 = .ok (.iconst (-1), 1) := dk_2 (dk_at dksX6_wedding_0 20 rfl rfl)
theorem dX6_wedding_21 : decode cX6_wedding 21 = .ok (.ireturn, 1) := dk_172 (dk_at dksX6_wedding_0 21 rfl rfl)
theorem dX6_wedding_22 : decode cX6_wedding 22 = .ok (.aload_n 0, 1) := dk_42 (dk_at dksX6_wedding_0 22 rfl rfl)
theorem dX6_wedding_23 : decode cX6_wedding 23 = .ok (.getfield 7, 3) := dk_180 0 7 (dk_at dksX6_wedding_1 0 rfl rfl)
theorem dX6_wedding_26 : decode cX6_wedding 26 = .ok (.aload_n 0, 1) := dk_42 (dk_at dksX6_wedding_1 3 rfl rfl)
theorem dX6_wedding_27 : decode cX6_wedding 27 = .ok (.getfield 13, 3) := dk_180 0 13 (dk_at dksX6_wedding_1 4 rfl rfl)
theorem dX6_wedding_30 : decode cX6_wedding 30 = .ok (.invokestatic 345, 3) := dk_184 1 89 (dk_at dksX6_wedding_1 7 rfl rfl)
theorem dX6_wedding_33 : decode cX6_wedding 33 = .ok (.aload_n 0, 1) := dk_42 (dk_at dksX6_wedding_1 10 rfl rfl)
theorem dX6_wedding_34 : decode cX6_wedding 34 = .ok (.invokevirtual 336, 3) := dk_182 1 80 (dk_at dksX6_wedding_1 11 rfl rfl)
theorem dX6_wedding_37 : decode cX6_wedding 37 = .ok (.bipush (-2), 2) := dk_16 254 (dk_at dksX6_wedding_1 14 rfl rfl)
theorem dX6_wedding_39 : decode cX6_wedding 39 = .ok (.istore 4, 2) := dk_54 4 (dk_at dksX6_wedding_1 16 rfl rfl)
theorem dX6_wedding_41 : decode cX6_wedding 41 = .ok (.iconst 0, 1) := dk_3 (dk_at dksX6_wedding_1 18 rfl rfl)
theorem dX6_wedding_42 : decode cX6_wedding 42 = .ok (.istore 5, 2) := dk_54 5 (dk_at dksX6_wedding_1 19 rfl rfl)
theorem dX6_wedding_44 : decode cX6_wedding 44 = .ok (.iconst 0, 1) := dk_3 (dk_at dksX6_wedding_1 21 rfl rfl)
theorem dX6_wedding_45 : decode cX6_wedding 45 = .ok (.istore 6, 2) := dk_54 6 (dk_at dksX6_wedding_1 22 rfl rfl)
theorem dX6_wedding_47 : decode cX6_wedding 47 = .ok (.iload 6, 2) := dk_21 6 (dk_at dksX6_wedding_2 0 rfl rfl)
theorem dX6_wedding_49 : decode cX6_wedding 49 = .ok (.iload_n 3, 1) := dk_29 (dk_at dksX6_wedding_2 2 rfl rfl)
theorem dX6_wedding_50 : decode cX6_wedding 50 = .ok (.if_icmp .ge 98, 3) := dk_162 0 98 (dk_at dksX6_wedding_2 3 rfl rfl)
theorem dX6_wedding_53 : decode cX6_wedding 53 = .ok (.aload_n 0, 1) := dk_42 (dk_at dksX6_wedding_2 6 rfl rfl)
theorem dX6_wedding_54 : decode cX6_wedding 54 = .ok (.getfield 7, 3) := dk_180 0 7 (dk_at dksX6_wedding_2 7 rfl rfl)
theorem dX6_wedding_57 : decode cX6_wedding 57 = .ok (.sipush 156, 3) := dk_17 0 156 (dk_at dksX6_wedding_2 10 rfl rfl)
theorem dX6_wedding_60 : decode cX6_wedding 60 = .ok (.iaload, 1) := dk_46 (dk_at dksX6_wedding_2 13 rfl rfl)
theorem dX6_wedding_61 : decode cX6_wedding 61 = .ok (.sipush 9999, 3) := dk_17 39 15 (dk_at dksX6_wedding_2 14 rfl rfl)
theorem dX6_wedding_64 : decode cX6_wedding 64 = .ok (.if_icmp .ge 84, 3) := dk_162 0 84 (dk_at dksX6_wedding_2 17 rfl rfl)
theorem dX6_wedding_67 : decode cX6_wedding 67 = .ok (.iload 4, 2) := dk_21 4 (dk_at dksX6_wedding_2 20 rfl rfl)
theorem dX6_wedding_69 : decode cX6_wedding 69 = .ok (.bipush (-2), 2) := dk_16 254 (dk_at dksX6_wedding_2 22 rfl rfl)
theorem dX6_wedding_71 : decode cX6_wedding 71 = .ok (.if_icmp .ne 77, 3) := dk_160 0 77 (dk_at dksX6_wedding_3 0 rfl rfl)
theorem dX6_wedding_74 : decode cX6_wedding 74 = .ok (.aload_n 0, 1) := dk_42 (dk_at dksX6_wedding_3 3 rfl rfl)
theorem dX6_wedding_75 : decode cX6_wedding 75 = .ok (.getfield 7, 3) := dk_180 0 7 (dk_at dksX6_wedding_3 4 rfl rfl)
theorem dX6_wedding_78 : decode cX6_wedding 78 = .ok (.sipush 156, 3) := dk_17 0 156 (dk_at dksX6_wedding_3 7 rfl rfl)
theorem dX6_wedding_81 : decode cX6_wedding 81 = .ok (.iaload, 1) := dk_46 (dk_at dksX6_wedding_3 10 rfl rfl)
theorem dX6_wedding_82 : decode cX6_wedding 82 = .ok (.istore 7, 2) := dk_54 7 (dk_at dksX6_wedding_3 11 rfl rfl)
theorem dX6_wedding_84 : decode cX6_wedding 84 = .ok (.aload_n 0, 1) := dk_42 (dk_at dksX6_wedding_3 13 rfl rfl)
theorem dX6_wedding_85 : decode cX6_wedding 85 = .ok (.getfield 7, 3) := dk_180 0 7 (dk_at dksX6_wedding_3 14 rfl rfl)
theorem dX6_wedding_88 : decode cX6_wedding 88 = .ok (.sipush 155, 3) := dk_17 0 155 (dk_at dksX6_wedding_3 17 rfl rfl)
theorem dX6_wedding_91 : decode cX6_wedding 91 = .ok (.iaload, 1) := dk_46 (dk_at dksX6_wedding_3 20 rfl rfl)
theorem dX6_wedding_92 : decode cX6_wedding 92 = .ok (.ifCond .ne 6, 3) := dk_154 0 6 (dk_at dksX6_wedding_3 21 rfl rfl)
theorem dX6_wedding_95 : decode cX6_wedding 95 = .ok (.iconst 0, 1) := dk_3 (dk_at dksX6_wedding_4 0 rfl rfl)
theorem dX6_wedding_96 : decode cX6_wedding 96 = .ok (.istore 5, 2) := dk_54 5 (dk_at dksX6_wedding_4 1 rfl rfl)
theorem dX6_wedding_98 : decode cX6_wedding 98 = .ok (.aload_n 0, 1) := dk_42 (dk_at dksX6_wedding_4 3 rfl rfl)
theorem dX6_wedding_99 : decode cX6_wedding 99 = .ok (.invokevirtual 339, 3) := dk_182 1 83 (dk_at dksX6_wedding_4 4 rfl rfl)
theorem dX6_wedding_102 : decode cX6_wedding 102 = .ok (.aload_n 0, 1) := dk_42 (dk_at dksX6_wedding_4 7 rfl rfl)
theorem dX6_wedding_103 : decode cX6_wedding 103 = .ok (.getfield 321, 3) := dk_180 1 65 (dk_at dksX6_wedding_4 8 rfl rfl)
theorem dX6_wedding_106 : decode cX6_wedding 106 = .ok (.ifCond .lt 14, 3) := dk_155 0 14 (dk_at dksX6_wedding_4 11 rfl rfl)
theorem dX6_wedding_109 : decode cX6_wedding 109 = .ok (.iload 5, 2) := dk_21 5 (dk_at dksX6_wedding_4 14 rfl rfl)
theorem dX6_wedding_111 : decode cX6_wedding 111 = .ok (.iconst 1, 1) := dk_4 (dk_at dksX6_wedding_4 16 rfl rfl)
theorem dX6_wedding_112 : decode cX6_wedding 112 = .ok (.aload_n 0, 1) := dk_42 (dk_at dksX6_wedding_4 17 rfl rfl)
theorem dX6_wedding_113 : decode cX6_wedding 113 = .ok (.getfield 321, 3) := dk_180 1 65 (dk_at dksX6_wedding_4 18 rfl rfl)
theorem dX6_wedding_116 : decode cX6_wedding 116 = .ok (.ishl, 1) := dk_120 (dk_at dksX6_wedding_4 21 rfl rfl)
theorem dX6_wedding_117 : decode cX6_wedding 117 = .ok (.ior, 1) := dk_128 (dk_at dksX6_wedding_4 22 rfl rfl)
theorem dX6_wedding_118 : decode cX6_wedding 118 = .ok (.istore 5, 2) := dk_54 5 (dk_at dksX6_wedding_5 0 rfl rfl)
theorem dX6_wedding_120 : decode cX6_wedding 120 = .ok (.iload 5, 2) := dk_21 5 (dk_at dksX6_wedding_5 2 rfl rfl)
theorem dX6_wedding_122 : decode cX6_wedding 122 = .ok (.iload_n 1, 1) := dk_27 (dk_at dksX6_wedding_5 4 rfl rfl)
theorem dX6_wedding_123 : decode cX6_wedding 123 = .ok (.invokestatic 131, 3) := dk_184 0 131 (dk_at dksX6_wedding_5 5 rfl rfl)
theorem dX6_wedding_126 : decode cX6_wedding 126 = .ok (.ifCond .eq 16, 3) := dk_153 0 16 (dk_at dksX6_wedding_5 8 rfl rfl)
theorem dX6_wedding_129 : decode cX6_wedding 129 = .ok (.iload 5, 2) := dk_21 5 (dk_at dksX6_wedding_5 11 rfl rfl)
theorem dX6_wedding_131 : decode cX6_wedding 131 = .ok (.iload_n 2, 1) := dk_28 (dk_at dksX6_wedding_5 13 rfl rfl)
theorem dX6_wedding_132 : decode cX6_wedding 132 = .ok (.invokestatic 131, 3) := dk_184 0 131 (dk_at dksX6_wedding_5 14 rfl rfl)
theorem dX6_wedding_135 : decode cX6_wedding 135 = .ok (.ifCond .eq 7, 3) := dk_153 0 7 (dk_at dksX6_wedding_5 17 rfl rfl)
theorem dX6_wedding_138 : decode cX6_wedding 138 = .ok (.iload 7, 2) := dk_21 7 (dk_at dksX6_wedding_5 20 rfl rfl)
theorem dX6_wedding_140 : decode cX6_wedding 140 = .ok (.istore 4, 2) := dk_54 4 (dk_at dksX6_wedding_5 22 rfl rfl)
theorem dX6_wedding_142 : decode cX6_wedding 142 = .ok (.iinc 6 1, 3) := dk_132 6 1 (dk_at dksX6_wedding_6 0 rfl rfl)
theorem dX6_wedding_145 : decode cX6_wedding 145 = .ok (.goto (-98), 3) := dk_167 255 158 (dk_at dksX6_wedding_6 3 rfl rfl)
theorem dX6_wedding_148 : decode cX6_wedding 148 = .ok (.aload_n 0, 1) := dk_42 (dk_at dksX6_wedding_6 6 rfl rfl)
theorem dX6_wedding_149 : decode cX6_wedding 149 = .ok (.getfield 13, 3) := dk_180 0 13 (dk_at dksX6_wedding_6 7 rfl rfl)
theorem dX6_wedding_152 : decode cX6_wedding 152 = .ok (.aload_n 0, 1) := dk_42 (dk_at dksX6_wedding_6 10 rfl rfl)
theorem dX6_wedding_153 : decode cX6_wedding 153 = .ok (.getfield 7, 3) := dk_180 0 7 (dk_at dksX6_wedding_6 11 rfl rfl)
theorem dX6_wedding_156 : decode cX6_wedding 156 = .ok (.invokestatic 345, 3) := dk_184 1 89 (dk_at dksX6_wedding_6 14 rfl rfl)
theorem dX6_wedding_159 : decode cX6_wedding 159 = .ok (.iload 4, 2) := dk_21 4 (dk_at dksX6_wedding_6 17 rfl rfl)
theorem dX6_wedding_161 : decode cX6_wedding 161 = .ok (.ireturn, 1) := dk_172 (dk_at dksX6_wedding_6 19 rfl rfl)
abbrev cX6_longest : ByteArray := prog_20_method_104_code
def yX6_longest : MethodName := ⟨RX6, "longest", "()I"⟩
def dkwX6_longest_2 : List UInt8 := [61, 29, 60, 132, 3, 1, 167, 255, 211, 27, 172]
abbrev dktX6_longest_2 : List UInt8 := dkwX6_longest_2 ++ []
def dkwX6_longest_1 : List UInt8 := [180, 0, 7, 16, 100, 29, 96, 46, 28, 163, 0, 6, 167, 0, 15, 42, 180, 0, 7, 16, 100, 29, 96, 46]
abbrev dktX6_longest_1 : List UInt8 := dkwX6_longest_1 ++ dktX6_longest_2
def dkwX6_longest_0 : List UInt8 := [16, 254, 60, 3, 61, 3, 62, 29, 16, 10, 162, 0, 45, 42, 29, 182, 0, 135, 153, 0, 31, 42]
abbrev dktX6_longest_0 : List UInt8 := dkwX6_longest_0 ++ dktX6_longest_1
theorem dksX6_longest_0 : cX6_longest.data.toList.drop 0 = dktX6_longest_0 := by decide +kernel
theorem dksX6_longest_1 : cX6_longest.data.toList.drop 22 = dktX6_longest_1 := dk_seg dksX6_longest_0 22 rfl rfl
theorem dksX6_longest_2 : cX6_longest.data.toList.drop 46 = dktX6_longest_2 := dk_seg dksX6_longest_1 24 rfl rfl
theorem dX6_longest_0 : decode cX6_longest 0 = .ok (.bipush (-2), 2) := dk_16 254 (dk_at dksX6_longest_0 0 rfl rfl)
theorem dX6_longest_2 : decode cX6_longest 2 = .ok (.istore_n 1, 1) := dk_60 (dk_at dksX6_longest_0 2 rfl rfl)
theorem dX6_longest_3 : decode cX6_longest 3 = .ok (.iconst 0, 1) := dk_3 (dk_at dksX6_longest_0 3 rfl rfl)
theorem dX6_longest_4 : decode cX6_longest 4 = .ok (.istore_n 2, 1) := dk_61 (dk_at dksX6_longest_0 4 rfl rfl)
theorem dX6_longest_5 : decode cX6_longest 5 = .ok (.iconst 0, 1) := dk_3 (dk_at dksX6_longest_0 5 rfl rfl)
theorem dX6_longest_6 : decode cX6_longest 6 = .ok (.istore_n 3, 1) := dk_62 (dk_at dksX6_longest_0 6 rfl rfl)
theorem dX6_longest_7 : decode cX6_longest 7 = .ok (.iload_n 3, 1) := dk_29 (dk_at dksX6_longest_0 7 rfl rfl)
theorem dX6_longest_8 : decode cX6_longest 8 = .ok (.bipush 10, 2) := dk_16 10 (dk_at dksX6_longest_0 8 rfl rfl)
theorem dX6_longest_10 : decode cX6_longest 10 = .ok (.if_icmp .ge 45, 3) := dk_162 0 45 (dk_at dksX6_longest_0 10 rfl rfl)
theorem dX6_longest_13 : decode cX6_longest 13 = .ok (.aload_n 0, 1) := dk_42 (dk_at dksX6_longest_0 13 rfl rfl)
theorem dX6_longest_14 : decode cX6_longest 14 = .ok (.iload_n 3, 1) := dk_29 (dk_at dksX6_longest_0 14 rfl rfl)
theorem dX6_longest_15 : decode cX6_longest 15 = .ok (.invokevirtual 135, 3) := dk_182 0 135 (dk_at dksX6_longest_0 15 rfl rfl)
theorem dX6_longest_18 : decode cX6_longest 18 = .ok (.ifCond .eq 31, 3) := dk_153 0 31 (dk_at dksX6_longest_0 18 rfl rfl)
theorem dX6_longest_21 : decode cX6_longest 21 = .ok (.aload_n 0, 1) := dk_42 (dk_at dksX6_longest_0 21 rfl rfl)
theorem dX6_longest_22 : decode cX6_longest 22 = .ok (.getfield 7, 3) := dk_180 0 7 (dk_at dksX6_longest_1 0 rfl rfl)
theorem dX6_longest_25 : decode cX6_longest 25 = .ok (.bipush 100, 2) := dk_16 100 (dk_at dksX6_longest_1 3 rfl rfl)
theorem dX6_longest_27 : decode cX6_longest 27 = .ok (.iload_n 3, 1) := dk_29 (dk_at dksX6_longest_1 5 rfl rfl)
theorem dX6_longest_28 : decode cX6_longest 28 = .ok (.iadd, 1) := dk_96 (dk_at dksX6_longest_1 6 rfl rfl)
theorem dX6_longest_29 : decode cX6_longest 29 = .ok (.iaload, 1) := dk_46 (dk_at dksX6_longest_1 7 rfl rfl)
theorem dX6_longest_30 : decode cX6_longest 30 = .ok (.iload_n 2, 1) := dk_28 (dk_at dksX6_longest_1 8 rfl rfl)
theorem dX6_longest_31 : decode cX6_longest 31 = .ok (.if_icmp .gt 6, 3) := dk_163 0 6 (dk_at dksX6_longest_1 9 rfl rfl)
theorem dX6_longest_34 : decode cX6_longest 34 = .ok (.goto 15, 3) := dk_167 0 15 (dk_at dksX6_longest_1 12 rfl rfl)
theorem dX6_longest_37 : decode cX6_longest 37 = .ok (.aload_n 0, 1) := dk_42 (dk_at dksX6_longest_1 15 rfl rfl)
theorem dX6_longest_38 : decode cX6_longest 38 = .ok (.getfield 7, 3) := dk_180 0 7 (dk_at dksX6_longest_1 16 rfl rfl)
theorem dX6_longest_41 : decode cX6_longest 41 = .ok (.bipush 100, 2) := dk_16 100 (dk_at dksX6_longest_1 19 rfl rfl)
theorem dX6_longest_43 : decode cX6_longest 43 = .ok (.iload_n 3, 1) := dk_29 (dk_at dksX6_longest_1 21 rfl rfl)
theorem dX6_longest_44 : decode cX6_longest 44 = .ok (.iadd, 1) := dk_96 (dk_at dksX6_longest_1 22 rfl rfl)
theorem dX6_longest_45 : decode cX6_longest 45 = .ok (.iaload, 1) := dk_46 (dk_at dksX6_longest_1 23 rfl rfl)
theorem dX6_longest_46 : decode cX6_longest 46 = .ok (.istore_n 2, 1) := dk_61 (dk_at dksX6_longest_2 0 rfl rfl)
theorem dX6_longest_47 : decode cX6_longest 47 = .ok (.iload_n 3, 1) := dk_29 (dk_at dksX6_longest_2 1 rfl rfl)
theorem dX6_longest_48 : decode cX6_longest 48 = .ok (.istore_n 1, 1) := dk_60 (dk_at dksX6_longest_2 2 rfl rfl)
theorem dX6_longest_49 : decode cX6_longest 49 = .ok (.iinc 3 1, 3) := dk_132 3 1 (dk_at dksX6_longest_2 3 rfl rfl)
theorem dX6_longest_52 : decode cX6_longest 52 = .ok (.goto (-45), 3) := dk_167 255 211 (dk_at dksX6_longest_2 6 rfl rfl)
theorem dX6_longest_55 : decode cX6_longest 55 = .ok (.iload_n 1, 1) := dk_27 (dk_at dksX6_longest_2 9 rfl rfl)
theorem dX6_longest_56 : decode cX6_longest 56 = .ok (.ireturn, 1) := dk_172 (dk_at dksX6_longest_2 10 rfl rfl)
abbrev cX6_chalk : ByteArray := prog_20_method_105_code
def yX6_chalk : MethodName := ⟨RX6, "chalk", "(I)I"⟩
def dkwX6_chalk_1 : List UInt8 := [27, 96, 46, 167, 0, 4, 2, 172]
abbrev dktX6_chalk_1 : List UInt8 := dkwX6_chalk_1 ++ []
def dkwX6_chalk_0 : List UInt8 := [27, 3, 42, 180, 0, 7, 17, 0, 150, 46, 4, 100, 184, 0, 123, 153, 0, 15, 42, 180, 0, 7, 16, 110]
abbrev dktX6_chalk_0 : List UInt8 := dkwX6_chalk_0 ++ dktX6_chalk_1
theorem dksX6_chalk_0 : cX6_chalk.data.toList.drop 0 = dktX6_chalk_0 := by decide +kernel
theorem dksX6_chalk_1 : cX6_chalk.data.toList.drop 24 = dktX6_chalk_1 := dk_seg dksX6_chalk_0 24 rfl rfl
theorem dX6_chalk_0 : decode cX6_chalk 0 = .ok (.iload_n 1, 1) := dk_27 (dk_at dksX6_chalk_0 0 rfl rfl)
theorem dX6_chalk_1 : decode cX6_chalk 1 = .ok (.iconst 0, 1) := dk_3 (dk_at dksX6_chalk_0 1 rfl rfl)
theorem dX6_chalk_2 : decode cX6_chalk 2 = .ok (.aload_n 0, 1) := dk_42 (dk_at dksX6_chalk_0 2 rfl rfl)
theorem dX6_chalk_3 : decode cX6_chalk 3 = .ok (.getfield 7, 3) := dk_180 0 7 (dk_at dksX6_chalk_0 3 rfl rfl)
theorem dX6_chalk_6 : decode cX6_chalk 6 = .ok (.sipush 150, 3) := dk_17 0 150 (dk_at dksX6_chalk_0 6 rfl rfl)
theorem dX6_chalk_9 : decode cX6_chalk 9 = .ok (.iaload, 1) := dk_46 (dk_at dksX6_chalk_0 9 rfl rfl)
theorem dX6_chalk_10 : decode cX6_chalk 10 = .ok (.iconst 1, 1) := dk_4 (dk_at dksX6_chalk_0 10 rfl rfl)
theorem dX6_chalk_11 : decode cX6_chalk 11 = .ok (.isub, 1) := dk_100 (dk_at dksX6_chalk_0 11 rfl rfl)
theorem dX6_chalk_12 : decode cX6_chalk 12 = .ok (.invokestatic 123, 3) := dk_184 0 123 (dk_at dksX6_chalk_0 12 rfl rfl)
theorem dX6_chalk_15 : decode cX6_chalk 15 = .ok (.ifCond .eq 15, 3) := dk_153 0 15 (dk_at dksX6_chalk_0 15 rfl rfl)
theorem dX6_chalk_18 : decode cX6_chalk 18 = .ok (.aload_n 0, 1) := dk_42 (dk_at dksX6_chalk_0 18 rfl rfl)
theorem dX6_chalk_19 : decode cX6_chalk 19 = .ok (.getfield 7, 3) := dk_180 0 7 (dk_at dksX6_chalk_0 19 rfl rfl)
theorem dX6_chalk_22 : decode cX6_chalk 22 = .ok (.bipush 110, 2) := dk_16 110 (dk_at dksX6_chalk_0 22 rfl rfl)
theorem dX6_chalk_24 : decode cX6_chalk 24 = .ok (.iload_n 1, 1) := dk_27 (dk_at dksX6_chalk_1 0 rfl rfl)
theorem dX6_chalk_25 : decode cX6_chalk 25 = .ok (.iadd, 1) := dk_96 (dk_at dksX6_chalk_1 1 rfl rfl)
theorem dX6_chalk_26 : decode cX6_chalk 26 = .ok (.iaload, 1) := dk_46 (dk_at dksX6_chalk_1 2 rfl rfl)
theorem dX6_chalk_27 : decode cX6_chalk 27 = .ok (.goto 4, 3) := dk_167 0 4 (dk_at dksX6_chalk_1 3 rfl rfl)
theorem dX6_chalk_30 : decode cX6_chalk 30 = .ok (.iconst (-1), 1) := dk_2 (dk_at dksX6_chalk_1 6 rfl rfl)
theorem dX6_chalk_31 : decode cX6_chalk 31 = .ok (.ireturn, 1) := dk_172 (dk_at dksX6_chalk_1 7 rfl rfl)
abbrev cX6_two : ByteArray := prog_20_method_108_code
def yX6_two : MethodName := ⟨RX6, "two", "(I)I"⟩
def dkwX6_two_5 : List UInt8 := [132, 4, 1, 167, 255, 186, 29, 19, 1, 156, 160, 0, 8, 16, 252, 167, 0, 4, 29, 172]
abbrev dktX6_two_5 : List UInt8 := dkwX6_two_5 ++ []
def dkwX6_two_4 : List UInt8 := [46, 182, 1, 194, 153, 0, 20, 42, 28, 21, 4, 2, 130, 126, 27, 182, 1, 194, 153, 0, 6, 21, 5, 62]
abbrev dktX6_two_4 : List UInt8 := dkwX6_two_4 ++ dktX6_two_5
def dkwX6_two_3 : List UInt8 := [182, 1, 191, 184, 0, 143, 54, 5, 21, 5, 29, 162, 0, 37, 42, 21, 4, 42, 180, 0, 7, 17, 0, 151]
abbrev dktX6_two_3 : List UInt8 := dkwX6_two_3 ++ dktX6_two_4
def dkwX6_two_2 : List UInt8 := [62, 3, 54, 4, 21, 4, 28, 163, 0, 70, 42, 21, 4, 182, 1, 191, 42, 28, 21, 4, 2, 130, 126]
abbrev dktX6_two_2 : List UInt8 := dkwX6_two_2 ++ dktX6_two_3
def dkwX6_two_1 : List UInt8 := [42, 16, 8, 182, 1, 147, 154, 0, 6, 16, 253, 172, 4, 42, 180, 1, 144, 120, 4, 100, 61, 19, 1, 156]
abbrev dktX6_two_1 : List UInt8 := dkwX6_two_1 ++ dktX6_two_2
def dkwX6_two_0 : List UInt8 := [42, 27, 182, 0, 135, 154, 0, 5, 2, 172, 42, 180, 0, 7, 17, 0, 151, 46, 156, 0, 6, 16, 254, 172]
abbrev dktX6_two_0 : List UInt8 := dkwX6_two_0 ++ dktX6_two_1
theorem dksX6_two_0 : cX6_two.data.toList.drop 0 = dktX6_two_0 := by decide +kernel
theorem dksX6_two_1 : cX6_two.data.toList.drop 24 = dktX6_two_1 := dk_seg dksX6_two_0 24 rfl rfl
theorem dksX6_two_2 : cX6_two.data.toList.drop 48 = dktX6_two_2 := dk_seg dksX6_two_1 24 rfl rfl
theorem dksX6_two_3 : cX6_two.data.toList.drop 71 = dktX6_two_3 := dk_seg dksX6_two_2 23 rfl rfl
theorem dksX6_two_4 : cX6_two.data.toList.drop 95 = dktX6_two_4 := dk_seg dksX6_two_3 24 rfl rfl
theorem dksX6_two_5 : cX6_two.data.toList.drop 119 = dktX6_two_5 := dk_seg dksX6_two_4 24 rfl rfl
theorem dX6_two_0 : decode cX6_two 0 = .ok (.aload_n 0, 1) := dk_42 (dk_at dksX6_two_0 0 rfl rfl)
theorem dX6_two_1 : decode cX6_two 1 = .ok (.iload_n 1, 1) := dk_27 (dk_at dksX6_two_0 1 rfl rfl)
theorem dX6_two_2 : decode cX6_two 2 = .ok (.invokevirtual 135, 3) := dk_182 0 135 (dk_at dksX6_two_0 2 rfl rfl)
theorem dX6_two_5 : decode cX6_two 5 = .ok (.ifCond .ne 5, 3) := dk_154 0 5 (dk_at dksX6_two_0 5 rfl rfl)
theorem dX6_two_8 : decode cX6_two 8 = .ok (.iconst (-1), 1) := dk_2 (dk_at dksX6_two_0 8 rfl rfl)
theorem dX6_two_9 : decode cX6_two 9 = .ok (.ireturn, 1) := dk_172 (dk_at dksX6_two_0 9 rfl rfl)
theorem dX6_two_10 : decode cX6_two 10 = .ok (.aload_n 0, 1) := dk_42 (dk_at dksX6_two_0 10 rfl rfl)
theorem dX6_two_11 : decode cX6_two 11 = .ok (.getfield 7, 3) := dk_180 0 7 (dk_at dksX6_two_0 11 rfl rfl)
theorem dX6_two_14 : decode cX6_two 14 = .ok (.sipush 151, 3) := dk_17 0 151 (dk_at dksX6_two_0 14 rfl rfl)
theorem dX6_two_17 : decode cX6_two 17 = .ok (.iaload, 1) := dk_46 (dk_at dksX6_two_0 17 rfl rfl)
theorem dX6_two_18 : decode cX6_two 18 = .ok (.ifCond .ge 6, 3) := dk_156 0 6 (dk_at dksX6_two_0 18 rfl rfl)
theorem dX6_two_21 : decode cX6_two 21 = .ok (.bipush (-2), 2) := dk_16 254 (dk_at dksX6_two_0 21 rfl rfl)
theorem dX6_two_23 : decode cX6_two 23 = .ok (.ireturn, 1) := dk_172 (dk_at dksX6_two_0 23 rfl rfl)
theorem dX6_two_24 : decode cX6_two 24 = .ok (.aload_n 0, 1) := dk_42 (dk_at dksX6_two_1 0 rfl rfl)
theorem dX6_two_25 : decode cX6_two 25 = .ok (.bipush 8, 2) := dk_16 8 (dk_at dksX6_two_1 1 rfl rfl)
theorem dX6_two_27 : decode cX6_two 27 = .ok (.invokevirtual 403, 3) := dk_182 1 147 (dk_at dksX6_two_1 3 rfl rfl)
theorem dX6_two_30 : decode cX6_two 30 = .ok (.ifCond .ne 6, 3) := dk_154 0 6 (dk_at dksX6_two_1 6 rfl rfl)
theorem dX6_two_33 : decode cX6_two 33 = .ok (.bipush (-3), 2) := dk_16 253 (dk_at dksX6_two_1 9 rfl rfl)
theorem dX6_two_35 : decode cX6_two 35 = .ok (.ireturn, 1) := dk_172 (dk_at dksX6_two_1 11 rfl rfl)
theorem dX6_two_36 : decode cX6_two 36 = .ok (.iconst 1, 1) := dk_4 (dk_at dksX6_two_1 12 rfl rfl)
theorem dX6_two_37 : decode cX6_two 37 = .ok (.aload_n 0, 1) := dk_42 (dk_at dksX6_two_1 13 rfl rfl)
theorem dX6_two_38 : decode cX6_two 38 = .ok (.getfield 400, 3) := dk_180 1 144 (dk_at dksX6_two_1 14 rfl rfl)
theorem dX6_two_41 : decode cX6_two 41 = .ok (.ishl, 1) := dk_120 (dk_at dksX6_two_1 17 rfl rfl)
theorem dX6_two_42 : decode cX6_two 42 = .ok (.iconst 1, 1) := dk_4 (dk_at dksX6_two_1 18 rfl rfl)
theorem dX6_two_43 : decode cX6_two 43 = .ok (.isub, 1) := dk_100 (dk_at dksX6_two_1 19 rfl rfl)
theorem dX6_two_44 : decode cX6_two 44 = .ok (.istore_n 2, 1) := dk_61 (dk_at dksX6_two_1 20 rfl rfl)
theorem dX6_two_45 : decode cX6_two 45 = .ok (.ldc_w 412, 3) := dk_19 1 156 (dk_at dksX6_two_1 21 rfl rfl)
theorem dX6_two_48 : decode cX6_two 48 = .ok (.istore_n 3, 1) := dk_62 (dk_at dksX6_two_2 0 rfl rfl)
theorem dX6_two_49 : decode cX6_two 49 = .ok (.iconst 0, 1) := dk_3 (dk_at dksX6_two_2 1 rfl rfl)
theorem dX6_two_50 : decode cX6_two 50 = .ok (.istore 4, 2) := dk_54 4 (dk_at dksX6_two_2 2 rfl rfl)
theorem dX6_two_52 : decode cX6_two 52 = .ok (.iload 4, 2) := dk_21 4 (dk_at dksX6_two_2 4 rfl rfl)
theorem dX6_two_54 : decode cX6_two 54 = .ok (.iload_n 2, 1) := dk_28 (dk_at dksX6_two_2 6 rfl rfl)
theorem dX6_two_55 : decode cX6_two 55 = .ok (.if_icmp .gt 70, 3) := dk_163 0 70 (dk_at dksX6_two_2 7 rfl rfl)
theorem dX6_two_58 : decode cX6_two 58 = .ok (.aload_n 0, 1) := dk_42 (dk_at dksX6_two_2 10 rfl rfl)
theorem dX6_two_59 : decode cX6_two 59 = .ok (.iload 4, 2) := dk_21 4 (dk_at dksX6_two_2 11 rfl rfl)
theorem dX6_two_61 : decode cX6_two 61 = .ok (.invokevirtual 447, 3) := dk_182 1 191 (dk_at dksX6_two_2 13 rfl rfl)
theorem dX6_two_64 : decode cX6_two 64 = .ok (.aload_n 0, 1) := dk_42 (dk_at dksX6_two_2 16 rfl rfl)
theorem dX6_two_65 : decode cX6_two 65 = .ok (.iload_n 2, 1) := dk_28 (dk_at dksX6_two_2 17 rfl rfl)
theorem dX6_two_66 : decode cX6_two 66 = .ok (.iload 4, 2) := dk_21 4 (dk_at dksX6_two_2 18 rfl rfl)
theorem dX6_two_68 : decode cX6_two 68 = .ok (.iconst (-1), 1) := dk_2 (dk_at dksX6_two_2 20 rfl rfl)
theorem dX6_two_69 : decode cX6_two 69 = .ok (.ixor, 1) := dk_130 (dk_at dksX6_two_2 21 rfl rfl)
theorem dX6_two_70 : decode cX6_two 70 = .ok (.iand, 1) := dk_126 (dk_at dksX6_two_2 22 rfl rfl)
theorem dX6_two_71 : decode cX6_two 71 = .ok (.invokevirtual 447, 3) := dk_182 1 191 (dk_at dksX6_two_3 0 rfl rfl)
theorem dX6_two_74 : decode cX6_two 74 = .ok (.invokestatic 143, 3) := dk_184 0 143 (dk_at dksX6_two_3 3 rfl rfl)
theorem dX6_two_77 : decode cX6_two 77 = .ok (.istore 5, 2) := dk_54 5 (dk_at dksX6_two_3 6 rfl rfl)
theorem dX6_two_79 : decode cX6_two 79 = .ok (.iload 5, 2) := dk_21 5 (dk_at dksX6_two_3 8 rfl rfl)
theorem dX6_two_81 : decode cX6_two 81 = .ok (.iload_n 3, 1) := dk_29 (dk_at dksX6_two_3 10 rfl rfl)
theorem dX6_two_82 : decode cX6_two 82 = .ok (.if_icmp .ge 37, 3) := dk_162 0 37 (dk_at dksX6_two_3 11 rfl rfl)
theorem dX6_two_85 : decode cX6_two 85 = .ok (.aload_n 0, 1) := dk_42 (dk_at dksX6_two_3 14 rfl rfl)
theorem dX6_two_86 : decode cX6_two 86 = .ok (.iload 4, 2) := dk_21 4 (dk_at dksX6_two_3 15 rfl rfl)
theorem dX6_two_88 : decode cX6_two 88 = .ok (.aload_n 0, 1) := dk_42 (dk_at dksX6_two_3 17 rfl rfl)
theorem dX6_two_89 : decode cX6_two 89 = .ok (.getfield 7, 3) := dk_180 0 7 (dk_at dksX6_two_3 18 rfl rfl)
theorem dX6_two_92 : decode cX6_two 92 = .ok (.sipush 151, 3) := dk_17 0 151 (dk_at dksX6_two_3 21 rfl rfl)
theorem dX6_two_95 : decode cX6_two 95 = .ok (.iaload, 1) := dk_46 (dk_at dksX6_two_4 0 rfl rfl)
theorem dX6_two_96 : decode cX6_two 96 = .ok (.invokevirtual 450, 3) := dk_182 1 194 (dk_at dksX6_two_4 1 rfl rfl)
theorem dX6_two_99 : decode cX6_two 99 = .ok (.ifCond .eq 20, 3) := dk_153 0 20 (dk_at dksX6_two_4 4 rfl rfl)
theorem dX6_two_102 : decode cX6_two 102 = .ok (.aload_n 0, 1) := dk_42 (dk_at dksX6_two_4 7 rfl rfl)
theorem dX6_two_103 : decode cX6_two 103 = .ok (.iload_n 2, 1) := dk_28 (dk_at dksX6_two_4 8 rfl rfl)
theorem dX6_two_104 : decode cX6_two 104 = .ok (.iload 4, 2) := dk_21 4 (dk_at dksX6_two_4 9 rfl rfl)
theorem dX6_two_106 : decode cX6_two 106 = .ok (.iconst (-1), 1) := dk_2 (dk_at dksX6_two_4 11 rfl rfl)
theorem dX6_two_107 : decode cX6_two 107 = .ok (.ixor, 1) := dk_130 (dk_at dksX6_two_4 12 rfl rfl)
theorem dX6_two_108 : decode cX6_two 108 = .ok (.iand, 1) := dk_126 (dk_at dksX6_two_4 13 rfl rfl)
theorem dX6_two_109 : decode cX6_two 109 = .ok (.iload_n 1, 1) := dk_27 (dk_at dksX6_two_4 14 rfl rfl)
theorem dX6_two_110 : decode cX6_two 110 = .ok (.invokevirtual 450, 3) := dk_182 1 194 (dk_at dksX6_two_4 15 rfl rfl)
theorem dX6_two_113 : decode cX6_two 113 = .ok (.ifCond .eq 6, 3) := dk_153 0 6 (dk_at dksX6_two_4 18 rfl rfl)
theorem dX6_two_116 : decode cX6_two 116 = .ok (.iload 5, 2) := dk_21 5 (dk_at dksX6_two_4 21 rfl rfl)
theorem dX6_two_118 : decode cX6_two 118 = .ok (.istore_n 3, 1) := dk_62 (dk_at dksX6_two_4 23 rfl rfl)
theorem dX6_two_119 : decode cX6_two 119 = .ok (.iinc 4 1, 3) := dk_132 4 1 (dk_at dksX6_two_5 0 rfl rfl)
theorem dX6_two_122 : decode cX6_two 122 = .ok (.goto (-70), 3) := dk_167 255 186 (dk_at dksX6_two_5 3 rfl rfl)
theorem dX6_two_125 : decode cX6_two 125 = .ok (.iload_n 3, 1) := dk_29 (dk_at dksX6_two_5 6 rfl rfl)
theorem dX6_two_126 : decode cX6_two 126 = .ok (.ldc_w 412, 3) := dk_19 1 156 (dk_at dksX6_two_5 7 rfl rfl)
theorem dX6_two_129 : decode cX6_two 129 = .ok (.if_icmp .ne 8, 3) := dk_160 0 8 (dk_at dksX6_two_5 10 rfl rfl)
theorem dX6_two_132 : decode cX6_two 132 = .ok (.bipush (-4), 2) := dk_16 252 (dk_at dksX6_two_5 13 rfl rfl)
theorem dX6_two_134 : decode cX6_two 134 = .ok (.goto 4, 3) := dk_167 0 4 (dk_at dksX6_two_5 15 rfl rfl)
theorem dX6_two_137 : decode cX6_two 137 = .ok (.iload_n 3, 1) := dk_29 (dk_at dksX6_two_5 18 rfl rfl)
theorem dX6_two_138 : decode cX6_two 138 = .ok (.ireturn, 1) := dk_172 (dk_at dksX6_two_5 19 rfl rfl)
abbrev cX6_hoursOf : ByteArray := prog_20_method_107_code
def yX6_hoursOf : MethodName := ⟨RX6, "hoursOf", "(I)I"⟩
def dkwX6_hoursOf_2 : List UInt8 := [167, 255, 214, 28, 172]
abbrev dktX6_hoursOf_2 : List UInt8 := dkwX6_hoursOf_2 ++ []
def dkwX6_hoursOf_1 : List UInt8 := [180, 0, 89, 29, 46, 42, 180, 0, 92, 29, 46, 182, 1, 12, 167, 0, 4, 3, 96, 61, 132, 3, 1]
abbrev dktX6_hoursOf_1 : List UInt8 := dkwX6_hoursOf_1 ++ dktX6_hoursOf_2
def dkwX6_hoursOf_0 : List UInt8 := [3, 61, 3, 62, 29, 42, 180, 1, 144, 162, 0, 40, 28, 27, 29, 184, 0, 131, 153, 0, 22, 42, 42]
abbrev dktX6_hoursOf_0 : List UInt8 := dkwX6_hoursOf_0 ++ dktX6_hoursOf_1
theorem dksX6_hoursOf_0 : cX6_hoursOf.data.toList.drop 0 = dktX6_hoursOf_0 := by decide +kernel
theorem dksX6_hoursOf_1 : cX6_hoursOf.data.toList.drop 23 = dktX6_hoursOf_1 := dk_seg dksX6_hoursOf_0 23 rfl rfl
theorem dksX6_hoursOf_2 : cX6_hoursOf.data.toList.drop 46 = dktX6_hoursOf_2 := dk_seg dksX6_hoursOf_1 23 rfl rfl
theorem dX6_hoursOf_0 : decode cX6_hoursOf 0 = .ok (.iconst 0, 1) := dk_3 (dk_at dksX6_hoursOf_0 0 rfl rfl)
theorem dX6_hoursOf_1 : decode cX6_hoursOf 1 = .ok (.istore_n 2, 1) := dk_61 (dk_at dksX6_hoursOf_0 1 rfl rfl)
theorem dX6_hoursOf_2 : decode cX6_hoursOf 2 = .ok (.iconst 0, 1) := dk_3 (dk_at dksX6_hoursOf_0 2 rfl rfl)
theorem dX6_hoursOf_3 : decode cX6_hoursOf 3 = .ok (.istore_n 3, 1) := dk_62 (dk_at dksX6_hoursOf_0 3 rfl rfl)
theorem dX6_hoursOf_4 : decode cX6_hoursOf 4 = .ok (.iload_n 3, 1) := dk_29 (dk_at dksX6_hoursOf_0 4 rfl rfl)
theorem dX6_hoursOf_5 : decode cX6_hoursOf 5 = .ok (.aload_n 0, 1) := dk_42 (dk_at dksX6_hoursOf_0 5 rfl rfl)
theorem dX6_hoursOf_6 : decode cX6_hoursOf 6 = .ok (.getfield 400, 3) := dk_180 1 144 (dk_at dksX6_hoursOf_0 6 rfl rfl)
theorem dX6_hoursOf_9 : decode cX6_hoursOf 9 = .ok (.if_icmp .ge 40, 3) := dk_162 0 40 (dk_at dksX6_hoursOf_0 9 rfl rfl)
theorem dX6_hoursOf_12 : decode cX6_hoursOf 12 = .ok (.iload_n 2, 1) := dk_28 (dk_at dksX6_hoursOf_0 12 rfl rfl)
theorem dX6_hoursOf_13 : decode cX6_hoursOf 13 = .ok (.iload_n 1, 1) := dk_27 (dk_at dksX6_hoursOf_0 13 rfl rfl)
theorem dX6_hoursOf_14 : decode cX6_hoursOf 14 = .ok (.iload_n 3, 1) := dk_29 (dk_at dksX6_hoursOf_0 14 rfl rfl)
theorem dX6_hoursOf_15 : decode cX6_hoursOf 15 = .ok (.invokestatic 131, 3) := dk_184 0 131 (dk_at dksX6_hoursOf_0 15 rfl rfl)
theorem dX6_hoursOf_18 : decode cX6_hoursOf 18 = .ok (.ifCond .eq 22, 3) := dk_153 0 22 (dk_at dksX6_hoursOf_0 18 rfl rfl)
theorem dX6_hoursOf_21 : decode cX6_hoursOf 21 = .ok (.aload_n 0, 1) := dk_42 (dk_at dksX6_hoursOf_0 21 rfl rfl)
theorem dX6_hoursOf_22 : decode cX6_hoursOf 22 = .ok (.aload_n 0, 1) := dk_42 (dk_at dksX6_hoursOf_0 22 rfl rfl)
theorem dX6_hoursOf_23 : decode cX6_hoursOf 23 = .ok (.getfield 89, 3) := dk_180 0 89 (dk_at dksX6_hoursOf_1 0 rfl rfl)
theorem dX6_hoursOf_26 : decode cX6_hoursOf 26 = .ok (.iload_n 3, 1) := dk_29 (dk_at dksX6_hoursOf_1 3 rfl rfl)
theorem dX6_hoursOf_27 : decode cX6_hoursOf 27 = .ok (.iaload, 1) := dk_46 (dk_at dksX6_hoursOf_1 4 rfl rfl)
theorem dX6_hoursOf_28 : decode cX6_hoursOf 28 = .ok (.aload_n 0, 1) := dk_42 (dk_at dksX6_hoursOf_1 5 rfl rfl)
theorem dX6_hoursOf_29 : decode cX6_hoursOf 29 = .ok (.getfield 92, 3) := dk_180 0 92 (dk_at dksX6_hoursOf_1 6 rfl rfl)
theorem dX6_hoursOf_32 : decode cX6_hoursOf 32 = .ok (.iload_n 3, 1) := dk_29 (dk_at dksX6_hoursOf_1 9 rfl rfl)
theorem dX6_hoursOf_33 : decode cX6_hoursOf 33 = .ok (.iaload, 1) := dk_46 (dk_at dksX6_hoursOf_1 10 rfl rfl)
theorem dX6_hoursOf_34 : decode cX6_hoursOf 34 = .ok (.invokevirtual 268, 3) := dk_182 1 12 (dk_at dksX6_hoursOf_1 11 rfl rfl)
theorem dX6_hoursOf_37 : decode cX6_hoursOf 37 = .ok (.goto 4, 3) := dk_167 0 4 (dk_at dksX6_hoursOf_1 14 rfl rfl)
theorem dX6_hoursOf_40 : decode cX6_hoursOf 40 = .ok (.iconst 0, 1) := dk_3 (dk_at dksX6_hoursOf_1 17 rfl rfl)
theorem dX6_hoursOf_41 : decode cX6_hoursOf 41 = .ok (.iadd, 1) := dk_96 (dk_at dksX6_hoursOf_1 18 rfl rfl)
theorem dX6_hoursOf_42 : decode cX6_hoursOf 42 = .ok (.istore_n 2, 1) := dk_61 (dk_at dksX6_hoursOf_1 19 rfl rfl)
theorem dX6_hoursOf_43 : decode cX6_hoursOf 43 = .ok (.iinc 3 1, 3) := dk_132 3 1 (dk_at dksX6_hoursOf_1 20 rfl rfl)
theorem dX6_hoursOf_46 : decode cX6_hoursOf 46 = .ok (.goto (-42), 3) := dk_167 255 214 (dk_at dksX6_hoursOf_2 0 rfl rfl)
theorem dX6_hoursOf_49 : decode cX6_hoursOf 49 = .ok (.iload_n 2, 1) := dk_28 (dk_at dksX6_hoursOf_2 3 rfl rfl)
theorem dX6_hoursOf_50 : decode cX6_hoursOf 50 = .ok (.ireturn, 1) := dk_172 (dk_at dksX6_hoursOf_2 4 rfl rfl)
abbrev cX6_isRowOf : ByteArray := prog_20_method_106_code
def yX6_isRowOf : MethodName := ⟨RX6, "isRowOf", "(II)Z"⟩
def dkwX6_isRowOf_3 : List UInt8 := [29, 46, 182, 1, 129, 4, 96, 79, 132, 3, 1, 167, 255, 198, 42, 28, 182, 1, 135, 172]
abbrev dktX6_isRowOf_3 : List UInt8 := dkwX6_isRowOf_3 ++ []
def dkwX6_isRowOf_2 : List UInt8 := [180, 0, 89, 29, 46, 104, 42, 180, 0, 92, 29, 46, 96, 42, 42, 180, 0, 89, 29, 46, 42, 180, 0, 92]
abbrev dktX6_isRowOf_2 : List UInt8 := dkwX6_isRowOf_2 ++ dktX6_isRowOf_3
def dkwX6_isRowOf_1 : List UInt8 := [42, 180, 1, 144, 162, 0, 56, 27, 29, 184, 0, 131, 153, 0, 42, 42, 180, 0, 83, 16, 10, 42]
abbrev dktX6_isRowOf_1 : List UInt8 := dkwX6_isRowOf_1 ++ dktX6_isRowOf_2
def dkwX6_isRowOf_0 : List UInt8 := [3, 62, 29, 16, 100, 162, 0, 16, 42, 180, 0, 83, 29, 3, 79, 132, 3, 1, 167, 255, 240, 3, 62, 29]
abbrev dktX6_isRowOf_0 : List UInt8 := dkwX6_isRowOf_0 ++ dktX6_isRowOf_1
theorem dksX6_isRowOf_0 : cX6_isRowOf.data.toList.drop 0 = dktX6_isRowOf_0 := by decide +kernel
theorem dksX6_isRowOf_1 : cX6_isRowOf.data.toList.drop 24 = dktX6_isRowOf_1 := dk_seg dksX6_isRowOf_0 24 rfl rfl
theorem dksX6_isRowOf_2 : cX6_isRowOf.data.toList.drop 46 = dktX6_isRowOf_2 := dk_seg dksX6_isRowOf_1 22 rfl rfl
theorem dksX6_isRowOf_3 : cX6_isRowOf.data.toList.drop 70 = dktX6_isRowOf_3 := dk_seg dksX6_isRowOf_2 24 rfl rfl
theorem dX6_isRowOf_0 : decode cX6_isRowOf 0 = .ok (.iconst 0, 1) := dk_3 (dk_at dksX6_isRowOf_0 0 rfl rfl)
theorem dX6_isRowOf_1 : decode cX6_isRowOf 1 = .ok (.istore_n 3, 1) := dk_62 (dk_at dksX6_isRowOf_0 1 rfl rfl)
theorem dX6_isRowOf_2 : decode cX6_isRowOf 2 = .ok (.iload_n 3, 1) := dk_29 (dk_at dksX6_isRowOf_0 2 rfl rfl)
theorem dX6_isRowOf_3 : decode cX6_isRowOf 3 = .ok (.bipush 100, 2) := dk_16 100 (dk_at dksX6_isRowOf_0 3 rfl rfl)
theorem dX6_isRowOf_5 : decode cX6_isRowOf 5 = .ok (.if_icmp .ge 16, 3) := dk_162 0 16 (dk_at dksX6_isRowOf_0 5 rfl rfl)
theorem dX6_isRowOf_8 : decode cX6_isRowOf 8 = .ok (.aload_n 0, 1) := dk_42 (dk_at dksX6_isRowOf_0 8 rfl rfl)
theorem dX6_isRowOf_9 : decode cX6_isRowOf 9 = .ok (.getfield 83, 3) := dk_180 0 83 (dk_at dksX6_isRowOf_0 9 rfl rfl)
theorem dX6_isRowOf_12 : decode cX6_isRowOf 12 = .ok (.iload_n 3, 1) := dk_29 (dk_at dksX6_isRowOf_0 12 rfl rfl)
theorem dX6_isRowOf_13 : decode cX6_isRowOf 13 = .ok (.iconst 0, 1) := dk_3 (dk_at dksX6_isRowOf_0 13 rfl rfl)
theorem dX6_isRowOf_14 : decode cX6_isRowOf 14 = .ok (.iastore, 1) := dk_79 (dk_at dksX6_isRowOf_0 14 rfl rfl)
theorem dX6_isRowOf_15 : decode cX6_isRowOf 15 = .ok (.iinc 3 1, 3) := dk_132 3 1 (dk_at dksX6_isRowOf_0 15 rfl rfl)
theorem dX6_isRowOf_18 : decode cX6_isRowOf 18 = .ok (.goto (-16), 3) := dk_167 255 240 (dk_at dksX6_isRowOf_0 18 rfl rfl)
theorem dX6_isRowOf_21 : decode cX6_isRowOf 21 = .ok (.iconst 0, 1) := dk_3 (dk_at dksX6_isRowOf_0 21 rfl rfl)
theorem dX6_isRowOf_22 : decode cX6_isRowOf 22 = .ok (.istore_n 3, 1) := dk_62 (dk_at dksX6_isRowOf_0 22 rfl rfl)
theorem dX6_isRowOf_23 : decode cX6_isRowOf 23 = .ok (.iload_n 3, 1) := dk_29 (dk_at dksX6_isRowOf_0 23 rfl rfl)
theorem dX6_isRowOf_24 : decode cX6_isRowOf 24 = .ok (.aload_n 0, 1) := dk_42 (dk_at dksX6_isRowOf_1 0 rfl rfl)
theorem dX6_isRowOf_25 : decode cX6_isRowOf 25 = .ok (.getfield 400, 3) := dk_180 1 144 (dk_at dksX6_isRowOf_1 1 rfl rfl)
theorem dX6_isRowOf_28 : decode cX6_isRowOf 28 = .ok (.if_icmp .ge 56, 3) := dk_162 0 56 (dk_at dksX6_isRowOf_1 4 rfl rfl)
theorem dX6_isRowOf_31 : decode cX6_isRowOf 31 = .ok (.iload_n 1, 1) := dk_27 (dk_at dksX6_isRowOf_1 7 rfl rfl)
theorem dX6_isRowOf_32 : decode cX6_isRowOf 32 = .ok (.iload_n 3, 1) := dk_29 (dk_at dksX6_isRowOf_1 8 rfl rfl)
theorem dX6_isRowOf_33 : decode cX6_isRowOf 33 = .ok (.invokestatic 131, 3) := dk_184 0 131 (dk_at dksX6_isRowOf_1 9 rfl rfl)
theorem dX6_isRowOf_36 : decode cX6_isRowOf 36 = .ok (.ifCond .eq 42, 3) := dk_153 0 42 (dk_at dksX6_isRowOf_1 12 rfl rfl)
theorem dX6_isRowOf_39 : decode cX6_isRowOf 39 = .ok (.aload_n 0, 1) := dk_42 (dk_at dksX6_isRowOf_1 15 rfl rfl)
theorem dX6_isRowOf_40 : decode cX6_isRowOf 40 = .ok (.getfield 83, 3) := dk_180 0 83 (dk_at dksX6_isRowOf_1 16 rfl rfl)
theorem dX6_isRowOf_43 : decode cX6_isRowOf 43 = .ok (.bipush 10, 2) := dk_16 10 (dk_at dksX6_isRowOf_1 19 rfl rfl)
theorem dX6_isRowOf_45 : decode cX6_isRowOf 45 = .ok (.aload_n 0, 1) := dk_42 (dk_at dksX6_isRowOf_1 21 rfl rfl)
theorem dX6_isRowOf_46 : decode cX6_isRowOf 46 = .ok (.getfield 89, 3) := dk_180 0 89 (dk_at dksX6_isRowOf_2 0 rfl rfl)
theorem dX6_isRowOf_49 : decode cX6_isRowOf 49 = .ok (.iload_n 3, 1) := dk_29 (dk_at dksX6_isRowOf_2 3 rfl rfl)
theorem dX6_isRowOf_50 : decode cX6_isRowOf 50 = .ok (.iaload, 1) := dk_46 (dk_at dksX6_isRowOf_2 4 rfl rfl)
theorem dX6_isRowOf_51 : decode cX6_isRowOf 51 = .ok (.imul, 1) := dk_104 (dk_at dksX6_isRowOf_2 5 rfl rfl)
theorem dX6_isRowOf_52 : decode cX6_isRowOf 52 = .ok (.aload_n 0, 1) := dk_42 (dk_at dksX6_isRowOf_2 6 rfl rfl)
theorem dX6_isRowOf_53 : decode cX6_isRowOf 53 = .ok (.getfield 92, 3) := dk_180 0 92 (dk_at dksX6_isRowOf_2 7 rfl rfl)
theorem dX6_isRowOf_56 : decode cX6_isRowOf 56 = .ok (.iload_n 3, 1) := dk_29 (dk_at dksX6_isRowOf_2 10 rfl rfl)
theorem dX6_isRowOf_57 : decode cX6_isRowOf 57 = .ok (.iaload, 1) := dk_46 (dk_at dksX6_isRowOf_2 11 rfl rfl)
theorem dX6_isRowOf_58 : decode cX6_isRowOf 58 = .ok (.iadd, 1) := dk_96 (dk_at dksX6_isRowOf_2 12 rfl rfl)
theorem dX6_isRowOf_59 : decode cX6_isRowOf 59 = .ok (.aload_n 0, 1) := dk_42 (dk_at dksX6_isRowOf_2 13 rfl rfl)
theorem dX6_isRowOf_60 : decode cX6_isRowOf 60 = .ok (.aload_n 0, 1) := dk_42 (dk_at dksX6_isRowOf_2 14 rfl rfl)
theorem dX6_isRowOf_61 : decode cX6_isRowOf 61 = .ok (.getfield 89, 3) := dk_180 0 89 (dk_at dksX6_isRowOf_2 15 rfl rfl)
theorem dX6_isRowOf_64 : decode cX6_isRowOf 64 = .ok (.iload_n 3, 1) := dk_29 (dk_at dksX6_isRowOf_2 18 rfl rfl)
theorem dX6_isRowOf_65 : decode cX6_isRowOf 65 = .ok (.iaload, 1) := dk_46 (dk_at dksX6_isRowOf_2 19 rfl rfl)
theorem dX6_isRowOf_66 : decode cX6_isRowOf 66 = .ok (.aload_n 0, 1) := dk_42 (dk_at dksX6_isRowOf_2 20 rfl rfl)
theorem dX6_isRowOf_67 : decode cX6_isRowOf 67 = .ok (.getfield 92, 3) := dk_180 0 92 (dk_at dksX6_isRowOf_2 21 rfl rfl)
theorem dX6_isRowOf_70 : decode cX6_isRowOf 70 = .ok (.iload_n 3, 1) := dk_29 (dk_at dksX6_isRowOf_3 0 rfl rfl)
theorem dX6_isRowOf_71 : decode cX6_isRowOf 71 = .ok (.iaload, 1) := dk_46 (dk_at dksX6_isRowOf_3 1 rfl rfl)
theorem dX6_isRowOf_72 : decode cX6_isRowOf 72 = .ok (.invokevirtual 385, 3) := dk_182 1 129 (dk_at dksX6_isRowOf_3 2 rfl rfl)
theorem dX6_isRowOf_75 : decode cX6_isRowOf 75 = .ok (.iconst 1, 1) := dk_4 (dk_at dksX6_isRowOf_3 5 rfl rfl)
theorem dX6_isRowOf_76 : decode cX6_isRowOf 76 = .ok (.iadd, 1) := dk_96 (dk_at dksX6_isRowOf_3 6 rfl rfl)
theorem dX6_isRowOf_77 : decode cX6_isRowOf 77 = .ok (.iastore, 1) := dk_79 (dk_at dksX6_isRowOf_3 7 rfl rfl)
theorem dX6_isRowOf_78 : decode cX6_isRowOf 78 = .ok (.iinc 3 1, 3) := dk_132 3 1 (dk_at dksX6_isRowOf_3 8 rfl rfl)
theorem dX6_isRowOf_81 : decode cX6_isRowOf 81 = .ok (.goto (-58), 3) := dk_167 255 198 (dk_at dksX6_isRowOf_3 11 rfl rfl)
theorem dX6_isRowOf_84 : decode cX6_isRowOf 84 = .ok (.aload_n 0, 1) := dk_42 (dk_at dksX6_isRowOf_3 14 rfl rfl)
theorem dX6_isRowOf_85 : decode cX6_isRowOf 85 = .ok (.iload_n 2, 1) := dk_28 (dk_at dksX6_isRowOf_3 15 rfl rfl)
theorem dX6_isRowOf_86 : decode cX6_isRowOf 86 = .ok (.invokevirtual 391, 3) := dk_182 1 135 (dk_at dksX6_isRowOf_3 16 rfl rfl)
theorem dX6_isRowOf_89 : decode cX6_isRowOf 89 = .ok (.ireturn, 1) := dk_172 (dk_at dksX6_isRowOf_3 19 rfl rfl)
abbrev cX6_dry : ByteArray := prog_20_method_110_code
def yX6_dry : MethodName := ⟨RX6, "dry", "(II)I"⟩
def dkwX6_dry_3 : List UInt8 := [28, 154, 0, 11, 21, 4, 21, 6, 108, 167, 0, 8, 21, 5, 21, 6, 108, 172]
abbrev dktX6_dry_3 : List UInt8 := dkwX6_dry_3 ++ []
def dkwX6_dry_2 : List UInt8 := [54, 4, 21, 5, 16, 10, 104, 54, 5, 132, 6, 1, 167, 255, 234, 21, 4, 21, 5, 184, 1, 197, 54, 6]
abbrev dktX6_dry_2 : List UInt8 := dkwX6_dry_2 ++ dktX6_dry_3
def dkwX6_dry_1 : List UInt8 := [182, 1, 47, 100, 62, 4, 54, 4, 4, 54, 5, 3, 54, 6, 21, 6, 27, 162, 0, 22, 21, 4, 29, 104]
abbrev dktX6_dry_1 : List UInt8 := dkwX6_dry_1 ++ dktX6_dry_2
def dkwX6_dry_0 : List UInt8 := [27, 4, 16, 9, 184, 0, 123, 153, 0, 12, 28, 3, 4, 184, 0, 123, 154, 0, 5, 2, 172, 16, 10, 42]
abbrev dktX6_dry_0 : List UInt8 := dkwX6_dry_0 ++ dktX6_dry_1
theorem dksX6_dry_0 : cX6_dry.data.toList.drop 0 = dktX6_dry_0 := by decide +kernel
theorem dksX6_dry_1 : cX6_dry.data.toList.drop 24 = dktX6_dry_1 := dk_seg dksX6_dry_0 24 rfl rfl
theorem dksX6_dry_2 : cX6_dry.data.toList.drop 48 = dktX6_dry_2 := dk_seg dksX6_dry_1 24 rfl rfl
theorem dksX6_dry_3 : cX6_dry.data.toList.drop 72 = dktX6_dry_3 := dk_seg dksX6_dry_2 24 rfl rfl
theorem dX6_dry_0 : decode cX6_dry 0 = .ok (.iload_n 1, 1) := dk_27 (dk_at dksX6_dry_0 0 rfl rfl)
theorem dX6_dry_1 : decode cX6_dry 1 = .ok (.iconst 1, 1) := dk_4 (dk_at dksX6_dry_0 1 rfl rfl)
theorem dX6_dry_2 : decode cX6_dry 2 = .ok (.bipush 9, 2) := dk_16 9 (dk_at dksX6_dry_0 2 rfl rfl)
theorem dX6_dry_4 : decode cX6_dry 4 = .ok (.invokestatic 123, 3) := dk_184 0 123 (dk_at dksX6_dry_0 4 rfl rfl)
theorem dX6_dry_7 : decode cX6_dry 7 = .ok (.ifCond .eq 12, 3) := dk_153 0 12 (dk_at dksX6_dry_0 7 rfl rfl)
theorem dX6_dry_10 : decode cX6_dry 10 = .ok (.iload_n 2, 1) := dk_28 (dk_at dksX6_dry_0 10 rfl rfl)
theorem dX6_dry_11 : decode cX6_dry 11 = .ok (.iconst 0, 1) := dk_3 (dk_at dksX6_dry_0 11 rfl rfl)
theorem dX6_dry_12 : decode cX6_dry 12 = .ok (.iconst 1, 1) := dk_4 (dk_at dksX6_dry_0 12 rfl rfl)
theorem dX6_dry_13 : decode cX6_dry 13 = .ok (.invokestatic 123, 3) := dk_184 0 123 (dk_at dksX6_dry_0 13 rfl rfl)
theorem dX6_dry_16 : decode cX6_dry 16 = .ok (.ifCond .ne 5, 3) := dk_154 0 5 (dk_at dksX6_dry_0 16 rfl rfl)
theorem dX6_dry_19 : decode cX6_dry 19 = .ok (.iconst (-1), 1) := dk_2 (dk_at dksX6_dry_0 19 rfl rfl)
theorem dX6_dry_20 : decode cX6_dry 20 = .ok (.ireturn, 1) := dk_172 (dk_at dksX6_dry_0 20 rfl rfl)
theorem dX6_dry_21 : decode cX6_dry 21 = .ok (.bipush 10, 2) := dk_16 10 (dk_at dksX6_dry_0 21 rfl rfl)
theorem dX6_dry_23 : decode cX6_dry 23 = .ok (.aload_n 0, 1) := dk_42 (dk_at dksX6_dry_0 23 rfl rfl)
theorem dX6_dry_24 : decode cX6_dry 24 = .ok (.invokevirtual 303, 3) := dk_182 1 47 (dk_at dksX6_dry_1 0 rfl rfl)
theorem dX6_dry_27 : decode cX6_dry 27 = .ok (.isub, 1) := dk_100 (dk_at dksX6_dry_1 3 rfl rfl)
theorem dX6_dry_28 : decode cX6_dry 28 = .ok (.istore_n 3, 1) := dk_62 (dk_at dksX6_dry_1 4 rfl rfl)
theorem dX6_dry_29 : decode cX6_dry 29 = .ok (.iconst 1, 1) := dk_4 (dk_at dksX6_dry_1 5 rfl rfl)
theorem dX6_dry_30 : decode cX6_dry 30 = .ok (.istore 4, 2) := dk_54 4 (dk_at dksX6_dry_1 6 rfl rfl)
theorem dX6_dry_32 : decode cX6_dry 32 = .ok (.iconst 1, 1) := dk_4 (dk_at dksX6_dry_1 8 rfl rfl)
theorem dX6_dry_33 : decode cX6_dry 33 = .ok (.istore 5, 2) := dk_54 5 (dk_at dksX6_dry_1 9 rfl rfl)
theorem dX6_dry_35 : decode cX6_dry 35 = .ok (.iconst 0, 1) := dk_3 (dk_at dksX6_dry_1 11 rfl rfl)
theorem dX6_dry_36 : decode cX6_dry 36 = .ok (.istore 6, 2) := dk_54 6 (dk_at dksX6_dry_1 12 rfl rfl)
theorem dX6_dry_38 : decode cX6_dry 38 = .ok (.iload 6, 2) := dk_21 6 (dk_at dksX6_dry_1 14 rfl rfl)
theorem dX6_dry_40 : decode cX6_dry 40 = .ok (.iload_n 1, 1) := dk_27 (dk_at dksX6_dry_1 16 rfl rfl)
theorem dX6_dry_41 : decode cX6_dry 41 = .ok (.if_icmp .ge 22, 3) := dk_162 0 22 (dk_at dksX6_dry_1 17 rfl rfl)
theorem dX6_dry_44 : decode cX6_dry 44 = .ok (.iload 4, 2) := dk_21 4 (dk_at dksX6_dry_1 20 rfl rfl)
theorem dX6_dry_46 : decode cX6_dry 46 = .ok (.iload_n 3, 1) := dk_29 (dk_at dksX6_dry_1 22 rfl rfl)
theorem dX6_dry_47 : decode cX6_dry 47 = .ok (.imul, 1) := dk_104 (dk_at dksX6_dry_1 23 rfl rfl)
theorem dX6_dry_48 : decode cX6_dry 48 = .ok (.istore 4, 2) := dk_54 4 (dk_at dksX6_dry_2 0 rfl rfl)
theorem dX6_dry_50 : decode cX6_dry 50 = .ok (.iload 5, 2) := dk_21 5 (dk_at dksX6_dry_2 2 rfl rfl)
theorem dX6_dry_52 : decode cX6_dry 52 = .ok (.bipush 10, 2) := dk_16 10 (dk_at dksX6_dry_2 4 rfl rfl)
theorem dX6_dry_54 : decode cX6_dry 54 = .ok (.imul, 1) := dk_104 (dk_at dksX6_dry_2 6 rfl rfl)
theorem dX6_dry_55 : decode cX6_dry 55 = .ok (.istore 5, 2) := dk_54 5 (dk_at dksX6_dry_2 7 rfl rfl)
theorem dX6_dry_57 : decode cX6_dry 57 = .ok (.iinc 6 1, 3) := dk_132 6 1 (dk_at dksX6_dry_2 9 rfl rfl)
theorem dX6_dry_60 : decode cX6_dry 60 = .ok (.goto (-22), 3) := dk_167 255 234 (dk_at dksX6_dry_2 12 rfl rfl)
theorem dX6_dry_63 : decode cX6_dry 63 = .ok (.iload 4, 2) := dk_21 4 (dk_at dksX6_dry_2 15 rfl rfl)
theorem dX6_dry_65 : decode cX6_dry 65 = .ok (.iload 5, 2) := dk_21 5 (dk_at dksX6_dry_2 17 rfl rfl)
theorem dX6_dry_67 : decode cX6_dry 67 = .ok (.invokestatic 453, 3) := dk_184 1 197 (dk_at dksX6_dry_2 19 rfl rfl)
theorem dX6_dry_70 : decode cX6_dry 70 = .ok (.istore 6, 2) := dk_54 6 (dk_at dksX6_dry_2 22 rfl rfl)
theorem dX6_dry_72 : decode cX6_dry 72 = .ok (.iload_n 2, 1) := dk_28 (dk_at dksX6_dry_3 0 rfl rfl)
theorem dX6_dry_73 : decode cX6_dry 73 = .ok (.ifCond .ne 11, 3) := dk_154 0 11 (dk_at dksX6_dry_3 1 rfl rfl)
theorem dX6_dry_76 : decode cX6_dry 76 = .ok (.iload 4, 2) := dk_21 4 (dk_at dksX6_dry_3 4 rfl rfl)
theorem dX6_dry_78 : decode cX6_dry 78 = .ok (.iload 6, 2) := dk_21 6 (dk_at dksX6_dry_3 6 rfl rfl)
theorem dX6_dry_80 : decode cX6_dry 80 = .ok (.idiv, 1) := dk_108 (dk_at dksX6_dry_3 8 rfl rfl)
theorem dX6_dry_81 : decode cX6_dry 81 = .ok (.goto 8, 3) := dk_167 0 8 (dk_at dksX6_dry_3 9 rfl rfl)
theorem dX6_dry_84 : decode cX6_dry 84 = .ok (.iload 5, 2) := dk_21 5 (dk_at dksX6_dry_3 12 rfl rfl)
theorem dX6_dry_86 : decode cX6_dry 86 = .ok (.iload 6, 2) := dk_21 6 (dk_at dksX6_dry_3 14 rfl rfl)
theorem dX6_dry_88 : decode cX6_dry 88 = .ok (.idiv, 1) := dk_108 (dk_at dksX6_dry_3 16 rfl rfl)
theorem dX6_dry_89 : decode cX6_dry 89 = .ok (.ireturn, 1) := dk_172 (dk_at dksX6_dry_3 17 rfl rfl)
abbrev cX6_gcd : ByteArray := prog_20_method_109_code
def yX6_gcd : MethodName := ⟨RX6, "gcd", "(II)I"⟩
def dkwX6_gcd_0 : List UInt8 := [26, 61, 27, 62, 29, 153, 0, 16, 28, 29, 112, 54, 4, 29, 61, 21, 4, 62, 167, 255, 242, 28, 172]
abbrev dktX6_gcd_0 : List UInt8 := dkwX6_gcd_0 ++ []
theorem dksX6_gcd_0 : cX6_gcd.data.toList.drop 0 = dktX6_gcd_0 := by decide +kernel
theorem dX6_gcd_0 : decode cX6_gcd 0 = .ok (.iload_n 0, 1) := dk_26 (dk_at dksX6_gcd_0 0 rfl rfl)
theorem dX6_gcd_1 : decode cX6_gcd 1 = .ok (.istore_n 2, 1) := dk_61 (dk_at dksX6_gcd_0 1 rfl rfl)
theorem dX6_gcd_2 : decode cX6_gcd 2 = .ok (.iload_n 1, 1) := dk_27 (dk_at dksX6_gcd_0 2 rfl rfl)
theorem dX6_gcd_3 : decode cX6_gcd 3 = .ok (.istore_n 3, 1) := dk_62 (dk_at dksX6_gcd_0 3 rfl rfl)
theorem dX6_gcd_4 : decode cX6_gcd 4 = .ok (.iload_n 3, 1) := dk_29 (dk_at dksX6_gcd_0 4 rfl rfl)
theorem dX6_gcd_5 : decode cX6_gcd 5 = .ok (.ifCond .eq 16, 3) := dk_153 0 16 (dk_at dksX6_gcd_0 5 rfl rfl)
theorem dX6_gcd_8 : decode cX6_gcd 8 = .ok (.iload_n 2, 1) := dk_28 (dk_at dksX6_gcd_0 8 rfl rfl)
theorem dX6_gcd_9 : decode cX6_gcd 9 = .ok (.iload_n 3, 1) := dk_29 (dk_at dksX6_gcd_0 9 rfl rfl)
theorem dX6_gcd_10 : decode cX6_gcd 10 = .ok (.irem, 1) := dk_112 (dk_at dksX6_gcd_0 10 rfl rfl)
theorem dX6_gcd_11 : decode cX6_gcd 11 = .ok (.istore 4, 2) := dk_54 4 (dk_at dksX6_gcd_0 11 rfl rfl)
theorem dX6_gcd_13 : decode cX6_gcd 13 = .ok (.iload_n 3, 1) := dk_29 (dk_at dksX6_gcd_0 13 rfl rfl)
theorem dX6_gcd_14 : decode cX6_gcd 14 = .ok (.istore_n 2, 1) := dk_61 (dk_at dksX6_gcd_0 14 rfl rfl)
theorem dX6_gcd_15 : decode cX6_gcd 15 = .ok (.iload 4, 2) := dk_21 4 (dk_at dksX6_gcd_0 15 rfl rfl)
theorem dX6_gcd_17 : decode cX6_gcd 17 = .ok (.istore_n 3, 1) := dk_62 (dk_at dksX6_gcd_0 17 rfl rfl)
theorem dX6_gcd_18 : decode cX6_gcd 18 = .ok (.goto (-14), 3) := dk_167 255 242 (dk_at dksX6_gcd_0 18 rfl rfl)
theorem dX6_gcd_21 : decode cX6_gcd 21 = .ok (.iload_n 2, 1) := dk_28 (dk_at dksX6_gcd_0 21 rfl rfl)
theorem dX6_gcd_22 : decode cX6_gcd 22 = .ok (.ireturn, 1) := dk_172 (dk_at dksX6_gcd_0 22 rfl rfl)
abbrev cX6_seed : ByteArray := prog_20_method_111_code
def yX6_seed : MethodName := ⟨RX6, "seed", "(I)Z"⟩
def dkwX6_seed_0 : List UInt8 := [27, 3, 19, 1, 200, 184, 0, 123, 154, 0, 5, 3, 172, 42, 180, 0, 7, 17, 0, 158, 27, 79, 4, 172]
abbrev dktX6_seed_0 : List UInt8 := dkwX6_seed_0 ++ []
theorem dksX6_seed_0 : cX6_seed.data.toList.drop 0 = dktX6_seed_0 := by decide +kernel
theorem dX6_seed_0 : decode cX6_seed 0 = .ok (.iload_n 1, 1) := dk_27 (dk_at dksX6_seed_0 0 rfl rfl)
theorem dX6_seed_1 : decode cX6_seed 1 = .ok (.iconst 0, 1) := dk_3 (dk_at dksX6_seed_0 1 rfl rfl)
theorem dX6_seed_2 : decode cX6_seed 2 = .ok (.ldc_w 456, 3) := dk_19 1 200 (dk_at dksX6_seed_0 2 rfl rfl)
theorem dX6_seed_5 : decode cX6_seed 5 = .ok (.invokestatic 123, 3) := dk_184 0 123 (dk_at dksX6_seed_0 5 rfl rfl)
theorem dX6_seed_8 : decode cX6_seed 8 = .ok (.ifCond .ne 5, 3) := dk_154 0 5 (dk_at dksX6_seed_0 8 rfl rfl)
theorem dX6_seed_11 : decode cX6_seed 11 = .ok (.iconst 0, 1) := dk_3 (dk_at dksX6_seed_0 11 rfl rfl)
theorem dX6_seed_12 : decode cX6_seed 12 = .ok (.ireturn, 1) := dk_172 (dk_at dksX6_seed_0 12 rfl rfl)
theorem dX6_seed_13 : decode cX6_seed 13 = .ok (.aload_n 0, 1) := dk_42 (dk_at dksX6_seed_0 13 rfl rfl)
theorem dX6_seed_14 : decode cX6_seed 14 = .ok (.getfield 7, 3) := dk_180 0 7 (dk_at dksX6_seed_0 14 rfl rfl)
theorem dX6_seed_17 : decode cX6_seed 17 = .ok (.sipush 158, 3) := dk_17 0 158 (dk_at dksX6_seed_0 17 rfl rfl)
theorem dX6_seed_20 : decode cX6_seed 20 = .ok (.iload_n 1, 1) := dk_27 (dk_at dksX6_seed_0 20 rfl rfl)
theorem dX6_seed_21 : decode cX6_seed 21 = .ok (.iastore, 1) := dk_79 (dk_at dksX6_seed_0 21 rfl rfl)
theorem dX6_seed_22 : decode cX6_seed 22 = .ok (.iconst 1, 1) := dk_4 (dk_at dksX6_seed_0 22 rfl rfl)
theorem dX6_seed_23 : decode cX6_seed 23 = .ok (.ireturn, 1) := dk_172 (dk_at dksX6_seed_0 23 rfl rfl)
abbrev cX6_keep : ByteArray := prog_20_method_112_code
def yX6_keep : MethodName := ⟨RX6, "keep", "()I"⟩
def dkwX6_keep_0 : List UInt8 := [42, 4, 181, 1, 201, 42, 180, 0, 7, 42, 180, 0, 16, 184, 1, 89, 42, 182, 1, 40, 172]
abbrev dktX6_keep_0 : List UInt8 := dkwX6_keep_0 ++ []
theorem dksX6_keep_0 : cX6_keep.data.toList.drop 0 = dktX6_keep_0 := by decide +kernel
theorem dX6_keep_0 : decode cX6_keep 0 = .ok (.aload_n 0, 1) := dk_42 (dk_at dksX6_keep_0 0 rfl rfl)
theorem dX6_keep_1 : decode cX6_keep 1 = .ok (.iconst 1, 1) := dk_4 (dk_at dksX6_keep_0 1 rfl rfl)
theorem dX6_keep_2 : decode cX6_keep 2 = .ok (.putfield 457, 3) := dk_181 1 201 (dk_at dksX6_keep_0 2 rfl rfl)
theorem dX6_keep_5 : decode cX6_keep 5 = .ok (.aload_n 0, 1) := dk_42 (dk_at dksX6_keep_0 5 rfl rfl)
theorem dX6_keep_6 : decode cX6_keep 6 = .ok (.getfield 7, 3) := dk_180 0 7 (dk_at dksX6_keep_0 6 rfl rfl)
theorem dX6_keep_9 : decode cX6_keep 9 = .ok (.aload_n 0, 1) := dk_42 (dk_at dksX6_keep_0 9 rfl rfl)
theorem dX6_keep_10 : decode cX6_keep 10 = .ok (.getfield 16, 3) := dk_180 0 16 (dk_at dksX6_keep_0 10 rfl rfl)
theorem dX6_keep_13 : decode cX6_keep 13 = .ok (.invokestatic 345, 3) := dk_184 1 89 (dk_at dksX6_keep_0 13 rfl rfl)
theorem dX6_keep_16 : decode cX6_keep 16 = .ok (.aload_n 0, 1) := dk_42 (dk_at dksX6_keep_0 16 rfl rfl)
theorem dX6_keep_17 : decode cX6_keep 17 = .ok (.invokevirtual 296, 3) := dk_182 1 40 (dk_at dksX6_keep_0 17 rfl rfl)
theorem dX6_keep_20 : decode cX6_keep 20 = .ok (.ireturn, 1) := dk_172 (dk_at dksX6_keep_0 20 rfl rfl)
abbrev cX6_undo : ByteArray := prog_20_method_113_code
def yX6_undo : MethodName := ⟨RX6, "undo", "()Z"⟩
def dkwX6_undo_0 : List UInt8 := [42, 180, 1, 201, 154, 0, 5, 3, 172, 42, 180, 0, 16, 42, 180, 0, 7, 184, 1, 89, 4, 172]
abbrev dktX6_undo_0 : List UInt8 := dkwX6_undo_0 ++ []
theorem dksX6_undo_0 : cX6_undo.data.toList.drop 0 = dktX6_undo_0 := by decide +kernel
theorem dX6_undo_0 : decode cX6_undo 0 = .ok (.aload_n 0, 1) := dk_42 (dk_at dksX6_undo_0 0 rfl rfl)
theorem dX6_undo_1 : decode cX6_undo 1 = .ok (.getfield 457, 3) := dk_180 1 201 (dk_at dksX6_undo_0 1 rfl rfl)
theorem dX6_undo_4 : decode cX6_undo 4 = .ok (.ifCond .ne 5, 3) := dk_154 0 5 (dk_at dksX6_undo_0 4 rfl rfl)
theorem dX6_undo_7 : decode cX6_undo 7 = .ok (.iconst 0, 1) := dk_3 (dk_at dksX6_undo_0 7 rfl rfl)
theorem dX6_undo_8 : decode cX6_undo 8 = .ok (.ireturn, 1) := dk_172 (dk_at dksX6_undo_0 8 rfl rfl)
theorem dX6_undo_9 : decode cX6_undo 9 = .ok (.aload_n 0, 1) := dk_42 (dk_at dksX6_undo_0 9 rfl rfl)
theorem dX6_undo_10 : decode cX6_undo 10 = .ok (.getfield 16, 3) := dk_180 0 16 (dk_at dksX6_undo_0 10 rfl rfl)
theorem dX6_undo_13 : decode cX6_undo 13 = .ok (.aload_n 0, 1) := dk_42 (dk_at dksX6_undo_0 13 rfl rfl)
theorem dX6_undo_14 : decode cX6_undo 14 = .ok (.getfield 7, 3) := dk_180 0 7 (dk_at dksX6_undo_0 14 rfl rfl)
theorem dX6_undo_17 : decode cX6_undo 17 = .ok (.invokestatic 345, 3) := dk_184 1 89 (dk_at dksX6_undo_0 17 rfl rfl)
theorem dX6_undo_20 : decode cX6_undo 20 = .ok (.iconst 1, 1) := dk_4 (dk_at dksX6_undo_0 20 rfl rfl)
theorem dX6_undo_21 : decode cX6_undo 21 = .ok (.ireturn, 1) := dk_172 (dk_at dksX6_undo_0 21 rfl rfl)
abbrev cX6_check : ByteArray := prog_20_method_114_code
def yX6_check : MethodName := ⟨RX6, "check", "(I)I"⟩
def dkwX6_check_3 : List UInt8 := [28, 172, 132, 2, 1, 167, 255, 210, 2, 172]
abbrev dktX6_check_3 : List UInt8 := dkwX6_check_3 ++ []
def dkwX6_check_2 : List UInt8 := [182, 0, 135, 153, 0, 17, 17, 0, 255, 42, 28, 182, 0, 150, 184, 1, 34, 167, 0, 4, 3, 159, 0, 5]
abbrev dktX6_check_2 : List UInt8 := dkwX6_check_2 ++ dktX6_check_3
def dkwX6_check_1 : List UInt8 := [181, 0, 160, 3, 61, 28, 27, 162, 0, 47, 42, 180, 0, 25, 28, 51, 17, 0, 255, 126, 42, 28]
abbrev dktX6_check_1 : List UInt8 := dkwX6_check_1 ++ dktX6_check_2
def dkwX6_check_0 : List UInt8 := [27, 3, 16, 10, 184, 0, 123, 153, 0, 11, 27, 42, 180, 0, 160, 164, 0, 6, 16, 254, 172, 42, 3]
abbrev dktX6_check_0 : List UInt8 := dkwX6_check_0 ++ dktX6_check_1
theorem dksX6_check_0 : cX6_check.data.toList.drop 0 = dktX6_check_0 := by decide +kernel
theorem dksX6_check_1 : cX6_check.data.toList.drop 23 = dktX6_check_1 := dk_seg dksX6_check_0 23 rfl rfl
theorem dksX6_check_2 : cX6_check.data.toList.drop 45 = dktX6_check_2 := dk_seg dksX6_check_1 22 rfl rfl
theorem dksX6_check_3 : cX6_check.data.toList.drop 69 = dktX6_check_3 := dk_seg dksX6_check_2 24 rfl rfl
theorem dX6_check_0 : decode cX6_check 0 = .ok (.iload_n 1, 1) := dk_27 (dk_at dksX6_check_0 0 rfl rfl)
theorem dX6_check_1 : decode cX6_check 1 = .ok (.iconst 0, 1) := dk_3 (dk_at dksX6_check_0 1 rfl rfl)
theorem dX6_check_2 : decode cX6_check 2 = .ok (.bipush 10, 2) := dk_16 10 (dk_at dksX6_check_0 2 rfl rfl)
theorem dX6_check_4 : decode cX6_check 4 = .ok (.invokestatic 123, 3) := dk_184 0 123 (dk_at dksX6_check_0 4 rfl rfl)
theorem dX6_check_7 : decode cX6_check 7 = .ok (.ifCond .eq 11, 3) := dk_153 0 11 (dk_at dksX6_check_0 7 rfl rfl)
theorem dX6_check_10 : decode cX6_check 10 = .ok (.iload_n 1, 1) := dk_27 (dk_at dksX6_check_0 10 rfl rfl)
theorem dX6_check_11 : decode cX6_check 11 = .ok (.aload_n 0, 1) := dk_42 (dk_at dksX6_check_0 11 rfl rfl)
theorem dX6_check_12 : decode cX6_check 12 = .ok (.getfield 160, 3) := dk_180 0 160 (dk_at dksX6_check_0 12 rfl rfl)
theorem dX6_check_15 : decode cX6_check 15 = .ok (.if_icmp .le 6, 3) := dk_164 0 6 (dk_at dksX6_check_0 15 rfl rfl)
theorem dX6_check_18 : decode cX6_check 18 = .ok (.bipush (-2), 2) := dk_16 254 (dk_at dksX6_check_0 18 rfl rfl)
theorem dX6_check_20 : decode cX6_check 20 = .ok (.ireturn, 1) := dk_172 (dk_at dksX6_check_0 20 rfl rfl)
theorem dX6_check_21 : decode cX6_check 21 = .ok (.aload_n 0, 1) := dk_42 (dk_at dksX6_check_0 21 rfl rfl)
theorem dX6_check_22 : decode cX6_check 22 = .ok (.iconst 0, 1) := dk_3 (dk_at dksX6_check_0 22 rfl rfl)
theorem dX6_check_23 : decode cX6_check 23 = .ok (.putfield 160, 3) := dk_181 0 160 (dk_at dksX6_check_1 0 rfl rfl)
theorem dX6_check_26 : decode cX6_check 26 = .ok (.iconst 0, 1) := dk_3 (dk_at dksX6_check_1 3 rfl rfl)
theorem dX6_check_27 : decode cX6_check 27 = .ok (.istore_n 2, 1) := dk_61 (dk_at dksX6_check_1 4 rfl rfl)
theorem dX6_check_28 : decode cX6_check 28 = .ok (.iload_n 2, 1) := dk_28 (dk_at dksX6_check_1 5 rfl rfl)
theorem dX6_check_29 : decode cX6_check 29 = .ok (.iload_n 1, 1) := dk_27 (dk_at dksX6_check_1 6 rfl rfl)
theorem dX6_check_30 : decode cX6_check 30 = .ok (.if_icmp .ge 47, 3) := dk_162 0 47 (dk_at dksX6_check_1 7 rfl rfl)
theorem dX6_check_33 : decode cX6_check 33 = .ok (.aload_n 0, 1) := dk_42 (dk_at dksX6_check_1 10 rfl rfl)
theorem dX6_check_34 : decode cX6_check 34 = .ok (.getfield 25, 3) := dk_180 0 25 (dk_at dksX6_check_1 11 rfl rfl)
theorem dX6_check_37 : decode cX6_check 37 = .ok (.iload_n 2, 1) := dk_28 (dk_at dksX6_check_1 14 rfl rfl)
theorem dX6_check_38 : decode cX6_check 38 = .ok (.baload, 1) := dk_51 (dk_at dksX6_check_1 15 rfl rfl)
theorem dX6_check_39 : decode cX6_check 39 = .ok (.sipush 255, 3) := dk_17 0 255 (dk_at dksX6_check_1 16 rfl rfl)
theorem dX6_check_42 : decode cX6_check 42 = .ok (.iand, 1) := dk_126 (dk_at dksX6_check_1 19 rfl rfl)
theorem dX6_check_43 : decode cX6_check 43 = .ok (.aload_n 0, 1) := dk_42 (dk_at dksX6_check_1 20 rfl rfl)
theorem dX6_check_44 : decode cX6_check 44 = .ok (.iload_n 2, 1) := dk_28 (dk_at dksX6_check_1 21 rfl rfl)
theorem dX6_check_45 : decode cX6_check 45 = .ok (.invokevirtual 135, 3) := dk_182 0 135 (dk_at dksX6_check_2 0 rfl rfl)
theorem dX6_check_48 : decode cX6_check 48 = .ok (.ifCond .eq 17, 3) := dk_153 0 17 (dk_at dksX6_check_2 3 rfl rfl)
theorem dX6_check_51 : decode cX6_check 51 = .ok (.sipush 255, 3) := dk_17 0 255 (dk_at dksX6_check_2 6 rfl rfl)
theorem dX6_check_54 : decode cX6_check 54 = .ok (.aload_n 0, 1) := dk_42 (dk_at dksX6_check_2 9 rfl rfl)
theorem dX6_check_55 : decode cX6_check 55 = .ok (.iload_n 2, 1) := dk_28 (dk_at dksX6_check_2 10 rfl rfl)
theorem dX6_check_56 : decode cX6_check 56 = .ok (.invokevirtual 150, 3) := dk_182 0 150 (dk_at dksX6_check_2 11 rfl rfl)
theorem dX6_check_59 : decode cX6_check 59 = .ok (.invokestatic 290, 3) := dk_184 1 34 (dk_at dksX6_check_2 14 rfl rfl)
theorem dX6_check_62 : decode cX6_check 62 = .ok (.goto 4, 3) := dk_167 0 4 (dk_at dksX6_check_2 17 rfl rfl)
theorem dX6_check_65 : decode cX6_check 65 = .ok (.iconst 0, 1) := dk_3 (dk_at dksX6_check_2 20 rfl rfl)
theorem dX6_check_66 : decode cX6_check 66 = .ok (.if_icmp .eq 5, 3) := dk_159 0 5 (dk_at dksX6_check_2 21 rfl rfl)
theorem dX6_check_69 : decode cX6_check 69 = .ok (.iload_n 2, 1) := dk_28 (dk_at dksX6_check_3 0 rfl rfl)
theorem dX6_check_70 : decode cX6_check 70 = .ok (.ireturn, 1) := dk_172 (dk_at dksX6_check_3 1 rfl rfl)
theorem dX6_check_71 : decode cX6_check 71 = .ok (.iinc 2 1, 3) := dk_132 2 1 (dk_at dksX6_check_3 2 rfl rfl)
theorem dX6_check_74 : decode cX6_check 74 = .ok (.goto (-46), 3) := dk_167 255 210 (dk_at dksX6_check_3 5 rfl rfl)
theorem dX6_check_77 : decode cX6_check 77 = .ok (.iconst (-1), 1) := dk_2 (dk_at dksX6_check_3 8 rfl rfl)
theorem dX6_check_78 : decode cX6_check 78 = .ok (.ireturn, 1) := dk_172 (dk_at dksX6_check_3 9 rfl rfl)
abbrev cX6_count : ByteArray := prog_20_method_115_code
def yX6_count : MethodName := ⟨RX6, "count", "(I)I"⟩
def dkwX6_count_5 : List UInt8 := [46, 172, 42, 180, 0, 255, 172, 42, 180, 0, 160, 172, 42, 180, 0, 7, 17, 0, 158, 46, 172, 2, 172]
abbrev dktX6_count_5 : List UInt8 := dkwX6_count_5 ++ []
def dkwX6_count_4 : List UInt8 := [180, 0, 7, 17, 0, 156, 46, 172, 42, 180, 0, 7, 17, 0, 157, 46, 172, 42, 180, 0, 7, 17, 0, 150]
abbrev dktX6_count_4 : List UInt8 := dkwX6_count_4 ++ dktX6_count_5
def dkwX6_count_3 : List UInt8 := [17, 0, 153, 46, 172, 42, 180, 0, 7, 17, 0, 154, 46, 172, 42, 180, 0, 7, 17, 0, 155, 46, 172, 42]
abbrev dktX6_count_3 : List UInt8 := dkwX6_count_3 ++ dktX6_count_4
def dkwX6_count_2 : List UInt8 := [42, 180, 0, 127, 172, 42, 182, 1, 40, 172, 42, 180, 0, 7, 17, 0, 151, 46, 172, 42, 180, 0, 7]
abbrev dktX6_count_2 : List UInt8 := dkwX6_count_2 ++ dktX6_count_3
def dkwX6_count_1 : List UInt8 := [170, 0, 0, 0, 0, 0, 155, 0, 0, 0, 0, 0, 0, 0, 11, 0, 0, 0, 63, 0, 0, 0, 68, 0, 0, 0, 73, 0, 0, 0, 82, 0, 0, 0, 91, 0, 0, 0, 100, 0, 0, 0, 109, 0, 0, 0, 118, 0, 0, 0, 127, 0, 0, 0, 136, 0, 0, 0, 141, 0, 0, 0, 146]
abbrev dktX6_count_1 : List UInt8 := dkwX6_count_1 ++ dktX6_count_2
def dkwX6_count_0 : List UInt8 := [27]
abbrev dktX6_count_0 : List UInt8 := dkwX6_count_0 ++ dktX6_count_1
theorem dksX6_count_0 : cX6_count.data.toList.drop 0 = dktX6_count_0 := by decide +kernel
theorem dksX6_count_1 : cX6_count.data.toList.drop 1 = dktX6_count_1 := dk_seg dksX6_count_0 1 rfl rfl
theorem dksX6_count_2 : cX6_count.data.toList.drop 64 = dktX6_count_2 := dk_seg dksX6_count_1 63 rfl rfl
theorem dksX6_count_3 : cX6_count.data.toList.drop 87 = dktX6_count_3 := dk_seg dksX6_count_2 23 rfl rfl
theorem dksX6_count_4 : cX6_count.data.toList.drop 111 = dktX6_count_4 := dk_seg dksX6_count_3 24 rfl rfl
theorem dksX6_count_5 : cX6_count.data.toList.drop 135 = dktX6_count_5 := dk_seg dksX6_count_4 24 rfl rfl
theorem dX6_count_0 : decode cX6_count 0 = .ok (.iload_n 1, 1) := dk_27 (dk_at dksX6_count_0 0 rfl rfl)
theorem dX6_count_1 : decode cX6_count 1 = .ok (.tableswitch 155 0 11 #[63, 68, 73, 82, 91, 100, 109, 118, 127, 136, 141, 146], 63) := by decide +kernel
theorem dX6_count_64 : decode cX6_count 64 = .ok (.aload_n 0, 1) := dk_42 (dk_at dksX6_count_2 0 rfl rfl)
theorem dX6_count_65 : decode cX6_count 65 = .ok (.getfield 127, 3) := dk_180 0 127 (dk_at dksX6_count_2 1 rfl rfl)
theorem dX6_count_68 : decode cX6_count 68 = .ok (.ireturn, 1) := dk_172 (dk_at dksX6_count_2 4 rfl rfl)
theorem dX6_count_69 : decode cX6_count 69 = .ok (.aload_n 0, 1) := dk_42 (dk_at dksX6_count_2 5 rfl rfl)
theorem dX6_count_70 : decode cX6_count 70 = .ok (.invokevirtual 296, 3) := dk_182 1 40 (dk_at dksX6_count_2 6 rfl rfl)
theorem dX6_count_73 : decode cX6_count 73 = .ok (.ireturn, 1) := dk_172 (dk_at dksX6_count_2 9 rfl rfl)
theorem dX6_count_74 : decode cX6_count 74 = .ok (.aload_n 0, 1) := dk_42 (dk_at dksX6_count_2 10 rfl rfl)
theorem dX6_count_75 : decode cX6_count 75 = .ok (.getfield 7, 3) := dk_180 0 7 (dk_at dksX6_count_2 11 rfl rfl)
theorem dX6_count_78 : decode cX6_count 78 = .ok (.sipush 151, 3) := dk_17 0 151 (dk_at dksX6_count_2 14 rfl rfl)
theorem dX6_count_81 : decode cX6_count 81 = .ok (.iaload, 1) := dk_46 (dk_at dksX6_count_2 17 rfl rfl)
theorem dX6_count_82 : decode cX6_count 82 = .ok (.ireturn, 1) := dk_172 (dk_at dksX6_count_2 18 rfl rfl)
theorem dX6_count_83 : decode cX6_count 83 = .ok (.aload_n 0, 1) := dk_42 (dk_at dksX6_count_2 19 rfl rfl)
theorem dX6_count_84 : decode cX6_count 84 = .ok (.getfield 7, 3) := dk_180 0 7 (dk_at dksX6_count_2 20 rfl rfl)
theorem dX6_count_87 : decode cX6_count 87 = .ok (.sipush 153, 3) := dk_17 0 153 (dk_at dksX6_count_3 0 rfl rfl)
theorem dX6_count_90 : decode cX6_count 90 = .ok (.iaload, 1) := dk_46 (dk_at dksX6_count_3 3 rfl rfl)
theorem dX6_count_91 : decode cX6_count 91 = .ok (.ireturn, 1) := dk_172 (dk_at dksX6_count_3 4 rfl rfl)
theorem dX6_count_92 : decode cX6_count 92 = .ok (.aload_n 0, 1) := dk_42 (dk_at dksX6_count_3 5 rfl rfl)
theorem dX6_count_93 : decode cX6_count 93 = .ok (.getfield 7, 3) := dk_180 0 7 (dk_at dksX6_count_3 6 rfl rfl)
theorem dX6_count_96 : decode cX6_count 96 = .ok (.sipush 154, 3) := dk_17 0 154 (dk_at dksX6_count_3 9 rfl rfl)
theorem dX6_count_99 : decode cX6_count 99 = .ok (.iaload, 1) := dk_46 (dk_at dksX6_count_3 12 rfl rfl)
theorem dX6_count_100 : decode cX6_count 100 = .ok (.ireturn, 1) := dk_172 (dk_at dksX6_count_3 13 rfl rfl)
theorem dX6_count_101 : decode cX6_count 101 = .ok (.aload_n 0, 1) := dk_42 (dk_at dksX6_count_3 14 rfl rfl)
theorem dX6_count_102 : decode cX6_count 102 = .ok (.getfield 7, 3) := dk_180 0 7 (dk_at dksX6_count_3 15 rfl rfl)
theorem dX6_count_105 : decode cX6_count 105 = .ok (.sipush 155, 3) := dk_17 0 155 (dk_at dksX6_count_3 18 rfl rfl)
theorem dX6_count_108 : decode cX6_count 108 = .ok (.iaload, 1) := dk_46 (dk_at dksX6_count_3 21 rfl rfl)
theorem dX6_count_109 : decode cX6_count 109 = .ok (.ireturn, 1) := dk_172 (dk_at dksX6_count_3 22 rfl rfl)
theorem dX6_count_110 : decode cX6_count 110 = .ok (.aload_n 0, 1) := dk_42 (dk_at dksX6_count_3 23 rfl rfl)
theorem dX6_count_111 : decode cX6_count 111 = .ok (.getfield 7, 3) := dk_180 0 7 (dk_at dksX6_count_4 0 rfl rfl)
theorem dX6_count_114 : decode cX6_count 114 = .ok (.sipush 156, 3) := dk_17 0 156 (dk_at dksX6_count_4 3 rfl rfl)
theorem dX6_count_117 : decode cX6_count 117 = .ok (.iaload, 1) := dk_46 (dk_at dksX6_count_4 6 rfl rfl)
theorem dX6_count_118 : decode cX6_count 118 = .ok (.ireturn, 1) := dk_172 (dk_at dksX6_count_4 7 rfl rfl)
theorem dX6_count_119 : decode cX6_count 119 = .ok (.aload_n 0, 1) := dk_42 (dk_at dksX6_count_4 8 rfl rfl)
theorem dX6_count_120 : decode cX6_count 120 = .ok (.getfield 7, 3) := dk_180 0 7 (dk_at dksX6_count_4 9 rfl rfl)
theorem dX6_count_123 : decode cX6_count 123 = .ok (.sipush 157, 3) := dk_17 0 157 (dk_at dksX6_count_4 12 rfl rfl)
theorem dX6_count_126 : decode cX6_count 126 = .ok (.iaload, 1) := dk_46 (dk_at dksX6_count_4 15 rfl rfl)
theorem dX6_count_127 : decode cX6_count 127 = .ok (.ireturn, 1) := dk_172 (dk_at dksX6_count_4 16 rfl rfl)
theorem dX6_count_128 : decode cX6_count 128 = .ok (.aload_n 0, 1) := dk_42 (dk_at dksX6_count_4 17 rfl rfl)
theorem dX6_count_129 : decode cX6_count 129 = .ok (.getfield 7, 3) := dk_180 0 7 (dk_at dksX6_count_4 18 rfl rfl)
theorem dX6_count_132 : decode cX6_count 132 = .ok (.sipush 150, 3) := dk_17 0 150 (dk_at dksX6_count_4 21 rfl rfl)
theorem dX6_count_135 : decode cX6_count 135 = .ok (.iaload, 1) := dk_46 (dk_at dksX6_count_5 0 rfl rfl)
theorem dX6_count_136 : decode cX6_count 136 = .ok (.ireturn, 1) := dk_172 (dk_at dksX6_count_5 1 rfl rfl)
theorem dX6_count_137 : decode cX6_count 137 = .ok (.aload_n 0, 1) := dk_42 (dk_at dksX6_count_5 2 rfl rfl)
theorem dX6_count_138 : decode cX6_count 138 = .ok (.getfield 255, 3) := dk_180 0 255 (dk_at dksX6_count_5 3 rfl rfl)
theorem dX6_count_141 : decode cX6_count 141 = .ok (.ireturn, 1) := dk_172 (dk_at dksX6_count_5 6 rfl rfl)
theorem dX6_count_142 : decode cX6_count 142 = .ok (.aload_n 0, 1) := dk_42 (dk_at dksX6_count_5 7 rfl rfl)
theorem dX6_count_143 : decode cX6_count 143 = .ok (.getfield 160, 3) := dk_180 0 160 (dk_at dksX6_count_5 8 rfl rfl)
theorem dX6_count_146 : decode cX6_count 146 = .ok (.ireturn, 1) := dk_172 (dk_at dksX6_count_5 11 rfl rfl)
theorem dX6_count_147 : decode cX6_count 147 = .ok (.aload_n 0, 1) := dk_42 (dk_at dksX6_count_5 12 rfl rfl)
theorem dX6_count_148 : decode cX6_count 148 = .ok (.getfield 7, 3) := dk_180 0 7 (dk_at dksX6_count_5 13 rfl rfl)
theorem dX6_count_151 : decode cX6_count 151 = .ok (.sipush 158, 3) := dk_17 0 158 (dk_at dksX6_count_5 16 rfl rfl)
theorem dX6_count_154 : decode cX6_count 154 = .ok (.iaload, 1) := dk_46 (dk_at dksX6_count_5 19 rfl rfl)
theorem dX6_count_155 : decode cX6_count 155 = .ok (.ireturn, 1) := dk_172 (dk_at dksX6_count_5 20 rfl rfl)
theorem dX6_count_156 : decode cX6_count 156 = .ok (.iconst (-1), 1) := dk_2 (dk_at dksX6_count_5 21 rfl rfl)
theorem dX6_count_157 : decode cX6_count 157 = .ok (.ireturn, 1) := dk_172 (dk_at dksX6_count_5 22 rfl rfl)
theorem q122 : (Jvm.Cond.initialized "OneCoinModel") ∈ lw_all := lw_g (lw_at lw_m1 7 rfl) rfl
theorem q1259 : (Jvm.Cond.instantiable "OneCoinModel" (62 : Nat)) ∈ lw_all := lw_g (lw_at lw_m5 184 rfl) rfl
theorem q1261 : (Jvm.Cond.instanceMethod ({ cls := "OneCoinModel", name := "<init>", desc := "()V" } : Jvm.MethodName)) ∈ lw_all := lw_g (lw_at lw_m5 186 rfl) rfl
theorem q1262 : (Jvm.Cond.code ({ cls := "OneCoinModel", name := "<init>", desc := "()V" } : Jvm.MethodName) prog_20_method_1_code (1 : Nat) (Option.none : Option Jvm.ClassFile.FieldType)) ∈ lw_all := lw_g (lw_at lw_m5 187 rfl) rfl
theorem q1263 : (Jvm.Cond.methodLink "OneCoinModel" (1 : Nat) ({ cls := "java/lang/Object", name := "<init>", desc := "()V" } : Jvm.MethodName)) ∈ lw_all := lw_g (lw_at lw_m5 188 rfl) rfl
theorem q1264 : (Jvm.Cond.constant "OneCoinModel" (95 : Nat) (40960 : Int32)) ∈ lw_all := lw_g (lw_at lw_m5 189 rfl) rfl
theorem q1265 : (Jvm.Cond.fieldLink "OneCoinModel" (7 : Nat) "OneCoinModel" "now" "[I") ∈ lw_all := lw_g (lw_at lw_m5 190 rfl) rfl
theorem q1266 : (Jvm.Cond.fieldLink "OneCoinModel" (13 : Nat) "OneCoinModel" "aside" "[I") ∈ lw_all := lw_g (lw_at lw_m5 191 rfl) rfl
theorem q1267 : (Jvm.Cond.fieldLink "OneCoinModel" (16 : Nat) "OneCoinModel" "kept" "[I") ∈ lw_all := lw_g (lw_at lw_m5 192 rfl) rfl
theorem q1268 : (Jvm.Cond.fieldLink "OneCoinModel" (19 : Nat) "OneCoinModel" "spotX" "[I") ∈ lw_all := lw_g (lw_at lw_m5 193 rfl) rfl
theorem q1269 : (Jvm.Cond.fieldLink "OneCoinModel" (22 : Nat) "OneCoinModel" "spotY" "[I") ∈ lw_all := lw_g (lw_at lw_m5 194 rfl) rfl
theorem q1270 : (Jvm.Cond.fieldLink "OneCoinModel" (127 : Nat) "OneCoinModel" "people" "I") ∈ lw_all := lw_g (lw_at lw_m5 195 rfl) rfl
theorem q1271 : (Jvm.Cond.fieldLink "OneCoinModel" (25 : Nat) "OneCoinModel" "tape" "[B") ∈ lw_all := lw_g (lw_at lw_m5 196 rfl) rfl
theorem q1272 : (Jvm.Cond.fieldLink "OneCoinModel" (160 : Nat) "OneCoinModel" "taped" "I") ∈ lw_all := lw_g (lw_at lw_m5 197 rfl) rfl
theorem q1273 : (Jvm.Cond.fieldLink "OneCoinModel" (166 : Nat) "OneCoinModel" "place0" "I") ∈ lw_all := lw_g (lw_at lw_m5 198 rfl) rfl
theorem q1274 : (Jvm.Cond.fieldLink "OneCoinModel" (169 : Nat) "OneCoinModel" "length0" "I") ∈ lw_all := lw_g (lw_at lw_m5 199 rfl) rfl
theorem q1275 : (Jvm.Cond.fieldLink "OneCoinModel" (176 : Nat) "OneCoinModel" "fault" "I") ∈ lw_all := lw_g (lw_at lw_m5 200 rfl) rfl
theorem q1276 : (Jvm.Cond.fieldLink "OneCoinModel" (182 : Nat) "OneCoinModel" "number0" "I") ∈ lw_all := lw_g (lw_at lw_m5 201 rfl) rfl
theorem q1277 : (Jvm.Cond.fieldLink "OneCoinModel" (193 : Nat) "OneCoinModel" "open" "I") ∈ lw_all := lw_g (lw_at lw_m5 202 rfl) rfl
theorem q1278 : (Jvm.Cond.fieldLink "OneCoinModel" (189 : Nat) "OneCoinModel" "codeMany" "I") ∈ lw_all := lw_g (lw_at lw_m5 203 rfl) rfl
theorem q1279 : (Jvm.Cond.fieldLink "OneCoinModel" (196 : Nat) "OneCoinModel" "waiting" "I") ∈ lw_all := lw_g (lw_at lw_m5 204 rfl) rfl
theorem q1280 : (Jvm.Cond.fieldLink "OneCoinModel" (243 : Nat) "OneCoinModel" "saidMany" "I") ∈ lw_all := lw_g (lw_at lw_m5 205 rfl) rfl
theorem q1281 : (Jvm.Cond.fieldLink "OneCoinModel" (255 : Nat) "OneCoinModel" "clauses" "I") ∈ lw_all := lw_g (lw_at lw_m5 206 rfl) rfl
theorem q1282 : (Jvm.Cond.fieldLink "OneCoinModel" (29 : Nat) "OneCoinModel" "said" "[I") ∈ lw_all := lw_g (lw_at lw_m5 207 rfl) rfl
theorem q1283 : (Jvm.Cond.fieldLink "OneCoinModel" (32 : Nat) "OneCoinModel" "waitsAt" "[I") ∈ lw_all := lw_g (lw_at lw_m5 208 rfl) rfl
theorem q1284 : (Jvm.Cond.fieldLink "OneCoinModel" (35 : Nat) "OneCoinModel" "saidLetter" "[I") ∈ lw_all := lw_g (lw_at lw_m5 209 rfl) rfl
theorem q1285 : (Jvm.Cond.fieldLink "OneCoinModel" (38 : Nat) "OneCoinModel" "saidFrom" "[I") ∈ lw_all := lw_g (lw_at lw_m5 210 rfl) rfl
theorem q1286 : (Jvm.Cond.fieldLink "OneCoinModel" (41 : Nat) "OneCoinModel" "saidHalf" "[I") ∈ lw_all := lw_g (lw_at lw_m5 211 rfl) rfl
theorem q1287 : (Jvm.Cond.fieldLink "OneCoinModel" (44 : Nat) "OneCoinModel" "saidTo" "[I") ∈ lw_all := lw_g (lw_at lw_m5 212 rfl) rfl
theorem q1288 : (Jvm.Cond.fieldLink "OneCoinModel" (47 : Nat) "OneCoinModel" "codes" "[I") ∈ lw_all := lw_g (lw_at lw_m5 213 rfl) rfl
theorem q1289 : (Jvm.Cond.fieldLink "OneCoinModel" (50 : Nat) "OneCoinModel" "clauseOf" "[I") ∈ lw_all := lw_g (lw_at lw_m5 214 rfl) rfl
theorem q1290 : (Jvm.Cond.fieldLink "OneCoinModel" (53 : Nat) "OneCoinModel" "codeFrom" "[I") ∈ lw_all := lw_g (lw_at lw_m5 215 rfl) rfl
theorem q1291 : (Jvm.Cond.fieldLink "OneCoinModel" (56 : Nat) "OneCoinModel" "codeHalf" "[I") ∈ lw_all := lw_g (lw_at lw_m5 216 rfl) rfl
theorem q1292 : (Jvm.Cond.fieldLink "OneCoinModel" (59 : Nat) "OneCoinModel" "codeTo" "[I") ∈ lw_all := lw_g (lw_at lw_m5 217 rfl) rfl
theorem q1293 : (Jvm.Cond.fieldLink "OneCoinModel" (62 : Nat) "OneCoinModel" "stack" "[I") ∈ lw_all := lw_g (lw_at lw_m5 218 rfl) rfl
theorem q1294 : (Jvm.Cond.fieldLink "OneCoinModel" (65 : Nat) "OneCoinModel" "facts" "[I") ∈ lw_all := lw_g (lw_at lw_m5 219 rfl) rfl
theorem q1295 : (Jvm.Cond.fieldLink "OneCoinModel" (68 : Nat) "OneCoinModel" "newDebt" "[I") ∈ lw_all := lw_g (lw_at lw_m5 220 rfl) rfl
theorem q1296 : (Jvm.Cond.fieldLink "OneCoinModel" (283 : Nat) "OneCoinModel" "lines" "I") ∈ lw_all := lw_g (lw_at lw_m5 221 rfl) rfl
theorem q1297 : (Jvm.Cond.fieldLink "OneCoinModel" (330 : Nat) "OneCoinModel" "paid" "I") ∈ lw_all := lw_g (lw_at lw_m5 222 rfl) rfl
theorem q1298 : (Jvm.Cond.fieldLink "OneCoinModel" (306 : Nat) "OneCoinModel" "rained" "I") ∈ lw_all := lw_g (lw_at lw_m5 223 rfl) rfl
theorem q1299 : (Jvm.Cond.fieldLink "OneCoinModel" (309 : Nat) "OneCoinModel" "grown" "I") ∈ lw_all := lw_g (lw_at lw_m5 224 rfl) rfl
theorem q1300 : (Jvm.Cond.fieldLink "OneCoinModel" (321 : Nat) "OneCoinModel" "arrived" "I") ∈ lw_all := lw_g (lw_at lw_m5 225 rfl) rfl
theorem q1301 : (Jvm.Cond.fieldLink "OneCoinModel" (71 : Nat) "OneCoinModel" "newStep" "[I") ∈ lw_all := lw_g (lw_at lw_m5 226 rfl) rfl
theorem q1302 : (Jvm.Cond.fieldLink "OneCoinModel" (74 : Nat) "OneCoinModel" "roundFrom" "[I") ∈ lw_all := lw_g (lw_at lw_m5 227 rfl) rfl
theorem q1303 : (Jvm.Cond.fieldLink "OneCoinModel" (77 : Nat) "OneCoinModel" "roundAt" "[I") ∈ lw_all := lw_g (lw_at lw_m5 228 rfl) rfl
theorem q1304 : (Jvm.Cond.fieldLink "OneCoinModel" (80 : Nat) "OneCoinModel" "roundTimes" "[I") ∈ lw_all := lw_g (lw_at lw_m5 229 rfl) rfl
theorem q1305 : (Jvm.Cond.fieldLink "OneCoinModel" (352 : Nat) "OneCoinModel" "newMany" "I") ∈ lw_all := lw_g (lw_at lw_m5 230 rfl) rfl
theorem q1306 : (Jvm.Cond.fieldLink "OneCoinModel" (364 : Nat) "OneCoinModel" "rounds" "I") ∈ lw_all := lw_g (lw_at lw_m5 231 rfl) rfl
theorem q1307 : (Jvm.Cond.fieldLink "OneCoinModel" (355 : Nat) "OneCoinModel" "itemFrom" "I") ∈ lw_all := lw_g (lw_at lw_m5 232 rfl) rfl
theorem q1308 : (Jvm.Cond.fieldLink "OneCoinModel" (358 : Nat) "OneCoinModel" "itemTimes" "I") ∈ lw_all := lw_g (lw_at lw_m5 233 rfl) rfl
theorem q1309 : (Jvm.Cond.fieldLink "OneCoinModel" (373 : Nat) "OneCoinModel" "walkedMany" "I") ∈ lw_all := lw_g (lw_at lw_m5 234 rfl) rfl
theorem q1310 : (Jvm.Cond.fieldLink "OneCoinModel" (376 : Nat) "OneCoinModel" "walkedHours" "I") ∈ lw_all := lw_g (lw_at lw_m5 235 rfl) rfl
theorem q1311 : (Jvm.Cond.fieldLink "OneCoinModel" (83 : Nat) "OneCoinModel" "leftDebt" "[I") ∈ lw_all := lw_g (lw_at lw_m5 236 rfl) rfl
theorem q1312 : (Jvm.Cond.fieldLink "OneCoinModel" (86 : Nat) "OneCoinModel" "tourStep" "[I") ∈ lw_all := lw_g (lw_at lw_m5 237 rfl) rfl
theorem q1313 : (Jvm.Cond.fieldLink "OneCoinModel" (89 : Nat) "OneCoinModel" "coinFrom" "[I") ∈ lw_all := lw_g (lw_at lw_m5 238 rfl) rfl
theorem q1314 : (Jvm.Cond.fieldLink "OneCoinModel" (92 : Nat) "OneCoinModel" "coinTo" "[I") ∈ lw_all := lw_g (lw_at lw_m5 239 rfl) rfl
theorem q1315 : (Jvm.Cond.fieldLink "OneCoinModel" (400 : Nat) "OneCoinModel" "coinMany" "I") ∈ lw_all := lw_g (lw_at lw_m6 0 rfl) rfl
theorem q1316 : (Jvm.Cond.fieldLink "OneCoinModel" (96 : Nat) "OneCoinModel" "moreBy" "[B") ∈ lw_all := lw_g (lw_at lw_m6 1 rfl) rfl
theorem q1317 : (Jvm.Cond.fieldLink "OneCoinModel" (99 : Nat) "OneCoinModel" "stepsTo" "[I") ∈ lw_all := lw_g (lw_at lw_m6 2 rfl) rfl
theorem q1318 : (Jvm.Cond.fieldLink "OneCoinModel" (102 : Nat) "OneCoinModel" "hoursTo" "[I") ∈ lw_all := lw_g (lw_at lw_m6 3 rfl) rfl
theorem q1319 : (Jvm.Cond.fieldLink "OneCoinModel" (105 : Nat) "OneCoinModel" "lackOf" "[I") ∈ lw_all := lw_g (lw_at lw_m6 4 rfl) rfl
theorem q1320 : (Jvm.Cond.fieldLink "OneCoinModel" (108 : Nat) "OneCoinModel" "wantOf" "[I") ∈ lw_all := lw_g (lw_at lw_m6 5 rfl) rfl
theorem q1321 : (Jvm.Cond.fieldLink "OneCoinModel" (111 : Nat) "OneCoinModel" "rowNow" "[I") ∈ lw_all := lw_g (lw_at lw_m6 6 rfl) rfl
theorem q1322 : (Jvm.Cond.fieldLink "OneCoinModel" (114 : Nat) "OneCoinModel" "rowBest" "[I") ∈ lw_all := lw_g (lw_at lw_m6 7 rfl) rfl
theorem q1323 : (Jvm.Cond.fieldLink "OneCoinModel" (416 : Nat) "OneCoinModel" "lacks" "I") ∈ lw_all := lw_g (lw_at lw_m6 8 rfl) rfl
theorem q1324 : (Jvm.Cond.fieldLink "OneCoinModel" (117 : Nat) "OneCoinModel" "sumOf" "[I") ∈ lw_all := lw_g (lw_at lw_m6 9 rfl) rfl
theorem q1325 : (Jvm.Cond.fieldLink "OneCoinModel" (120 : Nat) "OneCoinModel" "groupsOf" "[I") ∈ lw_all := lw_g (lw_at lw_m6 10 rfl) rfl
theorem q1326 : (Jvm.Cond.fieldLink "OneCoinModel" (457 : Nat) "OneCoinModel" "isKept" "Z") ∈ lw_all := lw_g (lw_at lw_m6 11 rfl) rfl
theorem q1327 : (Jvm.Cond.laysFinal "OneCoinModel" "OneCoinModel" "now" "[I") ∈ lw_all := lw_g (lw_at lw_m6 12 rfl) rfl
theorem q1328 : (Jvm.Cond.soleField "OneCoinModel" "now") ∈ lw_all := lw_g (lw_at lw_m6 13 rfl) rfl
theorem q1329 : (Jvm.Cond.laysFinal "OneCoinModel" "OneCoinModel" "aside" "[I") ∈ lw_all := lw_g (lw_at lw_m6 14 rfl) rfl
theorem q1330 : (Jvm.Cond.soleField "OneCoinModel" "aside") ∈ lw_all := lw_g (lw_at lw_m6 15 rfl) rfl
theorem q1331 : (Jvm.Cond.laysFinal "OneCoinModel" "OneCoinModel" "kept" "[I") ∈ lw_all := lw_g (lw_at lw_m6 16 rfl) rfl
theorem q1332 : (Jvm.Cond.soleField "OneCoinModel" "kept") ∈ lw_all := lw_g (lw_at lw_m6 17 rfl) rfl
theorem q1333 : (Jvm.Cond.laysFinal "OneCoinModel" "OneCoinModel" "spotX" "[I") ∈ lw_all := lw_g (lw_at lw_m6 18 rfl) rfl
theorem q1334 : (Jvm.Cond.soleField "OneCoinModel" "spotX") ∈ lw_all := lw_g (lw_at lw_m6 19 rfl) rfl
theorem q1335 : (Jvm.Cond.laysFinal "OneCoinModel" "OneCoinModel" "spotY" "[I") ∈ lw_all := lw_g (lw_at lw_m6 20 rfl) rfl
theorem q1336 : (Jvm.Cond.soleField "OneCoinModel" "spotY") ∈ lw_all := lw_g (lw_at lw_m6 21 rfl) rfl
theorem q1337 : (Jvm.Cond.lays "OneCoinModel" "OneCoinModel" "people" "I") ∈ lw_all := lw_g (lw_at lw_m6 22 rfl) rfl
theorem q1338 : (Jvm.Cond.soleField "OneCoinModel" "people") ∈ lw_all := lw_g (lw_at lw_m6 23 rfl) rfl
theorem q1339 : (Jvm.Cond.laysFinal "OneCoinModel" "OneCoinModel" "tape" "[B") ∈ lw_all := lw_g (lw_at lw_m6 24 rfl) rfl
theorem q1340 : (Jvm.Cond.soleField "OneCoinModel" "tape") ∈ lw_all := lw_g (lw_at lw_m6 25 rfl) rfl
theorem q1341 : (Jvm.Cond.lays "OneCoinModel" "OneCoinModel" "taped" "I") ∈ lw_all := lw_g (lw_at lw_m6 26 rfl) rfl
theorem q1342 : (Jvm.Cond.soleField "OneCoinModel" "taped") ∈ lw_all := lw_g (lw_at lw_m6 27 rfl) rfl
theorem q1343 : (Jvm.Cond.lays "OneCoinModel" "OneCoinModel" "place0" "I") ∈ lw_all := lw_g (lw_at lw_m6 28 rfl) rfl
theorem q1344 : (Jvm.Cond.soleField "OneCoinModel" "place0") ∈ lw_all := lw_g (lw_at lw_m6 29 rfl) rfl
theorem q1345 : (Jvm.Cond.lays "OneCoinModel" "OneCoinModel" "length0" "I") ∈ lw_all := lw_g (lw_at lw_m6 30 rfl) rfl
theorem q1346 : (Jvm.Cond.soleField "OneCoinModel" "length0") ∈ lw_all := lw_g (lw_at lw_m6 31 rfl) rfl
theorem q1347 : (Jvm.Cond.lays "OneCoinModel" "OneCoinModel" "fault" "I") ∈ lw_all := lw_g (lw_at lw_m6 32 rfl) rfl
theorem q1348 : (Jvm.Cond.soleField "OneCoinModel" "fault") ∈ lw_all := lw_g (lw_at lw_m6 33 rfl) rfl
theorem q1349 : (Jvm.Cond.lays "OneCoinModel" "OneCoinModel" "number0" "I") ∈ lw_all := lw_g (lw_at lw_m6 34 rfl) rfl
theorem q1350 : (Jvm.Cond.soleField "OneCoinModel" "number0") ∈ lw_all := lw_g (lw_at lw_m6 35 rfl) rfl
theorem q1351 : (Jvm.Cond.lays "OneCoinModel" "OneCoinModel" "open" "I") ∈ lw_all := lw_g (lw_at lw_m6 36 rfl) rfl
theorem q1352 : (Jvm.Cond.soleField "OneCoinModel" "open") ∈ lw_all := lw_g (lw_at lw_m6 37 rfl) rfl
theorem q1353 : (Jvm.Cond.lays "OneCoinModel" "OneCoinModel" "codeMany" "I") ∈ lw_all := lw_g (lw_at lw_m6 38 rfl) rfl
theorem q1354 : (Jvm.Cond.soleField "OneCoinModel" "codeMany") ∈ lw_all := lw_g (lw_at lw_m6 39 rfl) rfl
theorem q1355 : (Jvm.Cond.lays "OneCoinModel" "OneCoinModel" "waiting" "I") ∈ lw_all := lw_g (lw_at lw_m6 40 rfl) rfl
theorem q1356 : (Jvm.Cond.soleField "OneCoinModel" "waiting") ∈ lw_all := lw_g (lw_at lw_m6 41 rfl) rfl
theorem q1357 : (Jvm.Cond.lays "OneCoinModel" "OneCoinModel" "saidMany" "I") ∈ lw_all := lw_g (lw_at lw_m6 42 rfl) rfl
theorem q1358 : (Jvm.Cond.soleField "OneCoinModel" "saidMany") ∈ lw_all := lw_g (lw_at lw_m6 43 rfl) rfl
theorem q1359 : (Jvm.Cond.lays "OneCoinModel" "OneCoinModel" "clauses" "I") ∈ lw_all := lw_g (lw_at lw_m6 44 rfl) rfl
theorem q1360 : (Jvm.Cond.soleField "OneCoinModel" "clauses") ∈ lw_all := lw_g (lw_at lw_m6 45 rfl) rfl
theorem q1361 : (Jvm.Cond.laysFinal "OneCoinModel" "OneCoinModel" "said" "[I") ∈ lw_all := lw_g (lw_at lw_m6 46 rfl) rfl
theorem q1362 : (Jvm.Cond.soleField "OneCoinModel" "said") ∈ lw_all := lw_g (lw_at lw_m6 47 rfl) rfl
theorem q1363 : (Jvm.Cond.laysFinal "OneCoinModel" "OneCoinModel" "waitsAt" "[I") ∈ lw_all := lw_g (lw_at lw_m6 48 rfl) rfl
theorem q1364 : (Jvm.Cond.soleField "OneCoinModel" "waitsAt") ∈ lw_all := lw_g (lw_at lw_m6 49 rfl) rfl
theorem q1365 : (Jvm.Cond.laysFinal "OneCoinModel" "OneCoinModel" "saidLetter" "[I") ∈ lw_all := lw_g (lw_at lw_m6 50 rfl) rfl
theorem q1366 : (Jvm.Cond.soleField "OneCoinModel" "saidLetter") ∈ lw_all := lw_g (lw_at lw_m6 51 rfl) rfl
theorem q1367 : (Jvm.Cond.laysFinal "OneCoinModel" "OneCoinModel" "saidFrom" "[I") ∈ lw_all := lw_g (lw_at lw_m6 52 rfl) rfl
theorem q1368 : (Jvm.Cond.soleField "OneCoinModel" "saidFrom") ∈ lw_all := lw_g (lw_at lw_m6 53 rfl) rfl
theorem q1369 : (Jvm.Cond.laysFinal "OneCoinModel" "OneCoinModel" "saidHalf" "[I") ∈ lw_all := lw_g (lw_at lw_m6 54 rfl) rfl
theorem q1370 : (Jvm.Cond.soleField "OneCoinModel" "saidHalf") ∈ lw_all := lw_g (lw_at lw_m6 55 rfl) rfl
theorem q1371 : (Jvm.Cond.laysFinal "OneCoinModel" "OneCoinModel" "saidTo" "[I") ∈ lw_all := lw_g (lw_at lw_m6 56 rfl) rfl
theorem q1372 : (Jvm.Cond.soleField "OneCoinModel" "saidTo") ∈ lw_all := lw_g (lw_at lw_m6 57 rfl) rfl
theorem q1373 : (Jvm.Cond.laysFinal "OneCoinModel" "OneCoinModel" "codes" "[I") ∈ lw_all := lw_g (lw_at lw_m6 58 rfl) rfl
theorem q1374 : (Jvm.Cond.soleField "OneCoinModel" "codes") ∈ lw_all := lw_g (lw_at lw_m6 59 rfl) rfl
theorem q1375 : (Jvm.Cond.laysFinal "OneCoinModel" "OneCoinModel" "clauseOf" "[I") ∈ lw_all := lw_g (lw_at lw_m6 60 rfl) rfl
theorem q1376 : (Jvm.Cond.soleField "OneCoinModel" "clauseOf") ∈ lw_all := lw_g (lw_at lw_m6 61 rfl) rfl
theorem q1377 : (Jvm.Cond.laysFinal "OneCoinModel" "OneCoinModel" "codeFrom" "[I") ∈ lw_all := lw_g (lw_at lw_m6 62 rfl) rfl
theorem q1378 : (Jvm.Cond.soleField "OneCoinModel" "codeFrom") ∈ lw_all := lw_g (lw_at lw_m6 63 rfl) rfl
theorem q1379 : (Jvm.Cond.laysFinal "OneCoinModel" "OneCoinModel" "codeHalf" "[I") ∈ lw_all := lw_g (lw_at lw_m6 64 rfl) rfl
theorem q1380 : (Jvm.Cond.soleField "OneCoinModel" "codeHalf") ∈ lw_all := lw_g (lw_at lw_m6 65 rfl) rfl
theorem q1381 : (Jvm.Cond.laysFinal "OneCoinModel" "OneCoinModel" "codeTo" "[I") ∈ lw_all := lw_g (lw_at lw_m6 66 rfl) rfl
theorem q1382 : (Jvm.Cond.soleField "OneCoinModel" "codeTo") ∈ lw_all := lw_g (lw_at lw_m6 67 rfl) rfl
theorem q1383 : (Jvm.Cond.laysFinal "OneCoinModel" "OneCoinModel" "stack" "[I") ∈ lw_all := lw_g (lw_at lw_m6 68 rfl) rfl
theorem q1384 : (Jvm.Cond.soleField "OneCoinModel" "stack") ∈ lw_all := lw_g (lw_at lw_m6 69 rfl) rfl
theorem q1385 : (Jvm.Cond.laysFinal "OneCoinModel" "OneCoinModel" "facts" "[I") ∈ lw_all := lw_g (lw_at lw_m6 70 rfl) rfl
theorem q1386 : (Jvm.Cond.soleField "OneCoinModel" "facts") ∈ lw_all := lw_g (lw_at lw_m6 71 rfl) rfl
theorem q1387 : (Jvm.Cond.laysFinal "OneCoinModel" "OneCoinModel" "newDebt" "[I") ∈ lw_all := lw_g (lw_at lw_m6 72 rfl) rfl
theorem q1388 : (Jvm.Cond.soleField "OneCoinModel" "newDebt") ∈ lw_all := lw_g (lw_at lw_m6 73 rfl) rfl
theorem q1389 : (Jvm.Cond.lays "OneCoinModel" "OneCoinModel" "lines" "I") ∈ lw_all := lw_g (lw_at lw_m6 74 rfl) rfl
theorem q1390 : (Jvm.Cond.soleField "OneCoinModel" "lines") ∈ lw_all := lw_g (lw_at lw_m6 75 rfl) rfl
theorem q1391 : (Jvm.Cond.lays "OneCoinModel" "OneCoinModel" "paid" "I") ∈ lw_all := lw_g (lw_at lw_m6 76 rfl) rfl
theorem q1392 : (Jvm.Cond.soleField "OneCoinModel" "paid") ∈ lw_all := lw_g (lw_at lw_m6 77 rfl) rfl
theorem q1393 : (Jvm.Cond.lays "OneCoinModel" "OneCoinModel" "rained" "I") ∈ lw_all := lw_g (lw_at lw_m6 78 rfl) rfl
theorem q1394 : (Jvm.Cond.soleField "OneCoinModel" "rained") ∈ lw_all := lw_g (lw_at lw_m6 79 rfl) rfl
theorem q1395 : (Jvm.Cond.lays "OneCoinModel" "OneCoinModel" "grown" "I") ∈ lw_all := lw_g (lw_at lw_m6 80 rfl) rfl
theorem q1396 : (Jvm.Cond.soleField "OneCoinModel" "grown") ∈ lw_all := lw_g (lw_at lw_m6 81 rfl) rfl
theorem q1397 : (Jvm.Cond.lays "OneCoinModel" "OneCoinModel" "arrived" "I") ∈ lw_all := lw_g (lw_at lw_m6 82 rfl) rfl
theorem q1398 : (Jvm.Cond.soleField "OneCoinModel" "arrived") ∈ lw_all := lw_g (lw_at lw_m6 83 rfl) rfl
theorem q1399 : (Jvm.Cond.laysFinal "OneCoinModel" "OneCoinModel" "newStep" "[I") ∈ lw_all := lw_g (lw_at lw_m6 84 rfl) rfl
theorem q1400 : (Jvm.Cond.soleField "OneCoinModel" "newStep") ∈ lw_all := lw_g (lw_at lw_m6 85 rfl) rfl
theorem q1401 : (Jvm.Cond.laysFinal "OneCoinModel" "OneCoinModel" "roundFrom" "[I") ∈ lw_all := lw_g (lw_at lw_m6 86 rfl) rfl
theorem q1402 : (Jvm.Cond.soleField "OneCoinModel" "roundFrom") ∈ lw_all := lw_g (lw_at lw_m6 87 rfl) rfl
theorem q1403 : (Jvm.Cond.laysFinal "OneCoinModel" "OneCoinModel" "roundAt" "[I") ∈ lw_all := lw_g (lw_at lw_m6 88 rfl) rfl
theorem q1404 : (Jvm.Cond.soleField "OneCoinModel" "roundAt") ∈ lw_all := lw_g (lw_at lw_m6 89 rfl) rfl
theorem q1405 : (Jvm.Cond.laysFinal "OneCoinModel" "OneCoinModel" "roundTimes" "[I") ∈ lw_all := lw_g (lw_at lw_m6 90 rfl) rfl
theorem q1406 : (Jvm.Cond.soleField "OneCoinModel" "roundTimes") ∈ lw_all := lw_g (lw_at lw_m6 91 rfl) rfl
theorem q1407 : (Jvm.Cond.lays "OneCoinModel" "OneCoinModel" "newMany" "I") ∈ lw_all := lw_g (lw_at lw_m6 92 rfl) rfl
theorem q1408 : (Jvm.Cond.soleField "OneCoinModel" "newMany") ∈ lw_all := lw_g (lw_at lw_m6 93 rfl) rfl
theorem q1409 : (Jvm.Cond.lays "OneCoinModel" "OneCoinModel" "rounds" "I") ∈ lw_all := lw_g (lw_at lw_m6 94 rfl) rfl
theorem q1410 : (Jvm.Cond.soleField "OneCoinModel" "rounds") ∈ lw_all := lw_g (lw_at lw_m6 95 rfl) rfl
theorem q1411 : (Jvm.Cond.lays "OneCoinModel" "OneCoinModel" "itemFrom" "I") ∈ lw_all := lw_g (lw_at lw_m6 96 rfl) rfl
theorem q1412 : (Jvm.Cond.soleField "OneCoinModel" "itemFrom") ∈ lw_all := lw_g (lw_at lw_m6 97 rfl) rfl
theorem q1413 : (Jvm.Cond.lays "OneCoinModel" "OneCoinModel" "itemTimes" "I") ∈ lw_all := lw_g (lw_at lw_m6 98 rfl) rfl
theorem q1414 : (Jvm.Cond.soleField "OneCoinModel" "itemTimes") ∈ lw_all := lw_g (lw_at lw_m6 99 rfl) rfl
theorem q1415 : (Jvm.Cond.lays "OneCoinModel" "OneCoinModel" "walkedMany" "I") ∈ lw_all := lw_g (lw_at lw_m6 100 rfl) rfl
theorem q1416 : (Jvm.Cond.soleField "OneCoinModel" "walkedMany") ∈ lw_all := lw_g (lw_at lw_m6 101 rfl) rfl
theorem q1417 : (Jvm.Cond.lays "OneCoinModel" "OneCoinModel" "walkedHours" "I") ∈ lw_all := lw_g (lw_at lw_m6 102 rfl) rfl
theorem q1418 : (Jvm.Cond.soleField "OneCoinModel" "walkedHours") ∈ lw_all := lw_g (lw_at lw_m6 103 rfl) rfl
theorem q1419 : (Jvm.Cond.laysFinal "OneCoinModel" "OneCoinModel" "leftDebt" "[I") ∈ lw_all := lw_g (lw_at lw_m6 104 rfl) rfl
theorem q1420 : (Jvm.Cond.soleField "OneCoinModel" "leftDebt") ∈ lw_all := lw_g (lw_at lw_m6 105 rfl) rfl
theorem q1421 : (Jvm.Cond.laysFinal "OneCoinModel" "OneCoinModel" "tourStep" "[I") ∈ lw_all := lw_g (lw_at lw_m6 106 rfl) rfl
theorem q1422 : (Jvm.Cond.soleField "OneCoinModel" "tourStep") ∈ lw_all := lw_g (lw_at lw_m6 107 rfl) rfl
theorem q1423 : (Jvm.Cond.laysFinal "OneCoinModel" "OneCoinModel" "coinFrom" "[I") ∈ lw_all := lw_g (lw_at lw_m6 108 rfl) rfl
theorem q1424 : (Jvm.Cond.soleField "OneCoinModel" "coinFrom") ∈ lw_all := lw_g (lw_at lw_m6 109 rfl) rfl
theorem q1425 : (Jvm.Cond.laysFinal "OneCoinModel" "OneCoinModel" "coinTo" "[I") ∈ lw_all := lw_g (lw_at lw_m6 110 rfl) rfl
theorem q1426 : (Jvm.Cond.soleField "OneCoinModel" "coinTo") ∈ lw_all := lw_g (lw_at lw_m6 111 rfl) rfl
theorem q1427 : (Jvm.Cond.lays "OneCoinModel" "OneCoinModel" "coinMany" "I") ∈ lw_all := lw_g (lw_at lw_m6 112 rfl) rfl
theorem q1428 : (Jvm.Cond.soleField "OneCoinModel" "coinMany") ∈ lw_all := lw_g (lw_at lw_m6 113 rfl) rfl
theorem q1429 : (Jvm.Cond.laysFinal "OneCoinModel" "OneCoinModel" "moreBy" "[B") ∈ lw_all := lw_g (lw_at lw_m6 114 rfl) rfl
theorem q1430 : (Jvm.Cond.soleField "OneCoinModel" "moreBy") ∈ lw_all := lw_g (lw_at lw_m6 115 rfl) rfl
theorem q1431 : (Jvm.Cond.laysFinal "OneCoinModel" "OneCoinModel" "stepsTo" "[I") ∈ lw_all := lw_g (lw_at lw_m6 116 rfl) rfl
theorem q1432 : (Jvm.Cond.soleField "OneCoinModel" "stepsTo") ∈ lw_all := lw_g (lw_at lw_m6 117 rfl) rfl
theorem q1433 : (Jvm.Cond.laysFinal "OneCoinModel" "OneCoinModel" "hoursTo" "[I") ∈ lw_all := lw_g (lw_at lw_m6 118 rfl) rfl
theorem q1434 : (Jvm.Cond.soleField "OneCoinModel" "hoursTo") ∈ lw_all := lw_g (lw_at lw_m6 119 rfl) rfl
theorem q1435 : (Jvm.Cond.laysFinal "OneCoinModel" "OneCoinModel" "lackOf" "[I") ∈ lw_all := lw_g (lw_at lw_m6 120 rfl) rfl
theorem q1436 : (Jvm.Cond.soleField "OneCoinModel" "lackOf") ∈ lw_all := lw_g (lw_at lw_m6 121 rfl) rfl
theorem q1437 : (Jvm.Cond.laysFinal "OneCoinModel" "OneCoinModel" "wantOf" "[I") ∈ lw_all := lw_g (lw_at lw_m6 122 rfl) rfl
theorem q1438 : (Jvm.Cond.soleField "OneCoinModel" "wantOf") ∈ lw_all := lw_g (lw_at lw_m6 123 rfl) rfl
theorem q1439 : (Jvm.Cond.laysFinal "OneCoinModel" "OneCoinModel" "rowNow" "[I") ∈ lw_all := lw_g (lw_at lw_m6 124 rfl) rfl
theorem q1440 : (Jvm.Cond.soleField "OneCoinModel" "rowNow") ∈ lw_all := lw_g (lw_at lw_m6 125 rfl) rfl
theorem q1441 : (Jvm.Cond.laysFinal "OneCoinModel" "OneCoinModel" "rowBest" "[I") ∈ lw_all := lw_g (lw_at lw_m6 126 rfl) rfl
theorem q1442 : (Jvm.Cond.soleField "OneCoinModel" "rowBest") ∈ lw_all := lw_g (lw_at lw_m6 127 rfl) rfl
theorem q1443 : (Jvm.Cond.lays "OneCoinModel" "OneCoinModel" "lacks" "I") ∈ lw_all := lw_g (lw_at lw_m6 128 rfl) rfl
theorem q1444 : (Jvm.Cond.soleField "OneCoinModel" "lacks") ∈ lw_all := lw_g (lw_at lw_m6 129 rfl) rfl
theorem q1445 : (Jvm.Cond.laysFinal "OneCoinModel" "OneCoinModel" "sumOf" "[I") ∈ lw_all := lw_g (lw_at lw_m6 130 rfl) rfl
theorem q1446 : (Jvm.Cond.soleField "OneCoinModel" "sumOf") ∈ lw_all := lw_g (lw_at lw_m6 131 rfl) rfl
theorem q1447 : (Jvm.Cond.laysFinal "OneCoinModel" "OneCoinModel" "groupsOf" "[I") ∈ lw_all := lw_g (lw_at lw_m6 132 rfl) rfl
theorem q1448 : (Jvm.Cond.soleField "OneCoinModel" "groupsOf") ∈ lw_all := lw_g (lw_at lw_m6 133 rfl) rfl
theorem q1449 : (Jvm.Cond.lays "OneCoinModel" "OneCoinModel" "isKept" "Z") ∈ lw_all := lw_g (lw_at lw_m6 134 rfl) rfl
theorem q1450 : (Jvm.Cond.soleField "OneCoinModel" "isKept") ∈ lw_all := lw_g (lw_at lw_m6 135 rfl) rfl
theorem q1451 : (Jvm.Cond.superclass "OneCoinModel" "java/lang/Object") ∈ lw_all := lw_g (lw_at lw_m6 136 rfl) rfl
theorem q1453 : (Jvm.Cond.instanceMethod ({ cls := "OneCoinModel", name := "person", desc := "(III)Z" } : Jvm.MethodName)) ∈ lw_all := lw_g (lw_at lw_m6 138 rfl) rfl
theorem q1454 : (Jvm.Cond.selects "OneCoinModel" ({ cls := "OneCoinModel", name := "person", desc := "(III)Z" } : Jvm.MethodName) ({ cls := "OneCoinModel", name := "person", desc := "(III)Z" } : Jvm.MethodName)) ∈ lw_all := lw_g (lw_at lw_m6 139 rfl) rfl
theorem q1455 : (Jvm.Cond.code ({ cls := "OneCoinModel", name := "person", desc := "(III)Z" } : Jvm.MethodName) prog_20_method_16_code (4 : Nat) (Option.some Jvm.ClassFile.FieldType.boolean)) ∈ lw_all := lw_g (lw_at lw_m6 140 rfl) rfl
theorem q1456 : (Jvm.Cond.methodLink "OneCoinModel" (123 : Nat) ({ cls := "OneCoinModel", name := "in", desc := "(III)Z" } : Jvm.MethodName)) ∈ lw_all := lw_g (lw_at lw_m6 141 rfl) rfl
theorem q1457 : (Jvm.Cond.static ({ cls := "OneCoinModel", name := "in", desc := "(III)Z" } : Jvm.MethodName)) ∈ lw_all := lw_g (lw_at lw_m6 142 rfl) rfl
theorem q1458 : (Jvm.Cond.code ({ cls := "OneCoinModel", name := "in", desc := "(III)Z" } : Jvm.MethodName) prog_20_method_2_code (3 : Nat) (Option.some Jvm.ClassFile.FieldType.boolean)) ∈ lw_all := lw_g (lw_at lw_m6 143 rfl) rfl
theorem q1460 : (Jvm.Cond.instanceMethod ({ cls := "OneCoinModel", name := "debt", desc := "(III)Z" } : Jvm.MethodName)) ∈ lw_all := lw_g (lw_at lw_m6 145 rfl) rfl
theorem q1461 : (Jvm.Cond.selects "OneCoinModel" ({ cls := "OneCoinModel", name := "debt", desc := "(III)Z" } : Jvm.MethodName) ({ cls := "OneCoinModel", name := "debt", desc := "(III)Z" } : Jvm.MethodName)) ∈ lw_all := lw_g (lw_at lw_m6 146 rfl) rfl
theorem q1462 : (Jvm.Cond.code ({ cls := "OneCoinModel", name := "debt", desc := "(III)Z" } : Jvm.MethodName) prog_20_method_17_code (4 : Nat) (Option.some Jvm.ClassFile.FieldType.boolean)) ∈ lw_all := lw_g (lw_at lw_m6 147 rfl) rfl
theorem q1463 : (Jvm.Cond.methodLink "OneCoinModel" (153 : Nat) ({ cls := "OneCoinModel", name := "areTwo", desc := "(II)Z" } : Jvm.MethodName)) ∈ lw_all := lw_g (lw_at lw_m6 148 rfl) rfl
theorem q1464 : (Jvm.Cond.privateMethod ({ cls := "OneCoinModel", name := "areTwo", desc := "(II)Z" } : Jvm.MethodName)) ∈ lw_tbl := lw_at lw_m6 149 rfl
theorem q1465 : (Jvm.Cond.instanceMethod ({ cls := "OneCoinModel", name := "areTwo", desc := "(II)Z" } : Jvm.MethodName)) ∈ lw_all := lw_g (lw_at lw_m6 150 rfl) rfl
theorem q1466 : (Jvm.Cond.code ({ cls := "OneCoinModel", name := "areTwo", desc := "(II)Z" } : Jvm.MethodName) prog_20_method_10_code (3 : Nat) (Option.some Jvm.ClassFile.FieldType.boolean)) ∈ lw_all := lw_g (lw_at lw_m6 151 rfl) rfl
theorem q1467 : (Jvm.Cond.methodLink "OneCoinModel" (135 : Nat) ({ cls := "OneCoinModel", name := "isPerson", desc := "(I)Z" } : Jvm.MethodName)) ∈ lw_all := lw_g (lw_at lw_m6 152 rfl) rfl
theorem q1468 : (Jvm.Cond.privateMethod ({ cls := "OneCoinModel", name := "isPerson", desc := "(I)Z" } : Jvm.MethodName)) ∈ lw_tbl := lw_at lw_m6 153 rfl
theorem q1469 : (Jvm.Cond.instanceMethod ({ cls := "OneCoinModel", name := "isPerson", desc := "(I)Z" } : Jvm.MethodName)) ∈ lw_all := lw_g (lw_at lw_m6 154 rfl) rfl
theorem q1470 : (Jvm.Cond.code ({ cls := "OneCoinModel", name := "isPerson", desc := "(I)Z" } : Jvm.MethodName) prog_20_method_9_code (2 : Nat) (Option.some Jvm.ClassFile.FieldType.boolean)) ∈ lw_all := lw_g (lw_at lw_m6 155 rfl) rfl
theorem q1471 : (Jvm.Cond.methodLink "OneCoinModel" (131 : Nat) ({ cls := "OneCoinModel", name := "has", desc := "(II)Z" } : Jvm.MethodName)) ∈ lw_all := lw_g (lw_at lw_m6 156 rfl) rfl
theorem q1472 : (Jvm.Cond.static ({ cls := "OneCoinModel", name := "has", desc := "(II)Z" } : Jvm.MethodName)) ∈ lw_all := lw_g (lw_at lw_m6 157 rfl) rfl
theorem q1473 : (Jvm.Cond.code ({ cls := "OneCoinModel", name := "has", desc := "(II)Z" } : Jvm.MethodName) prog_20_method_6_code (2 : Nat) (Option.some Jvm.ClassFile.FieldType.boolean)) ∈ lw_all := lw_g (lw_at lw_m6 158 rfl) rfl
theorem q1475 : (Jvm.Cond.instanceMethod ({ cls := "OneCoinModel", name := "coin", desc := "(I)Z" } : Jvm.MethodName)) ∈ lw_all := lw_g (lw_at lw_m6 160 rfl) rfl
theorem q1476 : (Jvm.Cond.selects "OneCoinModel" ({ cls := "OneCoinModel", name := "coin", desc := "(I)Z" } : Jvm.MethodName) ({ cls := "OneCoinModel", name := "coin", desc := "(I)Z" } : Jvm.MethodName)) ∈ lw_all := lw_g (lw_at lw_m6 161 rfl) rfl
theorem q1477 : (Jvm.Cond.code ({ cls := "OneCoinModel", name := "coin", desc := "(I)Z" } : Jvm.MethodName) prog_20_method_19_code (2 : Nat) (Option.some Jvm.ClassFile.FieldType.boolean)) ∈ lw_all := lw_g (lw_at lw_m6 162 rfl) rfl
theorem q1478 : (Jvm.Cond.methodLink "OneCoinModel" (156 : Nat) ({ cls := "OneCoinModel", name := "rests", desc := "(I)V" } : Jvm.MethodName)) ∈ lw_all := lw_g (lw_at lw_m6 163 rfl) rfl
theorem q1479 : (Jvm.Cond.privateMethod ({ cls := "OneCoinModel", name := "rests", desc := "(I)V" } : Jvm.MethodName)) ∈ lw_tbl := lw_at lw_m6 164 rfl
theorem q1480 : (Jvm.Cond.instanceMethod ({ cls := "OneCoinModel", name := "rests", desc := "(I)V" } : Jvm.MethodName)) ∈ lw_all := lw_g (lw_at lw_m6 165 rfl) rfl
theorem q1481 : (Jvm.Cond.code ({ cls := "OneCoinModel", name := "rests", desc := "(I)V" } : Jvm.MethodName) prog_20_method_18_code (2 : Nat) (Option.none : Option Jvm.ClassFile.FieldType)) ∈ lw_all := lw_g (lw_at lw_m6 166 rfl) rfl
theorem q1483 : (Jvm.Cond.instanceMethod ({ cls := "OneCoinModel", name := "feed", desc := "(IIIII)I" } : Jvm.MethodName)) ∈ lw_all := lw_g (lw_at lw_m6 168 rfl) rfl
theorem q1484 : (Jvm.Cond.selects "OneCoinModel" ({ cls := "OneCoinModel", name := "feed", desc := "(IIIII)I" } : Jvm.MethodName) ({ cls := "OneCoinModel", name := "feed", desc := "(IIIII)I" } : Jvm.MethodName)) ∈ lw_all := lw_g (lw_at lw_m6 169 rfl) rfl
theorem q1485 : (Jvm.Cond.code ({ cls := "OneCoinModel", name := "feed", desc := "(IIIII)I" } : Jvm.MethodName) prog_20_method_21_code (6 : Nat) (Option.some Jvm.ClassFile.FieldType.int)) ∈ lw_all := lw_g (lw_at lw_m6 170 rfl) rfl
theorem q1486 : (Jvm.Cond.methodLink "OneCoinModel" (163 : Nat) ({ cls := "OneCoinModel", name := "types", desc := "(I)V" } : Jvm.MethodName)) ∈ lw_all := lw_g (lw_at lw_m6 171 rfl) rfl
theorem q1487 : (Jvm.Cond.privateMethod ({ cls := "OneCoinModel", name := "types", desc := "(I)V" } : Jvm.MethodName)) ∈ lw_tbl := lw_at lw_m6 172 rfl
theorem q1488 : (Jvm.Cond.instanceMethod ({ cls := "OneCoinModel", name := "types", desc := "(I)V" } : Jvm.MethodName)) ∈ lw_all := lw_g (lw_at lw_m6 173 rfl) rfl
theorem q1489 : (Jvm.Cond.code ({ cls := "OneCoinModel", name := "types", desc := "(I)V" } : Jvm.MethodName) prog_20_method_20_code (3 : Nat) (Option.none : Option Jvm.ClassFile.FieldType)) ∈ lw_all := lw_g (lw_at lw_m6 174 rfl) rfl
theorem q1491 : (Jvm.Cond.instanceMethod ({ cls := "OneCoinModel", name := "law", desc := "(I)I" } : Jvm.MethodName)) ∈ lw_all := lw_g (lw_at lw_m6 176 rfl) rfl
theorem q1492 : (Jvm.Cond.selects "OneCoinModel" ({ cls := "OneCoinModel", name := "law", desc := "(I)I" } : Jvm.MethodName) ({ cls := "OneCoinModel", name := "law", desc := "(I)I" } : Jvm.MethodName)) ∈ lw_all := lw_g (lw_at lw_m6 177 rfl) rfl
theorem q1493 : (Jvm.Cond.code ({ cls := "OneCoinModel", name := "law", desc := "(I)I" } : Jvm.MethodName) prog_20_method_42_code (4 : Nat) (Option.some Jvm.ClassFile.FieldType.int)) ∈ lw_all := lw_g (lw_at lw_m6 178 rfl) rfl
theorem q1494 : (Jvm.Cond.methodLink "OneCoinModel" (249 : Nat) ({ cls := "OneCoinModel", name := "readsRule", desc := "()Z" } : Jvm.MethodName)) ∈ lw_all := lw_g (lw_at lw_m6 179 rfl) rfl
theorem q1495 : (Jvm.Cond.privateMethod ({ cls := "OneCoinModel", name := "readsRule", desc := "()Z" } : Jvm.MethodName)) ∈ lw_tbl := lw_at lw_m6 180 rfl
theorem q1496 : (Jvm.Cond.instanceMethod ({ cls := "OneCoinModel", name := "readsRule", desc := "()Z" } : Jvm.MethodName)) ∈ lw_all := lw_g (lw_at lw_m6 181 rfl) rfl
theorem q1497 : (Jvm.Cond.code ({ cls := "OneCoinModel", name := "readsRule", desc := "()Z" } : Jvm.MethodName) prog_20_method_41_code (2 : Nat) (Option.some Jvm.ClassFile.FieldType.boolean)) ∈ lw_all := lw_g (lw_at lw_m6 182 rfl) rfl
theorem q1498 : (Jvm.Cond.methodLink "OneCoinModel" (172 : Nat) ({ cls := "OneCoinModel", name := "here", desc := "()I" } : Jvm.MethodName)) ∈ lw_all := lw_g (lw_at lw_m6 183 rfl) rfl
theorem q1499 : (Jvm.Cond.privateMethod ({ cls := "OneCoinModel", name := "here", desc := "()I" } : Jvm.MethodName)) ∈ lw_tbl := lw_at lw_m6 184 rfl
theorem q1500 : (Jvm.Cond.instanceMethod ({ cls := "OneCoinModel", name := "here", desc := "()I" } : Jvm.MethodName)) ∈ lw_all := lw_g (lw_at lw_m6 185 rfl) rfl
theorem q1501 : (Jvm.Cond.code ({ cls := "OneCoinModel", name := "here", desc := "()I" } : Jvm.MethodName) prog_20_method_22_code (1 : Nat) (Option.some Jvm.ClassFile.FieldType.int)) ∈ lw_all := lw_g (lw_at lw_m6 186 rfl) rfl
theorem q1502 : (Jvm.Cond.methodLink "OneCoinModel" (179 : Nat) ({ cls := "OneCoinModel", name := "wrongAt", desc := "(II)Z" } : Jvm.MethodName)) ∈ lw_all := lw_g (lw_at lw_m6 187 rfl) rfl
theorem q1503 : (Jvm.Cond.privateMethod ({ cls := "OneCoinModel", name := "wrongAt", desc := "(II)Z" } : Jvm.MethodName)) ∈ lw_tbl := lw_at lw_m6 188 rfl
theorem q1504 : (Jvm.Cond.instanceMethod ({ cls := "OneCoinModel", name := "wrongAt", desc := "(II)Z" } : Jvm.MethodName)) ∈ lw_all := lw_g (lw_at lw_m6 189 rfl) rfl
theorem q1505 : (Jvm.Cond.code ({ cls := "OneCoinModel", name := "wrongAt", desc := "(II)Z" } : Jvm.MethodName) prog_20_method_24_code (3 : Nat) (Option.some Jvm.ClassFile.FieldType.boolean)) ∈ lw_all := lw_g (lw_at lw_m6 190 rfl) rfl
theorem q1506 : (Jvm.Cond.methodLink "OneCoinModel" (228 : Nat) ({ cls := "OneCoinModel", name := "readsSum", desc := "()Z" } : Jvm.MethodName)) ∈ lw_all := lw_g (lw_at lw_m6 191 rfl) rfl
theorem q1507 : (Jvm.Cond.privateMethod ({ cls := "OneCoinModel", name := "readsSum", desc := "()Z" } : Jvm.MethodName)) ∈ lw_tbl := lw_at lw_m6 192 rfl
theorem q1508 : (Jvm.Cond.instanceMethod ({ cls := "OneCoinModel", name := "readsSum", desc := "()Z" } : Jvm.MethodName)) ∈ lw_all := lw_g (lw_at lw_m6 193 rfl) rfl
theorem q1509 : (Jvm.Cond.code ({ cls := "OneCoinModel", name := "readsSum", desc := "()Z" } : Jvm.MethodName) prog_20_method_35_code (3 : Nat) (Option.some Jvm.ClassFile.FieldType.boolean)) ∈ lw_all := lw_g (lw_at lw_m6 194 rfl) rfl
theorem q1510 : (Jvm.Cond.methodLink "OneCoinModel" (215 : Nat) ({ cls := "OneCoinModel", name := "readsFactor", desc := "()Z" } : Jvm.MethodName)) ∈ lw_all := lw_g (lw_at lw_m6 195 rfl) rfl
theorem q1511 : (Jvm.Cond.privateMethod ({ cls := "OneCoinModel", name := "readsFactor", desc := "()Z" } : Jvm.MethodName)) ∈ lw_tbl := lw_at lw_m6 196 rfl
theorem q1512 : (Jvm.Cond.instanceMethod ({ cls := "OneCoinModel", name := "readsFactor", desc := "()Z" } : Jvm.MethodName)) ∈ lw_all := lw_g (lw_at lw_m6 197 rfl) rfl
theorem q1513 : (Jvm.Cond.code ({ cls := "OneCoinModel", name := "readsFactor", desc := "()Z" } : Jvm.MethodName) prog_20_method_33_code (2 : Nat) (Option.some Jvm.ClassFile.FieldType.boolean)) ∈ lw_all := lw_g (lw_at lw_m6 198 rfl) rfl
theorem q1514 : (Jvm.Cond.methodLink "OneCoinModel" (206 : Nat) ({ cls := "OneCoinModel", name := "opens", desc := "(I)Z" } : Jvm.MethodName)) ∈ lw_all := lw_g (lw_at lw_m6 199 rfl) rfl
theorem q1515 : (Jvm.Cond.privateMethod ({ cls := "OneCoinModel", name := "opens", desc := "(I)Z" } : Jvm.MethodName)) ∈ lw_tbl := lw_at lw_m6 200 rfl
theorem q1516 : (Jvm.Cond.instanceMethod ({ cls := "OneCoinModel", name := "opens", desc := "(I)Z" } : Jvm.MethodName)) ∈ lw_all := lw_g (lw_at lw_m6 201 rfl) rfl
theorem q1517 : (Jvm.Cond.code ({ cls := "OneCoinModel", name := "opens", desc := "(I)Z" } : Jvm.MethodName) prog_20_method_28_code (2 : Nat) (Option.some Jvm.ClassFile.FieldType.boolean)) ∈ lw_all := lw_g (lw_at lw_m6 202 rfl) rfl
theorem q1518 : (Jvm.Cond.constant "OneCoinModel" (192 : Nat) (1048576 : Int32)) ∈ lw_all := lw_g (lw_at lw_m6 203 rfl) rfl
theorem q1519 : (Jvm.Cond.methodLink "OneCoinModel" (185 : Nat) ({ cls := "OneCoinModel", name := "isDigit", desc := "()Z" } : Jvm.MethodName)) ∈ lw_all := lw_g (lw_at lw_m6 204 rfl) rfl
theorem q1520 : (Jvm.Cond.privateMethod ({ cls := "OneCoinModel", name := "isDigit", desc := "()Z" } : Jvm.MethodName)) ∈ lw_tbl := lw_at lw_m6 205 rfl
theorem q1521 : (Jvm.Cond.instanceMethod ({ cls := "OneCoinModel", name := "isDigit", desc := "()Z" } : Jvm.MethodName)) ∈ lw_all := lw_g (lw_at lw_m6 206 rfl) rfl
theorem q1522 : (Jvm.Cond.code ({ cls := "OneCoinModel", name := "isDigit", desc := "()Z" } : Jvm.MethodName) prog_20_method_23_code (1 : Nat) (Option.some Jvm.ClassFile.FieldType.boolean)) ∈ lw_all := lw_g (lw_at lw_m6 207 rfl) rfl
theorem q1523 : (Jvm.Cond.methodLink "OneCoinModel" (209 : Nat) ({ cls := "OneCoinModel", name := "readsNumber", desc := "()Z" } : Jvm.MethodName)) ∈ lw_all := lw_g (lw_at lw_m6 208 rfl) rfl
theorem q1524 : (Jvm.Cond.privateMethod ({ cls := "OneCoinModel", name := "readsNumber", desc := "()Z" } : Jvm.MethodName)) ∈ lw_tbl := lw_at lw_m6 209 rfl
theorem q1525 : (Jvm.Cond.instanceMethod ({ cls := "OneCoinModel", name := "readsNumber", desc := "()Z" } : Jvm.MethodName)) ∈ lw_all := lw_g (lw_at lw_m6 210 rfl) rfl
theorem q1526 : (Jvm.Cond.code ({ cls := "OneCoinModel", name := "readsNumber", desc := "()Z" } : Jvm.MethodName) prog_20_method_26_code (2 : Nat) (Option.some Jvm.ClassFile.FieldType.boolean)) ∈ lw_all := lw_g (lw_at lw_m6 211 rfl) rfl
theorem q1527 : (Jvm.Cond.methodLink "OneCoinModel" (202 : Nat) ({ cls := "OneCoinModel", name := "notes", desc := "(II)V" } : Jvm.MethodName)) ∈ lw_all := lw_g (lw_at lw_m6 212 rfl) rfl
theorem q1528 : (Jvm.Cond.privateMethod ({ cls := "OneCoinModel", name := "notes", desc := "(II)V" } : Jvm.MethodName)) ∈ lw_tbl := lw_at lw_m6 213 rfl
theorem q1529 : (Jvm.Cond.instanceMethod ({ cls := "OneCoinModel", name := "notes", desc := "(II)V" } : Jvm.MethodName)) ∈ lw_all := lw_g (lw_at lw_m6 214 rfl) rfl
theorem q1530 : (Jvm.Cond.code ({ cls := "OneCoinModel", name := "notes", desc := "(II)V" } : Jvm.MethodName) prog_20_method_27_code (3 : Nat) (Option.none : Option Jvm.ClassFile.FieldType)) ∈ lw_all := lw_g (lw_at lw_m6 215 rfl) rfl
theorem q1531 : (Jvm.Cond.methodLink "OneCoinModel" (212 : Nat) ({ cls := "OneCoinModel", name := "factOf", desc := "(I)I" } : Jvm.MethodName)) ∈ lw_all := lw_g (lw_at lw_m6 216 rfl) rfl
theorem q1532 : (Jvm.Cond.static ({ cls := "OneCoinModel", name := "factOf", desc := "(I)I" } : Jvm.MethodName)) ∈ lw_all := lw_g (lw_at lw_m6 217 rfl) rfl
theorem q1533 : (Jvm.Cond.code ({ cls := "OneCoinModel", name := "factOf", desc := "(I)I" } : Jvm.MethodName) prog_20_method_30_code (1 : Nat) (Option.some Jvm.ClassFile.FieldType.int)) ∈ lw_all := lw_g (lw_at lw_m6 218 rfl) rfl
theorem q1534 : (Jvm.Cond.methodLink "OneCoinModel" (218 : Nat) ({ cls := "OneCoinModel", name := "sumSign", desc := "(I)I" } : Jvm.MethodName)) ∈ lw_all := lw_g (lw_at lw_m6 219 rfl) rfl
theorem q1535 : (Jvm.Cond.static ({ cls := "OneCoinModel", name := "sumSign", desc := "(I)I" } : Jvm.MethodName)) ∈ lw_all := lw_g (lw_at lw_m6 220 rfl) rfl
theorem q1536 : (Jvm.Cond.code ({ cls := "OneCoinModel", name := "sumSign", desc := "(I)I" } : Jvm.MethodName) prog_20_method_31_code (1 : Nat) (Option.some Jvm.ClassFile.FieldType.int)) ∈ lw_all := lw_g (lw_at lw_m6 221 rfl) rfl
theorem q1537 : (Jvm.Cond.methodLink "OneCoinModel" (221 : Nat) ({ cls := "OneCoinModel", name := "closesSums", desc := "(Z)V" } : Jvm.MethodName)) ∈ lw_all := lw_g (lw_at lw_m6 222 rfl) rfl
theorem q1538 : (Jvm.Cond.privateMethod ({ cls := "OneCoinModel", name := "closesSums", desc := "(Z)V" } : Jvm.MethodName)) ∈ lw_tbl := lw_at lw_m6 223 rfl
theorem q1539 : (Jvm.Cond.instanceMethod ({ cls := "OneCoinModel", name := "closesSums", desc := "(Z)V" } : Jvm.MethodName)) ∈ lw_all := lw_g (lw_at lw_m6 224 rfl) rfl
theorem q1540 : (Jvm.Cond.code ({ cls := "OneCoinModel", name := "closesSums", desc := "(Z)V" } : Jvm.MethodName) prog_20_method_32_code (2 : Nat) (Option.none : Option Jvm.ClassFile.FieldType)) ∈ lw_all := lw_g (lw_at lw_m6 225 rfl) rfl
theorem q1541 : (Jvm.Cond.methodLink "OneCoinModel" (199 : Nat) ({ cls := "OneCoinModel", name := "waitTop", desc := "()I" } : Jvm.MethodName)) ∈ lw_all := lw_g (lw_at lw_m6 226 rfl) rfl
theorem q1542 : (Jvm.Cond.privateMethod ({ cls := "OneCoinModel", name := "waitTop", desc := "()I" } : Jvm.MethodName)) ∈ lw_tbl := lw_at lw_m6 227 rfl
theorem q1543 : (Jvm.Cond.instanceMethod ({ cls := "OneCoinModel", name := "waitTop", desc := "()I" } : Jvm.MethodName)) ∈ lw_all := lw_g (lw_at lw_m6 228 rfl) rfl
theorem q1544 : (Jvm.Cond.code ({ cls := "OneCoinModel", name := "waitTop", desc := "()I" } : Jvm.MethodName) prog_20_method_29_code (1 : Nat) (Option.some Jvm.ClassFile.FieldType.int)) ∈ lw_all := lw_g (lw_at lw_m6 229 rfl) rfl
theorem q1545 : (Jvm.Cond.methodLink "OneCoinModel" (225 : Nat) ({ cls := "OneCoinModel", name := "hasOpenSum", desc := "(I)Z" } : Jvm.MethodName)) ∈ lw_all := lw_g (lw_at lw_m6 230 rfl) rfl
theorem q1546 : (Jvm.Cond.privateMethod ({ cls := "OneCoinModel", name := "hasOpenSum", desc := "(I)Z" } : Jvm.MethodName)) ∈ lw_tbl := lw_at lw_m6 231 rfl
theorem q1547 : (Jvm.Cond.instanceMethod ({ cls := "OneCoinModel", name := "hasOpenSum", desc := "(I)Z" } : Jvm.MethodName)) ∈ lw_all := lw_g (lw_at lw_m6 232 rfl) rfl
theorem q1548 : (Jvm.Cond.code ({ cls := "OneCoinModel", name := "hasOpenSum", desc := "(I)Z" } : Jvm.MethodName) prog_20_method_34_code (3 : Nat) (Option.some Jvm.ClassFile.FieldType.boolean)) ∈ lw_all := lw_g (lw_at lw_m6 233 rfl) rfl
theorem q1549 : (Jvm.Cond.methodLink "OneCoinModel" (246 : Nat) ({ cls := "OneCoinModel", name := "readsCondition", desc := "()Z" } : Jvm.MethodName)) ∈ lw_all := lw_g (lw_at lw_m6 234 rfl) rfl
theorem q1550 : (Jvm.Cond.privateMethod ({ cls := "OneCoinModel", name := "readsCondition", desc := "()Z" } : Jvm.MethodName)) ∈ lw_tbl := lw_at lw_m6 235 rfl
theorem q1551 : (Jvm.Cond.instanceMethod ({ cls := "OneCoinModel", name := "readsCondition", desc := "()Z" } : Jvm.MethodName)) ∈ lw_all := lw_g (lw_at lw_m6 236 rfl) rfl
theorem q1552 : (Jvm.Cond.code ({ cls := "OneCoinModel", name := "readsCondition", desc := "()Z" } : Jvm.MethodName) prog_20_method_40_code (1 : Nat) (Option.some Jvm.ClassFile.FieldType.boolean)) ∈ lw_all := lw_g (lw_at lw_m6 237 rfl) rfl
theorem q1553 : (Jvm.Cond.methodLink "OneCoinModel" (234 : Nat) ({ cls := "OneCoinModel", name := "readsCompared", desc := "()Z" } : Jvm.MethodName)) ∈ lw_all := lw_g (lw_at lw_m6 238 rfl) rfl
theorem q1554 : (Jvm.Cond.privateMethod ({ cls := "OneCoinModel", name := "readsCompared", desc := "()Z" } : Jvm.MethodName)) ∈ lw_tbl := lw_at lw_m6 239 rfl
theorem q1555 : (Jvm.Cond.instanceMethod ({ cls := "OneCoinModel", name := "readsCompared", desc := "()Z" } : Jvm.MethodName)) ∈ lw_all := lw_g (lw_at lw_m7 0 rfl) rfl
theorem q1556 : (Jvm.Cond.code ({ cls := "OneCoinModel", name := "readsCompared", desc := "()Z" } : Jvm.MethodName) prog_20_method_39_code (2 : Nat) (Option.some Jvm.ClassFile.FieldType.boolean)) ∈ lw_all := lw_g (lw_at lw_m7 1 rfl) rfl
theorem q1557 : (Jvm.Cond.methodLink "OneCoinModel" (231 : Nat) ({ cls := "OneCoinModel", name := "endsPiece", desc := "()V" } : Jvm.MethodName)) ∈ lw_all := lw_g (lw_at lw_m7 2 rfl) rfl
theorem q1558 : (Jvm.Cond.privateMethod ({ cls := "OneCoinModel", name := "endsPiece", desc := "()V" } : Jvm.MethodName)) ∈ lw_tbl := lw_at lw_m7 3 rfl
theorem q1559 : (Jvm.Cond.instanceMethod ({ cls := "OneCoinModel", name := "endsPiece", desc := "()V" } : Jvm.MethodName)) ∈ lw_all := lw_g (lw_at lw_m7 4 rfl) rfl
theorem q1560 : (Jvm.Cond.code ({ cls := "OneCoinModel", name := "endsPiece", desc := "()V" } : Jvm.MethodName) prog_20_method_36_code (1 : Nat) (Option.none : Option Jvm.ClassFile.FieldType)) ∈ lw_all := lw_g (lw_at lw_m7 5 rfl) rfl
theorem q1561 : (Jvm.Cond.methodLink "OneCoinModel" (237 : Nat) ({ cls := "OneCoinModel", name := "lands", desc := "(Z)V" } : Jvm.MethodName)) ∈ lw_all := lw_g (lw_at lw_m7 6 rfl) rfl
theorem q1562 : (Jvm.Cond.privateMethod ({ cls := "OneCoinModel", name := "lands", desc := "(Z)V" } : Jvm.MethodName)) ∈ lw_tbl := lw_at lw_m7 7 rfl
theorem q1563 : (Jvm.Cond.instanceMethod ({ cls := "OneCoinModel", name := "lands", desc := "(Z)V" } : Jvm.MethodName)) ∈ lw_all := lw_g (lw_at lw_m7 8 rfl) rfl
theorem q1564 : (Jvm.Cond.code ({ cls := "OneCoinModel", name := "lands", desc := "(Z)V" } : Jvm.MethodName) prog_20_method_37_code (3 : Nat) (Option.none : Option Jvm.ClassFile.FieldType)) ∈ lw_all := lw_g (lw_at lw_m7 9 rfl) rfl
theorem q1565 : (Jvm.Cond.methodLink "OneCoinModel" (240 : Nat) ({ cls := "OneCoinModel", name := "jumps", desc := "(I)V" } : Jvm.MethodName)) ∈ lw_all := lw_g (lw_at lw_m7 10 rfl) rfl
theorem q1566 : (Jvm.Cond.privateMethod ({ cls := "OneCoinModel", name := "jumps", desc := "(I)V" } : Jvm.MethodName)) ∈ lw_tbl := lw_at lw_m7 11 rfl
theorem q1567 : (Jvm.Cond.instanceMethod ({ cls := "OneCoinModel", name := "jumps", desc := "(I)V" } : Jvm.MethodName)) ∈ lw_all := lw_g (lw_at lw_m7 12 rfl) rfl
theorem q1568 : (Jvm.Cond.code ({ cls := "OneCoinModel", name := "jumps", desc := "(I)V" } : Jvm.MethodName) prog_20_method_38_code (2 : Nat) (Option.none : Option Jvm.ClassFile.FieldType)) ∈ lw_all := lw_g (lw_at lw_m7 13 rfl) rfl
theorem q1569 : (Jvm.Cond.methodLink "OneCoinModel" (252 : Nat) ({ cls := "OneCoinModel", name := "takes", desc := "(I)Z" } : Jvm.MethodName)) ∈ lw_all := lw_g (lw_at lw_m7 14 rfl) rfl
theorem q1570 : (Jvm.Cond.privateMethod ({ cls := "OneCoinModel", name := "takes", desc := "(I)Z" } : Jvm.MethodName)) ∈ lw_tbl := lw_at lw_m7 15 rfl
theorem q1571 : (Jvm.Cond.instanceMethod ({ cls := "OneCoinModel", name := "takes", desc := "(I)Z" } : Jvm.MethodName)) ∈ lw_all := lw_g (lw_at lw_m7 16 rfl) rfl
theorem q1572 : (Jvm.Cond.code ({ cls := "OneCoinModel", name := "takes", desc := "(I)Z" } : Jvm.MethodName) prog_20_method_25_code (2 : Nat) (Option.some Jvm.ClassFile.FieldType.boolean)) ∈ lw_all := lw_g (lw_at lw_m7 17 rfl) rfl
theorem q1574 : (Jvm.Cond.instanceMethod ({ cls := "OneCoinModel", name := "debts", desc := "(I)I" } : Jvm.MethodName)) ∈ lw_all := lw_g (lw_at lw_m7 19 rfl) rfl
theorem q1575 : (Jvm.Cond.selects "OneCoinModel" ({ cls := "OneCoinModel", name := "debts", desc := "(I)I" } : Jvm.MethodName) ({ cls := "OneCoinModel", name := "debts", desc := "(I)I" } : Jvm.MethodName)) ∈ lw_all := lw_g (lw_at lw_m7 20 rfl) rfl
theorem q1576 : (Jvm.Cond.code ({ cls := "OneCoinModel", name := "debts", desc := "(I)I" } : Jvm.MethodName) prog_20_method_54_code (4 : Nat) (Option.some Jvm.ClassFile.FieldType.int)) ∈ lw_all := lw_g (lw_at lw_m7 21 rfl) rfl
theorem q1577 : (Jvm.Cond.methodLink "OneCoinModel" (293 : Nat) ({ cls := "OneCoinModel", name := "readsLine", desc := "()Z" } : Jvm.MethodName)) ∈ lw_all := lw_g (lw_at lw_m7 22 rfl) rfl
theorem q1578 : (Jvm.Cond.privateMethod ({ cls := "OneCoinModel", name := "readsLine", desc := "()Z" } : Jvm.MethodName)) ∈ lw_tbl := lw_at lw_m7 23 rfl
theorem q1579 : (Jvm.Cond.instanceMethod ({ cls := "OneCoinModel", name := "readsLine", desc := "()Z" } : Jvm.MethodName)) ∈ lw_all := lw_g (lw_at lw_m7 24 rfl) rfl
theorem q1580 : (Jvm.Cond.code ({ cls := "OneCoinModel", name := "readsLine", desc := "()Z" } : Jvm.MethodName) prog_20_method_53_code (5 : Nat) (Option.some Jvm.ClassFile.FieldType.boolean)) ∈ lw_all := lw_g (lw_at lw_m7 25 rfl) rfl
theorem q1581 : (Jvm.Cond.methodLink "OneCoinModel" (286 : Nat) ({ cls := "OneCoinModel", name := "readsPerson", desc := "(Z)Z" } : Jvm.MethodName)) ∈ lw_all := lw_g (lw_at lw_m7 26 rfl) rfl
theorem q1582 : (Jvm.Cond.privateMethod ({ cls := "OneCoinModel", name := "readsPerson", desc := "(Z)Z" } : Jvm.MethodName)) ∈ lw_tbl := lw_at lw_m7 27 rfl
theorem q1583 : (Jvm.Cond.instanceMethod ({ cls := "OneCoinModel", name := "readsPerson", desc := "(Z)Z" } : Jvm.MethodName)) ∈ lw_all := lw_g (lw_at lw_m7 28 rfl) rfl
theorem q1584 : (Jvm.Cond.code ({ cls := "OneCoinModel", name := "readsPerson", desc := "(Z)Z" } : Jvm.MethodName) prog_20_method_52_code (2 : Nat) (Option.some Jvm.ClassFile.FieldType.boolean)) ∈ lw_all := lw_g (lw_at lw_m7 29 rfl) rfl
theorem q1585 : (Jvm.Cond.methodLink "OneCoinModel" (290 : Nat) ({ cls := "OneCoinModel", name := "min", desc := "(II)I" } : Jvm.MethodName)) ∈ lw_all := lw_g (lw_at lw_m7 30 rfl) rfl
theorem q1586 : (Jvm.Cond.static ({ cls := "OneCoinModel", name := "min", desc := "(II)I" } : Jvm.MethodName)) ∈ lw_all := lw_g (lw_at lw_m7 31 rfl) rfl
theorem q1587 : (Jvm.Cond.code ({ cls := "OneCoinModel", name := "min", desc := "(II)I" } : Jvm.MethodName) prog_20_method_3_code (2 : Nat) (Option.some Jvm.ClassFile.FieldType.int)) ∈ lw_all := lw_g (lw_at lw_m7 32 rfl) rfl
theorem q1588 : (Jvm.Cond.methodLink "OneCoinModel" (296 : Nat) ({ cls := "OneCoinModel", name := "owedInAll", desc := "()I" } : Jvm.MethodName)) ∈ lw_all := lw_g (lw_at lw_m7 33 rfl) rfl
theorem q1589 : (Jvm.Cond.privateMethod ({ cls := "OneCoinModel", name := "owedInAll", desc := "()I" } : Jvm.MethodName)) ∈ lw_tbl := lw_at lw_m7 34 rfl
theorem q1590 : (Jvm.Cond.instanceMethod ({ cls := "OneCoinModel", name := "owedInAll", desc := "()I" } : Jvm.MethodName)) ∈ lw_all := lw_g (lw_at lw_m7 35 rfl) rfl
theorem q1591 : (Jvm.Cond.code ({ cls := "OneCoinModel", name := "owedInAll", desc := "()I" } : Jvm.MethodName) prog_20_method_15_code (3 : Nat) (Option.some Jvm.ClassFile.FieldType.int)) ∈ lw_all := lw_g (lw_at lw_m7 36 rfl) rfl
theorem q1592 : (Jvm.Cond.methodLink "OneCoinModel" (150 : Nat) ({ cls := "OneCoinModel", name := "owesAll", desc := "(I)I" } : Jvm.MethodName)) ∈ lw_all := lw_g (lw_at lw_m7 37 rfl) rfl
theorem q1593 : (Jvm.Cond.privateMethod ({ cls := "OneCoinModel", name := "owesAll", desc := "(I)I" } : Jvm.MethodName)) ∈ lw_tbl := lw_at lw_m7 38 rfl
theorem q1594 : (Jvm.Cond.instanceMethod ({ cls := "OneCoinModel", name := "owesAll", desc := "(I)I" } : Jvm.MethodName)) ∈ lw_all := lw_g (lw_at lw_m7 39 rfl) rfl
theorem q1595 : (Jvm.Cond.code ({ cls := "OneCoinModel", name := "owesAll", desc := "(I)I" } : Jvm.MethodName) prog_20_method_13_code (4 : Nat) (Option.some Jvm.ClassFile.FieldType.int)) ∈ lw_all := lw_g (lw_at lw_m7 40 rfl) rfl
theorem q1596 : (Jvm.Cond.methodLink "OneCoinModel" (147 : Nat) ({ cls := "OneCoinModel", name := "debtOf", desc := "(II)I" } : Jvm.MethodName)) ∈ lw_all := lw_g (lw_at lw_m7 41 rfl) rfl
theorem q1597 : (Jvm.Cond.privateMethod ({ cls := "OneCoinModel", name := "debtOf", desc := "(II)I" } : Jvm.MethodName)) ∈ lw_tbl := lw_at lw_m7 42 rfl
theorem q1598 : (Jvm.Cond.instanceMethod ({ cls := "OneCoinModel", name := "debtOf", desc := "(II)I" } : Jvm.MethodName)) ∈ lw_all := lw_g (lw_at lw_m7 43 rfl) rfl
theorem q1599 : (Jvm.Cond.code ({ cls := "OneCoinModel", name := "debtOf", desc := "(II)I" } : Jvm.MethodName) prog_20_method_12_code (3 : Nat) (Option.some Jvm.ClassFile.FieldType.int)) ∈ lw_all := lw_g (lw_at lw_m7 44 rfl) rfl
theorem q1601 : (Jvm.Cond.instanceMethod ({ cls := "OneCoinModel", name := "hours", desc := "(I)I" } : Jvm.MethodName)) ∈ lw_all := lw_g (lw_at lw_m7 46 rfl) rfl
theorem q1602 : (Jvm.Cond.selects "OneCoinModel" ({ cls := "OneCoinModel", name := "hours", desc := "(I)I" } : Jvm.MethodName) ({ cls := "OneCoinModel", name := "hours", desc := "(I)I" } : Jvm.MethodName)) ∈ lw_all := lw_g (lw_at lw_m7 47 rfl) rfl
theorem q1603 : (Jvm.Cond.code ({ cls := "OneCoinModel", name := "hours", desc := "(I)I" } : Jvm.MethodName) prog_20_method_64_code (2 : Nat) (Option.some Jvm.ClassFile.FieldType.int)) ∈ lw_all := lw_g (lw_at lw_m7 48 rfl) rfl
theorem q1604 : (Jvm.Cond.methodLink "OneCoinModel" (342 : Nat) ({ cls := "OneCoinModel", name := "hoursGo", desc := "(I)V" } : Jvm.MethodName)) ∈ lw_all := lw_g (lw_at lw_m7 49 rfl) rfl
theorem q1605 : (Jvm.Cond.privateMethod ({ cls := "OneCoinModel", name := "hoursGo", desc := "(I)V" } : Jvm.MethodName)) ∈ lw_tbl := lw_at lw_m7 50 rfl
theorem q1606 : (Jvm.Cond.instanceMethod ({ cls := "OneCoinModel", name := "hoursGo", desc := "(I)V" } : Jvm.MethodName)) ∈ lw_all := lw_g (lw_at lw_m7 51 rfl) rfl
theorem q1607 : (Jvm.Cond.code ({ cls := "OneCoinModel", name := "hoursGo", desc := "(I)V" } : Jvm.MethodName) prog_20_method_63_code (3 : Nat) (Option.none : Option Jvm.ClassFile.FieldType)) ∈ lw_all := lw_g (lw_at lw_m7 52 rfl) rfl
theorem q1608 : (Jvm.Cond.methodLink "OneCoinModel" (336 : Nat) ({ cls := "OneCoinModel", name := "begins", desc := "()V" } : Jvm.MethodName)) ∈ lw_all := lw_g (lw_at lw_m7 53 rfl) rfl
theorem q1609 : (Jvm.Cond.privateMethod ({ cls := "OneCoinModel", name := "begins", desc := "()V" } : Jvm.MethodName)) ∈ lw_tbl := lw_at lw_m7 54 rfl
theorem q1610 : (Jvm.Cond.instanceMethod ({ cls := "OneCoinModel", name := "begins", desc := "()V" } : Jvm.MethodName)) ∈ lw_all := lw_g (lw_at lw_m7 55 rfl) rfl
theorem q1611 : (Jvm.Cond.code ({ cls := "OneCoinModel", name := "begins", desc := "()V" } : Jvm.MethodName) prog_20_method_62_code (1 : Nat) (Option.none : Option Jvm.ClassFile.FieldType)) ∈ lw_all := lw_g (lw_at lw_m7 56 rfl) rfl
theorem q1612 : (Jvm.Cond.methodLink "OneCoinModel" (339 : Nat) ({ cls := "OneCoinModel", name := "hourGoes", desc := "()V" } : Jvm.MethodName)) ∈ lw_all := lw_g (lw_at lw_m7 57 rfl) rfl
theorem q1613 : (Jvm.Cond.privateMethod ({ cls := "OneCoinModel", name := "hourGoes", desc := "()V" } : Jvm.MethodName)) ∈ lw_tbl := lw_at lw_m7 58 rfl
theorem q1614 : (Jvm.Cond.instanceMethod ({ cls := "OneCoinModel", name := "hourGoes", desc := "()V" } : Jvm.MethodName)) ∈ lw_all := lw_g (lw_at lw_m7 59 rfl) rfl
theorem q1615 : (Jvm.Cond.code ({ cls := "OneCoinModel", name := "hourGoes", desc := "()V" } : Jvm.MethodName) prog_20_method_61_code (1 : Nat) (Option.none : Option Jvm.ClassFile.FieldType)) ∈ lw_all := lw_g (lw_at lw_m7 60 rfl) rfl
theorem q1616 : (Jvm.Cond.methodLink "OneCoinModel" (324 : Nat) ({ cls := "OneCoinModel", name := "dayBegins", desc := "()V" } : Jvm.MethodName)) ∈ lw_all := lw_g (lw_at lw_m7 61 rfl) rfl
theorem q1617 : (Jvm.Cond.privateMethod ({ cls := "OneCoinModel", name := "dayBegins", desc := "()V" } : Jvm.MethodName)) ∈ lw_tbl := lw_at lw_m7 62 rfl
theorem q1618 : (Jvm.Cond.instanceMethod ({ cls := "OneCoinModel", name := "dayBegins", desc := "()V" } : Jvm.MethodName)) ∈ lw_all := lw_g (lw_at lw_m7 63 rfl) rfl
theorem q1619 : (Jvm.Cond.code ({ cls := "OneCoinModel", name := "dayBegins", desc := "()V" } : Jvm.MethodName) prog_20_method_57_code (4 : Nat) (Option.none : Option Jvm.ClassFile.FieldType)) ∈ lw_all := lw_g (lw_at lw_m7 64 rfl) rfl
theorem q1620 : (Jvm.Cond.constant "OneCoinModel" (302 : Nat) (65536 : Int32)) ∈ lw_all := lw_g (lw_at lw_m7 65 rfl) rfl
theorem q1621 : (Jvm.Cond.methodLink "OneCoinModel" (303 : Nat) ({ cls := "OneCoinModel", name := "rainBy", desc := "()I" } : Jvm.MethodName)) ∈ lw_all := lw_g (lw_at lw_m7 66 rfl) rfl
theorem q1622 : (Jvm.Cond.privateMethod ({ cls := "OneCoinModel", name := "rainBy", desc := "()I" } : Jvm.MethodName)) ∈ lw_tbl := lw_at lw_m7 67 rfl
theorem q1623 : (Jvm.Cond.instanceMethod ({ cls := "OneCoinModel", name := "rainBy", desc := "()I" } : Jvm.MethodName)) ∈ lw_all := lw_g (lw_at lw_m7 68 rfl) rfl
theorem q1624 : (Jvm.Cond.code ({ cls := "OneCoinModel", name := "rainBy", desc := "()I" } : Jvm.MethodName) prog_20_method_51_code (1 : Nat) (Option.some Jvm.ClassFile.FieldType.int)) ∈ lw_all := lw_g (lw_at lw_m7 69 rfl) rfl
theorem q1625 : (Jvm.Cond.methodLink "OneCoinModel" (265 : Nat) ({ cls := "OneCoinModel", name := "feels", desc := "(I)V" } : Jvm.MethodName)) ∈ lw_all := lw_g (lw_at lw_m7 70 rfl) rfl
theorem q1626 : (Jvm.Cond.privateMethod ({ cls := "OneCoinModel", name := "feels", desc := "(I)V" } : Jvm.MethodName)) ∈ lw_tbl := lw_at lw_m7 71 rfl
theorem q1627 : (Jvm.Cond.instanceMethod ({ cls := "OneCoinModel", name := "feels", desc := "(I)V" } : Jvm.MethodName)) ∈ lw_all := lw_g (lw_at lw_m7 72 rfl) rfl
theorem q1628 : (Jvm.Cond.code ({ cls := "OneCoinModel", name := "feels", desc := "(I)V" } : Jvm.MethodName) prog_20_method_48_code (3 : Nat) (Option.none : Option Jvm.ClassFile.FieldType)) ∈ lw_all := lw_g (lw_at lw_m7 73 rfl) rfl
theorem q1629 : (Jvm.Cond.methodLink "OneCoinModel" (280 : Nat) ({ cls := "OneCoinModel", name := "byLaw", desc := "(II)I" } : Jvm.MethodName)) ∈ lw_all := lw_g (lw_at lw_m7 74 rfl) rfl
theorem q1630 : (Jvm.Cond.privateMethod ({ cls := "OneCoinModel", name := "byLaw", desc := "(II)I" } : Jvm.MethodName)) ∈ lw_tbl := lw_at lw_m7 75 rfl
theorem q1631 : (Jvm.Cond.instanceMethod ({ cls := "OneCoinModel", name := "byLaw", desc := "(II)I" } : Jvm.MethodName)) ∈ lw_all := lw_g (lw_at lw_m7 76 rfl) rfl
theorem q1632 : (Jvm.Cond.code ({ cls := "OneCoinModel", name := "byLaw", desc := "(II)I" } : Jvm.MethodName) prog_20_method_45_code (5 : Nat) (Option.some Jvm.ClassFile.FieldType.int)) ∈ lw_all := lw_g (lw_at lw_m7 77 rfl) rfl
theorem q1633 : (Jvm.Cond.methodLink "OneCoinModel" (262 : Nat) ({ cls := "OneCoinModel", name := "comesTo", desc := "(II)I" } : Jvm.MethodName)) ∈ lw_all := lw_g (lw_at lw_m7 78 rfl) rfl
theorem q1634 : (Jvm.Cond.privateMethod ({ cls := "OneCoinModel", name := "comesTo", desc := "(II)I" } : Jvm.MethodName)) ∈ lw_tbl := lw_at lw_m7 79 rfl
theorem q1635 : (Jvm.Cond.instanceMethod ({ cls := "OneCoinModel", name := "comesTo", desc := "(II)I" } : Jvm.MethodName)) ∈ lw_all := lw_g (lw_at lw_m7 80 rfl) rfl
theorem q1636 : (Jvm.Cond.code ({ cls := "OneCoinModel", name := "comesTo", desc := "(II)I" } : Jvm.MethodName) prog_20_method_44_code (8 : Nat) (Option.some Jvm.ClassFile.FieldType.int)) ∈ lw_all := lw_g (lw_at lw_m7 81 rfl) rfl
theorem q1637 : (Jvm.Cond.methodLink "OneCoinModel" (258 : Nat) ({ cls := "OneCoinModel", name := "reckon", desc := "(III)I" } : Jvm.MethodName)) ∈ lw_all := lw_g (lw_at lw_m7 82 rfl) rfl
theorem q1638 : (Jvm.Cond.static ({ cls := "OneCoinModel", name := "reckon", desc := "(III)I" } : Jvm.MethodName)) ∈ lw_all := lw_g (lw_at lw_m7 83 rfl) rfl
theorem q1639 : (Jvm.Cond.code ({ cls := "OneCoinModel", name := "reckon", desc := "(III)I" } : Jvm.MethodName) prog_20_method_43_code (3 : Nat) (Option.some Jvm.ClassFile.FieldType.int)) ∈ lw_all := lw_g (lw_at lw_m7 84 rfl) rfl
theorem q1640 : (Jvm.Cond.methodLink "OneCoinModel" (274 : Nat) ({ cls := "OneCoinModel", name := "feelsTwo", desc := "(II)V" } : Jvm.MethodName)) ∈ lw_all := lw_g (lw_at lw_m7 85 rfl) rfl
theorem q1641 : (Jvm.Cond.privateMethod ({ cls := "OneCoinModel", name := "feelsTwo", desc := "(II)V" } : Jvm.MethodName)) ∈ lw_tbl := lw_at lw_m7 86 rfl
theorem q1642 : (Jvm.Cond.instanceMethod ({ cls := "OneCoinModel", name := "feelsTwo", desc := "(II)V" } : Jvm.MethodName)) ∈ lw_all := lw_g (lw_at lw_m7 87 rfl) rfl
theorem q1643 : (Jvm.Cond.code ({ cls := "OneCoinModel", name := "feelsTwo", desc := "(II)V" } : Jvm.MethodName) prog_20_method_49_code (3 : Nat) (Option.none : Option Jvm.ClassFile.FieldType)) ∈ lw_all := lw_g (lw_at lw_m7 88 rfl) rfl
theorem q1644 : (Jvm.Cond.methodLink "OneCoinModel" (268 : Nat) ({ cls := "OneCoinModel", name := "wayOf", desc := "(II)I" } : Jvm.MethodName)) ∈ lw_all := lw_g (lw_at lw_m7 89 rfl) rfl
theorem q1645 : (Jvm.Cond.privateMethod ({ cls := "OneCoinModel", name := "wayOf", desc := "(II)I" } : Jvm.MethodName)) ∈ lw_tbl := lw_at lw_m7 90 rfl
theorem q1646 : (Jvm.Cond.instanceMethod ({ cls := "OneCoinModel", name := "wayOf", desc := "(II)I" } : Jvm.MethodName)) ∈ lw_all := lw_g (lw_at lw_m7 91 rfl) rfl
theorem q1647 : (Jvm.Cond.code ({ cls := "OneCoinModel", name := "wayOf", desc := "(II)I" } : Jvm.MethodName) prog_20_method_11_code (3 : Nat) (Option.some Jvm.ClassFile.FieldType.int)) ∈ lw_all := lw_g (lw_at lw_m7 92 rfl) rfl
theorem q1648 : (Jvm.Cond.methodLink "OneCoinModel" (139 : Nat) ({ cls := "OneCoinModel", name := "size", desc := "(I)I" } : Jvm.MethodName)) ∈ lw_all := lw_g (lw_at lw_m7 93 rfl) rfl
theorem q1649 : (Jvm.Cond.static ({ cls := "OneCoinModel", name := "size", desc := "(I)I" } : Jvm.MethodName)) ∈ lw_all := lw_g (lw_at lw_m7 94 rfl) rfl
theorem q1650 : (Jvm.Cond.code ({ cls := "OneCoinModel", name := "size", desc := "(I)I" } : Jvm.MethodName) prog_20_method_5_code (1 : Nat) (Option.some Jvm.ClassFile.FieldType.int)) ∈ lw_all := lw_g (lw_at lw_m7 95 rfl) rfl
theorem q1651 : (Jvm.Cond.methodLink "OneCoinModel" (143 : Nat) ({ cls := "OneCoinModel", name := "max", desc := "(II)I" } : Jvm.MethodName)) ∈ lw_all := lw_g (lw_at lw_m7 96 rfl) rfl
theorem q1652 : (Jvm.Cond.static ({ cls := "OneCoinModel", name := "max", desc := "(II)I" } : Jvm.MethodName)) ∈ lw_all := lw_g (lw_at lw_m7 97 rfl) rfl
theorem q1653 : (Jvm.Cond.code ({ cls := "OneCoinModel", name := "max", desc := "(II)I" } : Jvm.MethodName) prog_20_method_4_code (2 : Nat) (Option.some Jvm.ClassFile.FieldType.int)) ∈ lw_all := lw_g (lw_at lw_m7 98 rfl) rfl
theorem q1654 : (Jvm.Cond.methodLink "OneCoinModel" (271 : Nat) ({ cls := "OneCoinModel", name := "chalksOf", desc := "(I)I" } : Jvm.MethodName)) ∈ lw_all := lw_g (lw_at lw_m7 99 rfl) rfl
theorem q1655 : (Jvm.Cond.privateMethod ({ cls := "OneCoinModel", name := "chalksOf", desc := "(I)I" } : Jvm.MethodName)) ∈ lw_tbl := lw_at lw_m7 100 rfl
theorem q1656 : (Jvm.Cond.instanceMethod ({ cls := "OneCoinModel", name := "chalksOf", desc := "(I)I" } : Jvm.MethodName)) ∈ lw_all := lw_g (lw_at lw_m7 101 rfl) rfl
theorem q1657 : (Jvm.Cond.code ({ cls := "OneCoinModel", name := "chalksOf", desc := "(I)I" } : Jvm.MethodName) prog_20_method_47_code (4 : Nat) (Option.some Jvm.ClassFile.FieldType.int)) ∈ lw_all := lw_g (lw_at lw_m7 102 rfl) rfl
theorem q1658 : (Jvm.Cond.methodLink "OneCoinModel" (327 : Nat) ({ cls := "OneCoinModel", name := "pays", desc := "(II)V" } : Jvm.MethodName)) ∈ lw_all := lw_g (lw_at lw_m7 103 rfl) rfl
theorem q1659 : (Jvm.Cond.privateMethod ({ cls := "OneCoinModel", name := "pays", desc := "(II)V" } : Jvm.MethodName)) ∈ lw_tbl := lw_at lw_m7 104 rfl
theorem q1660 : (Jvm.Cond.instanceMethod ({ cls := "OneCoinModel", name := "pays", desc := "(II)V" } : Jvm.MethodName)) ∈ lw_all := lw_g (lw_at lw_m7 105 rfl) rfl
theorem q1661 : (Jvm.Cond.code ({ cls := "OneCoinModel", name := "pays", desc := "(II)V" } : Jvm.MethodName) prog_20_method_56_code (3 : Nat) (Option.none : Option Jvm.ClassFile.FieldType)) ∈ lw_all := lw_g (lw_at lw_m7 106 rfl) rfl
theorem q1662 : (Jvm.Cond.methodLink "OneCoinModel" (299 : Nat) ({ cls := "OneCoinModel", name := "chalks", desc := "(I)V" } : Jvm.MethodName)) ∈ lw_all := lw_g (lw_at lw_m7 107 rfl) rfl
theorem q1663 : (Jvm.Cond.privateMethod ({ cls := "OneCoinModel", name := "chalks", desc := "(I)V" } : Jvm.MethodName)) ∈ lw_tbl := lw_at lw_m7 108 rfl
theorem q1664 : (Jvm.Cond.instanceMethod ({ cls := "OneCoinModel", name := "chalks", desc := "(I)V" } : Jvm.MethodName)) ∈ lw_all := lw_g (lw_at lw_m7 109 rfl) rfl
theorem q1665 : (Jvm.Cond.code ({ cls := "OneCoinModel", name := "chalks", desc := "(I)V" } : Jvm.MethodName) prog_20_method_55_code (3 : Nat) (Option.none : Option Jvm.ClassFile.FieldType)) ∈ lw_all := lw_g (lw_at lw_m7 110 rfl) rfl
theorem q1666 : (Jvm.Cond.methodLink "OneCoinModel" (333 : Nat) ({ cls := "OneCoinModel", name := "holds", desc := "(I)V" } : Jvm.MethodName)) ∈ lw_all := lw_g (lw_at lw_m7 111 rfl) rfl
theorem q1667 : (Jvm.Cond.privateMethod ({ cls := "OneCoinModel", name := "holds", desc := "(I)V" } : Jvm.MethodName)) ∈ lw_tbl := lw_at lw_m7 112 rfl
theorem q1668 : (Jvm.Cond.instanceMethod ({ cls := "OneCoinModel", name := "holds", desc := "(I)V" } : Jvm.MethodName)) ∈ lw_all := lw_g (lw_at lw_m7 113 rfl) rfl
theorem q1669 : (Jvm.Cond.code ({ cls := "OneCoinModel", name := "holds", desc := "(I)V" } : Jvm.MethodName) prog_20_method_60_code (3 : Nat) (Option.none : Option Jvm.ClassFile.FieldType)) ∈ lw_all := lw_g (lw_at lw_m7 114 rfl) rfl
theorem q1670 : (Jvm.Cond.methodLink "OneCoinModel" (315 : Nat) ({ cls := "OneCoinModel", name := "nextPaid", desc := "(I)I" } : Jvm.MethodName)) ∈ lw_all := lw_g (lw_at lw_m7 115 rfl) rfl
theorem q1671 : (Jvm.Cond.privateMethod ({ cls := "OneCoinModel", name := "nextPaid", desc := "(I)I" } : Jvm.MethodName)) ∈ lw_tbl := lw_at lw_m7 116 rfl
theorem q1672 : (Jvm.Cond.instanceMethod ({ cls := "OneCoinModel", name := "nextPaid", desc := "(I)I" } : Jvm.MethodName)) ∈ lw_all := lw_g (lw_at lw_m7 117 rfl) rfl
theorem q1673 : (Jvm.Cond.code ({ cls := "OneCoinModel", name := "nextPaid", desc := "(I)I" } : Jvm.MethodName) prog_20_method_58_code (6 : Nat) (Option.some Jvm.ClassFile.FieldType.int)) ∈ lw_all := lw_g (lw_at lw_m7 118 rfl) rfl
theorem q1674 : (Jvm.Cond.methodLink "OneCoinModel" (312 : Nat) ({ cls := "OneCoinModel", name := "likesBy", desc := "(II)I" } : Jvm.MethodName)) ∈ lw_all := lw_g (lw_at lw_m7 119 rfl) rfl
theorem q1675 : (Jvm.Cond.privateMethod ({ cls := "OneCoinModel", name := "likesBy", desc := "(II)I" } : Jvm.MethodName)) ∈ lw_tbl := lw_at lw_m7 120 rfl
theorem q1676 : (Jvm.Cond.instanceMethod ({ cls := "OneCoinModel", name := "likesBy", desc := "(II)I" } : Jvm.MethodName)) ∈ lw_all := lw_g (lw_at lw_m7 121 rfl) rfl
theorem q1677 : (Jvm.Cond.code ({ cls := "OneCoinModel", name := "likesBy", desc := "(II)I" } : Jvm.MethodName) prog_20_method_50_code (3 : Nat) (Option.some Jvm.ClassFile.FieldType.int)) ∈ lw_all := lw_g (lw_at lw_m7 122 rfl) rfl
theorem q1678 : (Jvm.Cond.methodLink "OneCoinModel" (277 : Nat) ({ cls := "OneCoinModel", name := "holdsAny", desc := "(I)Z" } : Jvm.MethodName)) ∈ lw_all := lw_g (lw_at lw_m7 123 rfl) rfl
theorem q1679 : (Jvm.Cond.privateMethod ({ cls := "OneCoinModel", name := "holdsAny", desc := "(I)Z" } : Jvm.MethodName)) ∈ lw_tbl := lw_at lw_m7 124 rfl
theorem q1680 : (Jvm.Cond.instanceMethod ({ cls := "OneCoinModel", name := "holdsAny", desc := "(I)Z" } : Jvm.MethodName)) ∈ lw_all := lw_g (lw_at lw_m7 125 rfl) rfl
theorem q1681 : (Jvm.Cond.code ({ cls := "OneCoinModel", name := "holdsAny", desc := "(I)Z" } : Jvm.MethodName) prog_20_method_46_code (3 : Nat) (Option.some Jvm.ClassFile.FieldType.boolean)) ∈ lw_all := lw_g (lw_at lw_m7 126 rfl) rfl
theorem q1682 : (Jvm.Cond.methodLink "OneCoinModel" (318 : Nat) ({ cls := "OneCoinModel", name := "setsOut", desc := "(II)V" } : Jvm.MethodName)) ∈ lw_all := lw_g (lw_at lw_m7 127 rfl) rfl
theorem q1683 : (Jvm.Cond.privateMethod ({ cls := "OneCoinModel", name := "setsOut", desc := "(II)V" } : Jvm.MethodName)) ∈ lw_tbl := lw_at lw_m7 128 rfl
theorem q1684 : (Jvm.Cond.instanceMethod ({ cls := "OneCoinModel", name := "setsOut", desc := "(II)V" } : Jvm.MethodName)) ∈ lw_all := lw_g (lw_at lw_m7 129 rfl) rfl
theorem q1685 : (Jvm.Cond.code ({ cls := "OneCoinModel", name := "setsOut", desc := "(II)V" } : Jvm.MethodName) prog_20_method_59_code (3 : Nat) (Option.none : Option Jvm.ClassFile.FieldType)) ∈ lw_all := lw_g (lw_at lw_m7 130 rfl) rfl
theorem q1687 : (Jvm.Cond.instanceMethod ({ cls := "OneCoinModel", name := "tried", desc := "(II)I" } : Jvm.MethodName)) ∈ lw_all := lw_g (lw_at lw_m7 132 rfl) rfl
theorem q1688 : (Jvm.Cond.selects "OneCoinModel" ({ cls := "OneCoinModel", name := "tried", desc := "(II)I" } : Jvm.MethodName) ({ cls := "OneCoinModel", name := "tried", desc := "(II)I" } : Jvm.MethodName)) ∈ lw_all := lw_g (lw_at lw_m7 133 rfl) rfl
theorem q1689 : (Jvm.Cond.code ({ cls := "OneCoinModel", name := "tried", desc := "(II)I" } : Jvm.MethodName) prog_20_method_65_code (4 : Nat) (Option.some Jvm.ClassFile.FieldType.int)) ∈ lw_all := lw_g (lw_at lw_m7 134 rfl) rfl
theorem q1690 : (Jvm.Cond.methodLink "OneCoinModel" (345 : Nat) ({ cls := "OneCoinModel", name := "copies", desc := "([I[I)V" } : Jvm.MethodName)) ∈ lw_all := lw_g (lw_at lw_m7 135 rfl) rfl
theorem q1691 : (Jvm.Cond.static ({ cls := "OneCoinModel", name := "copies", desc := "([I[I)V" } : Jvm.MethodName)) ∈ lw_all := lw_g (lw_at lw_m7 136 rfl) rfl
theorem q1692 : (Jvm.Cond.code ({ cls := "OneCoinModel", name := "copies", desc := "([I[I)V" } : Jvm.MethodName) prog_20_method_8_code (3 : Nat) (Option.none : Option Jvm.ClassFile.FieldType)) ∈ lw_all := lw_g (lw_at lw_m7 137 rfl) rfl
theorem q1694 : (Jvm.Cond.instanceMethod ({ cls := "OneCoinModel", name := "personIs", desc := "(II)I" } : Jvm.MethodName)) ∈ lw_all := lw_g (lw_at lw_m7 139 rfl) rfl
theorem q1695 : (Jvm.Cond.selects "OneCoinModel" ({ cls := "OneCoinModel", name := "personIs", desc := "(II)I" } : Jvm.MethodName) ({ cls := "OneCoinModel", name := "personIs", desc := "(II)I" } : Jvm.MethodName)) ∈ lw_all := lw_g (lw_at lw_m7 140 rfl) rfl
theorem q1696 : (Jvm.Cond.code ({ cls := "OneCoinModel", name := "personIs", desc := "(II)I" } : Jvm.MethodName) prog_20_method_66_code (3 : Nat) (Option.some Jvm.ClassFile.FieldType.int)) ∈ lw_all := lw_g (lw_at lw_m7 141 rfl) rfl
theorem q1697 : (Jvm.Cond.methodLink "OneCoinModel" (349 : Nat) ({ cls := "OneCoinModel", name := "getsAll", desc := "(I)I" } : Jvm.MethodName)) ∈ lw_all := lw_g (lw_at lw_m7 142 rfl) rfl
theorem q1698 : (Jvm.Cond.privateMethod ({ cls := "OneCoinModel", name := "getsAll", desc := "(I)I" } : Jvm.MethodName)) ∈ lw_tbl := lw_at lw_m7 143 rfl
theorem q1699 : (Jvm.Cond.instanceMethod ({ cls := "OneCoinModel", name := "getsAll", desc := "(I)I" } : Jvm.MethodName)) ∈ lw_all := lw_g (lw_at lw_m7 144 rfl) rfl
theorem q1700 : (Jvm.Cond.code ({ cls := "OneCoinModel", name := "getsAll", desc := "(I)I" } : Jvm.MethodName) prog_20_method_14_code (4 : Nat) (Option.some Jvm.ClassFile.FieldType.int)) ∈ lw_all := lw_g (lw_at lw_m7 145 rfl) rfl
theorem q1702 : (Jvm.Cond.instanceMethod ({ cls := "OneCoinModel", name := "owes", desc := "(II)I" } : Jvm.MethodName)) ∈ lw_all := lw_g (lw_at lw_m7 147 rfl) rfl
theorem q1703 : (Jvm.Cond.selects "OneCoinModel" ({ cls := "OneCoinModel", name := "owes", desc := "(II)I" } : Jvm.MethodName) ({ cls := "OneCoinModel", name := "owes", desc := "(II)I" } : Jvm.MethodName)) ∈ lw_all := lw_g (lw_at lw_m7 148 rfl) rfl
theorem q1704 : (Jvm.Cond.code ({ cls := "OneCoinModel", name := "owes", desc := "(II)I" } : Jvm.MethodName) prog_20_method_67_code (3 : Nat) (Option.some Jvm.ClassFile.FieldType.int)) ∈ lw_all := lw_g (lw_at lw_m7 149 rfl) rfl
theorem q1706 : (Jvm.Cond.instanceMethod ({ cls := "OneCoinModel", name := "likes", desc := "(II)I" } : Jvm.MethodName)) ∈ lw_all := lw_g (lw_at lw_m7 151 rfl) rfl
theorem q1707 : (Jvm.Cond.selects "OneCoinModel" ({ cls := "OneCoinModel", name := "likes", desc := "(II)I" } : Jvm.MethodName) ({ cls := "OneCoinModel", name := "likes", desc := "(II)I" } : Jvm.MethodName)) ∈ lw_all := lw_g (lw_at lw_m7 152 rfl) rfl
theorem q1708 : (Jvm.Cond.code ({ cls := "OneCoinModel", name := "likes", desc := "(II)I" } : Jvm.MethodName) prog_20_method_68_code (3 : Nat) (Option.some Jvm.ClassFile.FieldType.int)) ∈ lw_all := lw_g (lw_at lw_m7 153 rfl) rfl
theorem q1710 : (Jvm.Cond.instanceMethod ({ cls := "OneCoinModel", name := "route", desc := "(II)I" } : Jvm.MethodName)) ∈ lw_all := lw_g (lw_at lw_m7 155 rfl) rfl
theorem q1711 : (Jvm.Cond.selects "OneCoinModel" ({ cls := "OneCoinModel", name := "route", desc := "(II)I" } : Jvm.MethodName) ({ cls := "OneCoinModel", name := "route", desc := "(II)I" } : Jvm.MethodName)) ∈ lw_all := lw_g (lw_at lw_m7 156 rfl) rfl
theorem q1712 : (Jvm.Cond.code ({ cls := "OneCoinModel", name := "route", desc := "(II)I" } : Jvm.MethodName) prog_20_method_74_code (5 : Nat) (Option.some Jvm.ClassFile.FieldType.int)) ∈ lw_all := lw_g (lw_at lw_m7 157 rfl) rfl
theorem q1713 : (Jvm.Cond.methodLink "OneCoinModel" (379 : Nat) ({ cls := "OneCoinModel", name := "readsRoute", desc := "(I)I" } : Jvm.MethodName)) ∈ lw_all := lw_g (lw_at lw_m7 158 rfl) rfl
theorem q1714 : (Jvm.Cond.privateMethod ({ cls := "OneCoinModel", name := "readsRoute", desc := "(I)I" } : Jvm.MethodName)) ∈ lw_tbl := lw_at lw_m7 159 rfl
theorem q1715 : (Jvm.Cond.instanceMethod ({ cls := "OneCoinModel", name := "readsRoute", desc := "(I)I" } : Jvm.MethodName)) ∈ lw_all := lw_g (lw_at lw_m7 160 rfl) rfl
theorem q1716 : (Jvm.Cond.code ({ cls := "OneCoinModel", name := "readsRoute", desc := "(I)I" } : Jvm.MethodName) prog_20_method_72_code (3 : Nat) (Option.some Jvm.ClassFile.FieldType.int)) ∈ lw_all := lw_g (lw_at lw_m7 161 rfl) rfl
theorem q1717 : (Jvm.Cond.methodLink "OneCoinModel" (370 : Nat) ({ cls := "OneCoinModel", name := "readsItem", desc := "()Z" } : Jvm.MethodName)) ∈ lw_all := lw_g (lw_at lw_m7 162 rfl) rfl
theorem q1718 : (Jvm.Cond.privateMethod ({ cls := "OneCoinModel", name := "readsItem", desc := "()Z" } : Jvm.MethodName)) ∈ lw_tbl := lw_at lw_m7 163 rfl
theorem q1719 : (Jvm.Cond.instanceMethod ({ cls := "OneCoinModel", name := "readsItem", desc := "()Z" } : Jvm.MethodName)) ∈ lw_all := lw_g (lw_at lw_m7 164 rfl) rfl
theorem q1720 : (Jvm.Cond.code ({ cls := "OneCoinModel", name := "readsItem", desc := "()Z" } : Jvm.MethodName) prog_20_method_71_code (3 : Nat) (Option.some Jvm.ClassFile.FieldType.boolean)) ∈ lw_all := lw_g (lw_at lw_m7 165 rfl) rfl
theorem q1721 : (Jvm.Cond.methodLink "OneCoinModel" (361 : Nat) ({ cls := "OneCoinModel", name := "readsTimes", desc := "()V" } : Jvm.MethodName)) ∈ lw_all := lw_g (lw_at lw_m7 166 rfl) rfl
theorem q1722 : (Jvm.Cond.privateMethod ({ cls := "OneCoinModel", name := "readsTimes", desc := "()V" } : Jvm.MethodName)) ∈ lw_tbl := lw_at lw_m7 167 rfl
theorem q1723 : (Jvm.Cond.instanceMethod ({ cls := "OneCoinModel", name := "readsTimes", desc := "()V" } : Jvm.MethodName)) ∈ lw_all := lw_g (lw_at lw_m7 168 rfl) rfl
theorem q1724 : (Jvm.Cond.code ({ cls := "OneCoinModel", name := "readsTimes", desc := "()V" } : Jvm.MethodName) prog_20_method_70_code (1 : Nat) (Option.none : Option Jvm.ClassFile.FieldType)) ∈ lw_all := lw_g (lw_at lw_m7 169 rfl) rfl
theorem q1725 : (Jvm.Cond.methodLink "OneCoinModel" (367 : Nat) ({ cls := "OneCoinModel", name := "repeats", desc := "(III)Z" } : Jvm.MethodName)) ∈ lw_all := lw_g (lw_at lw_m7 170 rfl) rfl
theorem q1726 : (Jvm.Cond.privateMethod ({ cls := "OneCoinModel", name := "repeats", desc := "(III)Z" } : Jvm.MethodName)) ∈ lw_tbl := lw_at lw_m7 171 rfl
theorem q1727 : (Jvm.Cond.instanceMethod ({ cls := "OneCoinModel", name := "repeats", desc := "(III)Z" } : Jvm.MethodName)) ∈ lw_all := lw_g (lw_at lw_m7 172 rfl) rfl
theorem q1728 : (Jvm.Cond.code ({ cls := "OneCoinModel", name := "repeats", desc := "(III)Z" } : Jvm.MethodName) prog_20_method_69_code (6 : Nat) (Option.some Jvm.ClassFile.FieldType.boolean)) ∈ lw_all := lw_g (lw_at lw_m7 173 rfl) rfl
theorem q1729 : (Jvm.Cond.methodLink "OneCoinModel" (382 : Nat) ({ cls := "OneCoinModel", name := "walksRoute", desc := "()V" } : Jvm.MethodName)) ∈ lw_all := lw_g (lw_at lw_m7 174 rfl) rfl
theorem q1730 : (Jvm.Cond.privateMethod ({ cls := "OneCoinModel", name := "walksRoute", desc := "()V" } : Jvm.MethodName)) ∈ lw_tbl := lw_at lw_m7 175 rfl
theorem q1731 : (Jvm.Cond.instanceMethod ({ cls := "OneCoinModel", name := "walksRoute", desc := "()V" } : Jvm.MethodName)) ∈ lw_all := lw_g (lw_at lw_m7 176 rfl) rfl
theorem q1732 : (Jvm.Cond.code ({ cls := "OneCoinModel", name := "walksRoute", desc := "()V" } : Jvm.MethodName) prog_20_method_73_code (3 : Nat) (Option.none : Option Jvm.ClassFile.FieldType)) ∈ lw_all := lw_g (lw_at lw_m7 177 rfl) rfl
theorem q1734 : (Jvm.Cond.instanceMethod ({ cls := "OneCoinModel", name := "walk", desc := "(I)I" } : Jvm.MethodName)) ∈ lw_all := lw_g (lw_at lw_m7 179 rfl) rfl
theorem q1735 : (Jvm.Cond.selects "OneCoinModel" ({ cls := "OneCoinModel", name := "walk", desc := "(I)I" } : Jvm.MethodName) ({ cls := "OneCoinModel", name := "walk", desc := "(I)I" } : Jvm.MethodName)) ∈ lw_all := lw_g (lw_at lw_m7 180 rfl) rfl
theorem q1736 : (Jvm.Cond.code ({ cls := "OneCoinModel", name := "walk", desc := "(I)I" } : Jvm.MethodName) prog_20_method_75_code (3 : Nat) (Option.some Jvm.ClassFile.FieldType.int)) ∈ lw_all := lw_g (lw_at lw_m7 181 rfl) rfl
theorem q1738 : (Jvm.Cond.instanceMethod ({ cls := "OneCoinModel", name := "tour", desc := "(I)I" } : Jvm.MethodName)) ∈ lw_all := lw_g (lw_at lw_m7 183 rfl) rfl
theorem q1739 : (Jvm.Cond.selects "OneCoinModel" ({ cls := "OneCoinModel", name := "tour", desc := "(I)I" } : Jvm.MethodName) ({ cls := "OneCoinModel", name := "tour", desc := "(I)I" } : Jvm.MethodName)) ∈ lw_all := lw_g (lw_at lw_m7 184 rfl) rfl
theorem q1740 : (Jvm.Cond.code ({ cls := "OneCoinModel", name := "tour", desc := "(I)I" } : Jvm.MethodName) prog_20_method_81_code (4 : Nat) (Option.some Jvm.ClassFile.FieldType.int)) ∈ lw_all := lw_g (lw_at lw_m7 185 rfl) rfl
theorem q1741 : (Jvm.Cond.methodLink "OneCoinModel" (397 : Nat) ({ cls := "OneCoinModel", name := "laysTour", desc := "(II)Z" } : Jvm.MethodName)) ∈ lw_all := lw_g (lw_at lw_m7 186 rfl) rfl
theorem q1742 : (Jvm.Cond.privateMethod ({ cls := "OneCoinModel", name := "laysTour", desc := "(II)Z" } : Jvm.MethodName)) ∈ lw_tbl := lw_at lw_m7 187 rfl
theorem q1743 : (Jvm.Cond.instanceMethod ({ cls := "OneCoinModel", name := "laysTour", desc := "(II)Z" } : Jvm.MethodName)) ∈ lw_all := lw_g (lw_at lw_m7 188 rfl) rfl
theorem q1744 : (Jvm.Cond.code ({ cls := "OneCoinModel", name := "laysTour", desc := "(II)Z" } : Jvm.MethodName) prog_20_method_79_code (6 : Nat) (Option.some Jvm.ClassFile.FieldType.boolean)) ∈ lw_all := lw_g (lw_at lw_m7 189 rfl) rfl
theorem q1745 : (Jvm.Cond.methodLink "OneCoinModel" (391 : Nat) ({ cls := "OneCoinModel", name := "isRow", desc := "(I)Z" } : Jvm.MethodName)) ∈ lw_all := lw_g (lw_at lw_m7 190 rfl) rfl
theorem q1746 : (Jvm.Cond.privateMethod ({ cls := "OneCoinModel", name := "isRow", desc := "(I)Z" } : Jvm.MethodName)) ∈ lw_tbl := lw_at lw_m7 191 rfl
theorem q1747 : (Jvm.Cond.instanceMethod ({ cls := "OneCoinModel", name := "isRow", desc := "(I)Z" } : Jvm.MethodName)) ∈ lw_all := lw_g (lw_at lw_m7 192 rfl) rfl
theorem q1748 : (Jvm.Cond.code ({ cls := "OneCoinModel", name := "isRow", desc := "(I)Z" } : Jvm.MethodName) prog_20_method_78_code (9 : Nat) (Option.some Jvm.ClassFile.FieldType.boolean)) ∈ lw_all := lw_g (lw_at lw_m7 193 rfl) rfl
theorem q1749 : (Jvm.Cond.methodLink "OneCoinModel" (388 : Nat) ({ cls := "OneCoinModel", name := "reachLeft", desc := "(I)I" } : Jvm.MethodName)) ∈ lw_all := lw_g (lw_at lw_m7 194 rfl) rfl
theorem q1750 : (Jvm.Cond.privateMethod ({ cls := "OneCoinModel", name := "reachLeft", desc := "(I)I" } : Jvm.MethodName)) ∈ lw_tbl := lw_at lw_m7 195 rfl
theorem q1751 : (Jvm.Cond.instanceMethod ({ cls := "OneCoinModel", name := "reachLeft", desc := "(I)I" } : Jvm.MethodName)) ∈ lw_all := lw_g (lw_at lw_m7 196 rfl) rfl
theorem q1752 : (Jvm.Cond.code ({ cls := "OneCoinModel", name := "reachLeft", desc := "(I)I" } : Jvm.MethodName) prog_20_method_77_code (6 : Nat) (Option.some Jvm.ClassFile.FieldType.int)) ∈ lw_all := lw_g (lw_at lw_m7 197 rfl) rfl
theorem q1753 : (Jvm.Cond.methodLink "OneCoinModel" (385 : Nat) ({ cls := "OneCoinModel", name := "leftOf", desc := "(II)I" } : Jvm.MethodName)) ∈ lw_all := lw_g (lw_at lw_m7 198 rfl) rfl
theorem q1754 : (Jvm.Cond.privateMethod ({ cls := "OneCoinModel", name := "leftOf", desc := "(II)I" } : Jvm.MethodName)) ∈ lw_tbl := lw_at lw_m7 199 rfl
theorem q1755 : (Jvm.Cond.instanceMethod ({ cls := "OneCoinModel", name := "leftOf", desc := "(II)I" } : Jvm.MethodName)) ∈ lw_all := lw_g (lw_at lw_m7 200 rfl) rfl
theorem q1756 : (Jvm.Cond.code ({ cls := "OneCoinModel", name := "leftOf", desc := "(II)I" } : Jvm.MethodName) prog_20_method_76_code (3 : Nat) (Option.some Jvm.ClassFile.FieldType.int)) ∈ lw_all := lw_g (lw_at lw_m7 201 rfl) rfl
theorem q1757 : (Jvm.Cond.methodLink "OneCoinModel" (394 : Nat) ({ cls := "OneCoinModel", name := "canGo", desc := "(II)Z" } : Jvm.MethodName)) ∈ lw_all := lw_g (lw_at lw_m7 202 rfl) rfl
theorem q1758 : (Jvm.Cond.privateMethod ({ cls := "OneCoinModel", name := "canGo", desc := "(II)Z" } : Jvm.MethodName)) ∈ lw_tbl := lw_at lw_m7 203 rfl
theorem q1759 : (Jvm.Cond.instanceMethod ({ cls := "OneCoinModel", name := "canGo", desc := "(II)Z" } : Jvm.MethodName)) ∈ lw_all := lw_g (lw_at lw_m7 204 rfl) rfl
theorem q1760 : (Jvm.Cond.code ({ cls := "OneCoinModel", name := "canGo", desc := "(II)Z" } : Jvm.MethodName) prog_20_method_80_code (4 : Nat) (Option.some Jvm.ClassFile.FieldType.boolean)) ∈ lw_all := lw_g (lw_at lw_m7 205 rfl) rfl
theorem q1762 : (Jvm.Cond.instanceMethod ({ cls := "OneCoinModel", name := "most", desc := "(I)I" } : Jvm.MethodName)) ∈ lw_all := lw_g (lw_at lw_m7 207 rfl) rfl
theorem q1763 : (Jvm.Cond.selects "OneCoinModel" ({ cls := "OneCoinModel", name := "most", desc := "(I)I" } : Jvm.MethodName) ({ cls := "OneCoinModel", name := "most", desc := "(I)I" } : Jvm.MethodName)) ∈ lw_all := lw_g (lw_at lw_m7 208 rfl) rfl
theorem q1764 : (Jvm.Cond.code ({ cls := "OneCoinModel", name := "most", desc := "(I)I" } : Jvm.MethodName) prog_20_method_85_code (6 : Nat) (Option.some Jvm.ClassFile.FieldType.int)) ∈ lw_all := lw_g (lw_at lw_m7 209 rfl) rfl
theorem q1765 : (Jvm.Cond.methodLink "OneCoinModel" (403 : Nat) ({ cls := "OneCoinModel", name := "laysCoins", desc := "(I)Z" } : Jvm.MethodName)) ∈ lw_all := lw_g (lw_at lw_m7 210 rfl) rfl
theorem q1766 : (Jvm.Cond.privateMethod ({ cls := "OneCoinModel", name := "laysCoins", desc := "(I)Z" } : Jvm.MethodName)) ∈ lw_tbl := lw_at lw_m7 211 rfl
theorem q1767 : (Jvm.Cond.instanceMethod ({ cls := "OneCoinModel", name := "laysCoins", desc := "(I)Z" } : Jvm.MethodName)) ∈ lw_all := lw_g (lw_at lw_m7 212 rfl) rfl
theorem q1768 : (Jvm.Cond.code ({ cls := "OneCoinModel", name := "laysCoins", desc := "(I)Z" } : Jvm.MethodName) prog_20_method_82_code (5 : Nat) (Option.some Jvm.ClassFile.FieldType.boolean)) ∈ lw_all := lw_g (lw_at lw_m7 213 rfl) rfl
theorem q1769 : (Jvm.Cond.methodLink "OneCoinModel" (406 : Nat) ({ cls := "OneCoinModel", name := "laysMore", desc := "()V" } : Jvm.MethodName)) ∈ lw_all := lw_g (lw_at lw_m7 214 rfl) rfl
theorem q1770 : (Jvm.Cond.privateMethod ({ cls := "OneCoinModel", name := "laysMore", desc := "()V" } : Jvm.MethodName)) ∈ lw_tbl := lw_at lw_m7 215 rfl
theorem q1771 : (Jvm.Cond.instanceMethod ({ cls := "OneCoinModel", name := "laysMore", desc := "()V" } : Jvm.MethodName)) ∈ lw_all := lw_g (lw_at lw_m7 216 rfl) rfl
theorem q1772 : (Jvm.Cond.code ({ cls := "OneCoinModel", name := "laysMore", desc := "()V" } : Jvm.MethodName) prog_20_method_83_code (6 : Nat) (Option.none : Option Jvm.ClassFile.FieldType)) ∈ lw_all := lw_g (lw_at lw_m7 217 rfl) rfl
theorem q1773 : (Jvm.Cond.methodLink "OneCoinModel" (409 : Nat) ({ cls := "OneCoinModel", name := "bestCoin", desc := "(II)I" } : Jvm.MethodName)) ∈ lw_all := lw_g (lw_at lw_m7 218 rfl) rfl
theorem q1774 : (Jvm.Cond.privateMethod ({ cls := "OneCoinModel", name := "bestCoin", desc := "(II)I" } : Jvm.MethodName)) ∈ lw_tbl := lw_at lw_m7 219 rfl
theorem q1775 : (Jvm.Cond.instanceMethod ({ cls := "OneCoinModel", name := "bestCoin", desc := "(II)I" } : Jvm.MethodName)) ∈ lw_all := lw_g (lw_at lw_m7 220 rfl) rfl
theorem q1776 : (Jvm.Cond.code ({ cls := "OneCoinModel", name := "bestCoin", desc := "(II)I" } : Jvm.MethodName) prog_20_method_84_code (5 : Nat) (Option.some Jvm.ClassFile.FieldType.int)) ∈ lw_all := lw_g (lw_at lw_m7 221 rfl) rfl
theorem q1778 : (Jvm.Cond.instanceMethod ({ cls := "OneCoinModel", name := "back", desc := "(II)I" } : Jvm.MethodName)) ∈ lw_all := lw_g (lw_at lw_m7 223 rfl) rfl
theorem q1779 : (Jvm.Cond.selects "OneCoinModel" ({ cls := "OneCoinModel", name := "back", desc := "(II)I" } : Jvm.MethodName) ({ cls := "OneCoinModel", name := "back", desc := "(II)I" } : Jvm.MethodName)) ∈ lw_all := lw_g (lw_at lw_m7 224 rfl) rfl
theorem q1780 : (Jvm.Cond.code ({ cls := "OneCoinModel", name := "back", desc := "(II)I" } : Jvm.MethodName) prog_20_method_87_code (4 : Nat) (Option.some Jvm.ClassFile.FieldType.int)) ∈ lw_all := lw_g (lw_at lw_m7 225 rfl) rfl
theorem q1781 : (Jvm.Cond.methodLink "OneCoinModel" (413 : Nat) ({ cls := "OneCoinModel", name := "laysBack", desc := "()V" } : Jvm.MethodName)) ∈ lw_all := lw_g (lw_at lw_m7 226 rfl) rfl
theorem q1782 : (Jvm.Cond.privateMethod ({ cls := "OneCoinModel", name := "laysBack", desc := "()V" } : Jvm.MethodName)) ∈ lw_tbl := lw_at lw_m7 227 rfl
theorem q1783 : (Jvm.Cond.instanceMethod ({ cls := "OneCoinModel", name := "laysBack", desc := "()V" } : Jvm.MethodName)) ∈ lw_all := lw_g (lw_at lw_m7 228 rfl) rfl
theorem q1784 : (Jvm.Cond.code ({ cls := "OneCoinModel", name := "laysBack", desc := "()V" } : Jvm.MethodName) prog_20_method_86_code (4 : Nat) (Option.none : Option Jvm.ClassFile.FieldType)) ∈ lw_all := lw_g (lw_at lw_m7 229 rfl) rfl
theorem q1785 : (Jvm.Cond.constant "OneCoinModel" (412 : Nat) (1000000 : Int32)) ∈ lw_all := lw_g (lw_at lw_m7 230 rfl) rfl
theorem q1787 : (Jvm.Cond.instanceMethod ({ cls := "OneCoinModel", name := "even", desc := "(I)I" } : Jvm.MethodName)) ∈ lw_all := lw_g (lw_at lw_m7 232 rfl) rfl
theorem q1788 : (Jvm.Cond.selects "OneCoinModel" ({ cls := "OneCoinModel", name := "even", desc := "(I)I" } : Jvm.MethodName) ({ cls := "OneCoinModel", name := "even", desc := "(I)I" } : Jvm.MethodName)) ∈ lw_all := lw_g (lw_at lw_m7 233 rfl) rfl
theorem q1789 : (Jvm.Cond.code ({ cls := "OneCoinModel", name := "even", desc := "(I)I" } : Jvm.MethodName) prog_20_method_92_code (6 : Nat) (Option.some Jvm.ClassFile.FieldType.int)) ∈ lw_all := lw_g (lw_at lw_m7 234 rfl) rfl
theorem q1790 : (Jvm.Cond.methodLink "OneCoinModel" (422 : Nat) ({ cls := "OneCoinModel", name := "laysLacks", desc := "()V" } : Jvm.MethodName)) ∈ lw_all := lw_g (lw_at lw_m7 235 rfl) rfl
theorem q1791 : (Jvm.Cond.privateMethod ({ cls := "OneCoinModel", name := "laysLacks", desc := "()V" } : Jvm.MethodName)) ∈ lw_tbl := lw_at lw_m7 236 rfl
theorem q1792 : (Jvm.Cond.instanceMethod ({ cls := "OneCoinModel", name := "laysLacks", desc := "()V" } : Jvm.MethodName)) ∈ lw_all := lw_g (lw_at lw_m7 237 rfl) rfl
theorem q1793 : (Jvm.Cond.code ({ cls := "OneCoinModel", name := "laysLacks", desc := "()V" } : Jvm.MethodName) prog_20_method_89_code (5 : Nat) (Option.none : Option Jvm.ClassFile.FieldType)) ∈ lw_all := lw_g (lw_at lw_m7 238 rfl) rfl
theorem q1794 : (Jvm.Cond.methodLink "OneCoinModel" (419 : Nat) ({ cls := "OneCoinModel", name := "setOffOf", desc := "(I)I" } : Jvm.MethodName)) ∈ lw_all := lw_g (lw_at lw_m7 239 rfl) rfl
theorem q1795 : (Jvm.Cond.privateMethod ({ cls := "OneCoinModel", name := "setOffOf", desc := "(I)I" } : Jvm.MethodName)) ∈ lw_tbl := lw_at lw_m8 0 rfl
theorem q1796 : (Jvm.Cond.instanceMethod ({ cls := "OneCoinModel", name := "setOffOf", desc := "(I)I" } : Jvm.MethodName)) ∈ lw_all := lw_g (lw_at lw_m8 1 rfl) rfl
theorem q1797 : (Jvm.Cond.code ({ cls := "OneCoinModel", name := "setOffOf", desc := "(I)I" } : Jvm.MethodName) prog_20_method_88_code (2 : Nat) (Option.some Jvm.ClassFile.FieldType.int)) ∈ lw_all := lw_g (lw_at lw_m8 2 rfl) rfl
theorem q1798 : (Jvm.Cond.methodLink "OneCoinModel" (425 : Nat) ({ cls := "OneCoinModel", name := "readsRow", desc := "(II)Z" } : Jvm.MethodName)) ∈ lw_all := lw_g (lw_at lw_m8 3 rfl) rfl
theorem q1799 : (Jvm.Cond.privateMethod ({ cls := "OneCoinModel", name := "readsRow", desc := "(II)Z" } : Jvm.MethodName)) ∈ lw_tbl := lw_at lw_m8 4 rfl
theorem q1800 : (Jvm.Cond.instanceMethod ({ cls := "OneCoinModel", name := "readsRow", desc := "(II)Z" } : Jvm.MethodName)) ∈ lw_all := lw_g (lw_at lw_m8 5 rfl) rfl
theorem q1801 : (Jvm.Cond.code ({ cls := "OneCoinModel", name := "readsRow", desc := "(II)Z" } : Jvm.MethodName) prog_20_method_90_code (6 : Nat) (Option.some Jvm.ClassFile.FieldType.boolean)) ∈ lw_all := lw_g (lw_at lw_m8 6 rfl) rfl
theorem q1802 : (Jvm.Cond.methodLink "OneCoinModel" (428 : Nat) ({ cls := "OneCoinModel", name := "hoursOfRow", desc := "(I)I" } : Jvm.MethodName)) ∈ lw_all := lw_g (lw_at lw_m8 7 rfl) rfl
theorem q1803 : (Jvm.Cond.privateMethod ({ cls := "OneCoinModel", name := "hoursOfRow", desc := "(I)I" } : Jvm.MethodName)) ∈ lw_tbl := lw_at lw_m8 8 rfl
theorem q1804 : (Jvm.Cond.instanceMethod ({ cls := "OneCoinModel", name := "hoursOfRow", desc := "(I)I" } : Jvm.MethodName)) ∈ lw_all := lw_g (lw_at lw_m8 9 rfl) rfl
theorem q1805 : (Jvm.Cond.code ({ cls := "OneCoinModel", name := "hoursOfRow", desc := "(I)I" } : Jvm.MethodName) prog_20_method_91_code (4 : Nat) (Option.some Jvm.ClassFile.FieldType.int)) ∈ lw_all := lw_g (lw_at lw_m8 10 rfl) rfl
theorem q1807 : (Jvm.Cond.instanceMethod ({ cls := "OneCoinModel", name := "turned", desc := "(I)I" } : Jvm.MethodName)) ∈ lw_all := lw_g (lw_at lw_m8 12 rfl) rfl
theorem q1808 : (Jvm.Cond.selects "OneCoinModel" ({ cls := "OneCoinModel", name := "turned", desc := "(I)I" } : Jvm.MethodName) ({ cls := "OneCoinModel", name := "turned", desc := "(I)I" } : Jvm.MethodName)) ∈ lw_all := lw_g (lw_at lw_m8 13 rfl) rfl
theorem q1809 : (Jvm.Cond.code ({ cls := "OneCoinModel", name := "turned", desc := "(I)I" } : Jvm.MethodName) prog_20_method_94_code (4 : Nat) (Option.some Jvm.ClassFile.FieldType.int)) ∈ lw_all := lw_g (lw_at lw_m8 14 rfl) rfl
theorem q1810 : (Jvm.Cond.methodLink "OneCoinModel" (431 : Nat) ({ cls := "OneCoinModel", name := "bits", desc := "(I)I" } : Jvm.MethodName)) ∈ lw_all := lw_g (lw_at lw_m8 15 rfl) rfl
theorem q1811 : (Jvm.Cond.static ({ cls := "OneCoinModel", name := "bits", desc := "(I)I" } : Jvm.MethodName)) ∈ lw_all := lw_g (lw_at lw_m8 16 rfl) rfl
theorem q1812 : (Jvm.Cond.code ({ cls := "OneCoinModel", name := "bits", desc := "(I)I" } : Jvm.MethodName) prog_20_method_7_code (3 : Nat) (Option.some Jvm.ClassFile.FieldType.int)) ∈ lw_all := lw_g (lw_at lw_m8 17 rfl) rfl
theorem q1813 : (Jvm.Cond.methodLink "OneCoinModel" (434 : Nat) ({ cls := "OneCoinModel", name := "isEven", desc := "(I)Z" } : Jvm.MethodName)) ∈ lw_all := lw_g (lw_at lw_m8 18 rfl) rfl
theorem q1814 : (Jvm.Cond.privateMethod ({ cls := "OneCoinModel", name := "isEven", desc := "(I)Z" } : Jvm.MethodName)) ∈ lw_tbl := lw_at lw_m8 19 rfl
theorem q1815 : (Jvm.Cond.instanceMethod ({ cls := "OneCoinModel", name := "isEven", desc := "(I)Z" } : Jvm.MethodName)) ∈ lw_all := lw_g (lw_at lw_m8 20 rfl) rfl
theorem q1816 : (Jvm.Cond.code ({ cls := "OneCoinModel", name := "isEven", desc := "(I)Z" } : Jvm.MethodName) prog_20_method_93_code (6 : Nat) (Option.some Jvm.ClassFile.FieldType.boolean)) ∈ lw_all := lw_g (lw_at lw_m8 21 rfl) rfl
theorem q1818 : (Jvm.Cond.instanceMethod ({ cls := "OneCoinModel", name := "setOff", desc := "(I)I" } : Jvm.MethodName)) ∈ lw_all := lw_g (lw_at lw_m8 23 rfl) rfl
theorem q1819 : (Jvm.Cond.selects "OneCoinModel" ({ cls := "OneCoinModel", name := "setOff", desc := "(I)I" } : Jvm.MethodName) ({ cls := "OneCoinModel", name := "setOff", desc := "(I)I" } : Jvm.MethodName)) ∈ lw_all := lw_g (lw_at lw_m8 24 rfl) rfl
theorem q1820 : (Jvm.Cond.code ({ cls := "OneCoinModel", name := "setOff", desc := "(I)I" } : Jvm.MethodName) prog_20_method_95_code (2 : Nat) (Option.some Jvm.ClassFile.FieldType.int)) ∈ lw_all := lw_g (lw_at lw_m8 25 rfl) rfl
theorem q1821 : (Jvm.Cond.constant "OneCoinModel" (437 : Nat) (-1000000 : Int32)) ∈ lw_all := lw_g (lw_at lw_m8 26 rfl) rfl
theorem q1823 : (Jvm.Cond.instanceMethod ({ cls := "OneCoinModel", name := "fewest", desc := "()I" } : Jvm.MethodName)) ∈ lw_all := lw_g (lw_at lw_m8 28 rfl) rfl
theorem q1824 : (Jvm.Cond.selects "OneCoinModel" ({ cls := "OneCoinModel", name := "fewest", desc := "()I" } : Jvm.MethodName) ({ cls := "OneCoinModel", name := "fewest", desc := "()I" } : Jvm.MethodName)) ∈ lw_all := lw_g (lw_at lw_m8 29 rfl) rfl
theorem q1825 : (Jvm.Cond.code ({ cls := "OneCoinModel", name := "fewest", desc := "()I" } : Jvm.MethodName) prog_20_method_97_code (3 : Nat) (Option.some Jvm.ClassFile.FieldType.int)) ∈ lw_all := lw_g (lw_at lw_m8 30 rfl) rfl
theorem q1826 : (Jvm.Cond.methodLink "OneCoinModel" (438 : Nat) ({ cls := "OneCoinModel", name := "laysGroups", desc := "()V" } : Jvm.MethodName)) ∈ lw_all := lw_g (lw_at lw_m8 31 rfl) rfl
theorem q1827 : (Jvm.Cond.privateMethod ({ cls := "OneCoinModel", name := "laysGroups", desc := "()V" } : Jvm.MethodName)) ∈ lw_tbl := lw_at lw_m8 32 rfl
theorem q1828 : (Jvm.Cond.instanceMethod ({ cls := "OneCoinModel", name := "laysGroups", desc := "()V" } : Jvm.MethodName)) ∈ lw_all := lw_g (lw_at lw_m8 33 rfl) rfl
theorem q1829 : (Jvm.Cond.code ({ cls := "OneCoinModel", name := "laysGroups", desc := "()V" } : Jvm.MethodName) prog_20_method_96_code (3 : Nat) (Option.none : Option Jvm.ClassFile.FieldType)) ∈ lw_all := lw_g (lw_at lw_m8 34 rfl) rfl
theorem q1831 : (Jvm.Cond.instanceMethod ({ cls := "OneCoinModel", name := "rings", desc := "(I)I" } : Jvm.MethodName)) ∈ lw_all := lw_g (lw_at lw_m8 36 rfl) rfl
theorem q1832 : (Jvm.Cond.selects "OneCoinModel" ({ cls := "OneCoinModel", name := "rings", desc := "(I)I" } : Jvm.MethodName) ({ cls := "OneCoinModel", name := "rings", desc := "(I)I" } : Jvm.MethodName)) ∈ lw_all := lw_g (lw_at lw_m8 37 rfl) rfl
theorem q1833 : (Jvm.Cond.code ({ cls := "OneCoinModel", name := "rings", desc := "(I)I" } : Jvm.MethodName) prog_20_method_100_code (5 : Nat) (Option.some Jvm.ClassFile.FieldType.int)) ∈ lw_all := lw_g (lw_at lw_m8 38 rfl) rfl
theorem q1834 : (Jvm.Cond.methodLink "OneCoinModel" (444 : Nat) ({ cls := "OneCoinModel", name := "ringOf", desc := "(I)I" } : Jvm.MethodName)) ∈ lw_all := lw_g (lw_at lw_m8 39 rfl) rfl
theorem q1835 : (Jvm.Cond.privateMethod ({ cls := "OneCoinModel", name := "ringOf", desc := "(I)I" } : Jvm.MethodName)) ∈ lw_tbl := lw_at lw_m8 40 rfl
theorem q1836 : (Jvm.Cond.instanceMethod ({ cls := "OneCoinModel", name := "ringOf", desc := "(I)I" } : Jvm.MethodName)) ∈ lw_all := lw_g (lw_at lw_m8 41 rfl) rfl
theorem q1837 : (Jvm.Cond.code ({ cls := "OneCoinModel", name := "ringOf", desc := "(I)I" } : Jvm.MethodName) prog_20_method_99_code (5 : Nat) (Option.some Jvm.ClassFile.FieldType.int)) ∈ lw_all := lw_g (lw_at lw_m8 42 rfl) rfl
theorem q1838 : (Jvm.Cond.methodLink "OneCoinModel" (441 : Nat) ({ cls := "OneCoinModel", name := "reachOf", desc := "(I)I" } : Jvm.MethodName)) ∈ lw_all := lw_g (lw_at lw_m8 43 rfl) rfl
theorem q1839 : (Jvm.Cond.privateMethod ({ cls := "OneCoinModel", name := "reachOf", desc := "(I)I" } : Jvm.MethodName)) ∈ lw_tbl := lw_at lw_m8 44 rfl
theorem q1840 : (Jvm.Cond.instanceMethod ({ cls := "OneCoinModel", name := "reachOf", desc := "(I)I" } : Jvm.MethodName)) ∈ lw_all := lw_g (lw_at lw_m8 45 rfl) rfl
theorem q1841 : (Jvm.Cond.code ({ cls := "OneCoinModel", name := "reachOf", desc := "(I)I" } : Jvm.MethodName) prog_20_method_98_code (3 : Nat) (Option.some Jvm.ClassFile.FieldType.int)) ∈ lw_all := lw_g (lw_at lw_m8 46 rfl) rfl
theorem q1843 : (Jvm.Cond.instanceMethod ({ cls := "OneCoinModel", name := "off", desc := "()I" } : Jvm.MethodName)) ∈ lw_all := lw_g (lw_at lw_m8 48 rfl) rfl
theorem q1844 : (Jvm.Cond.selects "OneCoinModel" ({ cls := "OneCoinModel", name := "off", desc := "()I" } : Jvm.MethodName) ({ cls := "OneCoinModel", name := "off", desc := "()I" } : Jvm.MethodName)) ∈ lw_all := lw_g (lw_at lw_m8 49 rfl) rfl
theorem q1845 : (Jvm.Cond.code ({ cls := "OneCoinModel", name := "off", desc := "()I" } : Jvm.MethodName) prog_20_method_101_code (1 : Nat) (Option.some Jvm.ClassFile.FieldType.int)) ∈ lw_all := lw_g (lw_at lw_m8 50 rfl) rfl
theorem q1847 : (Jvm.Cond.instanceMethod ({ cls := "OneCoinModel", name := "when", desc := "(II)I" } : Jvm.MethodName)) ∈ lw_all := lw_g (lw_at lw_m8 52 rfl) rfl
theorem q1848 : (Jvm.Cond.selects "OneCoinModel" ({ cls := "OneCoinModel", name := "when", desc := "(II)I" } : Jvm.MethodName) ({ cls := "OneCoinModel", name := "when", desc := "(II)I" } : Jvm.MethodName)) ∈ lw_all := lw_g (lw_at lw_m8 53 rfl) rfl
theorem q1849 : (Jvm.Cond.code ({ cls := "OneCoinModel", name := "when", desc := "(II)I" } : Jvm.MethodName) prog_20_method_102_code (5 : Nat) (Option.some Jvm.ClassFile.FieldType.int)) ∈ lw_all := lw_g (lw_at lw_m8 54 rfl) rfl
theorem q1851 : (Jvm.Cond.instanceMethod ({ cls := "OneCoinModel", name := "wedding", desc := "(III)I" } : Jvm.MethodName)) ∈ lw_all := lw_g (lw_at lw_m8 56 rfl) rfl
theorem q1852 : (Jvm.Cond.selects "OneCoinModel" ({ cls := "OneCoinModel", name := "wedding", desc := "(III)I" } : Jvm.MethodName) ({ cls := "OneCoinModel", name := "wedding", desc := "(III)I" } : Jvm.MethodName)) ∈ lw_all := lw_g (lw_at lw_m8 57 rfl) rfl
theorem q1853 : (Jvm.Cond.code ({ cls := "OneCoinModel", name := "wedding", desc := "(III)I" } : Jvm.MethodName) prog_20_method_103_code (8 : Nat) (Option.some Jvm.ClassFile.FieldType.int)) ∈ lw_all := lw_g (lw_at lw_m8 58 rfl) rfl
theorem q1855 : (Jvm.Cond.instanceMethod ({ cls := "OneCoinModel", name := "longest", desc := "()I" } : Jvm.MethodName)) ∈ lw_all := lw_g (lw_at lw_m8 60 rfl) rfl
theorem q1856 : (Jvm.Cond.selects "OneCoinModel" ({ cls := "OneCoinModel", name := "longest", desc := "()I" } : Jvm.MethodName) ({ cls := "OneCoinModel", name := "longest", desc := "()I" } : Jvm.MethodName)) ∈ lw_all := lw_g (lw_at lw_m8 61 rfl) rfl
theorem q1857 : (Jvm.Cond.code ({ cls := "OneCoinModel", name := "longest", desc := "()I" } : Jvm.MethodName) prog_20_method_104_code (4 : Nat) (Option.some Jvm.ClassFile.FieldType.int)) ∈ lw_all := lw_g (lw_at lw_m8 62 rfl) rfl
theorem q1859 : (Jvm.Cond.instanceMethod ({ cls := "OneCoinModel", name := "chalk", desc := "(I)I" } : Jvm.MethodName)) ∈ lw_all := lw_g (lw_at lw_m8 64 rfl) rfl
theorem q1860 : (Jvm.Cond.selects "OneCoinModel" ({ cls := "OneCoinModel", name := "chalk", desc := "(I)I" } : Jvm.MethodName) ({ cls := "OneCoinModel", name := "chalk", desc := "(I)I" } : Jvm.MethodName)) ∈ lw_all := lw_g (lw_at lw_m8 65 rfl) rfl
theorem q1861 : (Jvm.Cond.code ({ cls := "OneCoinModel", name := "chalk", desc := "(I)I" } : Jvm.MethodName) prog_20_method_105_code (2 : Nat) (Option.some Jvm.ClassFile.FieldType.int)) ∈ lw_all := lw_g (lw_at lw_m8 66 rfl) rfl
theorem q1863 : (Jvm.Cond.instanceMethod ({ cls := "OneCoinModel", name := "two", desc := "(I)I" } : Jvm.MethodName)) ∈ lw_all := lw_g (lw_at lw_m8 68 rfl) rfl
theorem q1864 : (Jvm.Cond.selects "OneCoinModel" ({ cls := "OneCoinModel", name := "two", desc := "(I)I" } : Jvm.MethodName) ({ cls := "OneCoinModel", name := "two", desc := "(I)I" } : Jvm.MethodName)) ∈ lw_all := lw_g (lw_at lw_m8 69 rfl) rfl
theorem q1865 : (Jvm.Cond.code ({ cls := "OneCoinModel", name := "two", desc := "(I)I" } : Jvm.MethodName) prog_20_method_108_code (6 : Nat) (Option.some Jvm.ClassFile.FieldType.int)) ∈ lw_all := lw_g (lw_at lw_m8 70 rfl) rfl
theorem q1866 : (Jvm.Cond.methodLink "OneCoinModel" (447 : Nat) ({ cls := "OneCoinModel", name := "hoursOf", desc := "(I)I" } : Jvm.MethodName)) ∈ lw_all := lw_g (lw_at lw_m8 71 rfl) rfl
theorem q1867 : (Jvm.Cond.privateMethod ({ cls := "OneCoinModel", name := "hoursOf", desc := "(I)I" } : Jvm.MethodName)) ∈ lw_tbl := lw_at lw_m8 72 rfl
theorem q1868 : (Jvm.Cond.instanceMethod ({ cls := "OneCoinModel", name := "hoursOf", desc := "(I)I" } : Jvm.MethodName)) ∈ lw_all := lw_g (lw_at lw_m8 73 rfl) rfl
theorem q1869 : (Jvm.Cond.code ({ cls := "OneCoinModel", name := "hoursOf", desc := "(I)I" } : Jvm.MethodName) prog_20_method_107_code (4 : Nat) (Option.some Jvm.ClassFile.FieldType.int)) ∈ lw_all := lw_g (lw_at lw_m8 74 rfl) rfl
theorem q1870 : (Jvm.Cond.methodLink "OneCoinModel" (450 : Nat) ({ cls := "OneCoinModel", name := "isRowOf", desc := "(II)Z" } : Jvm.MethodName)) ∈ lw_all := lw_g (lw_at lw_m8 75 rfl) rfl
theorem q1871 : (Jvm.Cond.privateMethod ({ cls := "OneCoinModel", name := "isRowOf", desc := "(II)Z" } : Jvm.MethodName)) ∈ lw_tbl := lw_at lw_m8 76 rfl
theorem q1872 : (Jvm.Cond.instanceMethod ({ cls := "OneCoinModel", name := "isRowOf", desc := "(II)Z" } : Jvm.MethodName)) ∈ lw_all := lw_g (lw_at lw_m8 77 rfl) rfl
theorem q1873 : (Jvm.Cond.code ({ cls := "OneCoinModel", name := "isRowOf", desc := "(II)Z" } : Jvm.MethodName) prog_20_method_106_code (4 : Nat) (Option.some Jvm.ClassFile.FieldType.boolean)) ∈ lw_all := lw_g (lw_at lw_m8 78 rfl) rfl
theorem q1875 : (Jvm.Cond.instanceMethod ({ cls := "OneCoinModel", name := "dry", desc := "(II)I" } : Jvm.MethodName)) ∈ lw_all := lw_g (lw_at lw_m8 80 rfl) rfl
theorem q1876 : (Jvm.Cond.selects "OneCoinModel" ({ cls := "OneCoinModel", name := "dry", desc := "(II)I" } : Jvm.MethodName) ({ cls := "OneCoinModel", name := "dry", desc := "(II)I" } : Jvm.MethodName)) ∈ lw_all := lw_g (lw_at lw_m8 81 rfl) rfl
theorem q1877 : (Jvm.Cond.code ({ cls := "OneCoinModel", name := "dry", desc := "(II)I" } : Jvm.MethodName) prog_20_method_110_code (7 : Nat) (Option.some Jvm.ClassFile.FieldType.int)) ∈ lw_all := lw_g (lw_at lw_m8 82 rfl) rfl
theorem q1878 : (Jvm.Cond.methodLink "OneCoinModel" (453 : Nat) ({ cls := "OneCoinModel", name := "gcd", desc := "(II)I" } : Jvm.MethodName)) ∈ lw_all := lw_g (lw_at lw_m8 83 rfl) rfl
theorem q1879 : (Jvm.Cond.static ({ cls := "OneCoinModel", name := "gcd", desc := "(II)I" } : Jvm.MethodName)) ∈ lw_all := lw_g (lw_at lw_m8 84 rfl) rfl
theorem q1880 : (Jvm.Cond.code ({ cls := "OneCoinModel", name := "gcd", desc := "(II)I" } : Jvm.MethodName) prog_20_method_109_code (5 : Nat) (Option.some Jvm.ClassFile.FieldType.int)) ∈ lw_all := lw_g (lw_at lw_m8 85 rfl) rfl
theorem q1882 : (Jvm.Cond.instanceMethod ({ cls := "OneCoinModel", name := "seed", desc := "(I)Z" } : Jvm.MethodName)) ∈ lw_all := lw_g (lw_at lw_m8 87 rfl) rfl
theorem q1883 : (Jvm.Cond.selects "OneCoinModel" ({ cls := "OneCoinModel", name := "seed", desc := "(I)Z" } : Jvm.MethodName) ({ cls := "OneCoinModel", name := "seed", desc := "(I)Z" } : Jvm.MethodName)) ∈ lw_all := lw_g (lw_at lw_m8 88 rfl) rfl
theorem q1884 : (Jvm.Cond.code ({ cls := "OneCoinModel", name := "seed", desc := "(I)Z" } : Jvm.MethodName) prog_20_method_111_code (2 : Nat) (Option.some Jvm.ClassFile.FieldType.boolean)) ∈ lw_all := lw_g (lw_at lw_m8 89 rfl) rfl
theorem q1885 : (Jvm.Cond.constant "OneCoinModel" (456 : Nat) (65535 : Int32)) ∈ lw_all := lw_g (lw_at lw_m8 90 rfl) rfl
theorem q1887 : (Jvm.Cond.instanceMethod ({ cls := "OneCoinModel", name := "keep", desc := "()I" } : Jvm.MethodName)) ∈ lw_all := lw_g (lw_at lw_m8 92 rfl) rfl
theorem q1888 : (Jvm.Cond.selects "OneCoinModel" ({ cls := "OneCoinModel", name := "keep", desc := "()I" } : Jvm.MethodName) ({ cls := "OneCoinModel", name := "keep", desc := "()I" } : Jvm.MethodName)) ∈ lw_all := lw_g (lw_at lw_m8 93 rfl) rfl
theorem q1889 : (Jvm.Cond.code ({ cls := "OneCoinModel", name := "keep", desc := "()I" } : Jvm.MethodName) prog_20_method_112_code (1 : Nat) (Option.some Jvm.ClassFile.FieldType.int)) ∈ lw_all := lw_g (lw_at lw_m8 94 rfl) rfl
theorem q1891 : (Jvm.Cond.instanceMethod ({ cls := "OneCoinModel", name := "undo", desc := "()Z" } : Jvm.MethodName)) ∈ lw_all := lw_g (lw_at lw_m8 96 rfl) rfl
theorem q1892 : (Jvm.Cond.selects "OneCoinModel" ({ cls := "OneCoinModel", name := "undo", desc := "()Z" } : Jvm.MethodName) ({ cls := "OneCoinModel", name := "undo", desc := "()Z" } : Jvm.MethodName)) ∈ lw_all := lw_g (lw_at lw_m8 97 rfl) rfl
theorem q1893 : (Jvm.Cond.code ({ cls := "OneCoinModel", name := "undo", desc := "()Z" } : Jvm.MethodName) prog_20_method_113_code (1 : Nat) (Option.some Jvm.ClassFile.FieldType.boolean)) ∈ lw_all := lw_g (lw_at lw_m8 98 rfl) rfl
theorem q1895 : (Jvm.Cond.instanceMethod ({ cls := "OneCoinModel", name := "check", desc := "(I)I" } : Jvm.MethodName)) ∈ lw_all := lw_g (lw_at lw_m8 100 rfl) rfl
theorem q1896 : (Jvm.Cond.selects "OneCoinModel" ({ cls := "OneCoinModel", name := "check", desc := "(I)I" } : Jvm.MethodName) ({ cls := "OneCoinModel", name := "check", desc := "(I)I" } : Jvm.MethodName)) ∈ lw_all := lw_g (lw_at lw_m8 101 rfl) rfl
theorem q1897 : (Jvm.Cond.code ({ cls := "OneCoinModel", name := "check", desc := "(I)I" } : Jvm.MethodName) prog_20_method_114_code (3 : Nat) (Option.some Jvm.ClassFile.FieldType.int)) ∈ lw_all := lw_g (lw_at lw_m8 102 rfl) rfl
theorem q1899 : (Jvm.Cond.instanceMethod ({ cls := "OneCoinModel", name := "count", desc := "(I)I" } : Jvm.MethodName)) ∈ lw_all := lw_g (lw_at lw_m8 104 rfl) rfl
theorem q1900 : (Jvm.Cond.selects "OneCoinModel" ({ cls := "OneCoinModel", name := "count", desc := "(I)I" } : Jvm.MethodName) ({ cls := "OneCoinModel", name := "count", desc := "(I)I" } : Jvm.MethodName)) ∈ lw_all := lw_g (lw_at lw_m8 105 rfl) rfl
theorem q1901 : (Jvm.Cond.code ({ cls := "OneCoinModel", name := "count", desc := "(I)I" } : Jvm.MethodName) prog_20_method_115_code (2 : Nat) (Option.some Jvm.ClassFile.FieldType.int)) ∈ lw_all := lw_g (lw_at lw_m8 106 rfl) rfl
theorem in_X6 : ∀ w ∈ wsX60, w ∈ lw_all := lw_in wsX60 [1327, 1329, 1331, 1333, 1335, 1337, 1339, 1341, 1343, 1345, 1347, 1349, 1351, 1353, 1355, 1357, 1359, 1361, 1363, 1365, 1367, 1369, 1371, 1373, 1375, 1377, 1379, 1381, 1383, 1385, 1387, 1389, 1391, 1393, 1395, 1397, 1399, 1401, 1403, 1405, 1407, 1409, 1411, 1413, 1415, 1417, 1419, 1421, 1423, 1425, 1427, 1429, 1431, 1433, 1435, 1437, 1439, 1441, 1443, 1445, 1447, 1449] (by decide +kernel) (by decide +kernel)
