/-! OneCoin -/
set_option maxRecDepth 100000
def RX0 : String := "OneCoin"
def TX0 : u_T := fun k => match k with
  | 0 => ("OneCoin", "xs", "[I", true)
  | 1 => ("OneCoin", "ys", "[I", true)
  | 2 => ("OneCoin", "told", "I", false)
  | 3 => ("OneCoin", "moment", "LOneCoin$Moment;", true)
  | 4 => ("OneCoin", "duchy", "LOneCoin$Duchy;", true)
  | 5 => ("OneCoin", "then", "LOneCoin$Duchy;", true)
  | 6 => ("OneCoin", "kept", "LOneCoin$Duchy;", true)
  | 7 => ("OneCoin", "tape", "[B", true)
  | 8 => ("OneCoin", "law", "LOneCoin$Text;", false)
  | 9 => ("OneCoin", "taped", "I", false)
  | 10 => ("OneCoin", "isKept", "Z", false)
  | 11 => ("OneCoin", "walkedHours", "I", false)
  | 12 => ("OneCoin", "work", "LOneCoin$Debts;", true)
  | 13 => ("OneCoin", "row", "[I", true)
  | 14 => ("OneCoin", "bestRow", "[I", true)
  | 15 => ("OneCoin", "bestMany", "I", false)
  | 16 => ("OneCoin", "ways", "[[I", true)
  | 17 => ("OneCoin", "owing", "[I", true)
  | 18 => ("OneCoin", "getting", "[I", true)
  | 19 => ("OneCoin", "from", "[I", true)
  | 20 => ("OneCoin", "to", "[I", true)
  | _ => ("OneCoin", "groups", "[I", true)
def tyX0 : Nat → FieldType := fun k => match k with
  | 0 => .array .int
  | 1 => .array .int
  | 2 => .int
  | 3 => .object "OneCoin$Moment"
  | 4 => .object "OneCoin$Duchy"
  | 5 => .object "OneCoin$Duchy"
  | 6 => .object "OneCoin$Duchy"
  | 7 => .array .byte
  | 8 => .object "OneCoin$Text"
  | 9 => .int
  | 10 => .boolean
  | 11 => .int
  | 12 => .object "OneCoin$Debts"
  | 13 => .array .int
  | 14 => .array .int
  | 15 => .int
  | 16 => .array (.array .int)
  | 17 => .array .int
  | 18 => .array .int
  | 19 => .array .int
  | 20 => .array .int
  | _ => .array .int
abbrev wsX00 : List Cond := u_ws RX0 TX0 22
set_option maxRecDepth 100000 in
theorem nmX0 : ∀ a, a < 22 → ∀ b, b < 22 → a ≠ b → (TX0 a).2.1 ≠ (TX0 b).2.1 := by decide +kernel
set_option maxRecDepth 100000 in
theorem tyX0_ok : ∀ k, k < 22 → parseFieldDescriptor (TX0 k).2.2.1 = some (tyX0 k) := by decide +kernel
abbrev cX0_init : ByteArray := prog_1_method_9_code
def yX0_init : MethodName := ⟨RX0, "<init>", "()V"⟩
def dkwX0_init_7 : List UInt8 := [42, 180, 0, 66, 4, 181, 0, 120, 177]
abbrev dktX0_init_7 : List UInt8 := dkwX0_init_7 ++ []
def dkwX0_init_6 : List UInt8 := [16, 12, 188, 10, 181, 0, 111, 42, 16, 12, 188, 10, 181, 0, 114, 42, 17, 4, 0, 188, 10, 181, 0, 117]
abbrev dktX0_init_6 : List UInt8 := dkwX0_init_6 ++ dktX0_init_7
def dkwX0_init_5 : List UInt8 := [197, 0, 100, 2, 181, 0, 102, 42, 16, 6, 188, 10, 181, 0, 105, 42, 16, 6, 188, 10, 181, 0, 108, 42]
abbrev dktX0_init_5 : List UInt8 := dkwX0_init_5 ++ dktX0_init_6
def dkwX0_init_4 : List UInt8 := [181, 0, 90, 42, 16, 60, 188, 10, 181, 0, 94, 42, 16, 60, 188, 10, 181, 0, 97, 42, 16, 10, 16, 10]
abbrev dktX0_init_4 : List UInt8 := dkwX0_init_4 ++ dktX0_init_5
def dkwX0_init_3 : List UInt8 := [188, 8, 181, 0, 76, 42, 187, 0, 80, 89, 183, 0, 82, 181, 0, 83, 42, 187, 0, 87, 89, 183, 0, 89]
abbrev dktX0_init_3 : List UInt8 := dkwX0_init_3 ++ dktX0_init_4
def dkwX0_init_2 : List UInt8 := [89, 42, 183, 0, 65, 181, 0, 70, 42, 187, 0, 63, 89, 42, 183, 0, 65, 181, 0, 73, 42, 17, 1, 4]
abbrev dktX0_init_2 : List UInt8 := dkwX0_init_2 ++ dktX0_init_3
def dkwX0_init_1 : List UInt8 := [89, 42, 183, 0, 60, 181, 0, 37, 42, 187, 0, 63, 89, 42, 183, 0, 65, 181, 0, 66, 42, 187, 0, 63]
abbrev dktX0_init_1 : List UInt8 := dkwX0_init_1 ++ dktX0_init_2
def dkwX0_init_0 : List UInt8 := [42, 183, 0, 54, 42, 16, 10, 188, 10, 181, 0, 26, 42, 16, 10, 188, 10, 181, 0, 34, 42, 187, 0, 42]
abbrev dktX0_init_0 : List UInt8 := dkwX0_init_0 ++ dktX0_init_1
theorem dksX0_init_0 : cX0_init.data.toList.drop 0 = dktX0_init_0 := by decide +kernel
theorem dksX0_init_1 : cX0_init.data.toList.drop 24 = dktX0_init_1 := dk_seg dksX0_init_0 24 rfl rfl
theorem dksX0_init_2 : cX0_init.data.toList.drop 48 = dktX0_init_2 := dk_seg dksX0_init_1 24 rfl rfl
theorem dksX0_init_3 : cX0_init.data.toList.drop 72 = dktX0_init_3 := dk_seg dksX0_init_2 24 rfl rfl
theorem dksX0_init_4 : cX0_init.data.toList.drop 96 = dktX0_init_4 := dk_seg dksX0_init_3 24 rfl rfl
theorem dksX0_init_5 : cX0_init.data.toList.drop 120 = dktX0_init_5 := dk_seg dksX0_init_4 24 rfl rfl
theorem dksX0_init_6 : cX0_init.data.toList.drop 144 = dktX0_init_6 := dk_seg dksX0_init_5 24 rfl rfl
theorem dksX0_init_7 : cX0_init.data.toList.drop 168 = dktX0_init_7 := dk_seg dksX0_init_6 24 rfl rfl
theorem dX0_init_0 : decode cX0_init 0 = .ok (.aload_n 0, 1) := dk_42 (dk_at dksX0_init_0 0 rfl rfl)
theorem dX0_init_1 : decode cX0_init 1 = .ok (.invokespecial 54, 3) := dk_183 0 54 (dk_at dksX0_init_0 1 rfl rfl)
theorem dX0_init_4 : decode cX0_init 4 = .ok (.aload_n 0, 1) := dk_42 (dk_at dksX0_init_0 4 rfl rfl)
theorem dX0_init_5 : decode cX0_init 5 = .ok (.bipush 10, 2) := dk_16 10 (dk_at dksX0_init_0 5 rfl rfl)
theorem dX0_init_7 : decode cX0_init 7 = .ok (.newarray .int, 2) := dk_188_10 (dk_at dksX0_init_0 7 rfl rfl)
theorem dX0_init_9 : decode cX0_init 9 = .ok (.putfield 26, 3) := dk_181 0 26 (dk_at dksX0_init_0 9 rfl rfl)
theorem dX0_init_12 : decode cX0_init 12 = .ok (.aload_n 0, 1) := dk_42 (dk_at dksX0_init_0 12 rfl rfl)
theorem dX0_init_13 : decode cX0_init 13 = .ok (.bipush 10, 2) := dk_16 10 (dk_at dksX0_init_0 13 rfl rfl)
theorem dX0_init_15 : decode cX0_init 15 = .ok (.newarray .int, 2) := dk_188_10 (dk_at dksX0_init_0 15 rfl rfl)
theorem dX0_init_17 : decode cX0_init 17 = .ok (.putfield 34, 3) := dk_181 0 34 (dk_at dksX0_init_0 17 rfl rfl)
theorem dX0_init_20 : decode cX0_init 20 = .ok (.aload_n 0, 1) := dk_42 (dk_at dksX0_init_0 20 rfl rfl)
theorem dX0_init_21 : decode cX0_init 21 = .ok (.new 42, 3) := dk_187 0 42 (dk_at dksX0_init_0 21 rfl rfl)
theorem dX0_init_24 : decode cX0_init 24 = .ok (.dup, 1) := dk_89 (dk_at dksX0_init_1 0 rfl rfl)
theorem dX0_init_25 : decode cX0_init 25 = .ok (.aload_n 0, 1) := dk_42 (dk_at dksX0_init_1 1 rfl rfl)
theorem dX0_init_26 : decode cX0_init 26 = .ok (.invokespecial 60, 3) := dk_183 0 60 (dk_at dksX0_init_1 2 rfl rfl)
theorem dX0_init_29 : decode cX0_init 29 = .ok (.putfield 37, 3) := dk_181 0 37 (dk_at dksX0_init_1 5 rfl rfl)
theorem dX0_init_32 : decode cX0_init 32 = .ok (.aload_n 0, 1) := dk_42 (dk_at dksX0_init_1 8 rfl rfl)
theorem dX0_init_33 : decode cX0_init 33 = .ok (.new 63, 3) := dk_187 0 63 (dk_at dksX0_init_1 9 rfl rfl)
theorem dX0_init_36 : decode cX0_init 36 = .ok (.dup, 1) := dk_89 (dk_at dksX0_init_1 12 rfl rfl)
theorem dX0_init_37 : decode cX0_init 37 = .ok (.aload_n 0, 1) := dk_42 (dk_at dksX0_init_1 13 rfl rfl)
theorem dX0_init_38 : decode cX0_init 38 = .ok (.invokespecial 65, 3) := dk_183 0 65 (dk_at dksX0_init_1 14 rfl rfl)
theorem dX0_init_41 : decode cX0_init 41 = .ok (.putfield 66, 3) := dk_181 0 66 (dk_at dksX0_init_1 17 rfl rfl)
theorem dX0_init_44 : decode cX0_init 44 = .ok (.aload_n 0, 1) := dk_42 (dk_at dksX0_init_1 20 rfl rfl)
theorem dX0_init_45 : decode cX0_init 45 = .ok (.new 63, 3) := dk_187 0 63 (dk_at dksX0_init_1 21 rfl rfl)
theorem dX0_init_48 : decode cX0_init 48 = .ok (.dup, 1) := dk_89 (dk_at dksX0_init_2 0 rfl rfl)
theorem dX0_init_49 : decode cX0_init 49 = .ok (.aload_n 0, 1) := dk_42 (dk_at dksX0_init_2 1 rfl rfl)
theorem dX0_init_50 : decode cX0_init 50 = .ok (.invokespecial 65, 3) := dk_183 0 65 (dk_at dksX0_init_2 2 rfl rfl)
theorem dX0_init_53 : decode cX0_init 53 = .ok (.putfield 70, 3) := dk_181 0 70 (dk_at dksX0_init_2 5 rfl rfl)
theorem dX0_init_56 : decode cX0_init 56 = .ok (.aload_n 0, 1) := dk_42 (dk_at dksX0_init_2 8 rfl rfl)
theorem dX0_init_57 : decode cX0_init 57 = .ok (.new 63, 3) := dk_187 0 63 (dk_at dksX0_init_2 9 rfl rfl)
theorem dX0_init_60 : decode cX0_init 60 = .ok (.dup, 1) := dk_89 (dk_at dksX0_init_2 12 rfl rfl)
theorem dX0_init_61 : decode cX0_init 61 = .ok (.aload_n 0, 1) := dk_42 (dk_at dksX0_init_2 13 rfl rfl)
theorem dX0_init_62 : decode cX0_init 62 = .ok (.invokespecial 65, 3) := dk_183 0 65 (dk_at dksX0_init_2 14 rfl rfl)
theorem dX0_init_65 : decode cX0_init 65 = .ok (.putfield 73, 3) := dk_181 0 73 (dk_at dksX0_init_2 17 rfl rfl)
theorem dX0_init_68 : decode cX0_init 68 = .ok (.aload_n 0, 1) := dk_42 (dk_at dksX0_init_2 20 rfl rfl)
theorem dX0_init_69 : decode cX0_init 69 = .ok (.sipush 260, 3) := dk_17 1 4 (dk_at dksX0_init_2 21 rfl rfl)
theorem dX0_init_72 : decode cX0_init 72 = .ok (.newarray .byte, 2) := dk_188_8 (dk_at dksX0_init_3 0 rfl rfl)
theorem dX0_init_74 : decode cX0_init 74 = .ok (.putfield 76, 3) := dk_181 0 76 (dk_at dksX0_init_3 2 rfl rfl)
theorem dX0_init_77 : decode cX0_init 77 = .ok (.aload_n 0, 1) := dk_42 (dk_at dksX0_init_3 5 rfl rfl)
theorem dX0_init_78 : decode cX0_init 78 = .ok (.new 80, 3) := dk_187 0 80 (dk_at dksX0_init_3 6 rfl rfl)
theorem dX0_init_81 : decode cX0_init 81 = .ok (.dup, 1) := dk_89 (dk_at dksX0_init_3 9 rfl rfl)
theorem dX0_init_82 : decode cX0_init 82 = .ok (.invokespecial 82, 3) := dk_183 0 82 (dk_at dksX0_init_3 10 rfl rfl)
theorem dX0_init_85 : decode cX0_init 85 = .ok (.putfield 83, 3) := dk_181 0 83 (dk_at dksX0_init_3 13 rfl rfl)
theorem dX0_init_88 : decode cX0_init 88 = .ok (.aload_n 0, 1) := dk_42 (dk_at dksX0_init_3 16 rfl rfl)
theorem dX0_init_89 : decode cX0_init 89 = .ok (.new 87, 3) := dk_187 0 87 (dk_at dksX0_init_3 17 rfl rfl)
theorem dX0_init_92 : decode cX0_init 92 = .ok (.dup, 1) := dk_89 (dk_at dksX0_init_3 20 rfl rfl)
theorem dX0_init_93 : decode cX0_init 93 = .ok (.invokespecial 89, 3) := dk_183 0 89 (dk_at dksX0_init_3 21 rfl rfl)
theorem dX0_init_96 : decode cX0_init 96 = .ok (.putfield 90, 3) := dk_181 0 90 (dk_at dksX0_init_4 0 rfl rfl)
theorem dX0_init_99 : decode cX0_init 99 = .ok (.aload_n 0, 1) := dk_42 (dk_at dksX0_init_4 3 rfl rfl)
theorem dX0_init_100 : decode cX0_init 100 = .ok (.bipush 60, 2) := dk_16 60 (dk_at dksX0_init_4 4 rfl rfl)
theorem dX0_init_102 : decode cX0_init 102 = .ok (.newarray .int, 2) := dk_188_10 (dk_at dksX0_init_4 6 rfl rfl)
theorem dX0_init_104 : decode cX0_init 104 = .ok (.putfield 94, 3) := dk_181 0 94 (dk_at dksX0_init_4 8 rfl rfl)
theorem dX0_init_107 : decode cX0_init 107 = .ok (.aload_n 0, 1) := dk_42 (dk_at dksX0_init_4 11 rfl rfl)
theorem dX0_init_108 : decode cX0_init 108 = .ok (.bipush 60, 2) := dk_16 60 (dk_at dksX0_init_4 12 rfl rfl)
theorem dX0_init_110 : decode cX0_init 110 = .ok (.newarray .int, 2) := dk_188_10 (dk_at dksX0_init_4 14 rfl rfl)
theorem dX0_init_112 : decode cX0_init 112 = .ok (.putfield 97, 3) := dk_181 0 97 (dk_at dksX0_init_4 16 rfl rfl)
theorem dX0_init_115 : decode cX0_init 115 = .ok (.aload_n 0, 1) := dk_42 (dk_at dksX0_init_4 19 rfl rfl)
theorem dX0_init_116 : decode cX0_init 116 = .ok (.bipush 10, 2) := dk_16 10 (dk_at dksX0_init_4 20 rfl rfl)
theorem dX0_init_118 : decode cX0_init 118 = .ok (.bipush 10, 2) := dk_16 10 (dk_at dksX0_init_4 22 rfl rfl)
theorem dX0_init_120 : decode cX0_init 120 = .ok (.multianewarray 100 2, 4) := by decide +kernel
theorem dX0_init_124 : decode cX0_init 124 = .ok (.putfield 102, 3) := dk_181 0 102 (dk_at dksX0_init_5 4 rfl rfl)
theorem dX0_init_127 : decode cX0_init 127 = .ok (.aload_n 0, 1) := dk_42 (dk_at dksX0_init_5 7 rfl rfl)
theorem dX0_init_128 : decode cX0_init 128 = .ok (.bipush 6, 2) := dk_16 6 (dk_at dksX0_init_5 8 rfl rfl)
theorem dX0_init_130 : decode cX0_init 130 = .ok (.newarray .int, 2) := dk_188_10 (dk_at dksX0_init_5 10 rfl rfl)
theorem dX0_init_132 : decode cX0_init 132 = .ok (.putfield 105, 3) := dk_181 0 105 (dk_at dksX0_init_5 12 rfl rfl)
theorem dX0_init_135 : decode cX0_init 135 = .ok (.aload_n 0, 1) := dk_42 (dk_at dksX0_init_5 15 rfl rfl)
theorem dX0_init_136 : decode cX0_init 136 = .ok (.bipush 6, 2) := dk_16 6 (dk_at dksX0_init_5 16 rfl rfl)
theorem dX0_init_138 : decode cX0_init 138 = .ok (.newarray .int, 2) := dk_188_10 (dk_at dksX0_init_5 18 rfl rfl)
theorem dX0_init_140 : decode cX0_init 140 = .ok (.putfield 108, 3) := dk_181 0 108 (dk_at dksX0_init_5 20 rfl rfl)
theorem dX0_init_143 : decode cX0_init 143 = .ok (.aload_n 0, 1) := dk_42 (dk_at dksX0_init_5 23 rfl rfl)
theorem dX0_init_144 : decode cX0_init 144 = .ok (.bipush 12, 2) := dk_16 12 (dk_at dksX0_init_6 0 rfl rfl)
theorem dX0_init_146 : decode cX0_init 146 = .ok (.newarray .int, 2) := dk_188_10 (dk_at dksX0_init_6 2 rfl rfl)
theorem dX0_init_148 : decode cX0_init 148 = .ok (.putfield 111, 3) := dk_181 0 111 (dk_at dksX0_init_6 4 rfl rfl)
theorem dX0_init_151 : decode cX0_init 151 = .ok (.aload_n 0, 1) := dk_42 (dk_at dksX0_init_6 7 rfl rfl)
theorem dX0_init_152 : decode cX0_init 152 = .ok (.bipush 12, 2) := dk_16 12 (dk_at dksX0_init_6 8 rfl rfl)
theorem dX0_init_154 : decode cX0_init 154 = .ok (.newarray .int, 2) := dk_188_10 (dk_at dksX0_init_6 10 rfl rfl)
theorem dX0_init_156 : decode cX0_init 156 = .ok (.putfield 114, 3) := dk_181 0 114 (dk_at dksX0_init_6 12 rfl rfl)
theorem dX0_init_159 : decode cX0_init 159 = .ok (.aload_n 0, 1) := dk_42 (dk_at dksX0_init_6 15 rfl rfl)
theorem dX0_init_160 : decode cX0_init 160 = .ok (.sipush 1024, 3) := dk_17 4 0 (dk_at dksX0_init_6 16 rfl rfl)
theorem dX0_init_163 : decode cX0_init 163 = .ok (.newarray .int, 2) := dk_188_10 (dk_at dksX0_init_6 19 rfl rfl)
theorem dX0_init_165 : decode cX0_init 165 = .ok (.putfield 117, 3) := dk_181 0 117 (dk_at dksX0_init_6 21 rfl rfl)
theorem dX0_init_168 : decode cX0_init 168 = .ok (.aload_n 0, 1) := dk_42 (dk_at dksX0_init_7 0 rfl rfl)
theorem dX0_init_169 : decode cX0_init 169 = .ok (.getfield 66, 3) := dk_180 0 66 (dk_at dksX0_init_7 1 rfl rfl)
theorem dX0_init_172 : decode cX0_init 172 = .ok (.iconst 1, 1) := dk_4 (dk_at dksX0_init_7 4 rfl rfl)
theorem dX0_init_173 : decode cX0_init 173 = .ok (.putfield 120, 3) := dk_181 0 120 (dk_at dksX0_init_7 5 rfl rfl)
theorem dX0_init_176 : decode cX0_init 176 = .ok (.return_, 1) := dk_177 (dk_at dksX0_init_7 8 rfl rfl)
abbrev cX0_person : ByteArray := prog_1_method_10_code
def yX0_person : MethodName := ⟨RX0, "person", "(III)Z"⟩
def dkwX0_person_2 : List UInt8 := [42, 180, 0, 34, 27, 29, 79, 4, 172]
abbrev dktX0_person_2 : List UInt8 := dkwX0_person_2 ++ []
def dkwX0_person_1 : List UInt8 := [154, 0, 5, 3, 172, 42, 89, 180, 0, 19, 4, 27, 120, 128, 181, 0, 19, 42, 180, 0, 26, 27, 28, 79]
abbrev dktX0_person_1 : List UInt8 := dkwX0_person_1 ++ dktX0_person_2
def dkwX0_person_0 : List UInt8 := [27, 16, 10, 184, 0, 15, 153, 0, 21, 28, 16, 10, 184, 0, 15, 153, 0, 12, 29, 16, 10, 184, 0, 15]
abbrev dktX0_person_0 : List UInt8 := dkwX0_person_0 ++ dktX0_person_1
theorem dksX0_person_0 : cX0_person.data.toList.drop 0 = dktX0_person_0 := by decide +kernel
theorem dksX0_person_1 : cX0_person.data.toList.drop 24 = dktX0_person_1 := dk_seg dksX0_person_0 24 rfl rfl
theorem dksX0_person_2 : cX0_person.data.toList.drop 48 = dktX0_person_2 := dk_seg dksX0_person_1 24 rfl rfl
theorem dX0_person_0 : decode cX0_person 0 = .ok (.iload_n 1, 1) := dk_27 (dk_at dksX0_person_0 0 rfl rfl)
theorem dX0_person_1 : decode cX0_person 1 = .ok (.bipush 10, 2) := dk_16 10 (dk_at dksX0_person_0 1 rfl rfl)
theorem dX0_person_3 : decode cX0_person 3 = .ok (.invokestatic 15, 3) := dk_184 0 15 (dk_at dksX0_person_0 3 rfl rfl)
theorem dX0_person_6 : decode cX0_person 6 = .ok (.ifCond .eq 21, 3) := dk_153 0 21 (dk_at dksX0_person_0 6 rfl rfl)
theorem dX0_person_9 : decode cX0_person 9 = .ok (.iload_n 2, 1) := dk_28 (dk_at dksX0_person_0 9 rfl rfl)
theorem dX0_person_10 : decode cX0_person 10 = .ok (.bipush 10, 2) := dk_16 10 (dk_at dksX0_person_0 10 rfl rfl)
theorem dX0_person_12 : decode cX0_person 12 = .ok (.invokestatic 15, 3) := dk_184 0 15 (dk_at dksX0_person_0 12 rfl rfl)
theorem dX0_person_15 : decode cX0_person 15 = .ok (.ifCond .eq 12, 3) := dk_153 0 12 (dk_at dksX0_person_0 15 rfl rfl)
theorem dX0_person_18 : decode cX0_person 18 = .ok (.iload_n 3, 1) := dk_29 (dk_at dksX0_person_0 18 rfl rfl)
theorem dX0_person_19 : decode cX0_person 19 = .ok (.bipush 10, 2) := dk_16 10 (dk_at dksX0_person_0 19 rfl rfl)
theorem dX0_person_21 : decode cX0_person 21 = .ok (.invokestatic 15, 3) := dk_184 0 15 (dk_at dksX0_person_0 21 rfl rfl)
theorem dX0_person_24 : decode cX0_person 24 = .ok (.ifCond .ne 5, 3) := dk_154 0 5 (dk_at dksX0_person_1 0 rfl rfl)
theorem dX0_person_27 : decode cX0_person 27 = .ok (.iconst 0, 1) := dk_3 (dk_at dksX0_person_1 3 rfl rfl)
theorem dX0_person_28 : decode cX0_person 28 = .ok (.ireturn, 1) := dk_172 (dk_at dksX0_person_1 4 rfl rfl)
theorem dX0_person_29 : decode cX0_person 29 = .ok (.aload_n 0, 1) := dk_42 (dk_at dksX0_person_1 5 rfl rfl)
theorem dX0_person_30 : decode cX0_person 30 = .ok (.dup, 1) := dk_89 (dk_at dksX0_person_1 6 rfl rfl)
theorem dX0_person_31 : decode cX0_person 31 = .ok (.getfield 19, 3) := dk_180 0 19 (dk_at dksX0_person_1 7 rfl rfl)
theorem dX0_person_34 : decode cX0_person 34 = .ok (.iconst 1, 1) := dk_4 (dk_at dksX0_person_1 10 rfl rfl)
theorem dX0_person_35 : decode cX0_person 35 = .ok (.iload_n 1, 1) := dk_27 (dk_at dksX0_person_1 11 rfl rfl)
theorem dX0_person_36 : decode cX0_person 36 = .ok (.ishl, 1) := dk_120 (dk_at dksX0_person_1 12 rfl rfl)
theorem dX0_person_37 : decode cX0_person 37 = .ok (.ior, 1) := dk_128 (dk_at dksX0_person_1 13 rfl rfl)
theorem dX0_person_38 : decode cX0_person 38 = .ok (.putfield 19, 3) := dk_181 0 19 (dk_at dksX0_person_1 14 rfl rfl)
theorem dX0_person_41 : decode cX0_person 41 = .ok (.aload_n 0, 1) := dk_42 (dk_at dksX0_person_1 17 rfl rfl)
theorem dX0_person_42 : decode cX0_person 42 = .ok (.getfield 26, 3) := dk_180 0 26 (dk_at dksX0_person_1 18 rfl rfl)
theorem dX0_person_45 : decode cX0_person 45 = .ok (.iload_n 1, 1) := dk_27 (dk_at dksX0_person_1 21 rfl rfl)
theorem dX0_person_46 : decode cX0_person 46 = .ok (.iload_n 2, 1) := dk_28 (dk_at dksX0_person_1 22 rfl rfl)
theorem dX0_person_47 : decode cX0_person 47 = .ok (.iastore, 1) := dk_79 (dk_at dksX0_person_1 23 rfl rfl)
theorem dX0_person_48 : decode cX0_person 48 = .ok (.aload_n 0, 1) := dk_42 (dk_at dksX0_person_2 0 rfl rfl)
theorem dX0_person_49 : decode cX0_person 49 = .ok (.getfield 34, 3) := dk_180 0 34 (dk_at dksX0_person_2 1 rfl rfl)
theorem dX0_person_52 : decode cX0_person 52 = .ok (.iload_n 1, 1) := dk_27 (dk_at dksX0_person_2 4 rfl rfl)
theorem dX0_person_53 : decode cX0_person 53 = .ok (.iload_n 3, 1) := dk_29 (dk_at dksX0_person_2 5 rfl rfl)
theorem dX0_person_54 : decode cX0_person 54 = .ok (.iastore, 1) := dk_79 (dk_at dksX0_person_2 6 rfl rfl)
theorem dX0_person_55 : decode cX0_person 55 = .ok (.iconst 1, 1) := dk_4 (dk_at dksX0_person_2 7 rfl rfl)
theorem dX0_person_56 : decode cX0_person 56 = .ok (.ireturn, 1) := dk_172 (dk_at dksX0_person_2 8 rfl rfl)
abbrev cX0_in : ByteArray := prog_1_method_1_code
def yX0_in : MethodName := ⟨RX0, "in", "(II)Z"⟩
def dkwX0_in_0 : List UInt8 := [26, 155, 0, 12, 26, 27, 162, 0, 7, 4, 167, 0, 4, 3, 172]
abbrev dktX0_in_0 : List UInt8 := dkwX0_in_0 ++ []
theorem dksX0_in_0 : cX0_in.data.toList.drop 0 = dktX0_in_0 := by decide +kernel
theorem dX0_in_0 : decode cX0_in 0 = .ok (.iload_n 0, 1) := dk_26 (dk_at dksX0_in_0 0 rfl rfl)
theorem dX0_in_1 : decode cX0_in 1 = .ok (.ifCond .lt 12, 3) := dk_155 0 12 (dk_at dksX0_in_0 1 rfl rfl)
theorem dX0_in_4 : decode cX0_in 4 = .ok (.iload_n 0, 1) := dk_26 (dk_at dksX0_in_0 4 rfl rfl)
theorem dX0_in_5 : decode cX0_in 5 = .ok (.iload_n 1, 1) := dk_27 (dk_at dksX0_in_0 5 rfl rfl)
theorem dX0_in_6 : decode cX0_in 6 = .ok (.if_icmp .ge 7, 3) := dk_162 0 7 (dk_at dksX0_in_0 6 rfl rfl)
theorem dX0_in_9 : decode cX0_in 9 = .ok (.iconst 1, 1) := dk_4 (dk_at dksX0_in_0 9 rfl rfl)
theorem dX0_in_10 : decode cX0_in 10 = .ok (.goto 4, 3) := dk_167 0 4 (dk_at dksX0_in_0 10 rfl rfl)
theorem dX0_in_13 : decode cX0_in 13 = .ok (.iconst 0, 1) := dk_3 (dk_at dksX0_in_0 13 rfl rfl)
theorem dX0_in_14 : decode cX0_in 14 = .ok (.ireturn, 1) := dk_172 (dk_at dksX0_in_0 14 rfl rfl)
abbrev cX0_debt : ByteArray := prog_1_method_11_code
def yX0_debt : MethodName := ⟨RX0, "debt", "(III)Z"⟩
def dkwX0_debt_2 : List UInt8 := [79, 4, 172]
abbrev dktX0_debt_2 : List UInt8 := dkwX0_debt_2 ++ []
def dkwX0_debt_1 : List UInt8 := [16, 99, 184, 0, 127, 154, 0, 5, 3, 172, 42, 180, 0, 66, 180, 0, 131, 180, 0, 134, 27, 50, 28, 29]
abbrev dktX0_debt_1 : List UInt8 := dkwX0_debt_1 ++ dktX0_debt_2
def dkwX0_debt_0 : List UInt8 := [42, 27, 182, 0, 123, 153, 0, 26, 42, 28, 182, 0, 123, 153, 0, 18, 27, 28, 159, 0, 13, 29, 3]
abbrev dktX0_debt_0 : List UInt8 := dkwX0_debt_0 ++ dktX0_debt_1
theorem dksX0_debt_0 : cX0_debt.data.toList.drop 0 = dktX0_debt_0 := by decide +kernel
theorem dksX0_debt_1 : cX0_debt.data.toList.drop 23 = dktX0_debt_1 := dk_seg dksX0_debt_0 23 rfl rfl
theorem dksX0_debt_2 : cX0_debt.data.toList.drop 47 = dktX0_debt_2 := dk_seg dksX0_debt_1 24 rfl rfl
theorem dX0_debt_0 : decode cX0_debt 0 = .ok (.aload_n 0, 1) := dk_42 (dk_at dksX0_debt_0 0 rfl rfl)
theorem dX0_debt_1 : decode cX0_debt 1 = .ok (.iload_n 1, 1) := dk_27 (dk_at dksX0_debt_0 1 rfl rfl)
theorem dX0_debt_2 : decode cX0_debt 2 = .ok (.invokevirtual 123, 3) := dk_182 0 123 (dk_at dksX0_debt_0 2 rfl rfl)
theorem dX0_debt_5 : decode cX0_debt 5 = .ok (.ifCond .eq 26, 3) := dk_153 0 26 (dk_at dksX0_debt_0 5 rfl rfl)
theorem dX0_debt_8 : decode cX0_debt 8 = .ok (.aload_n 0, 1) := dk_42 (dk_at dksX0_debt_0 8 rfl rfl)
theorem dX0_debt_9 : decode cX0_debt 9 = .ok (.iload_n 2, 1) := dk_28 (dk_at dksX0_debt_0 9 rfl rfl)
theorem dX0_debt_10 : decode cX0_debt 10 = .ok (.invokevirtual 123, 3) := dk_182 0 123 (dk_at dksX0_debt_0 10 rfl rfl)
theorem dX0_debt_13 : decode cX0_debt 13 = .ok (.ifCond .eq 18, 3) := dk_153 0 18 (dk_at dksX0_debt_0 13 rfl rfl)
theorem dX0_debt_16 : decode cX0_debt 16 = .ok (.iload_n 1, 1) := dk_27 (dk_at dksX0_debt_0 16 rfl rfl)
theorem dX0_debt_17 : decode cX0_debt 17 = .ok (.iload_n 2, 1) := dk_28 (dk_at dksX0_debt_0 17 rfl rfl)
theorem dX0_debt_18 : decode cX0_debt 18 = .ok (.if_icmp .eq 13, 3) := dk_159 0 13 (dk_at dksX0_debt_0 18 rfl rfl)
theorem dX0_debt_21 : decode cX0_debt 21 = .ok (.iload_n 3, 1) := dk_29 (dk_at dksX0_debt_0 21 rfl rfl)
theorem dX0_debt_22 : decode cX0_debt 22 = .ok (.iconst 0, 1) := dk_3 (dk_at dksX0_debt_0 22 rfl rfl)
theorem dX0_debt_23 : decode cX0_debt 23 = .ok (.bipush 99, 2) := dk_16 99 (dk_at dksX0_debt_1 0 rfl rfl)
theorem dX0_debt_25 : decode cX0_debt 25 = .ok (.invokestatic 127, 3) := dk_184 0 127 (dk_at dksX0_debt_1 2 rfl rfl)
theorem dX0_debt_28 : decode cX0_debt 28 = .ok (.ifCond .ne 5, 3) := dk_154 0 5 (dk_at dksX0_debt_1 5 rfl rfl)
theorem dX0_debt_31 : decode cX0_debt 31 = .ok (.iconst 0, 1) := dk_3 (dk_at dksX0_debt_1 8 rfl rfl)
theorem dX0_debt_32 : decode cX0_debt 32 = .ok (.ireturn, 1) := dk_172 (dk_at dksX0_debt_1 9 rfl rfl)
theorem dX0_debt_33 : decode cX0_debt 33 = .ok (.aload_n 0, 1) := dk_42 (dk_at dksX0_debt_1 10 rfl rfl)
theorem dX0_debt_34 : decode cX0_debt 34 = .ok (.getfield 66, 3) := dk_180 0 66 (dk_at dksX0_debt_1 11 rfl rfl)
theorem dX0_debt_37 : decode cX0_debt 37 = .ok (.getfield 131, 3) := dk_180 0 131 (dk_at dksX0_debt_1 14 rfl rfl)
theorem dX0_debt_40 : decode cX0_debt 40 = .ok (.getfield 134, 3) := dk_180 0 134 (dk_at dksX0_debt_1 17 rfl rfl)
theorem dX0_debt_43 : decode cX0_debt 43 = .ok (.iload_n 1, 1) := dk_27 (dk_at dksX0_debt_1 20 rfl rfl)
theorem dX0_debt_44 : decode cX0_debt 44 = .ok (.aaload, 1) := dk_50 (dk_at dksX0_debt_1 21 rfl rfl)
theorem dX0_debt_45 : decode cX0_debt 45 = .ok (.iload_n 2, 1) := dk_28 (dk_at dksX0_debt_1 22 rfl rfl)
theorem dX0_debt_46 : decode cX0_debt 46 = .ok (.iload_n 3, 1) := dk_29 (dk_at dksX0_debt_1 23 rfl rfl)
theorem dX0_debt_47 : decode cX0_debt 47 = .ok (.iastore, 1) := dk_79 (dk_at dksX0_debt_2 0 rfl rfl)
theorem dX0_debt_48 : decode cX0_debt 48 = .ok (.iconst 1, 1) := dk_4 (dk_at dksX0_debt_2 1 rfl rfl)
theorem dX0_debt_49 : decode cX0_debt 49 = .ok (.ireturn, 1) := dk_172 (dk_at dksX0_debt_2 2 rfl rfl)
abbrev cX0_isTold : ByteArray := prog_1_method_6_code
def yX0_isTold : MethodName := ⟨RX0, "isTold", "(I)Z"⟩
def dkwX0_isTold_1 : List UInt8 := [3, 172]
abbrev dktX0_isTold_1 : List UInt8 := dkwX0_isTold_1 ++ []
def dkwX0_isTold_0 : List UInt8 := [27, 16, 10, 184, 0, 15, 153, 0, 18, 42, 180, 0, 19, 27, 184, 0, 23, 153, 0, 7, 4, 167, 0, 4]
abbrev dktX0_isTold_0 : List UInt8 := dkwX0_isTold_0 ++ dktX0_isTold_1
theorem dksX0_isTold_0 : cX0_isTold.data.toList.drop 0 = dktX0_isTold_0 := by decide +kernel
theorem dksX0_isTold_1 : cX0_isTold.data.toList.drop 24 = dktX0_isTold_1 := dk_seg dksX0_isTold_0 24 rfl rfl
theorem dX0_isTold_0 : decode cX0_isTold 0 = .ok (.iload_n 1, 1) := dk_27 (dk_at dksX0_isTold_0 0 rfl rfl)
theorem dX0_isTold_1 : decode cX0_isTold 1 = .ok (.bipush 10, 2) := dk_16 10 (dk_at dksX0_isTold_0 1 rfl rfl)
theorem dX0_isTold_3 : decode cX0_isTold 3 = .ok (.invokestatic 15, 3) := dk_184 0 15 (dk_at dksX0_isTold_0 3 rfl rfl)
theorem dX0_isTold_6 : decode cX0_isTold 6 = .ok (.ifCond .eq 18, 3) := dk_153 0 18 (dk_at dksX0_isTold_0 6 rfl rfl)
theorem dX0_isTold_9 : decode cX0_isTold 9 = .ok (.aload_n 0, 1) := dk_42 (dk_at dksX0_isTold_0 9 rfl rfl)
theorem dX0_isTold_10 : decode cX0_isTold 10 = .ok (.getfield 19, 3) := dk_180 0 19 (dk_at dksX0_isTold_0 10 rfl rfl)
theorem dX0_isTold_13 : decode cX0_isTold 13 = .ok (.iload_n 1, 1) := dk_27 (dk_at dksX0_isTold_0 13 rfl rfl)
theorem dX0_isTold_14 : decode cX0_isTold 14 = .ok (.invokestatic 23, 3) := dk_184 0 23 (dk_at dksX0_isTold_0 14 rfl rfl)
theorem dX0_isTold_17 : decode cX0_isTold 17 = .ok (.ifCond .eq 7, 3) := dk_153 0 7 (dk_at dksX0_isTold_0 17 rfl rfl)
theorem dX0_isTold_20 : decode cX0_isTold 20 = .ok (.iconst 1, 1) := dk_4 (dk_at dksX0_isTold_0 20 rfl rfl)
theorem dX0_isTold_21 : decode cX0_isTold 21 = .ok (.goto 4, 3) := dk_167 0 4 (dk_at dksX0_isTold_0 21 rfl rfl)
theorem dX0_isTold_24 : decode cX0_isTold 24 = .ok (.iconst 0, 1) := dk_3 (dk_at dksX0_isTold_1 0 rfl rfl)
theorem dX0_isTold_25 : decode cX0_isTold 25 = .ok (.ireturn, 1) := dk_172 (dk_at dksX0_isTold_1 1 rfl rfl)
abbrev cX0_has : ByteArray := prog_1_method_3_code
def yX0_has : MethodName := ⟨RX0, "has", "(II)Z"⟩
def dkwX0_has_0 : List UInt8 := [26, 27, 122, 4, 126, 4, 160, 0, 7, 4, 167, 0, 4, 3, 172]
abbrev dktX0_has_0 : List UInt8 := dkwX0_has_0 ++ []
theorem dksX0_has_0 : cX0_has.data.toList.drop 0 = dktX0_has_0 := by decide +kernel
theorem dX0_has_0 : decode cX0_has 0 = .ok (.iload_n 0, 1) := dk_26 (dk_at dksX0_has_0 0 rfl rfl)
theorem dX0_has_1 : decode cX0_has 1 = .ok (.iload_n 1, 1) := dk_27 (dk_at dksX0_has_0 1 rfl rfl)
theorem dX0_has_2 : decode cX0_has 2 = .ok (.ishr, 1) := dk_122 (dk_at dksX0_has_0 2 rfl rfl)
theorem dX0_has_3 : decode cX0_has 3 = .ok (.iconst 1, 1) := dk_4 (dk_at dksX0_has_0 3 rfl rfl)
theorem dX0_has_4 : decode cX0_has 4 = .ok (.iand, 1) := dk_126 (dk_at dksX0_has_0 4 rfl rfl)
theorem dX0_has_5 : decode cX0_has 5 = .ok (.iconst 1, 1) := dk_4 (dk_at dksX0_has_0 5 rfl rfl)
theorem dX0_has_6 : decode cX0_has 6 = .ok (.if_icmp .ne 7, 3) := dk_160 0 7 (dk_at dksX0_has_0 6 rfl rfl)
theorem dX0_has_9 : decode cX0_has 9 = .ok (.iconst 1, 1) := dk_4 (dk_at dksX0_has_0 9 rfl rfl)
theorem dX0_has_10 : decode cX0_has 10 = .ok (.goto 4, 3) := dk_167 0 4 (dk_at dksX0_has_0 10 rfl rfl)
theorem dX0_has_13 : decode cX0_has 13 = .ok (.iconst 0, 1) := dk_3 (dk_at dksX0_has_0 13 rfl rfl)
theorem dX0_has_14 : decode cX0_has 14 = .ok (.ireturn, 1) := dk_172 (dk_at dksX0_has_0 14 rfl rfl)
abbrev cX0_within : ByteArray := prog_1_method_2_code
def yX0_within : MethodName := ⟨RX0, "within", "(III)Z"⟩
def dkwX0_within_0 : List UInt8 := [26, 27, 161, 0, 12, 26, 28, 163, 0, 7, 4, 167, 0, 4, 3, 172]
abbrev dktX0_within_0 : List UInt8 := dkwX0_within_0 ++ []
theorem dksX0_within_0 : cX0_within.data.toList.drop 0 = dktX0_within_0 := by decide +kernel
theorem dX0_within_0 : decode cX0_within 0 = .ok (.iload_n 0, 1) := dk_26 (dk_at dksX0_within_0 0 rfl rfl)
theorem dX0_within_1 : decode cX0_within 1 = .ok (.iload_n 1, 1) := dk_27 (dk_at dksX0_within_0 1 rfl rfl)
theorem dX0_within_2 : decode cX0_within 2 = .ok (.if_icmp .lt 12, 3) := dk_161 0 12 (dk_at dksX0_within_0 2 rfl rfl)
theorem dX0_within_5 : decode cX0_within 5 = .ok (.iload_n 0, 1) := dk_26 (dk_at dksX0_within_0 5 rfl rfl)
theorem dX0_within_6 : decode cX0_within 6 = .ok (.iload_n 2, 1) := dk_28 (dk_at dksX0_within_0 6 rfl rfl)
theorem dX0_within_7 : decode cX0_within 7 = .ok (.if_icmp .gt 7, 3) := dk_163 0 7 (dk_at dksX0_within_0 7 rfl rfl)
theorem dX0_within_10 : decode cX0_within 10 = .ok (.iconst 1, 1) := dk_4 (dk_at dksX0_within_0 10 rfl rfl)
theorem dX0_within_11 : decode cX0_within 11 = .ok (.goto 4, 3) := dk_167 0 4 (dk_at dksX0_within_0 11 rfl rfl)
theorem dX0_within_14 : decode cX0_within 14 = .ok (.iconst 0, 1) := dk_3 (dk_at dksX0_within_0 14 rfl rfl)
theorem dX0_within_15 : decode cX0_within 15 = .ok (.ireturn, 1) := dk_172 (dk_at dksX0_within_0 15 rfl rfl)
abbrev cX0_coin : ByteArray := prog_1_method_12_code
def yX0_coin : MethodName := ⟨RX0, "coin", "(I)Z"⟩
def dkwX0_coin_1 : List UInt8 := [181, 0, 140, 4, 172]
abbrev dktX0_coin_1 : List UInt8 := dkwX0_coin_1 ++ []
def dkwX0_coin_0 : List UInt8 := [42, 27, 182, 0, 123, 154, 0, 5, 3, 172, 42, 180, 0, 66, 27, 181, 0, 137, 42, 180, 0, 66, 2]
abbrev dktX0_coin_0 : List UInt8 := dkwX0_coin_0 ++ dktX0_coin_1
theorem dksX0_coin_0 : cX0_coin.data.toList.drop 0 = dktX0_coin_0 := by decide +kernel
theorem dksX0_coin_1 : cX0_coin.data.toList.drop 23 = dktX0_coin_1 := dk_seg dksX0_coin_0 23 rfl rfl
theorem dX0_coin_0 : decode cX0_coin 0 = .ok (.aload_n 0, 1) := dk_42 (dk_at dksX0_coin_0 0 rfl rfl)
theorem dX0_coin_1 : decode cX0_coin 1 = .ok (.iload_n 1, 1) := dk_27 (dk_at dksX0_coin_0 1 rfl rfl)
theorem dX0_coin_2 : decode cX0_coin 2 = .ok (.invokevirtual 123, 3) := dk_182 0 123 (dk_at dksX0_coin_0 2 rfl rfl)
theorem dX0_coin_5 : decode cX0_coin 5 = .ok (.ifCond .ne 5, 3) := dk_154 0 5 (dk_at dksX0_coin_0 5 rfl rfl)
theorem dX0_coin_8 : decode cX0_coin 8 = .ok (.iconst 0, 1) := dk_3 (dk_at dksX0_coin_0 8 rfl rfl)
theorem dX0_coin_9 : decode cX0_coin 9 = .ok (.ireturn, 1) := dk_172 (dk_at dksX0_coin_0 9 rfl rfl)
theorem dX0_coin_10 : decode cX0_coin 10 = .ok (.aload_n 0, 1) := dk_42 (dk_at dksX0_coin_0 10 rfl rfl)
theorem dX0_coin_11 : decode cX0_coin 11 = .ok (.getfield 66, 3) := dk_180 0 66 (dk_at dksX0_coin_0 11 rfl rfl)
theorem dX0_coin_14 : decode cX0_coin 14 = .ok (.iload_n 1, 1) := dk_27 (dk_at dksX0_coin_0 14 rfl rfl)
theorem dX0_coin_15 : decode cX0_coin 15 = .ok (.putfield 137, 3) := dk_181 0 137 (dk_at dksX0_coin_0 15 rfl rfl)
theorem dX0_coin_18 : decode cX0_coin 18 = .ok (.aload_n 0, 1) := dk_42 (dk_at dksX0_coin_0 18 rfl rfl)
theorem dX0_coin_19 : decode cX0_coin 19 = .ok (.getfield 66, 3) := dk_180 0 66 (dk_at dksX0_coin_0 19 rfl rfl)
theorem dX0_coin_22 : decode cX0_coin 22 = .ok (.iconst (-1), 1) := dk_2 (dk_at dksX0_coin_0 22 rfl rfl)
theorem dX0_coin_23 : decode cX0_coin 23 = .ok (.putfield 140, 3) := dk_181 0 140 (dk_at dksX0_coin_1 0 rfl rfl)
theorem dX0_coin_26 : decode cX0_coin 26 = .ok (.iconst 1, 1) := dk_4 (dk_at dksX0_coin_1 3 rfl rfl)
theorem dX0_coin_27 : decode cX0_coin 27 = .ok (.ireturn, 1) := dk_172 (dk_at dksX0_coin_1 4 rfl rfl)
abbrev cX0_feed : ByteArray := prog_1_method_14_code
def yX0_feed : MethodName := ⟨RX0, "feed", "(IIIII)I"⟩
def dkwX0_feed_2 : List UInt8 := [172]
abbrev dktX0_feed_2 : List UInt8 := dkwX0_feed_2 ++ []
def dkwX0_feed_1 : List UInt8 := [182, 0, 146, 42, 29, 182, 0, 146, 42, 21, 4, 182, 0, 146, 42, 21, 5, 182, 0, 146, 42, 180, 0, 143]
abbrev dktX0_feed_1 : List UInt8 := dkwX0_feed_1 ++ dktX0_feed_2
def dkwX0_feed_0 : List UInt8 := [42, 180, 0, 143, 16, 20, 96, 17, 1, 4, 164, 0, 5, 2, 172, 42, 27, 182, 0, 146, 42, 28]
abbrev dktX0_feed_0 : List UInt8 := dkwX0_feed_0 ++ dktX0_feed_1
theorem dksX0_feed_0 : cX0_feed.data.toList.drop 0 = dktX0_feed_0 := by decide +kernel
theorem dksX0_feed_1 : cX0_feed.data.toList.drop 22 = dktX0_feed_1 := dk_seg dksX0_feed_0 22 rfl rfl
theorem dksX0_feed_2 : cX0_feed.data.toList.drop 46 = dktX0_feed_2 := dk_seg dksX0_feed_1 24 rfl rfl
theorem dX0_feed_0 : decode cX0_feed 0 = .ok (.aload_n 0, 1) := dk_42 (dk_at dksX0_feed_0 0 rfl rfl)
theorem dX0_feed_1 : decode cX0_feed 1 = .ok (.getfield 143, 3) := dk_180 0 143 (dk_at dksX0_feed_0 1 rfl rfl)
theorem dX0_feed_4 : decode cX0_feed 4 = .ok (.bipush 20, 2) := dk_16 20 (dk_at dksX0_feed_0 4 rfl rfl)
theorem dX0_feed_6 : decode cX0_feed 6 = .ok (.iadd, 1) := dk_96 (dk_at dksX0_feed_0 6 rfl rfl)
theorem dX0_feed_7 : decode cX0_feed 7 = .ok (.sipush 260, 3) := dk_17 1 4 (dk_at dksX0_feed_0 7 rfl rfl)
theorem dX0_feed_10 : decode cX0_feed 10 = .ok (.if_icmp .le 5, 3) := dk_164 0 5 (dk_at dksX0_feed_0 10 rfl rfl)
theorem dX0_feed_13 : decode cX0_feed 13 = .ok (.iconst (-1), 1) := dk_2 (dk_at dksX0_feed_0 13 rfl rfl)
theorem dX0_feed_14 : decode cX0_feed 14 = .ok (.ireturn, 1) := dk_172 (dk_at dksX0_feed_0 14 rfl rfl)
theorem dX0_feed_15 : decode cX0_feed 15 = .ok (.aload_n 0, 1) := dk_42 (dk_at dksX0_feed_0 15 rfl rfl)
theorem dX0_feed_16 : decode cX0_feed 16 = .ok (.iload_n 1, 1) := dk_27 (dk_at dksX0_feed_0 16 rfl rfl)
theorem dX0_feed_17 : decode cX0_feed 17 = .ok (.invokevirtual 146, 3) := dk_182 0 146 (dk_at dksX0_feed_0 17 rfl rfl)
theorem dX0_feed_20 : decode cX0_feed 20 = .ok (.aload_n 0, 1) := dk_42 (dk_at dksX0_feed_0 20 rfl rfl)
theorem dX0_feed_21 : decode cX0_feed 21 = .ok (.iload_n 2, 1) := dk_28 (dk_at dksX0_feed_0 21 rfl rfl)
theorem dX0_feed_22 : decode cX0_feed 22 = .ok (.invokevirtual 146, 3) := dk_182 0 146 (dk_at dksX0_feed_1 0 rfl rfl)
theorem dX0_feed_25 : decode cX0_feed 25 = .ok (.aload_n 0, 1) := dk_42 (dk_at dksX0_feed_1 3 rfl rfl)
theorem dX0_feed_26 : decode cX0_feed 26 = .ok (.iload_n 3, 1) := dk_29 (dk_at dksX0_feed_1 4 rfl rfl)
theorem dX0_feed_27 : decode cX0_feed 27 = .ok (.invokevirtual 146, 3) := dk_182 0 146 (dk_at dksX0_feed_1 5 rfl rfl)
theorem dX0_feed_30 : decode cX0_feed 30 = .ok (.aload_n 0, 1) := dk_42 (dk_at dksX0_feed_1 8 rfl rfl)
theorem dX0_feed_31 : decode cX0_feed 31 = .ok (.iload 4, 2) := dk_21 4 (dk_at dksX0_feed_1 9 rfl rfl)
theorem dX0_feed_33 : decode cX0_feed 33 = .ok (.invokevirtual 146, 3) := dk_182 0 146 (dk_at dksX0_feed_1 11 rfl rfl)
theorem dX0_feed_36 : decode cX0_feed 36 = .ok (.aload_n 0, 1) := dk_42 (dk_at dksX0_feed_1 14 rfl rfl)
theorem dX0_feed_37 : decode cX0_feed 37 = .ok (.iload 5, 2) := dk_21 5 (dk_at dksX0_feed_1 15 rfl rfl)
theorem dX0_feed_39 : decode cX0_feed 39 = .ok (.invokevirtual 146, 3) := dk_182 0 146 (dk_at dksX0_feed_1 17 rfl rfl)
theorem dX0_feed_42 : decode cX0_feed 42 = .ok (.aload_n 0, 1) := dk_42 (dk_at dksX0_feed_1 20 rfl rfl)
theorem dX0_feed_43 : decode cX0_feed 43 = .ok (.getfield 143, 3) := dk_180 0 143 (dk_at dksX0_feed_1 21 rfl rfl)
theorem dX0_feed_46 : decode cX0_feed 46 = .ok (.ireturn, 1) := dk_172 (dk_at dksX0_feed_2 0 rfl rfl)
abbrev cX0_push : ByteArray := prog_1_method_13_code
def yX0_push : MethodName := ⟨RX0, "push", "(I)V"⟩
def dkwX0_push_1 : List UInt8 := [180, 0, 143, 4, 96, 181, 0, 143, 132, 2, 248, 167, 255, 226, 177]
abbrev dktX0_push_1 : List UInt8 := dkwX0_push_1 ++ []
def dkwX0_push_0 : List UInt8 := [16, 24, 61, 28, 155, 0, 32, 42, 180, 0, 76, 42, 180, 0, 143, 27, 28, 122, 145, 84, 42, 89]
abbrev dktX0_push_0 : List UInt8 := dkwX0_push_0 ++ dktX0_push_1
theorem dksX0_push_0 : cX0_push.data.toList.drop 0 = dktX0_push_0 := by decide +kernel
theorem dksX0_push_1 : cX0_push.data.toList.drop 22 = dktX0_push_1 := dk_seg dksX0_push_0 22 rfl rfl
theorem dX0_push_0 : decode cX0_push 0 = .ok (.bipush 24, 2) := dk_16 24 (dk_at dksX0_push_0 0 rfl rfl)
theorem dX0_push_2 : decode cX0_push 2 = .ok (.istore_n 2, 1) := dk_61 (dk_at dksX0_push_0 2 rfl rfl)
theorem dX0_push_3 : decode cX0_push 3 = .ok (.iload_n 2, 1) := dk_28 (dk_at dksX0_push_0 3 rfl rfl)
theorem dX0_push_4 : decode cX0_push 4 = .ok (.ifCond .lt 32, 3) := dk_155 0 32 (dk_at dksX0_push_0 4 rfl rfl)
theorem dX0_push_7 : decode cX0_push 7 = .ok (.aload_n 0, 1) := dk_42 (dk_at dksX0_push_0 7 rfl rfl)
theorem dX0_push_8 : decode cX0_push 8 = .ok (.getfield 76, 3) := dk_180 0 76 (dk_at dksX0_push_0 8 rfl rfl)
theorem dX0_push_11 : decode cX0_push 11 = .ok (.aload_n 0, 1) := dk_42 (dk_at dksX0_push_0 11 rfl rfl)
theorem dX0_push_12 : decode cX0_push 12 = .ok (.getfield 143, 3) := dk_180 0 143 (dk_at dksX0_push_0 12 rfl rfl)
theorem dX0_push_15 : decode cX0_push 15 = .ok (.iload_n 1, 1) := dk_27 (dk_at dksX0_push_0 15 rfl rfl)
theorem dX0_push_16 : decode cX0_push 16 = .ok (.iload_n 2, 1) := dk_28 (dk_at dksX0_push_0 16 rfl rfl)
theorem dX0_push_17 : decode cX0_push 17 = .ok (.ishr, 1) := dk_122 (dk_at dksX0_push_0 17 rfl rfl)
theorem dX0_push_18 : decode cX0_push 18 = .ok (.i2b, 1) := dk_145 (dk_at dksX0_push_0 18 rfl rfl)
theorem dX0_push_19 : decode cX0_push 19 = .ok (.bastore, 1) := dk_84 (dk_at dksX0_push_0 19 rfl rfl)
theorem dX0_push_20 : decode cX0_push 20 = .ok (.aload_n 0, 1) := dk_42 (dk_at dksX0_push_0 20 rfl rfl)
theorem dX0_push_21 : decode cX0_push 21 = .ok (.dup, 1) := dk_89 (dk_at dksX0_push_0 21 rfl rfl)
theorem dX0_push_22 : decode cX0_push 22 = .ok (.getfield 143, 3) := dk_180 0 143 (dk_at dksX0_push_1 0 rfl rfl)
theorem dX0_push_25 : decode cX0_push 25 = .ok (.iconst 1, 1) := dk_4 (dk_at dksX0_push_1 3 rfl rfl)
theorem dX0_push_26 : decode cX0_push 26 = .ok (.iadd, 1) := dk_96 (dk_at dksX0_push_1 4 rfl rfl)
theorem dX0_push_27 : decode cX0_push 27 = .ok (.putfield 143, 3) := dk_181 0 143 (dk_at dksX0_push_1 5 rfl rfl)
theorem dX0_push_30 : decode cX0_push 30 = .ok (.iinc 2 (-8), 3) := dk_132 2 248 (dk_at dksX0_push_1 8 rfl rfl)
theorem dX0_push_33 : decode cX0_push 33 = .ok (.goto (-30), 3) := dk_167 255 226 (dk_at dksX0_push_1 11 rfl rfl)
theorem dX0_push_36 : decode cX0_push 36 = .ok (.return_, 1) := dk_177 (dk_at dksX0_push_1 14 rfl rfl)
abbrev cX0_law : ByteArray := prog_1_method_15_code
def yX0_law : MethodName := ⟨RX0, "law", "(I)I"⟩
def dkwX0_law_2 : List UInt8 := [180, 0, 159, 181, 0, 83, 29, 172]
abbrev dktX0_law_2 : List UInt8 := dkwX0_law_2 ++ []
def dkwX0_law_1 : List UInt8 := [181, 0, 143, 187, 0, 150, 89, 42, 27, 183, 0, 152, 77, 44, 182, 0, 155, 62, 29, 155, 0, 11, 42, 44]
abbrev dktX0_law_1 : List UInt8 := dkwX0_law_1 ++ dktX0_law_2
def dkwX0_law_0 : List UInt8 := [27, 4, 17, 0, 240, 184, 0, 127, 153, 0, 11, 27, 42, 180, 0, 143, 164, 0, 5, 2, 172, 42, 3]
abbrev dktX0_law_0 : List UInt8 := dkwX0_law_0 ++ dktX0_law_1
theorem dksX0_law_0 : cX0_law.data.toList.drop 0 = dktX0_law_0 := by decide +kernel
theorem dksX0_law_1 : cX0_law.data.toList.drop 23 = dktX0_law_1 := dk_seg dksX0_law_0 23 rfl rfl
theorem dksX0_law_2 : cX0_law.data.toList.drop 47 = dktX0_law_2 := dk_seg dksX0_law_1 24 rfl rfl
theorem dX0_law_0 : decode cX0_law 0 = .ok (.iload_n 1, 1) := dk_27 (dk_at dksX0_law_0 0 rfl rfl)
theorem dX0_law_1 : decode cX0_law 1 = .ok (.iconst 1, 1) := dk_4 (dk_at dksX0_law_0 1 rfl rfl)
theorem dX0_law_2 : decode cX0_law 2 = .ok (.sipush 240, 3) := dk_17 0 240 (dk_at dksX0_law_0 2 rfl rfl)
theorem dX0_law_5 : decode cX0_law 5 = .ok (.invokestatic 127, 3) := dk_184 0 127 (dk_at dksX0_law_0 5 rfl rfl)
theorem dX0_law_8 : decode cX0_law 8 = .ok (.ifCond .eq 11, 3) := dk_153 0 11 (dk_at dksX0_law_0 8 rfl rfl)
theorem dX0_law_11 : decode cX0_law 11 = .ok (.iload_n 1, 1) := dk_27 (dk_at dksX0_law_0 11 rfl rfl)
theorem dX0_law_12 : decode cX0_law 12 = .ok (.aload_n 0, 1) := dk_42 (dk_at dksX0_law_0 12 rfl rfl)
theorem dX0_law_13 : decode cX0_law 13 = .ok (.getfield 143, 3) := dk_180 0 143 (dk_at dksX0_law_0 13 rfl rfl)
theorem dX0_law_16 : decode cX0_law 16 = .ok (.if_icmp .le 5, 3) := dk_164 0 5 (dk_at dksX0_law_0 16 rfl rfl)
theorem dX0_law_19 : decode cX0_law 19 = .ok (.iconst (-1), 1) := dk_2 (dk_at dksX0_law_0 19 rfl rfl)
theorem dX0_law_20 : decode cX0_law 20 = .ok (.ireturn, 1) := dk_172 (dk_at dksX0_law_0 20 rfl rfl)
theorem dX0_law_21 : decode cX0_law 21 = .ok (.aload_n 0, 1) := dk_42 (dk_at dksX0_law_0 21 rfl rfl)
theorem dX0_law_22 : decode cX0_law 22 = .ok (.iconst 0, 1) := dk_3 (dk_at dksX0_law_0 22 rfl rfl)
theorem dX0_law_23 : decode cX0_law 23 = .ok (.putfield 143, 3) := dk_181 0 143 (dk_at dksX0_law_1 0 rfl rfl)
theorem dX0_law_26 : decode cX0_law 26 = .ok (.new 150, 3) := dk_187 0 150 (dk_at dksX0_law_1 3 rfl rfl)
theorem dX0_law_29 : decode cX0_law 29 = .ok (.dup, 1) := dk_89 (dk_at dksX0_law_1 6 rfl rfl)
theorem dX0_law_30 : decode cX0_law 30 = .ok (.aload_n 0, 1) := dk_42 (dk_at dksX0_law_1 7 rfl rfl)
theorem dX0_law_31 : decode cX0_law 31 = .ok (.iload_n 1, 1) := dk_27 (dk_at dksX0_law_1 8 rfl rfl)
theorem dX0_law_32 : decode cX0_law 32 = .ok (.invokespecial 152, 3) := dk_183 0 152 (dk_at dksX0_law_1 9 rfl rfl)
theorem dX0_law_35 : decode cX0_law 35 = .ok (.astore_n 2, 1) := dk_77 (dk_at dksX0_law_1 12 rfl rfl)
theorem dX0_law_36 : decode cX0_law 36 = .ok (.aload_n 2, 1) := dk_44 (dk_at dksX0_law_1 13 rfl rfl)
theorem dX0_law_37 : decode cX0_law 37 = .ok (.invokevirtual 155, 3) := dk_182 0 155 (dk_at dksX0_law_1 14 rfl rfl)
theorem dX0_law_40 : decode cX0_law 40 = .ok (.istore_n 3, 1) := dk_62 (dk_at dksX0_law_1 17 rfl rfl)
theorem dX0_law_41 : decode cX0_law 41 = .ok (.iload_n 3, 1) := dk_29 (dk_at dksX0_law_1 18 rfl rfl)
theorem dX0_law_42 : decode cX0_law 42 = .ok (.ifCond .lt 11, 3) := dk_155 0 11 (dk_at dksX0_law_1 19 rfl rfl)
theorem dX0_law_45 : decode cX0_law 45 = .ok (.aload_n 0, 1) := dk_42 (dk_at dksX0_law_1 22 rfl rfl)
theorem dX0_law_46 : decode cX0_law 46 = .ok (.aload_n 2, 1) := dk_44 (dk_at dksX0_law_1 23 rfl rfl)
theorem dX0_law_47 : decode cX0_law 47 = .ok (.getfield 159, 3) := dk_180 0 159 (dk_at dksX0_law_2 0 rfl rfl)
theorem dX0_law_50 : decode cX0_law 50 = .ok (.putfield 83, 3) := dk_181 0 83 (dk_at dksX0_law_2 3 rfl rfl)
theorem dX0_law_53 : decode cX0_law 53 = .ok (.iload_n 3, 1) := dk_29 (dk_at dksX0_law_2 6 rfl rfl)
theorem dX0_law_54 : decode cX0_law 54 = .ok (.ireturn, 1) := dk_172 (dk_at dksX0_law_2 7 rfl rfl)
abbrev cX0_debts : ByteArray := prog_1_method_16_code
def yX0_debts : MethodName := ⟨RX0, "debts", "(I)I"⟩
def dkwX0_debts_2 : List UInt8 := [42, 180, 0, 66, 180, 0, 131, 44, 180, 0, 166, 182, 0, 167, 58, 4, 29, 172]
abbrev dktX0_debts_2 : List UInt8 := dkwX0_debts_2 ++ []
def dkwX0_debts_1 : List UInt8 := [181, 0, 143, 187, 0, 162, 89, 42, 27, 183, 0, 164, 77, 44, 182, 0, 165, 62, 29, 156, 0, 5, 29, 172]
abbrev dktX0_debts_1 : List UInt8 := dkwX0_debts_1 ++ dktX0_debts_2
def dkwX0_debts_0 : List UInt8 := [27, 4, 17, 0, 160, 184, 0, 127, 153, 0, 11, 27, 42, 180, 0, 143, 164, 0, 5, 2, 172, 42, 3]
abbrev dktX0_debts_0 : List UInt8 := dkwX0_debts_0 ++ dktX0_debts_1
theorem dksX0_debts_0 : cX0_debts.data.toList.drop 0 = dktX0_debts_0 := by decide +kernel
theorem dksX0_debts_1 : cX0_debts.data.toList.drop 23 = dktX0_debts_1 := dk_seg dksX0_debts_0 23 rfl rfl
theorem dksX0_debts_2 : cX0_debts.data.toList.drop 47 = dktX0_debts_2 := dk_seg dksX0_debts_1 24 rfl rfl
theorem dX0_debts_0 : decode cX0_debts 0 = .ok (.iload_n 1, 1) := dk_27 (dk_at dksX0_debts_0 0 rfl rfl)
theorem dX0_debts_1 : decode cX0_debts 1 = .ok (.iconst 1, 1) := dk_4 (dk_at dksX0_debts_0 1 rfl rfl)
theorem dX0_debts_2 : decode cX0_debts 2 = .ok (.sipush 160, 3) := dk_17 0 160 (dk_at dksX0_debts_0 2 rfl rfl)
theorem dX0_debts_5 : decode cX0_debts 5 = .ok (.invokestatic 127, 3) := dk_184 0 127 (dk_at dksX0_debts_0 5 rfl rfl)
theorem dX0_debts_8 : decode cX0_debts 8 = .ok (.ifCond .eq 11, 3) := dk_153 0 11 (dk_at dksX0_debts_0 8 rfl rfl)
theorem dX0_debts_11 : decode cX0_debts 11 = .ok (.iload_n 1, 1) := dk_27 (dk_at dksX0_debts_0 11 rfl rfl)
theorem dX0_debts_12 : decode cX0_debts 12 = .ok (.aload_n 0, 1) := dk_42 (dk_at dksX0_debts_0 12 rfl rfl)
theorem dX0_debts_13 : decode cX0_debts 13 = .ok (.getfield 143, 3) := dk_180 0 143 (dk_at dksX0_debts_0 13 rfl rfl)
theorem dX0_debts_16 : decode cX0_debts 16 = .ok (.if_icmp .le 5, 3) := dk_164 0 5 (dk_at dksX0_debts_0 16 rfl rfl)
theorem dX0_debts_19 : decode cX0_debts 19 = .ok (.iconst (-1), 1) := dk_2 (dk_at dksX0_debts_0 19 rfl rfl)
theorem dX0_debts_20 : decode cX0_debts 20 = .ok (.ireturn, 1) := dk_172 (dk_at dksX0_debts_0 20 rfl rfl)
theorem dX0_debts_21 : decode cX0_debts 21 = .ok (.aload_n 0, 1) := dk_42 (dk_at dksX0_debts_0 21 rfl rfl)
theorem dX0_debts_22 : decode cX0_debts 22 = .ok (.iconst 0, 1) := dk_3 (dk_at dksX0_debts_0 22 rfl rfl)
theorem dX0_debts_23 : decode cX0_debts 23 = .ok (.putfield 143, 3) := dk_181 0 143 (dk_at dksX0_debts_1 0 rfl rfl)
theorem dX0_debts_26 : decode cX0_debts 26 = .ok (.new 162, 3) := dk_187 0 162 (dk_at dksX0_debts_1 3 rfl rfl)
theorem dX0_debts_29 : decode cX0_debts 29 = .ok (.dup, 1) := dk_89 (dk_at dksX0_debts_1 6 rfl rfl)
theorem dX0_debts_30 : decode cX0_debts 30 = .ok (.aload_n 0, 1) := dk_42 (dk_at dksX0_debts_1 7 rfl rfl)
theorem dX0_debts_31 : decode cX0_debts 31 = .ok (.iload_n 1, 1) := dk_27 (dk_at dksX0_debts_1 8 rfl rfl)
theorem dX0_debts_32 : decode cX0_debts 32 = .ok (.invokespecial 164, 3) := dk_183 0 164 (dk_at dksX0_debts_1 9 rfl rfl)
theorem dX0_debts_35 : decode cX0_debts 35 = .ok (.astore_n 2, 1) := dk_77 (dk_at dksX0_debts_1 12 rfl rfl)
theorem dX0_debts_36 : decode cX0_debts 36 = .ok (.aload_n 2, 1) := dk_44 (dk_at dksX0_debts_1 13 rfl rfl)
theorem dX0_debts_37 : decode cX0_debts 37 = .ok (.invokevirtual 165, 3) := dk_182 0 165 (dk_at dksX0_debts_1 14 rfl rfl)
theorem dX0_debts_40 : decode cX0_debts 40 = .ok (.istore_n 3, 1) := dk_62 (dk_at dksX0_debts_1 17 rfl rfl)
theorem dX0_debts_41 : decode cX0_debts 41 = .ok (.iload_n 3, 1) := dk_29 (dk_at dksX0_debts_1 18 rfl rfl)
theorem dX0_debts_42 : decode cX0_debts 42 = .ok (.ifCond .ge 5, 3) := dk_156 0 5 (dk_at dksX0_debts_1 19 rfl rfl)
theorem dX0_debts_45 : decode cX0_debts 45 = .ok (.iload_n 3, 1) := dk_29 (dk_at dksX0_debts_1 22 rfl rfl)
theorem dX0_debts_46 : decode cX0_debts 46 = .ok (.ireturn, 1) := dk_172 (dk_at dksX0_debts_1 23 rfl rfl)
theorem dX0_debts_47 : decode cX0_debts 47 = .ok (.aload_n 0, 1) := dk_42 (dk_at dksX0_debts_2 0 rfl rfl)
theorem dX0_debts_48 : decode cX0_debts 48 = .ok (.getfield 66, 3) := dk_180 0 66 (dk_at dksX0_debts_2 1 rfl rfl)
theorem dX0_debts_51 : decode cX0_debts 51 = .ok (.getfield 131, 3) := dk_180 0 131 (dk_at dksX0_debts_2 4 rfl rfl)
theorem dX0_debts_54 : decode cX0_debts 54 = .ok (.aload_n 2, 1) := dk_44 (dk_at dksX0_debts_2 7 rfl rfl)
theorem dX0_debts_55 : decode cX0_debts 55 = .ok (.getfield 166, 3) := dk_180 0 166 (dk_at dksX0_debts_2 8 rfl rfl)
theorem dX0_debts_58 : decode cX0_debts 58 = .ok (.invokevirtual 167, 3) := dk_182 0 167 (dk_at dksX0_debts_2 11 rfl rfl)
theorem dX0_debts_61 : decode cX0_debts 61 = .ok (.astore 4, 2) := dk_58 4 (dk_at dksX0_debts_2 14 rfl rfl)
theorem dX0_debts_63 : decode cX0_debts 63 = .ok (.iload_n 3, 1) := dk_29 (dk_at dksX0_debts_2 16 rfl rfl)
theorem dX0_debts_64 : decode cX0_debts 64 = .ok (.ireturn, 1) := dk_172 (dk_at dksX0_debts_2 17 rfl rfl)
abbrev cX0_route : ByteArray := prog_1_method_18_code
def yX0_route : MethodName := ⟨RX0, "route", "(II)I"⟩
def dkwX0_route_5 : List UInt8 := [180, 0, 137, 172]
abbrev dktX0_route_5 : List UInt8 := dkwX0_route_5 ++ []
def dkwX0_route_4 : List UInt8 := [154, 0, 8, 21, 5, 167, 0, 22, 28, 4, 160, 0, 10, 42, 180, 0, 171, 167, 0, 10, 42, 180, 0, 70]
abbrev dktX0_route_4 : List UInt8 := dkwX0_route_4 ++ dktX0_route_5
def dkwX0_route_3 : List UInt8 := [42, 42, 180, 0, 70, 42, 180, 0, 66, 182, 0, 184, 45, 180, 0, 187, 21, 4, 182, 0, 188, 54, 5, 28]
abbrev dktX0_route_3 : List UInt8 := dkwX0_route_3 ++ dktX0_route_4
def dkwX0_route_2 : List UInt8 := [54, 4, 21, 4, 156, 0, 6, 21, 4, 172, 42, 180, 0, 66, 180, 0, 137, 2, 160, 0, 6, 16, 254, 172]
abbrev dktX0_route_2 : List UInt8 := dkwX0_route_2 ++ dktX0_route_3
def dkwX0_route_1 : List UInt8 := [164, 0, 5, 2, 172, 42, 3, 181, 0, 143, 187, 0, 180, 89, 42, 27, 183, 0, 182, 78, 45, 182, 0, 183]
abbrev dktX0_route_1 : List UInt8 := dkwX0_route_1 ++ dktX0_route_2
def dkwX0_route_0 : List UInt8 := [27, 4, 16, 60, 184, 0, 127, 153, 0, 19, 28, 6, 184, 0, 15, 153, 0, 11, 27, 42, 180, 0, 143]
abbrev dktX0_route_0 : List UInt8 := dkwX0_route_0 ++ dktX0_route_1
theorem dksX0_route_0 : cX0_route.data.toList.drop 0 = dktX0_route_0 := by decide +kernel
theorem dksX0_route_1 : cX0_route.data.toList.drop 23 = dktX0_route_1 := dk_seg dksX0_route_0 23 rfl rfl
theorem dksX0_route_2 : cX0_route.data.toList.drop 47 = dktX0_route_2 := dk_seg dksX0_route_1 24 rfl rfl
theorem dksX0_route_3 : cX0_route.data.toList.drop 71 = dktX0_route_3 := dk_seg dksX0_route_2 24 rfl rfl
theorem dksX0_route_4 : cX0_route.data.toList.drop 95 = dktX0_route_4 := dk_seg dksX0_route_3 24 rfl rfl
theorem dksX0_route_5 : cX0_route.data.toList.drop 119 = dktX0_route_5 := dk_seg dksX0_route_4 24 rfl rfl
theorem dX0_route_0 : decode cX0_route 0 = .ok (.iload_n 1, 1) := dk_27 (dk_at dksX0_route_0 0 rfl rfl)
theorem dX0_route_1 : decode cX0_route 1 = .ok (.iconst 1, 1) := dk_4 (dk_at dksX0_route_0 1 rfl rfl)
theorem dX0_route_2 : decode cX0_route 2 = .ok (.bipush 60, 2) := dk_16 60 (dk_at dksX0_route_0 2 rfl rfl)
theorem dX0_route_4 : decode cX0_route 4 = .ok (.invokestatic 127, 3) := dk_184 0 127 (dk_at dksX0_route_0 4 rfl rfl)
theorem dX0_route_7 : decode cX0_route 7 = .ok (.ifCond .eq 19, 3) := dk_153 0 19 (dk_at dksX0_route_0 7 rfl rfl)
theorem dX0_route_10 : decode cX0_route 10 = .ok (.iload_n 2, 1) := dk_28 (dk_at dksX0_route_0 10 rfl rfl)
theorem dX0_route_11 : decode cX0_route 11 = .ok (.iconst 3, 1) := dk_6 (dk_at dksX0_route_0 11 rfl rfl)
theorem dX0_route_12 : decode cX0_route 12 = .ok (.invokestatic 15, 3) := dk_184 0 15 (dk_at dksX0_route_0 12 rfl rfl)
theorem dX0_route_15 : decode cX0_route 15 = .ok (.ifCond .eq 11, 3) := dk_153 0 11 (dk_at dksX0_route_0 15 rfl rfl)
theorem dX0_route_18 : decode cX0_route 18 = .ok (.iload_n 1, 1) := dk_27 (dk_at dksX0_route_0 18 rfl rfl)
theorem dX0_route_19 : decode cX0_route 19 = .ok (.aload_n 0, 1) := dk_42 (dk_at dksX0_route_0 19 rfl rfl)
theorem dX0_route_20 : decode cX0_route 20 = .ok (.getfield 143, 3) := dk_180 0 143 (dk_at dksX0_route_0 20 rfl rfl)
theorem dX0_route_23 : decode cX0_route 23 = .ok (.if_icmp .le 5, 3) := dk_164 0 5 (dk_at dksX0_route_1 0 rfl rfl)
theorem dX0_route_26 : decode cX0_route 26 = .ok (.iconst (-1), 1) := dk_2 (dk_at dksX0_route_1 3 rfl rfl)
theorem dX0_route_27 : decode cX0_route 27 = .ok (.ireturn, 1) := dk_172 (dk_at dksX0_route_1 4 rfl rfl)
theorem dX0_route_28 : decode cX0_route 28 = .ok (.aload_n 0, 1) := dk_42 (dk_at dksX0_route_1 5 rfl rfl)
theorem dX0_route_29 : decode cX0_route 29 = .ok (.iconst 0, 1) := dk_3 (dk_at dksX0_route_1 6 rfl rfl)
theorem dX0_route_30 : decode cX0_route 30 = .ok (.putfield 143, 3) := dk_181 0 143 (dk_at dksX0_route_1 7 rfl rfl)
theorem dX0_route_33 : decode cX0_route 33 = .ok (.new 180, 3) := dk_187 0 180 (dk_at dksX0_route_1 10 rfl rfl)
theorem dX0_route_36 : decode cX0_route 36 = .ok (.dup, 1) := dk_89 (dk_at dksX0_route_1 13 rfl rfl)
theorem dX0_route_37 : decode cX0_route 37 = .ok (.aload_n 0, 1) := dk_42 (dk_at dksX0_route_1 14 rfl rfl)
theorem dX0_route_38 : decode cX0_route 38 = .ok (.iload_n 1, 1) := dk_27 (dk_at dksX0_route_1 15 rfl rfl)
theorem dX0_route_39 : decode cX0_route 39 = .ok (.invokespecial 182, 3) := dk_183 0 182 (dk_at dksX0_route_1 16 rfl rfl)
theorem dX0_route_42 : decode cX0_route 42 = .ok (.astore_n 3, 1) := dk_78 (dk_at dksX0_route_1 19 rfl rfl)
theorem dX0_route_43 : decode cX0_route 43 = .ok (.aload_n 3, 1) := dk_45 (dk_at dksX0_route_1 20 rfl rfl)
theorem dX0_route_44 : decode cX0_route 44 = .ok (.invokevirtual 183, 3) := dk_182 0 183 (dk_at dksX0_route_1 21 rfl rfl)
theorem dX0_route_47 : decode cX0_route 47 = .ok (.istore 4, 2) := dk_54 4 (dk_at dksX0_route_2 0 rfl rfl)
theorem dX0_route_49 : decode cX0_route 49 = .ok (.iload 4, 2) := dk_21 4 (dk_at dksX0_route_2 2 rfl rfl)
theorem dX0_route_51 : decode cX0_route 51 = .ok (.ifCond .ge 6, 3) := dk_156 0 6 (dk_at dksX0_route_2 4 rfl rfl)
theorem dX0_route_54 : decode cX0_route 54 = .ok (.iload 4, 2) := dk_21 4 (dk_at dksX0_route_2 7 rfl rfl)
theorem dX0_route_56 : decode cX0_route 56 = .ok (.ireturn, 1) := dk_172 (dk_at dksX0_route_2 9 rfl rfl)
theorem dX0_route_57 : decode cX0_route 57 = .ok (.aload_n 0, 1) := dk_42 (dk_at dksX0_route_2 10 rfl rfl)
theorem dX0_route_58 : decode cX0_route 58 = .ok (.getfield 66, 3) := dk_180 0 66 (dk_at dksX0_route_2 11 rfl rfl)
theorem dX0_route_61 : decode cX0_route 61 = .ok (.getfield 137, 3) := dk_180 0 137 (dk_at dksX0_route_2 14 rfl rfl)
theorem dX0_route_64 : decode cX0_route 64 = .ok (.iconst (-1), 1) := dk_2 (dk_at dksX0_route_2 17 rfl rfl)
theorem dX0_route_65 : decode cX0_route 65 = .ok (.if_icmp .ne 6, 3) := dk_160 0 6 (dk_at dksX0_route_2 18 rfl rfl)
theorem dX0_route_68 : decode cX0_route 68 = .ok (.bipush (-2), 2) := dk_16 254 (dk_at dksX0_route_2 21 rfl rfl)
theorem dX0_route_70 : decode cX0_route 70 = .ok (.ireturn, 1) := dk_172 (dk_at dksX0_route_2 23 rfl rfl)
theorem dX0_route_71 : decode cX0_route 71 = .ok (.aload_n 0, 1) := dk_42 (dk_at dksX0_route_3 0 rfl rfl)
theorem dX0_route_72 : decode cX0_route 72 = .ok (.aload_n 0, 1) := dk_42 (dk_at dksX0_route_3 1 rfl rfl)
theorem dX0_route_73 : decode cX0_route 73 = .ok (.getfield 70, 3) := dk_180 0 70 (dk_at dksX0_route_3 2 rfl rfl)
theorem dX0_route_76 : decode cX0_route 76 = .ok (.aload_n 0, 1) := dk_42 (dk_at dksX0_route_3 5 rfl rfl)
theorem dX0_route_77 : decode cX0_route 77 = .ok (.getfield 66, 3) := dk_180 0 66 (dk_at dksX0_route_3 6 rfl rfl)
theorem dX0_route_80 : decode cX0_route 80 = .ok (.invokevirtual 184, 3) := dk_182 0 184 (dk_at dksX0_route_3 9 rfl rfl)
theorem dX0_route_83 : decode cX0_route 83 = .ok (.aload_n 3, 1) := dk_45 (dk_at dksX0_route_3 12 rfl rfl)
theorem dX0_route_84 : decode cX0_route 84 = .ok (.getfield 187, 3) := dk_180 0 187 (dk_at dksX0_route_3 13 rfl rfl)
theorem dX0_route_87 : decode cX0_route 87 = .ok (.iload 4, 2) := dk_21 4 (dk_at dksX0_route_3 16 rfl rfl)
theorem dX0_route_89 : decode cX0_route 89 = .ok (.invokevirtual 188, 3) := dk_182 0 188 (dk_at dksX0_route_3 18 rfl rfl)
theorem dX0_route_92 : decode cX0_route 92 = .ok (.istore 5, 2) := dk_54 5 (dk_at dksX0_route_3 21 rfl rfl)
theorem dX0_route_94 : decode cX0_route 94 = .ok (.iload_n 2, 1) := dk_28 (dk_at dksX0_route_3 23 rfl rfl)
theorem dX0_route_95 : decode cX0_route 95 = .ok (.ifCond .ne 8, 3) := dk_154 0 8 (dk_at dksX0_route_4 0 rfl rfl)
theorem dX0_route_98 : decode cX0_route 98 = .ok (.iload 5, 2) := dk_21 5 (dk_at dksX0_route_4 3 rfl rfl)
theorem dX0_route_100 : decode cX0_route 100 = .ok (.goto 22, 3) := dk_167 0 22 (dk_at dksX0_route_4 5 rfl rfl)
theorem dX0_route_103 : decode cX0_route 103 = .ok (.iload_n 2, 1) := dk_28 (dk_at dksX0_route_4 8 rfl rfl)
theorem dX0_route_104 : decode cX0_route 104 = .ok (.iconst 1, 1) := dk_4 (dk_at dksX0_route_4 9 rfl rfl)
theorem dX0_route_105 : decode cX0_route 105 = .ok (.if_icmp .ne 10, 3) := dk_160 0 10 (dk_at dksX0_route_4 10 rfl rfl)
theorem dX0_route_108 : decode cX0_route 108 = .ok (.aload_n 0, 1) := dk_42 (dk_at dksX0_route_4 13 rfl rfl)
theorem dX0_route_109 : decode cX0_route 109 = .ok (.getfield 171, 3) := dk_180 0 171 (dk_at dksX0_route_4 14 rfl rfl)
theorem dX0_route_112 : decode cX0_route 112 = .ok (.goto 10, 3) := dk_167 0 10 (dk_at dksX0_route_4 17 rfl rfl)
theorem dX0_route_115 : decode cX0_route 115 = .ok (.aload_n 0, 1) := dk_42 (dk_at dksX0_route_4 20 rfl rfl)
theorem dX0_route_116 : decode cX0_route 116 = .ok (.getfield 70, 3) := dk_180 0 70 (dk_at dksX0_route_4 21 rfl rfl)
theorem dX0_route_119 : decode cX0_route 119 = .ok (.getfield 137, 3) := dk_180 0 137 (dk_at dksX0_route_5 0 rfl rfl)
theorem dX0_route_122 : decode cX0_route 122 = .ok (.ireturn, 1) := dk_172 (dk_at dksX0_route_5 3 rfl rfl)
abbrev cX0_walks : ByteArray := prog_1_method_17_code
def yX0_walks : MethodName := ⟨RX0, "walks", "(LOneCoin$Duchy;[II)I"⟩
def dkwX0_walks_2 : List UInt8 := [182, 0, 177, 96, 181, 0, 171, 132, 4, 1, 167, 255, 208, 29, 172]
abbrev dktX0_walks_2 : List UInt8 := dkwX0_walks_2 ++ []
def dkwX0_walks_1 : List UInt8 := [46, 182, 0, 174, 154, 0, 6, 21, 4, 172, 42, 89, 180, 0, 171, 42, 21, 5, 44, 21, 4, 46]
abbrev dktX0_walks_1 : List UInt8 := dkwX0_walks_1 ++ dktX0_walks_2
def dkwX0_walks_0 : List UInt8 := [42, 3, 181, 0, 171, 3, 54, 4, 21, 4, 29, 162, 0, 48, 43, 180, 0, 137, 54, 5, 43, 44, 21, 4]
abbrev dktX0_walks_0 : List UInt8 := dkwX0_walks_0 ++ dktX0_walks_1
theorem dksX0_walks_0 : cX0_walks.data.toList.drop 0 = dktX0_walks_0 := by decide +kernel
theorem dksX0_walks_1 : cX0_walks.data.toList.drop 24 = dktX0_walks_1 := dk_seg dksX0_walks_0 24 rfl rfl
theorem dksX0_walks_2 : cX0_walks.data.toList.drop 46 = dktX0_walks_2 := dk_seg dksX0_walks_1 22 rfl rfl
theorem dX0_walks_0 : decode cX0_walks 0 = .ok (.aload_n 0, 1) := dk_42 (dk_at dksX0_walks_0 0 rfl rfl)
theorem dX0_walks_1 : decode cX0_walks 1 = .ok (.iconst 0, 1) := dk_3 (dk_at dksX0_walks_0 1 rfl rfl)
theorem dX0_walks_2 : decode cX0_walks 2 = .ok (.putfield 171, 3) := dk_181 0 171 (dk_at dksX0_walks_0 2 rfl rfl)
theorem dX0_walks_5 : decode cX0_walks 5 = .ok (.iconst 0, 1) := dk_3 (dk_at dksX0_walks_0 5 rfl rfl)
theorem dX0_walks_6 : decode cX0_walks 6 = .ok (.istore 4, 2) := dk_54 4 (dk_at dksX0_walks_0 6 rfl rfl)
theorem dX0_walks_8 : decode cX0_walks 8 = .ok (.iload 4, 2) := dk_21 4 (dk_at dksX0_walks_0 8 rfl rfl)
theorem dX0_walks_10 : decode cX0_walks 10 = .ok (.iload_n 3, 1) := dk_29 (dk_at dksX0_walks_0 10 rfl rfl)
theorem dX0_walks_11 : decode cX0_walks 11 = .ok (.if_icmp .ge 48, 3) := dk_162 0 48 (dk_at dksX0_walks_0 11 rfl rfl)
theorem dX0_walks_14 : decode cX0_walks 14 = .ok (.aload_n 1, 1) := dk_43 (dk_at dksX0_walks_0 14 rfl rfl)
theorem dX0_walks_15 : decode cX0_walks 15 = .ok (.getfield 137, 3) := dk_180 0 137 (dk_at dksX0_walks_0 15 rfl rfl)
theorem dX0_walks_18 : decode cX0_walks 18 = .ok (.istore 5, 2) := dk_54 5 (dk_at dksX0_walks_0 18 rfl rfl)
theorem dX0_walks_20 : decode cX0_walks 20 = .ok (.aload_n 1, 1) := dk_43 (dk_at dksX0_walks_0 20 rfl rfl)
theorem dX0_walks_21 : decode cX0_walks 21 = .ok (.aload_n 2, 1) := dk_44 (dk_at dksX0_walks_0 21 rfl rfl)
theorem dX0_walks_22 : decode cX0_walks 22 = .ok (.iload 4, 2) := dk_21 4 (dk_at dksX0_walks_0 22 rfl rfl)
theorem dX0_walks_24 : decode cX0_walks 24 = .ok (.iaload, 1) := dk_46 (dk_at dksX0_walks_1 0 rfl rfl)
theorem dX0_walks_25 : decode cX0_walks 25 = .ok (.invokevirtual 174, 3) := dk_182 0 174 (dk_at dksX0_walks_1 1 rfl rfl)
theorem dX0_walks_28 : decode cX0_walks 28 = .ok (.ifCond .ne 6, 3) := dk_154 0 6 (dk_at dksX0_walks_1 4 rfl rfl)
theorem dX0_walks_31 : decode cX0_walks 31 = .ok (.iload 4, 2) := dk_21 4 (dk_at dksX0_walks_1 7 rfl rfl)
theorem dX0_walks_33 : decode cX0_walks 33 = .ok (.ireturn, 1) := dk_172 (dk_at dksX0_walks_1 9 rfl rfl)
theorem dX0_walks_34 : decode cX0_walks 34 = .ok (.aload_n 0, 1) := dk_42 (dk_at dksX0_walks_1 10 rfl rfl)
theorem dX0_walks_35 : decode cX0_walks 35 = .ok (.dup, 1) := dk_89 (dk_at dksX0_walks_1 11 rfl rfl)
theorem dX0_walks_36 : decode cX0_walks 36 = .ok (.getfield 171, 3) := dk_180 0 171 (dk_at dksX0_walks_1 12 rfl rfl)
theorem dX0_walks_39 : decode cX0_walks 39 = .ok (.aload_n 0, 1) := dk_42 (dk_at dksX0_walks_1 15 rfl rfl)
theorem dX0_walks_40 : decode cX0_walks 40 = .ok (.iload 5, 2) := dk_21 5 (dk_at dksX0_walks_1 16 rfl rfl)
theorem dX0_walks_42 : decode cX0_walks 42 = .ok (.aload_n 2, 1) := dk_44 (dk_at dksX0_walks_1 18 rfl rfl)
theorem dX0_walks_43 : decode cX0_walks 43 = .ok (.iload 4, 2) := dk_21 4 (dk_at dksX0_walks_1 19 rfl rfl)
theorem dX0_walks_45 : decode cX0_walks 45 = .ok (.iaload, 1) := dk_46 (dk_at dksX0_walks_1 21 rfl rfl)
theorem dX0_walks_46 : decode cX0_walks 46 = .ok (.invokevirtual 177, 3) := dk_182 0 177 (dk_at dksX0_walks_2 0 rfl rfl)
theorem dX0_walks_49 : decode cX0_walks 49 = .ok (.iadd, 1) := dk_96 (dk_at dksX0_walks_2 3 rfl rfl)
theorem dX0_walks_50 : decode cX0_walks 50 = .ok (.putfield 171, 3) := dk_181 0 171 (dk_at dksX0_walks_2 4 rfl rfl)
theorem dX0_walks_53 : decode cX0_walks 53 = .ok (.iinc 4 1, 3) := dk_132 4 1 (dk_at dksX0_walks_2 7 rfl rfl)
theorem dX0_walks_56 : decode cX0_walks 56 = .ok (.goto (-48), 3) := dk_167 255 208 (dk_at dksX0_walks_2 10 rfl rfl)
theorem dX0_walks_59 : decode cX0_walks 59 = .ok (.iload_n 3, 1) := dk_29 (dk_at dksX0_walks_2 13 rfl rfl)
theorem dX0_walks_60 : decode cX0_walks 60 = .ok (.ireturn, 1) := dk_172 (dk_at dksX0_walks_2 14 rfl rfl)
abbrev cX0_way : ByteArray := prog_1_method_7_code
def yX0_way : MethodName := ⟨RX0, "way", "(II)I"⟩
def dkwX0_way_1 : List UInt8 := [180, 0, 34, 28, 46, 100, 184, 0, 30, 96, 184, 0, 7, 172]
abbrev dktX0_way_1 : List UInt8 := dkwX0_way_1 ++ []
def dkwX0_way_0 : List UInt8 := [4, 42, 180, 0, 26, 27, 46, 42, 180, 0, 26, 28, 46, 100, 184, 0, 30, 42, 180, 0, 34, 27, 46, 42]
abbrev dktX0_way_0 : List UInt8 := dkwX0_way_0 ++ dktX0_way_1
theorem dksX0_way_0 : cX0_way.data.toList.drop 0 = dktX0_way_0 := by decide +kernel
theorem dksX0_way_1 : cX0_way.data.toList.drop 24 = dktX0_way_1 := dk_seg dksX0_way_0 24 rfl rfl
theorem dX0_way_0 : decode cX0_way 0 = .ok (.iconst 1, 1) := dk_4 (dk_at dksX0_way_0 0 rfl rfl)
theorem dX0_way_1 : decode cX0_way 1 = .ok (.aload_n 0, 1) := dk_42 (dk_at dksX0_way_0 1 rfl rfl)
theorem dX0_way_2 : decode cX0_way 2 = .ok (.getfield 26, 3) := dk_180 0 26 (dk_at dksX0_way_0 2 rfl rfl)
theorem dX0_way_5 : decode cX0_way 5 = .ok (.iload_n 1, 1) := dk_27 (dk_at dksX0_way_0 5 rfl rfl)
theorem dX0_way_6 : decode cX0_way 6 = .ok (.iaload, 1) := dk_46 (dk_at dksX0_way_0 6 rfl rfl)
theorem dX0_way_7 : decode cX0_way 7 = .ok (.aload_n 0, 1) := dk_42 (dk_at dksX0_way_0 7 rfl rfl)
theorem dX0_way_8 : decode cX0_way 8 = .ok (.getfield 26, 3) := dk_180 0 26 (dk_at dksX0_way_0 8 rfl rfl)
theorem dX0_way_11 : decode cX0_way 11 = .ok (.iload_n 2, 1) := dk_28 (dk_at dksX0_way_0 11 rfl rfl)
theorem dX0_way_12 : decode cX0_way 12 = .ok (.iaload, 1) := dk_46 (dk_at dksX0_way_0 12 rfl rfl)
theorem dX0_way_13 : decode cX0_way 13 = .ok (.isub, 1) := dk_100 (dk_at dksX0_way_0 13 rfl rfl)
theorem dX0_way_14 : decode cX0_way 14 = .ok (.invokestatic 30, 3) := dk_184 0 30 (dk_at dksX0_way_0 14 rfl rfl)
theorem dX0_way_17 : decode cX0_way 17 = .ok (.aload_n 0, 1) := dk_42 (dk_at dksX0_way_0 17 rfl rfl)
theorem dX0_way_18 : decode cX0_way 18 = .ok (.getfield 34, 3) := dk_180 0 34 (dk_at dksX0_way_0 18 rfl rfl)
theorem dX0_way_21 : decode cX0_way 21 = .ok (.iload_n 1, 1) := dk_27 (dk_at dksX0_way_0 21 rfl rfl)
theorem dX0_way_22 : decode cX0_way 22 = .ok (.iaload, 1) := dk_46 (dk_at dksX0_way_0 22 rfl rfl)
theorem dX0_way_23 : decode cX0_way 23 = .ok (.aload_n 0, 1) := dk_42 (dk_at dksX0_way_0 23 rfl rfl)
theorem dX0_way_24 : decode cX0_way 24 = .ok (.getfield 34, 3) := dk_180 0 34 (dk_at dksX0_way_1 0 rfl rfl)
theorem dX0_way_27 : decode cX0_way 27 = .ok (.iload_n 2, 1) := dk_28 (dk_at dksX0_way_1 3 rfl rfl)
theorem dX0_way_28 : decode cX0_way 28 = .ok (.iaload, 1) := dk_46 (dk_at dksX0_way_1 4 rfl rfl)
theorem dX0_way_29 : decode cX0_way 29 = .ok (.isub, 1) := dk_100 (dk_at dksX0_way_1 5 rfl rfl)
theorem dX0_way_30 : decode cX0_way 30 = .ok (.invokestatic 30, 3) := dk_184 0 30 (dk_at dksX0_way_1 6 rfl rfl)
theorem dX0_way_33 : decode cX0_way 33 = .ok (.iadd, 1) := dk_96 (dk_at dksX0_way_1 9 rfl rfl)
theorem dX0_way_34 : decode cX0_way 34 = .ok (.invokestatic 7, 3) := dk_184 0 7 (dk_at dksX0_way_1 10 rfl rfl)
theorem dX0_way_37 : decode cX0_way 37 = .ok (.ireturn, 1) := dk_172 (dk_at dksX0_way_1 13 rfl rfl)
abbrev cX0_walk : ByteArray := prog_1_method_19_code
def yX0_walk : MethodName := ⟨RX0, "walk", "(I)I"⟩
def dkwX0_walk_3 : List UInt8 := [44, 180, 0, 187, 29, 182, 0, 188, 172]
abbrev dktX0_walk_3 : List UInt8 := dkwX0_walk_3 ++ []
def dkwX0_walk_2 : List UInt8 := [167, 0, 32, 42, 180, 0, 66, 180, 0, 137, 2, 160, 0, 8, 16, 254, 167, 0, 16, 42, 42, 180, 0, 66]
abbrev dktX0_walk_2 : List UInt8 := dkwX0_walk_2 ++ dktX0_walk_3
def dkwX0_walk_1 : List UInt8 := [181, 0, 143, 187, 0, 180, 89, 42, 27, 183, 0, 182, 77, 44, 182, 0, 183, 62, 29, 156, 0, 7, 29]
abbrev dktX0_walk_1 : List UInt8 := dkwX0_walk_1 ++ dktX0_walk_2
def dkwX0_walk_0 : List UInt8 := [27, 4, 16, 60, 184, 0, 127, 153, 0, 11, 27, 42, 180, 0, 143, 164, 0, 5, 2, 172, 42, 3]
abbrev dktX0_walk_0 : List UInt8 := dkwX0_walk_0 ++ dktX0_walk_1
theorem dksX0_walk_0 : cX0_walk.data.toList.drop 0 = dktX0_walk_0 := by decide +kernel
theorem dksX0_walk_1 : cX0_walk.data.toList.drop 22 = dktX0_walk_1 := dk_seg dksX0_walk_0 22 rfl rfl
theorem dksX0_walk_2 : cX0_walk.data.toList.drop 45 = dktX0_walk_2 := dk_seg dksX0_walk_1 23 rfl rfl
theorem dksX0_walk_3 : cX0_walk.data.toList.drop 69 = dktX0_walk_3 := dk_seg dksX0_walk_2 24 rfl rfl
theorem dX0_walk_0 : decode cX0_walk 0 = .ok (.iload_n 1, 1) := dk_27 (dk_at dksX0_walk_0 0 rfl rfl)
theorem dX0_walk_1 : decode cX0_walk 1 = .ok (.iconst 1, 1) := dk_4 (dk_at dksX0_walk_0 1 rfl rfl)
theorem dX0_walk_2 : decode cX0_walk 2 = .ok (.bipush 60, 2) := dk_16 60 (dk_at dksX0_walk_0 2 rfl rfl)
theorem dX0_walk_4 : decode cX0_walk 4 = .ok (.invokestatic 127, 3) := dk_184 0 127 (dk_at dksX0_walk_0 4 rfl rfl)
theorem dX0_walk_7 : decode cX0_walk 7 = .ok (.ifCond .eq 11, 3) := dk_153 0 11 (dk_at dksX0_walk_0 7 rfl rfl)
theorem dX0_walk_10 : decode cX0_walk 10 = .ok (.iload_n 1, 1) := dk_27 (dk_at dksX0_walk_0 10 rfl rfl)
theorem dX0_walk_11 : decode cX0_walk 11 = .ok (.aload_n 0, 1) := dk_42 (dk_at dksX0_walk_0 11 rfl rfl)
theorem dX0_walk_12 : decode cX0_walk 12 = .ok (.getfield 143, 3) := dk_180 0 143 (dk_at dksX0_walk_0 12 rfl rfl)
theorem dX0_walk_15 : decode cX0_walk 15 = .ok (.if_icmp .le 5, 3) := dk_164 0 5 (dk_at dksX0_walk_0 15 rfl rfl)
theorem dX0_walk_18 : decode cX0_walk 18 = .ok (.iconst (-1), 1) := dk_2 (dk_at dksX0_walk_0 18 rfl rfl)
theorem dX0_walk_19 : decode cX0_walk 19 = .ok (.ireturn, 1) := dk_172 (dk_at dksX0_walk_0 19 rfl rfl)
theorem dX0_walk_20 : decode cX0_walk 20 = .ok (.aload_n 0, 1) := dk_42 (dk_at dksX0_walk_0 20 rfl rfl)
theorem dX0_walk_21 : decode cX0_walk 21 = .ok (.iconst 0, 1) := dk_3 (dk_at dksX0_walk_0 21 rfl rfl)
theorem dX0_walk_22 : decode cX0_walk 22 = .ok (.putfield 143, 3) := dk_181 0 143 (dk_at dksX0_walk_1 0 rfl rfl)
theorem dX0_walk_25 : decode cX0_walk 25 = .ok (.new 180, 3) := dk_187 0 180 (dk_at dksX0_walk_1 3 rfl rfl)
theorem dX0_walk_28 : decode cX0_walk 28 = .ok (.dup, 1) := dk_89 (dk_at dksX0_walk_1 6 rfl rfl)
theorem dX0_walk_29 : decode cX0_walk 29 = .ok (.aload_n 0, 1) := dk_42 (dk_at dksX0_walk_1 7 rfl rfl)
theorem dX0_walk_30 : decode cX0_walk 30 = .ok (.iload_n 1, 1) := dk_27 (dk_at dksX0_walk_1 8 rfl rfl)
theorem dX0_walk_31 : decode cX0_walk 31 = .ok (.invokespecial 182, 3) := dk_183 0 182 (dk_at dksX0_walk_1 9 rfl rfl)
theorem dX0_walk_34 : decode cX0_walk 34 = .ok (.astore_n 2, 1) := dk_77 (dk_at dksX0_walk_1 12 rfl rfl)
theorem dX0_walk_35 : decode cX0_walk 35 = .ok (.aload_n 2, 1) := dk_44 (dk_at dksX0_walk_1 13 rfl rfl)
theorem dX0_walk_36 : decode cX0_walk 36 = .ok (.invokevirtual 183, 3) := dk_182 0 183 (dk_at dksX0_walk_1 14 rfl rfl)
theorem dX0_walk_39 : decode cX0_walk 39 = .ok (.istore_n 3, 1) := dk_62 (dk_at dksX0_walk_1 17 rfl rfl)
theorem dX0_walk_40 : decode cX0_walk 40 = .ok (.iload_n 3, 1) := dk_29 (dk_at dksX0_walk_1 18 rfl rfl)
theorem dX0_walk_41 : decode cX0_walk 41 = .ok (.ifCond .ge 7, 3) := dk_156 0 7 (dk_at dksX0_walk_1 19 rfl rfl)
theorem dX0_walk_44 : decode cX0_walk 44 = .ok (.iload_n 3, 1) := dk_29 (dk_at dksX0_walk_1 22 rfl rfl)
theorem dX0_walk_45 : decode cX0_walk 45 = .ok (.goto 32, 3) := dk_167 0 32 (dk_at dksX0_walk_2 0 rfl rfl)
theorem dX0_walk_48 : decode cX0_walk 48 = .ok (.aload_n 0, 1) := dk_42 (dk_at dksX0_walk_2 3 rfl rfl)
theorem dX0_walk_49 : decode cX0_walk 49 = .ok (.getfield 66, 3) := dk_180 0 66 (dk_at dksX0_walk_2 4 rfl rfl)
theorem dX0_walk_52 : decode cX0_walk 52 = .ok (.getfield 137, 3) := dk_180 0 137 (dk_at dksX0_walk_2 7 rfl rfl)
theorem dX0_walk_55 : decode cX0_walk 55 = .ok (.iconst (-1), 1) := dk_2 (dk_at dksX0_walk_2 10 rfl rfl)
theorem dX0_walk_56 : decode cX0_walk 56 = .ok (.if_icmp .ne 8, 3) := dk_160 0 8 (dk_at dksX0_walk_2 11 rfl rfl)
theorem dX0_walk_59 : decode cX0_walk 59 = .ok (.bipush (-2), 2) := dk_16 254 (dk_at dksX0_walk_2 14 rfl rfl)
theorem dX0_walk_61 : decode cX0_walk 61 = .ok (.goto 16, 3) := dk_167 0 16 (dk_at dksX0_walk_2 16 rfl rfl)
theorem dX0_walk_64 : decode cX0_walk 64 = .ok (.aload_n 0, 1) := dk_42 (dk_at dksX0_walk_2 19 rfl rfl)
theorem dX0_walk_65 : decode cX0_walk 65 = .ok (.aload_n 0, 1) := dk_42 (dk_at dksX0_walk_2 20 rfl rfl)
theorem dX0_walk_66 : decode cX0_walk 66 = .ok (.getfield 66, 3) := dk_180 0 66 (dk_at dksX0_walk_2 21 rfl rfl)
theorem dX0_walk_69 : decode cX0_walk 69 = .ok (.aload_n 2, 1) := dk_44 (dk_at dksX0_walk_3 0 rfl rfl)
theorem dX0_walk_70 : decode cX0_walk 70 = .ok (.getfield 187, 3) := dk_180 0 187 (dk_at dksX0_walk_3 1 rfl rfl)
theorem dX0_walk_73 : decode cX0_walk 73 = .ok (.iload_n 3, 1) := dk_29 (dk_at dksX0_walk_3 4 rfl rfl)
theorem dX0_walk_74 : decode cX0_walk 74 = .ok (.invokevirtual 188, 3) := dk_182 0 188 (dk_at dksX0_walk_3 5 rfl rfl)
theorem dX0_walk_77 : decode cX0_walk 77 = .ok (.ireturn, 1) := dk_172 (dk_at dksX0_walk_3 8 rfl rfl)
abbrev cX0_hours : ByteArray := prog_1_method_20_code
def yX0_hours : MethodName := ⟨RX0, "hours", "(I)I"⟩
def dkwX0_hours_1 : List UInt8 := [167, 0, 4, 2, 172]
abbrev dktX0_hours_1 : List UInt8 := dkwX0_hours_1 ++ []
def dkwX0_hours_0 : List UInt8 := [27, 4, 17, 0, 240, 184, 0, 127, 153, 0, 17, 42, 180, 0, 66, 27, 182, 0, 192, 180, 0, 196]
abbrev dktX0_hours_0 : List UInt8 := dkwX0_hours_0 ++ dktX0_hours_1
theorem dksX0_hours_0 : cX0_hours.data.toList.drop 0 = dktX0_hours_0 := by decide +kernel
theorem dksX0_hours_1 : cX0_hours.data.toList.drop 22 = dktX0_hours_1 := dk_seg dksX0_hours_0 22 rfl rfl
theorem dX0_hours_0 : decode cX0_hours 0 = .ok (.iload_n 1, 1) := dk_27 (dk_at dksX0_hours_0 0 rfl rfl)
theorem dX0_hours_1 : decode cX0_hours 1 = .ok (.iconst 1, 1) := dk_4 (dk_at dksX0_hours_0 1 rfl rfl)
theorem dX0_hours_2 : decode cX0_hours 2 = .ok (.sipush 240, 3) := dk_17 0 240 (dk_at dksX0_hours_0 2 rfl rfl)
theorem dX0_hours_5 : decode cX0_hours 5 = .ok (.invokestatic 127, 3) := dk_184 0 127 (dk_at dksX0_hours_0 5 rfl rfl)
theorem dX0_hours_8 : decode cX0_hours 8 = .ok (.ifCond .eq 17, 3) := dk_153 0 17 (dk_at dksX0_hours_0 8 rfl rfl)
theorem dX0_hours_11 : decode cX0_hours 11 = .ok (.aload_n 0, 1) := dk_42 (dk_at dksX0_hours_0 11 rfl rfl)
theorem dX0_hours_12 : decode cX0_hours 12 = .ok (.getfield 66, 3) := dk_180 0 66 (dk_at dksX0_hours_0 12 rfl rfl)
theorem dX0_hours_15 : decode cX0_hours 15 = .ok (.iload_n 1, 1) := dk_27 (dk_at dksX0_hours_0 15 rfl rfl)
theorem dX0_hours_16 : decode cX0_hours 16 = .ok (.invokevirtual 192, 3) := dk_182 0 192 (dk_at dksX0_hours_0 16 rfl rfl)
theorem dX0_hours_19 : decode cX0_hours 19 = .ok (.getfield 196, 3) := dk_180 0 196 (dk_at dksX0_hours_0 19 rfl rfl)
theorem dX0_hours_22 : decode cX0_hours 22 = .ok (.goto 4, 3) := dk_167 0 4 (dk_at dksX0_hours_1 0 rfl rfl)
theorem dX0_hours_25 : decode cX0_hours 25 = .ok (.iconst (-1), 1) := dk_2 (dk_at dksX0_hours_1 3 rfl rfl)
theorem dX0_hours_26 : decode cX0_hours 26 = .ok (.ireturn, 1) := dk_172 (dk_at dksX0_hours_1 4 rfl rfl)
abbrev cX0_held : ByteArray := prog_1_method_4_code
def yX0_held : MethodName := ⟨RX0, "held", "(II)I"⟩
def dkwX0_held_0 : List UInt8 := [3, 27, 26, 184, 0, 1, 184, 0, 7, 172]
abbrev dktX0_held_0 : List UInt8 := dkwX0_held_0 ++ []
theorem dksX0_held_0 : cX0_held.data.toList.drop 0 = dktX0_held_0 := by decide +kernel
theorem dX0_held_0 : decode cX0_held 0 = .ok (.iconst 0, 1) := dk_3 (dk_at dksX0_held_0 0 rfl rfl)
theorem dX0_held_1 : decode cX0_held 1 = .ok (.iload_n 1, 1) := dk_27 (dk_at dksX0_held_0 1 rfl rfl)
theorem dX0_held_2 : decode cX0_held 2 = .ok (.iload_n 0, 1) := dk_26 (dk_at dksX0_held_0 2 rfl rfl)
theorem dX0_held_3 : decode cX0_held 3 = .ok (.invokestatic 1, 3) := dk_184 0 1 (dk_at dksX0_held_0 3 rfl rfl)
theorem dX0_held_6 : decode cX0_held 6 = .ok (.invokestatic 7, 3) := dk_184 0 7 (dk_at dksX0_held_0 6 rfl rfl)
theorem dX0_held_9 : decode cX0_held 9 = .ok (.ireturn, 1) := dk_172 (dk_at dksX0_held_0 9 rfl rfl)
abbrev cX0_likingOf : ByteArray := prog_1_method_8_code
def yX0_likingOf : MethodName := ⟨RX0, "likingOf", "(LOneCoin$Duchy;II)I"⟩
def dkwX0_likingOf_1 : List UInt8 := [43, 28, 29, 182, 0, 41, 16, 101, 17, 39, 15, 182, 0, 51, 172]
abbrev dktX0_likingOf_1 : List UInt8 := dkwX0_likingOf_1 ++ []
def dkwX0_likingOf_0 : List UInt8 := [42, 180, 0, 37, 43, 28, 29, 182, 0, 41, 182, 0, 47, 153, 0, 7, 3, 167, 0, 21, 42, 180, 0, 37]
abbrev dktX0_likingOf_0 : List UInt8 := dkwX0_likingOf_0 ++ dktX0_likingOf_1
theorem dksX0_likingOf_0 : cX0_likingOf.data.toList.drop 0 = dktX0_likingOf_0 := by decide +kernel
theorem dksX0_likingOf_1 : cX0_likingOf.data.toList.drop 24 = dktX0_likingOf_1 := dk_seg dksX0_likingOf_0 24 rfl rfl
theorem dX0_likingOf_0 : decode cX0_likingOf 0 = .ok (.aload_n 0, 1) := dk_42 (dk_at dksX0_likingOf_0 0 rfl rfl)
theorem dX0_likingOf_1 : decode cX0_likingOf 1 = .ok (.getfield 37, 3) := dk_180 0 37 (dk_at dksX0_likingOf_0 1 rfl rfl)
theorem dX0_likingOf_4 : decode cX0_likingOf 4 = .ok (.aload_n 1, 1) := dk_43 (dk_at dksX0_likingOf_0 4 rfl rfl)
theorem dX0_likingOf_5 : decode cX0_likingOf 5 = .ok (.iload_n 2, 1) := dk_28 (dk_at dksX0_likingOf_0 5 rfl rfl)
theorem dX0_likingOf_6 : decode cX0_likingOf 6 = .ok (.iload_n 3, 1) := dk_29 (dk_at dksX0_likingOf_0 6 rfl rfl)
theorem dX0_likingOf_7 : decode cX0_likingOf 7 = .ok (.invokevirtual 41, 3) := dk_182 0 41 (dk_at dksX0_likingOf_0 7 rfl rfl)
theorem dX0_likingOf_10 : decode cX0_likingOf 10 = .ok (.invokevirtual 47, 3) := dk_182 0 47 (dk_at dksX0_likingOf_0 10 rfl rfl)
theorem dX0_likingOf_13 : decode cX0_likingOf 13 = .ok (.ifCond .eq 7, 3) := dk_153 0 7 (dk_at dksX0_likingOf_0 13 rfl rfl)
theorem dX0_likingOf_16 : decode cX0_likingOf 16 = .ok (.iconst 0, 1) := dk_3 (dk_at dksX0_likingOf_0 16 rfl rfl)
theorem dX0_likingOf_17 : decode cX0_likingOf 17 = .ok (.goto 21, 3) := dk_167 0 21 (dk_at dksX0_likingOf_0 17 rfl rfl)
theorem dX0_likingOf_20 : decode cX0_likingOf 20 = .ok (.aload_n 0, 1) := dk_42 (dk_at dksX0_likingOf_0 20 rfl rfl)
theorem dX0_likingOf_21 : decode cX0_likingOf 21 = .ok (.getfield 37, 3) := dk_180 0 37 (dk_at dksX0_likingOf_0 21 rfl rfl)
theorem dX0_likingOf_24 : decode cX0_likingOf 24 = .ok (.aload_n 1, 1) := dk_43 (dk_at dksX0_likingOf_1 0 rfl rfl)
theorem dX0_likingOf_25 : decode cX0_likingOf 25 = .ok (.iload_n 2, 1) := dk_28 (dk_at dksX0_likingOf_1 1 rfl rfl)
theorem dX0_likingOf_26 : decode cX0_likingOf 26 = .ok (.iload_n 3, 1) := dk_29 (dk_at dksX0_likingOf_1 2 rfl rfl)
theorem dX0_likingOf_27 : decode cX0_likingOf 27 = .ok (.invokevirtual 41, 3) := dk_182 0 41 (dk_at dksX0_likingOf_1 3 rfl rfl)
theorem dX0_likingOf_30 : decode cX0_likingOf 30 = .ok (.bipush 101, 2) := dk_16 101 (dk_at dksX0_likingOf_1 6 rfl rfl)
theorem dX0_likingOf_32 : decode cX0_likingOf 32 = .ok (.sipush 9999, 3) := dk_17 39 15 (dk_at dksX0_likingOf_1 8 rfl rfl)
theorem dX0_likingOf_35 : decode cX0_likingOf 35 = .ok (.invokevirtual 51, 3) := dk_182 0 51 (dk_at dksX0_likingOf_1 11 rfl rfl)
theorem dX0_likingOf_38 : decode cX0_likingOf 38 = .ok (.ireturn, 1) := dk_172 (dk_at dksX0_likingOf_1 14 rfl rfl)
abbrev cX0_tried : ByteArray := prog_1_method_21_code
def yX0_tried : MethodName := ⟨RX0, "tried", "(II)I"⟩
def dkwX0_tried_7 : List UInt8 := [180, 0, 211, 28, 16, 10, 100, 46, 42, 180, 0, 66, 180, 0, 211, 28, 16, 10, 100, 46, 100, 172]
abbrev dktX0_tried_7 : List UInt8 := dkwX0_tried_7 ++ []
def dkwX0_tried_6 : List UInt8 := [180, 0, 202, 172, 42, 180, 0, 70, 180, 0, 205, 172, 42, 180, 0, 70, 180, 0, 208, 172, 42, 180, 0, 70]
abbrev dktX0_tried_6 : List UInt8 := dkwX0_tried_6 ++ dktX0_tried_7
def dkwX0_tried_5 : List UInt8 := [180, 0, 137, 2, 160, 0, 8, 16, 254, 167, 0, 10, 42, 180, 0, 70, 180, 0, 137, 172, 42, 180, 0, 70]
abbrev dktX0_tried_5 : List UInt8 := dkwX0_tried_5 ++ dktX0_tried_6
def dkwX0_tried_4 : List UInt8 := [42, 180, 0, 70, 180, 0, 196, 172, 42, 180, 0, 70, 180, 0, 131, 182, 0, 199, 172, 42, 180, 0, 70]
abbrev dktX0_tried_4 : List UInt8 := dkwX0_tried_4 ++ dktX0_tried_5
def dkwX0_tried_3 : List UInt8 := [170, 0, 0, 0, 0, 105, 0, 0, 0, 0, 0, 0, 0, 5, 0, 0, 0, 38, 0, 0, 0, 46, 0, 0, 0, 57, 0, 0, 0, 81, 0, 0, 0, 89, 0, 0, 0, 97]
abbrev dktX0_tried_3 : List UInt8 := dkwX0_tried_3 ++ dktX0_tried_4
def dkwX0_tried_2 : List UInt8 := [87, 28]
abbrev dktX0_tried_2 : List UInt8 := dkwX0_tried_2 ++ dktX0_tried_3
def dkwX0_tried_1 : List UInt8 := [100, 182, 0, 123, 154, 0, 5, 2, 172, 42, 180, 0, 70, 42, 180, 0, 66, 182, 0, 184, 27, 182, 0, 192]
abbrev dktX0_tried_1 : List UInt8 := dkwX0_tried_1 ++ dktX0_tried_2
def dkwX0_tried_0 : List UInt8 := [27, 4, 17, 0, 240, 184, 0, 127, 153, 0, 23, 28, 16, 6, 184, 0, 15, 154, 0, 16, 42, 28, 16, 10]
abbrev dktX0_tried_0 : List UInt8 := dkwX0_tried_0 ++ dktX0_tried_1
theorem dksX0_tried_0 : cX0_tried.data.toList.drop 0 = dktX0_tried_0 := by decide +kernel
theorem dksX0_tried_1 : cX0_tried.data.toList.drop 24 = dktX0_tried_1 := dk_seg dksX0_tried_0 24 rfl rfl
theorem dksX0_tried_2 : cX0_tried.data.toList.drop 48 = dktX0_tried_2 := dk_seg dksX0_tried_1 24 rfl rfl
theorem dksX0_tried_3 : cX0_tried.data.toList.drop 50 = dktX0_tried_3 := dk_seg dksX0_tried_2 2 rfl rfl
theorem dksX0_tried_4 : cX0_tried.data.toList.drop 88 = dktX0_tried_4 := dk_seg dksX0_tried_3 38 rfl rfl
theorem dksX0_tried_5 : cX0_tried.data.toList.drop 111 = dktX0_tried_5 := dk_seg dksX0_tried_4 23 rfl rfl
theorem dksX0_tried_6 : cX0_tried.data.toList.drop 135 = dktX0_tried_6 := dk_seg dksX0_tried_5 24 rfl rfl
theorem dksX0_tried_7 : cX0_tried.data.toList.drop 159 = dktX0_tried_7 := dk_seg dksX0_tried_6 24 rfl rfl
theorem dX0_tried_0 : decode cX0_tried 0 = .ok (.iload_n 1, 1) := dk_27 (dk_at dksX0_tried_0 0 rfl rfl)
theorem dX0_tried_1 : decode cX0_tried 1 = .ok (.iconst 1, 1) := dk_4 (dk_at dksX0_tried_0 1 rfl rfl)
theorem dX0_tried_2 : decode cX0_tried 2 = .ok (.sipush 240, 3) := dk_17 0 240 (dk_at dksX0_tried_0 2 rfl rfl)
theorem dX0_tried_5 : decode cX0_tried 5 = .ok (.invokestatic 127, 3) := dk_184 0 127 (dk_at dksX0_tried_0 5 rfl rfl)
theorem dX0_tried_8 : decode cX0_tried 8 = .ok (.ifCond .eq 23, 3) := dk_153 0 23 (dk_at dksX0_tried_0 8 rfl rfl)
theorem dX0_tried_11 : decode cX0_tried 11 = .ok (.iload_n 2, 1) := dk_28 (dk_at dksX0_tried_0 11 rfl rfl)
theorem dX0_tried_12 : decode cX0_tried 12 = .ok (.bipush 6, 2) := dk_16 6 (dk_at dksX0_tried_0 12 rfl rfl)
theorem dX0_tried_14 : decode cX0_tried 14 = .ok (.invokestatic 15, 3) := dk_184 0 15 (dk_at dksX0_tried_0 14 rfl rfl)
theorem dX0_tried_17 : decode cX0_tried 17 = .ok (.ifCond .ne 16, 3) := dk_154 0 16 (dk_at dksX0_tried_0 17 rfl rfl)
theorem dX0_tried_20 : decode cX0_tried 20 = .ok (.aload_n 0, 1) := dk_42 (dk_at dksX0_tried_0 20 rfl rfl)
theorem dX0_tried_21 : decode cX0_tried 21 = .ok (.iload_n 2, 1) := dk_28 (dk_at dksX0_tried_0 21 rfl rfl)
theorem dX0_tried_22 : decode cX0_tried 22 = .ok (.bipush 10, 2) := dk_16 10 (dk_at dksX0_tried_0 22 rfl rfl)
theorem dX0_tried_24 : decode cX0_tried 24 = .ok (.isub, 1) := dk_100 (dk_at dksX0_tried_1 0 rfl rfl)
theorem dX0_tried_25 : decode cX0_tried 25 = .ok (.invokevirtual 123, 3) := dk_182 0 123 (dk_at dksX0_tried_1 1 rfl rfl)
theorem dX0_tried_28 : decode cX0_tried 28 = .ok (.ifCond .ne 5, 3) := dk_154 0 5 (dk_at dksX0_tried_1 4 rfl rfl)
theorem dX0_tried_31 : decode cX0_tried 31 = .ok (.iconst (-1), 1) := dk_2 (dk_at dksX0_tried_1 7 rfl rfl)
theorem dX0_tried_32 : decode cX0_tried 32 = .ok (.ireturn, 1) := dk_172 (dk_at dksX0_tried_1 8 rfl rfl)
theorem dX0_tried_33 : decode cX0_tried 33 = .ok (.aload_n 0, 1) := dk_42 (dk_at dksX0_tried_1 9 rfl rfl)
theorem dX0_tried_34 : decode cX0_tried 34 = .ok (.getfield 70, 3) := dk_180 0 70 (dk_at dksX0_tried_1 10 rfl rfl)
theorem dX0_tried_37 : decode cX0_tried 37 = .ok (.aload_n 0, 1) := dk_42 (dk_at dksX0_tried_1 13 rfl rfl)
theorem dX0_tried_38 : decode cX0_tried 38 = .ok (.getfield 66, 3) := dk_180 0 66 (dk_at dksX0_tried_1 14 rfl rfl)
theorem dX0_tried_41 : decode cX0_tried 41 = .ok (.invokevirtual 184, 3) := dk_182 0 184 (dk_at dksX0_tried_1 17 rfl rfl)
theorem dX0_tried_44 : decode cX0_tried 44 = .ok (.iload_n 1, 1) := dk_27 (dk_at dksX0_tried_1 20 rfl rfl)
theorem dX0_tried_45 : decode cX0_tried 45 = .ok (.invokevirtual 192, 3) := dk_182 0 192 (dk_at dksX0_tried_1 21 rfl rfl)
theorem dX0_tried_48 : decode cX0_tried 48 = .ok (.pop, 1) := dk_87 (dk_at dksX0_tried_2 0 rfl rfl)
theorem dX0_tried_49 : decode cX0_tried 49 = .ok (.iload_n 2, 1) := dk_28 (dk_at dksX0_tried_2 1 rfl rfl)
theorem dX0_tried_50 : decode cX0_tried 50 = .ok (.tableswitch 105 0 5 #[38, 46, 57, 81, 89, 97], 38) := by decide +kernel
theorem dX0_tried_88 : decode cX0_tried 88 = .ok (.aload_n 0, 1) := dk_42 (dk_at dksX0_tried_4 0 rfl rfl)
theorem dX0_tried_89 : decode cX0_tried 89 = .ok (.getfield 70, 3) := dk_180 0 70 (dk_at dksX0_tried_4 1 rfl rfl)
theorem dX0_tried_92 : decode cX0_tried 92 = .ok (.getfield 196, 3) := dk_180 0 196 (dk_at dksX0_tried_4 4 rfl rfl)
theorem dX0_tried_95 : decode cX0_tried 95 = .ok (.ireturn, 1) := dk_172 (dk_at dksX0_tried_4 7 rfl rfl)
theorem dX0_tried_96 : decode cX0_tried 96 = .ok (.aload_n 0, 1) := dk_42 (dk_at dksX0_tried_4 8 rfl rfl)
theorem dX0_tried_97 : decode cX0_tried 97 = .ok (.getfield 70, 3) := dk_180 0 70 (dk_at dksX0_tried_4 9 rfl rfl)
theorem dX0_tried_100 : decode cX0_tried 100 = .ok (.getfield 131, 3) := dk_180 0 131 (dk_at dksX0_tried_4 12 rfl rfl)
theorem dX0_tried_103 : decode cX0_tried 103 = .ok (.invokevirtual 199, 3) := dk_182 0 199 (dk_at dksX0_tried_4 15 rfl rfl)
theorem dX0_tried_106 : decode cX0_tried 106 = .ok (.ireturn, 1) := dk_172 (dk_at dksX0_tried_4 18 rfl rfl)
theorem dX0_tried_107 : decode cX0_tried 107 = .ok (.aload_n 0, 1) := dk_42 (dk_at dksX0_tried_4 19 rfl rfl)
theorem dX0_tried_108 : decode cX0_tried 108 = .ok (.getfield 70, 3) := dk_180 0 70 (dk_at dksX0_tried_4 20 rfl rfl)
theorem dX0_tried_111 : decode cX0_tried 111 = .ok (.getfield 137, 3) := dk_180 0 137 (dk_at dksX0_tried_5 0 rfl rfl)
theorem dX0_tried_114 : decode cX0_tried 114 = .ok (.iconst (-1), 1) := dk_2 (dk_at dksX0_tried_5 3 rfl rfl)
theorem dX0_tried_115 : decode cX0_tried 115 = .ok (.if_icmp .ne 8, 3) := dk_160 0 8 (dk_at dksX0_tried_5 4 rfl rfl)
theorem dX0_tried_118 : decode cX0_tried 118 = .ok (.bipush (-2), 2) := dk_16 254 (dk_at dksX0_tried_5 7 rfl rfl)
theorem dX0_tried_120 : decode cX0_tried 120 = .ok (.goto 10, 3) := dk_167 0 10 (dk_at dksX0_tried_5 9 rfl rfl)
theorem dX0_tried_123 : decode cX0_tried 123 = .ok (.aload_n 0, 1) := dk_42 (dk_at dksX0_tried_5 12 rfl rfl)
theorem dX0_tried_124 : decode cX0_tried 124 = .ok (.getfield 70, 3) := dk_180 0 70 (dk_at dksX0_tried_5 13 rfl rfl)
theorem dX0_tried_127 : decode cX0_tried 127 = .ok (.getfield 137, 3) := dk_180 0 137 (dk_at dksX0_tried_5 16 rfl rfl)
theorem dX0_tried_130 : decode cX0_tried 130 = .ok (.ireturn, 1) := dk_172 (dk_at dksX0_tried_5 19 rfl rfl)
theorem dX0_tried_131 : decode cX0_tried 131 = .ok (.aload_n 0, 1) := dk_42 (dk_at dksX0_tried_5 20 rfl rfl)
theorem dX0_tried_132 : decode cX0_tried 132 = .ok (.getfield 70, 3) := dk_180 0 70 (dk_at dksX0_tried_5 21 rfl rfl)
theorem dX0_tried_135 : decode cX0_tried 135 = .ok (.getfield 202, 3) := dk_180 0 202 (dk_at dksX0_tried_6 0 rfl rfl)
theorem dX0_tried_138 : decode cX0_tried 138 = .ok (.ireturn, 1) := dk_172 (dk_at dksX0_tried_6 3 rfl rfl)
theorem dX0_tried_139 : decode cX0_tried 139 = .ok (.aload_n 0, 1) := dk_42 (dk_at dksX0_tried_6 4 rfl rfl)
theorem dX0_tried_140 : decode cX0_tried 140 = .ok (.getfield 70, 3) := dk_180 0 70 (dk_at dksX0_tried_6 5 rfl rfl)
theorem dX0_tried_143 : decode cX0_tried 143 = .ok (.getfield 205, 3) := dk_180 0 205 (dk_at dksX0_tried_6 8 rfl rfl)
theorem dX0_tried_146 : decode cX0_tried 146 = .ok (.ireturn, 1) := dk_172 (dk_at dksX0_tried_6 11 rfl rfl)
theorem dX0_tried_147 : decode cX0_tried 147 = .ok (.aload_n 0, 1) := dk_42 (dk_at dksX0_tried_6 12 rfl rfl)
theorem dX0_tried_148 : decode cX0_tried 148 = .ok (.getfield 70, 3) := dk_180 0 70 (dk_at dksX0_tried_6 13 rfl rfl)
theorem dX0_tried_151 : decode cX0_tried 151 = .ok (.getfield 208, 3) := dk_180 0 208 (dk_at dksX0_tried_6 16 rfl rfl)
theorem dX0_tried_154 : decode cX0_tried 154 = .ok (.ireturn, 1) := dk_172 (dk_at dksX0_tried_6 19 rfl rfl)
theorem dX0_tried_155 : decode cX0_tried 155 = .ok (.aload_n 0, 1) := dk_42 (dk_at dksX0_tried_6 20 rfl rfl)
theorem dX0_tried_156 : decode cX0_tried 156 = .ok (.getfield 70, 3) := dk_180 0 70 (dk_at dksX0_tried_6 21 rfl rfl)
theorem dX0_tried_159 : decode cX0_tried 159 = .ok (.getfield 211, 3) := dk_180 0 211 (dk_at dksX0_tried_7 0 rfl rfl)
theorem dX0_tried_162 : decode cX0_tried 162 = .ok (.iload_n 2, 1) := dk_28 (dk_at dksX0_tried_7 3 rfl rfl)
theorem dX0_tried_163 : decode cX0_tried 163 = .ok (.bipush 10, 2) := dk_16 10 (dk_at dksX0_tried_7 4 rfl rfl)
theorem dX0_tried_165 : decode cX0_tried 165 = .ok (.isub, 1) := dk_100 (dk_at dksX0_tried_7 6 rfl rfl)
theorem dX0_tried_166 : decode cX0_tried 166 = .ok (.iaload, 1) := dk_46 (dk_at dksX0_tried_7 7 rfl rfl)
theorem dX0_tried_167 : decode cX0_tried 167 = .ok (.aload_n 0, 1) := dk_42 (dk_at dksX0_tried_7 8 rfl rfl)
theorem dX0_tried_168 : decode cX0_tried 168 = .ok (.getfield 66, 3) := dk_180 0 66 (dk_at dksX0_tried_7 9 rfl rfl)
theorem dX0_tried_171 : decode cX0_tried 171 = .ok (.getfield 211, 3) := dk_180 0 211 (dk_at dksX0_tried_7 12 rfl rfl)
theorem dX0_tried_174 : decode cX0_tried 174 = .ok (.iload_n 2, 1) := dk_28 (dk_at dksX0_tried_7 15 rfl rfl)
theorem dX0_tried_175 : decode cX0_tried 175 = .ok (.bipush 10, 2) := dk_16 10 (dk_at dksX0_tried_7 16 rfl rfl)
theorem dX0_tried_177 : decode cX0_tried 177 = .ok (.isub, 1) := dk_100 (dk_at dksX0_tried_7 18 rfl rfl)
theorem dX0_tried_178 : decode cX0_tried 178 = .ok (.iaload, 1) := dk_46 (dk_at dksX0_tried_7 19 rfl rfl)
theorem dX0_tried_179 : decode cX0_tried 179 = .ok (.isub, 1) := dk_100 (dk_at dksX0_tried_7 20 rfl rfl)
theorem dX0_tried_180 : decode cX0_tried 180 = .ok (.ireturn, 1) := dk_172 (dk_at dksX0_tried_7 21 rfl rfl)
abbrev cX0_personIs : ByteArray := prog_1_method_22_code
def yX0_personIs : MethodName := ⟨RX0, "personIs", "(II)I"⟩
def dkwX0_personIs_4 : List UInt8 := [46, 172, 42, 180, 0, 66, 27, 182, 0, 220, 172, 2, 172]
abbrev dktX0_personIs_4 : List UInt8 := dkwX0_personIs_4 ++ []
def dkwX0_personIs_3 : List UInt8 := [182, 0, 214, 172, 42, 180, 0, 66, 180, 0, 131, 27, 182, 0, 217, 172, 42, 180, 0, 66, 180, 0, 211, 27]
abbrev dktX0_personIs_3 : List UInt8 := dkwX0_personIs_3 ++ dktX0_personIs_4
def dkwX0_personIs_2 : List UInt8 := [42, 180, 0, 26, 27, 46, 172, 42, 180, 0, 34, 27, 46, 172, 42, 180, 0, 66, 180, 0, 131, 27]
abbrev dktX0_personIs_2 : List UInt8 := dkwX0_personIs_2 ++ dktX0_personIs_3
def dkwX0_personIs_1 : List UInt8 := [170, 0, 0, 0, 94, 0, 0, 0, 0, 0, 0, 0, 5, 0, 0, 0, 37, 0, 0, 0, 44, 0, 0, 0, 51, 0, 0, 0, 63, 0, 0, 0, 75, 0, 0, 0, 85]
abbrev dktX0_personIs_1 : List UInt8 := dkwX0_personIs_1 ++ dktX0_personIs_2
def dkwX0_personIs_0 : List UInt8 := [42, 27, 182, 0, 123, 154, 0, 5, 2, 172, 28]
abbrev dktX0_personIs_0 : List UInt8 := dkwX0_personIs_0 ++ dktX0_personIs_1
theorem dksX0_personIs_0 : cX0_personIs.data.toList.drop 0 = dktX0_personIs_0 := by decide +kernel
theorem dksX0_personIs_1 : cX0_personIs.data.toList.drop 11 = dktX0_personIs_1 := dk_seg dksX0_personIs_0 11 rfl rfl
theorem dksX0_personIs_2 : cX0_personIs.data.toList.drop 48 = dktX0_personIs_2 := dk_seg dksX0_personIs_1 37 rfl rfl
theorem dksX0_personIs_3 : cX0_personIs.data.toList.drop 70 = dktX0_personIs_3 := dk_seg dksX0_personIs_2 22 rfl rfl
theorem dksX0_personIs_4 : cX0_personIs.data.toList.drop 94 = dktX0_personIs_4 := dk_seg dksX0_personIs_3 24 rfl rfl
theorem dX0_personIs_0 : decode cX0_personIs 0 = .ok (.aload_n 0, 1) := dk_42 (dk_at dksX0_personIs_0 0 rfl rfl)
theorem dX0_personIs_1 : decode cX0_personIs 1 = .ok (.iload_n 1, 1) := dk_27 (dk_at dksX0_personIs_0 1 rfl rfl)
theorem dX0_personIs_2 : decode cX0_personIs 2 = .ok (.invokevirtual 123, 3) := dk_182 0 123 (dk_at dksX0_personIs_0 2 rfl rfl)
theorem dX0_personIs_5 : decode cX0_personIs 5 = .ok (.ifCond .ne 5, 3) := dk_154 0 5 (dk_at dksX0_personIs_0 5 rfl rfl)
theorem dX0_personIs_8 : decode cX0_personIs 8 = .ok (.iconst (-1), 1) := dk_2 (dk_at dksX0_personIs_0 8 rfl rfl)
theorem dX0_personIs_9 : decode cX0_personIs 9 = .ok (.ireturn, 1) := dk_172 (dk_at dksX0_personIs_0 9 rfl rfl)
theorem dX0_personIs_10 : decode cX0_personIs 10 = .ok (.iload_n 2, 1) := dk_28 (dk_at dksX0_personIs_0 10 rfl rfl)
theorem dX0_personIs_11 : decode cX0_personIs 11 = .ok (.tableswitch 94 0 5 #[37, 44, 51, 63, 75, 85], 37) := by decide +kernel
theorem dX0_personIs_48 : decode cX0_personIs 48 = .ok (.aload_n 0, 1) := dk_42 (dk_at dksX0_personIs_2 0 rfl rfl)
theorem dX0_personIs_49 : decode cX0_personIs 49 = .ok (.getfield 26, 3) := dk_180 0 26 (dk_at dksX0_personIs_2 1 rfl rfl)
theorem dX0_personIs_52 : decode cX0_personIs 52 = .ok (.iload_n 1, 1) := dk_27 (dk_at dksX0_personIs_2 4 rfl rfl)
theorem dX0_personIs_53 : decode cX0_personIs 53 = .ok (.iaload, 1) := dk_46 (dk_at dksX0_personIs_2 5 rfl rfl)
theorem dX0_personIs_54 : decode cX0_personIs 54 = .ok (.ireturn, 1) := dk_172 (dk_at dksX0_personIs_2 6 rfl rfl)
theorem dX0_personIs_55 : decode cX0_personIs 55 = .ok (.aload_n 0, 1) := dk_42 (dk_at dksX0_personIs_2 7 rfl rfl)
theorem dX0_personIs_56 : decode cX0_personIs 56 = .ok (.getfield 34, 3) := dk_180 0 34 (dk_at dksX0_personIs_2 8 rfl rfl)
theorem dX0_personIs_59 : decode cX0_personIs 59 = .ok (.iload_n 1, 1) := dk_27 (dk_at dksX0_personIs_2 11 rfl rfl)
theorem dX0_personIs_60 : decode cX0_personIs 60 = .ok (.iaload, 1) := dk_46 (dk_at dksX0_personIs_2 12 rfl rfl)
theorem dX0_personIs_61 : decode cX0_personIs 61 = .ok (.ireturn, 1) := dk_172 (dk_at dksX0_personIs_2 13 rfl rfl)
theorem dX0_personIs_62 : decode cX0_personIs 62 = .ok (.aload_n 0, 1) := dk_42 (dk_at dksX0_personIs_2 14 rfl rfl)
theorem dX0_personIs_63 : decode cX0_personIs 63 = .ok (.getfield 66, 3) := dk_180 0 66 (dk_at dksX0_personIs_2 15 rfl rfl)
theorem dX0_personIs_66 : decode cX0_personIs 66 = .ok (.getfield 131, 3) := dk_180 0 131 (dk_at dksX0_personIs_2 18 rfl rfl)
theorem dX0_personIs_69 : decode cX0_personIs 69 = .ok (.iload_n 1, 1) := dk_27 (dk_at dksX0_personIs_2 21 rfl rfl)
theorem dX0_personIs_70 : decode cX0_personIs 70 = .ok (.invokevirtual 214, 3) := dk_182 0 214 (dk_at dksX0_personIs_3 0 rfl rfl)
theorem dX0_personIs_73 : decode cX0_personIs 73 = .ok (.ireturn, 1) := dk_172 (dk_at dksX0_personIs_3 3 rfl rfl)
theorem dX0_personIs_74 : decode cX0_personIs 74 = .ok (.aload_n 0, 1) := dk_42 (dk_at dksX0_personIs_3 4 rfl rfl)
theorem dX0_personIs_75 : decode cX0_personIs 75 = .ok (.getfield 66, 3) := dk_180 0 66 (dk_at dksX0_personIs_3 5 rfl rfl)
theorem dX0_personIs_78 : decode cX0_personIs 78 = .ok (.getfield 131, 3) := dk_180 0 131 (dk_at dksX0_personIs_3 8 rfl rfl)
theorem dX0_personIs_81 : decode cX0_personIs 81 = .ok (.iload_n 1, 1) := dk_27 (dk_at dksX0_personIs_3 11 rfl rfl)
theorem dX0_personIs_82 : decode cX0_personIs 82 = .ok (.invokevirtual 217, 3) := dk_182 0 217 (dk_at dksX0_personIs_3 12 rfl rfl)
theorem dX0_personIs_85 : decode cX0_personIs 85 = .ok (.ireturn, 1) := dk_172 (dk_at dksX0_personIs_3 15 rfl rfl)
theorem dX0_personIs_86 : decode cX0_personIs 86 = .ok (.aload_n 0, 1) := dk_42 (dk_at dksX0_personIs_3 16 rfl rfl)
theorem dX0_personIs_87 : decode cX0_personIs 87 = .ok (.getfield 66, 3) := dk_180 0 66 (dk_at dksX0_personIs_3 17 rfl rfl)
theorem dX0_personIs_90 : decode cX0_personIs 90 = .ok (.getfield 211, 3) := dk_180 0 211 (dk_at dksX0_personIs_3 20 rfl rfl)
theorem dX0_personIs_93 : decode cX0_personIs 93 = .ok (.iload_n 1, 1) := dk_27 (dk_at dksX0_personIs_3 23 rfl rfl)
theorem dX0_personIs_94 : decode cX0_personIs 94 = .ok (.iaload, 1) := dk_46 (dk_at dksX0_personIs_4 0 rfl rfl)
theorem dX0_personIs_95 : decode cX0_personIs 95 = .ok (.ireturn, 1) := dk_172 (dk_at dksX0_personIs_4 1 rfl rfl)
theorem dX0_personIs_96 : decode cX0_personIs 96 = .ok (.aload_n 0, 1) := dk_42 (dk_at dksX0_personIs_4 2 rfl rfl)
theorem dX0_personIs_97 : decode cX0_personIs 97 = .ok (.getfield 66, 3) := dk_180 0 66 (dk_at dksX0_personIs_4 3 rfl rfl)
theorem dX0_personIs_100 : decode cX0_personIs 100 = .ok (.iload_n 1, 1) := dk_27 (dk_at dksX0_personIs_4 6 rfl rfl)
theorem dX0_personIs_101 : decode cX0_personIs 101 = .ok (.invokevirtual 220, 3) := dk_182 0 220 (dk_at dksX0_personIs_4 7 rfl rfl)
theorem dX0_personIs_104 : decode cX0_personIs 104 = .ok (.ireturn, 1) := dk_172 (dk_at dksX0_personIs_4 10 rfl rfl)
theorem dX0_personIs_105 : decode cX0_personIs 105 = .ok (.iconst (-1), 1) := dk_2 (dk_at dksX0_personIs_4 11 rfl rfl)
theorem dX0_personIs_106 : decode cX0_personIs 106 = .ok (.ireturn, 1) := dk_172 (dk_at dksX0_personIs_4 12 rfl rfl)
abbrev cX0_owes : ByteArray := prog_1_method_24_code
def yX0_owes : MethodName := ⟨RX0, "owes", "(II)I"⟩
def dkwX0_owes_1 : List UInt8 := [167, 0, 4, 2, 172]
abbrev dktX0_owes_1 : List UInt8 := dkwX0_owes_1 ++ []
def dkwX0_owes_0 : List UInt8 := [42, 27, 28, 182, 0, 223, 153, 0, 20, 42, 180, 0, 66, 180, 0, 131, 180, 0, 134, 27, 50, 28, 46]
abbrev dktX0_owes_0 : List UInt8 := dkwX0_owes_0 ++ dktX0_owes_1
theorem dksX0_owes_0 : cX0_owes.data.toList.drop 0 = dktX0_owes_0 := by decide +kernel
theorem dksX0_owes_1 : cX0_owes.data.toList.drop 23 = dktX0_owes_1 := dk_seg dksX0_owes_0 23 rfl rfl
theorem dX0_owes_0 : decode cX0_owes 0 = .ok (.aload_n 0, 1) := dk_42 (dk_at dksX0_owes_0 0 rfl rfl)
theorem dX0_owes_1 : decode cX0_owes 1 = .ok (.iload_n 1, 1) := dk_27 (dk_at dksX0_owes_0 1 rfl rfl)
theorem dX0_owes_2 : decode cX0_owes 2 = .ok (.iload_n 2, 1) := dk_28 (dk_at dksX0_owes_0 2 rfl rfl)
theorem dX0_owes_3 : decode cX0_owes 3 = .ok (.invokevirtual 223, 3) := dk_182 0 223 (dk_at dksX0_owes_0 3 rfl rfl)
theorem dX0_owes_6 : decode cX0_owes 6 = .ok (.ifCond .eq 20, 3) := dk_153 0 20 (dk_at dksX0_owes_0 6 rfl rfl)
theorem dX0_owes_9 : decode cX0_owes 9 = .ok (.aload_n 0, 1) := dk_42 (dk_at dksX0_owes_0 9 rfl rfl)
theorem dX0_owes_10 : decode cX0_owes 10 = .ok (.getfield 66, 3) := dk_180 0 66 (dk_at dksX0_owes_0 10 rfl rfl)
theorem dX0_owes_13 : decode cX0_owes 13 = .ok (.getfield 131, 3) := dk_180 0 131 (dk_at dksX0_owes_0 13 rfl rfl)
theorem dX0_owes_16 : decode cX0_owes 16 = .ok (.getfield 134, 3) := dk_180 0 134 (dk_at dksX0_owes_0 16 rfl rfl)
theorem dX0_owes_19 : decode cX0_owes 19 = .ok (.iload_n 1, 1) := dk_27 (dk_at dksX0_owes_0 19 rfl rfl)
theorem dX0_owes_20 : decode cX0_owes 20 = .ok (.aaload, 1) := dk_50 (dk_at dksX0_owes_0 20 rfl rfl)
theorem dX0_owes_21 : decode cX0_owes 21 = .ok (.iload_n 2, 1) := dk_28 (dk_at dksX0_owes_0 21 rfl rfl)
theorem dX0_owes_22 : decode cX0_owes 22 = .ok (.iaload, 1) := dk_46 (dk_at dksX0_owes_0 22 rfl rfl)
theorem dX0_owes_23 : decode cX0_owes 23 = .ok (.goto 4, 3) := dk_167 0 4 (dk_at dksX0_owes_1 0 rfl rfl)
theorem dX0_owes_26 : decode cX0_owes 26 = .ok (.iconst (-1), 1) := dk_2 (dk_at dksX0_owes_1 3 rfl rfl)
theorem dX0_owes_27 : decode cX0_owes 27 = .ok (.ireturn, 1) := dk_172 (dk_at dksX0_owes_1 4 rfl rfl)
abbrev cX0_areTwo : ByteArray := prog_1_method_23_code
def yX0_areTwo : MethodName := ⟨RX0, "areTwo", "(II)Z"⟩
def dkwX0_areTwo_1 : List UInt8 := [167, 0, 4, 3, 172]
abbrev dktX0_areTwo_1 : List UInt8 := dkwX0_areTwo_1 ++ []
def dkwX0_areTwo_0 : List UInt8 := [42, 27, 182, 0, 123, 153, 0, 20, 42, 28, 182, 0, 123, 153, 0, 12, 27, 28, 159, 0, 7, 4]
abbrev dktX0_areTwo_0 : List UInt8 := dkwX0_areTwo_0 ++ dktX0_areTwo_1
theorem dksX0_areTwo_0 : cX0_areTwo.data.toList.drop 0 = dktX0_areTwo_0 := by decide +kernel
theorem dksX0_areTwo_1 : cX0_areTwo.data.toList.drop 22 = dktX0_areTwo_1 := dk_seg dksX0_areTwo_0 22 rfl rfl
theorem dX0_areTwo_0 : decode cX0_areTwo 0 = .ok (.aload_n 0, 1) := dk_42 (dk_at dksX0_areTwo_0 0 rfl rfl)
theorem dX0_areTwo_1 : decode cX0_areTwo 1 = .ok (.iload_n 1, 1) := dk_27 (dk_at dksX0_areTwo_0 1 rfl rfl)
theorem dX0_areTwo_2 : decode cX0_areTwo 2 = .ok (.invokevirtual 123, 3) := dk_182 0 123 (dk_at dksX0_areTwo_0 2 rfl rfl)
theorem dX0_areTwo_5 : decode cX0_areTwo 5 = .ok (.ifCond .eq 20, 3) := dk_153 0 20 (dk_at dksX0_areTwo_0 5 rfl rfl)
theorem dX0_areTwo_8 : decode cX0_areTwo 8 = .ok (.aload_n 0, 1) := dk_42 (dk_at dksX0_areTwo_0 8 rfl rfl)
theorem dX0_areTwo_9 : decode cX0_areTwo 9 = .ok (.iload_n 2, 1) := dk_28 (dk_at dksX0_areTwo_0 9 rfl rfl)
theorem dX0_areTwo_10 : decode cX0_areTwo 10 = .ok (.invokevirtual 123, 3) := dk_182 0 123 (dk_at dksX0_areTwo_0 10 rfl rfl)
theorem dX0_areTwo_13 : decode cX0_areTwo 13 = .ok (.ifCond .eq 12, 3) := dk_153 0 12 (dk_at dksX0_areTwo_0 13 rfl rfl)
theorem dX0_areTwo_16 : decode cX0_areTwo 16 = .ok (.iload_n 1, 1) := dk_27 (dk_at dksX0_areTwo_0 16 rfl rfl)
theorem dX0_areTwo_17 : decode cX0_areTwo 17 = .ok (.iload_n 2, 1) := dk_28 (dk_at dksX0_areTwo_0 17 rfl rfl)
theorem dX0_areTwo_18 : decode cX0_areTwo 18 = .ok (.if_icmp .eq 7, 3) := dk_159 0 7 (dk_at dksX0_areTwo_0 18 rfl rfl)
theorem dX0_areTwo_21 : decode cX0_areTwo 21 = .ok (.iconst 1, 1) := dk_4 (dk_at dksX0_areTwo_0 21 rfl rfl)
theorem dX0_areTwo_22 : decode cX0_areTwo 22 = .ok (.goto 4, 3) := dk_167 0 4 (dk_at dksX0_areTwo_1 0 rfl rfl)
theorem dX0_areTwo_25 : decode cX0_areTwo 25 = .ok (.iconst 0, 1) := dk_3 (dk_at dksX0_areTwo_1 3 rfl rfl)
theorem dX0_areTwo_26 : decode cX0_areTwo 26 = .ok (.ireturn, 1) := dk_172 (dk_at dksX0_areTwo_1 4 rfl rfl)
abbrev cX0_likes : ByteArray := prog_1_method_25_code
def yX0_likes : MethodName := ⟨RX0, "likes", "(II)I"⟩
def dkwX0_likes_0 : List UInt8 := [42, 27, 28, 182, 0, 223, 153, 0, 16, 42, 42, 180, 0, 66, 27, 28, 182, 0, 226, 167, 0, 4, 2, 172]
abbrev dktX0_likes_0 : List UInt8 := dkwX0_likes_0 ++ []
theorem dksX0_likes_0 : cX0_likes.data.toList.drop 0 = dktX0_likes_0 := by decide +kernel
theorem dX0_likes_0 : decode cX0_likes 0 = .ok (.aload_n 0, 1) := dk_42 (dk_at dksX0_likes_0 0 rfl rfl)
theorem dX0_likes_1 : decode cX0_likes 1 = .ok (.iload_n 1, 1) := dk_27 (dk_at dksX0_likes_0 1 rfl rfl)
theorem dX0_likes_2 : decode cX0_likes 2 = .ok (.iload_n 2, 1) := dk_28 (dk_at dksX0_likes_0 2 rfl rfl)
theorem dX0_likes_3 : decode cX0_likes 3 = .ok (.invokevirtual 223, 3) := dk_182 0 223 (dk_at dksX0_likes_0 3 rfl rfl)
theorem dX0_likes_6 : decode cX0_likes 6 = .ok (.ifCond .eq 16, 3) := dk_153 0 16 (dk_at dksX0_likes_0 6 rfl rfl)
theorem dX0_likes_9 : decode cX0_likes 9 = .ok (.aload_n 0, 1) := dk_42 (dk_at dksX0_likes_0 9 rfl rfl)
theorem dX0_likes_10 : decode cX0_likes 10 = .ok (.aload_n 0, 1) := dk_42 (dk_at dksX0_likes_0 10 rfl rfl)
theorem dX0_likes_11 : decode cX0_likes 11 = .ok (.getfield 66, 3) := dk_180 0 66 (dk_at dksX0_likes_0 11 rfl rfl)
theorem dX0_likes_14 : decode cX0_likes 14 = .ok (.iload_n 1, 1) := dk_27 (dk_at dksX0_likes_0 14 rfl rfl)
theorem dX0_likes_15 : decode cX0_likes 15 = .ok (.iload_n 2, 1) := dk_28 (dk_at dksX0_likes_0 15 rfl rfl)
theorem dX0_likes_16 : decode cX0_likes 16 = .ok (.invokevirtual 226, 3) := dk_182 0 226 (dk_at dksX0_likes_0 16 rfl rfl)
theorem dX0_likes_19 : decode cX0_likes 19 = .ok (.goto 4, 3) := dk_167 0 4 (dk_at dksX0_likes_0 19 rfl rfl)
theorem dX0_likes_22 : decode cX0_likes 22 = .ok (.iconst (-1), 1) := dk_2 (dk_at dksX0_likes_0 22 rfl rfl)
theorem dX0_likes_23 : decode cX0_likes 23 = .ok (.ireturn, 1) := dk_172 (dk_at dksX0_likes_0 23 rfl rfl)
abbrev cX0_tour : ByteArray := prog_1_method_28_code
def yX0_tour : MethodName := ⟨RX0, "tour", "(I)I"⟩
def dkwX0_tour_6 : List UInt8 := [46, 167, 0, 20, 21, 4, 42, 180, 0, 66, 180, 0, 137, 160, 0, 7, 4, 167, 0, 4, 3, 172]
abbrev dktX0_tour_6 : List UInt8 := dkwX0_tour_6 ++ []
def dkwX0_tour_5 : List UInt8 := [42, 180, 0, 66, 180, 0, 137, 28, 182, 0, 236, 54, 4, 27, 16, 60, 162, 0, 12, 42, 180, 0, 94, 27]
abbrev dktX0_tour_5 : List UInt8 := dkwX0_tour_5 ++ dktX0_tour_6
def dkwX0_tour_4 : List UInt8 := [167, 0, 4, 3, 172, 29, 153, 0, 14, 27, 16, 60, 162, 0, 11, 27, 28, 161, 0, 6, 16, 252, 172, 42]
abbrev dktX0_tour_4 : List UInt8 := dkwX0_tour_4 ++ dktX0_tour_5
def dkwX0_tour_3 : List UInt8 := [42, 180, 0, 66, 180, 0, 137, 182, 0, 233, 62, 27, 16, 100, 160, 0, 13, 29, 153, 0, 7, 4]
abbrev dktX0_tour_3 : List UInt8 := dkwX0_tour_3 ++ dktX0_tour_4
def dkwX0_tour_2 : List UInt8 := [28, 16, 60, 164, 0, 6, 16, 253, 172, 27, 16, 101, 160, 0, 5, 28, 172, 42, 180, 0, 66, 180, 0, 131]
abbrev dktX0_tour_2 : List UInt8 := dkwX0_tour_2 ++ dktX0_tour_3
def dkwX0_tour_1 : List UInt8 := [180, 0, 66, 180, 0, 137, 2, 160, 0, 6, 16, 254, 172, 42, 180, 0, 66, 180, 0, 131, 182, 0, 199, 61]
abbrev dktX0_tour_1 : List UInt8 := dkwX0_tour_1 ++ dktX0_tour_2
def dkwX0_tour_0 : List UInt8 := [27, 16, 100, 16, 102, 184, 0, 127, 154, 0, 14, 27, 16, 60, 184, 0, 15, 154, 0, 5, 2, 172, 42]
abbrev dktX0_tour_0 : List UInt8 := dkwX0_tour_0 ++ dktX0_tour_1
theorem dksX0_tour_0 : cX0_tour.data.toList.drop 0 = dktX0_tour_0 := by decide +kernel
theorem dksX0_tour_1 : cX0_tour.data.toList.drop 23 = dktX0_tour_1 := dk_seg dksX0_tour_0 23 rfl rfl
theorem dksX0_tour_2 : cX0_tour.data.toList.drop 47 = dktX0_tour_2 := dk_seg dksX0_tour_1 24 rfl rfl
theorem dksX0_tour_3 : cX0_tour.data.toList.drop 71 = dktX0_tour_3 := dk_seg dksX0_tour_2 24 rfl rfl
theorem dksX0_tour_4 : cX0_tour.data.toList.drop 93 = dktX0_tour_4 := dk_seg dksX0_tour_3 22 rfl rfl
theorem dksX0_tour_5 : cX0_tour.data.toList.drop 117 = dktX0_tour_5 := dk_seg dksX0_tour_4 24 rfl rfl
theorem dksX0_tour_6 : cX0_tour.data.toList.drop 141 = dktX0_tour_6 := dk_seg dksX0_tour_5 24 rfl rfl
theorem dX0_tour_0 : decode cX0_tour 0 = .ok (.iload_n 1, 1) := dk_27 (dk_at dksX0_tour_0 0 rfl rfl)
theorem dX0_tour_1 : decode cX0_tour 1 = .ok (.bipush 100, 2) := dk_16 100 (dk_at dksX0_tour_0 1 rfl rfl)
theorem dX0_tour_3 : decode cX0_tour 3 = .ok (.bipush 102, 2) := dk_16 102 (dk_at dksX0_tour_0 3 rfl rfl)
theorem dX0_tour_5 : decode cX0_tour 5 = .ok (.invokestatic 127, 3) := dk_184 0 127 (dk_at dksX0_tour_0 5 rfl rfl)
theorem dX0_tour_8 : decode cX0_tour 8 = .ok (.ifCond .ne 14, 3) := dk_154 0 14 (dk_at dksX0_tour_0 8 rfl rfl)
theorem dX0_tour_11 : decode cX0_tour 11 = .ok (.iload_n 1, 1) := dk_27 (dk_at dksX0_tour_0 11 rfl rfl)
theorem dX0_tour_12 : decode cX0_tour 12 = .ok (.bipush 60, 2) := dk_16 60 (dk_at dksX0_tour_0 12 rfl rfl)
theorem dX0_tour_14 : decode cX0_tour 14 = .ok (.invokestatic 15, 3) := dk_184 0 15 (dk_at dksX0_tour_0 14 rfl rfl)
theorem dX0_tour_17 : decode cX0_tour 17 = .ok (.ifCond .ne 5, 3) := dk_154 0 5 (dk_at dksX0_tour_0 17 rfl rfl)
theorem dX0_tour_20 : decode cX0_tour 20 = .ok (.iconst (-1), 1) := dk_2 (dk_at dksX0_tour_0 20 rfl rfl)
theorem dX0_tour_21 : decode cX0_tour 21 = .ok (.ireturn, 1) := dk_172 (dk_at dksX0_tour_0 21 rfl rfl)
theorem dX0_tour_22 : decode cX0_tour 22 = .ok (.aload_n 0, 1) := dk_42 (dk_at dksX0_tour_0 22 rfl rfl)
theorem dX0_tour_23 : decode cX0_tour 23 = .ok (.getfield 66, 3) := dk_180 0 66 (dk_at dksX0_tour_1 0 rfl rfl)
theorem dX0_tour_26 : decode cX0_tour 26 = .ok (.getfield 137, 3) := dk_180 0 137 (dk_at dksX0_tour_1 3 rfl rfl)
theorem dX0_tour_29 : decode cX0_tour 29 = .ok (.iconst (-1), 1) := dk_2 (dk_at dksX0_tour_1 6 rfl rfl)
theorem dX0_tour_30 : decode cX0_tour 30 = .ok (.if_icmp .ne 6, 3) := dk_160 0 6 (dk_at dksX0_tour_1 7 rfl rfl)
theorem dX0_tour_33 : decode cX0_tour 33 = .ok (.bipush (-2), 2) := dk_16 254 (dk_at dksX0_tour_1 10 rfl rfl)
theorem dX0_tour_35 : decode cX0_tour 35 = .ok (.ireturn, 1) := dk_172 (dk_at dksX0_tour_1 12 rfl rfl)
theorem dX0_tour_36 : decode cX0_tour 36 = .ok (.aload_n 0, 1) := dk_42 (dk_at dksX0_tour_1 13 rfl rfl)
theorem dX0_tour_37 : decode cX0_tour 37 = .ok (.getfield 66, 3) := dk_180 0 66 (dk_at dksX0_tour_1 14 rfl rfl)
theorem dX0_tour_40 : decode cX0_tour 40 = .ok (.getfield 131, 3) := dk_180 0 131 (dk_at dksX0_tour_1 17 rfl rfl)
theorem dX0_tour_43 : decode cX0_tour 43 = .ok (.invokevirtual 199, 3) := dk_182 0 199 (dk_at dksX0_tour_1 20 rfl rfl)
theorem dX0_tour_46 : decode cX0_tour 46 = .ok (.istore_n 2, 1) := dk_61 (dk_at dksX0_tour_1 23 rfl rfl)
theorem dX0_tour_47 : decode cX0_tour 47 = .ok (.iload_n 2, 1) := dk_28 (dk_at dksX0_tour_2 0 rfl rfl)
theorem dX0_tour_48 : decode cX0_tour 48 = .ok (.bipush 60, 2) := dk_16 60 (dk_at dksX0_tour_2 1 rfl rfl)
theorem dX0_tour_50 : decode cX0_tour 50 = .ok (.if_icmp .le 6, 3) := dk_164 0 6 (dk_at dksX0_tour_2 3 rfl rfl)
theorem dX0_tour_53 : decode cX0_tour 53 = .ok (.bipush (-3), 2) := dk_16 253 (dk_at dksX0_tour_2 6 rfl rfl)
theorem dX0_tour_55 : decode cX0_tour 55 = .ok (.ireturn, 1) := dk_172 (dk_at dksX0_tour_2 8 rfl rfl)
theorem dX0_tour_56 : decode cX0_tour 56 = .ok (.iload_n 1, 1) := dk_27 (dk_at dksX0_tour_2 9 rfl rfl)
theorem dX0_tour_57 : decode cX0_tour 57 = .ok (.bipush 101, 2) := dk_16 101 (dk_at dksX0_tour_2 10 rfl rfl)
theorem dX0_tour_59 : decode cX0_tour 59 = .ok (.if_icmp .ne 5, 3) := dk_160 0 5 (dk_at dksX0_tour_2 12 rfl rfl)
theorem dX0_tour_62 : decode cX0_tour 62 = .ok (.iload_n 2, 1) := dk_28 (dk_at dksX0_tour_2 15 rfl rfl)
theorem dX0_tour_63 : decode cX0_tour 63 = .ok (.ireturn, 1) := dk_172 (dk_at dksX0_tour_2 16 rfl rfl)
theorem dX0_tour_64 : decode cX0_tour 64 = .ok (.aload_n 0, 1) := dk_42 (dk_at dksX0_tour_2 17 rfl rfl)
theorem dX0_tour_65 : decode cX0_tour 65 = .ok (.getfield 66, 3) := dk_180 0 66 (dk_at dksX0_tour_2 18 rfl rfl)
theorem dX0_tour_68 : decode cX0_tour 68 = .ok (.getfield 131, 3) := dk_180 0 131 (dk_at dksX0_tour_2 21 rfl rfl)
theorem dX0_tour_71 : decode cX0_tour 71 = .ok (.aload_n 0, 1) := dk_42 (dk_at dksX0_tour_3 0 rfl rfl)
theorem dX0_tour_72 : decode cX0_tour 72 = .ok (.getfield 66, 3) := dk_180 0 66 (dk_at dksX0_tour_3 1 rfl rfl)
theorem dX0_tour_75 : decode cX0_tour 75 = .ok (.getfield 137, 3) := dk_180 0 137 (dk_at dksX0_tour_3 4 rfl rfl)
theorem dX0_tour_78 : decode cX0_tour 78 = .ok (.invokevirtual 233, 3) := dk_182 0 233 (dk_at dksX0_tour_3 7 rfl rfl)
theorem dX0_tour_81 : decode cX0_tour 81 = .ok (.istore_n 3, 1) := dk_62 (dk_at dksX0_tour_3 10 rfl rfl)
theorem dX0_tour_82 : decode cX0_tour 82 = .ok (.iload_n 1, 1) := dk_27 (dk_at dksX0_tour_3 11 rfl rfl)
theorem dX0_tour_83 : decode cX0_tour 83 = .ok (.bipush 100, 2) := dk_16 100 (dk_at dksX0_tour_3 12 rfl rfl)
theorem dX0_tour_85 : decode cX0_tour 85 = .ok (.if_icmp .ne 13, 3) := dk_160 0 13 (dk_at dksX0_tour_3 14 rfl rfl)
theorem dX0_tour_88 : decode cX0_tour 88 = .ok (.iload_n 3, 1) := dk_29 (dk_at dksX0_tour_3 17 rfl rfl)
theorem dX0_tour_89 : decode cX0_tour 89 = .ok (.ifCond .eq 7, 3) := dk_153 0 7 (dk_at dksX0_tour_3 18 rfl rfl)
theorem dX0_tour_92 : decode cX0_tour 92 = .ok (.iconst 1, 1) := dk_4 (dk_at dksX0_tour_3 21 rfl rfl)
theorem dX0_tour_93 : decode cX0_tour 93 = .ok (.goto 4, 3) := dk_167 0 4 (dk_at dksX0_tour_4 0 rfl rfl)
theorem dX0_tour_96 : decode cX0_tour 96 = .ok (.iconst 0, 1) := dk_3 (dk_at dksX0_tour_4 3 rfl rfl)
theorem dX0_tour_97 : decode cX0_tour 97 = .ok (.ireturn, 1) := dk_172 (dk_at dksX0_tour_4 4 rfl rfl)
theorem dX0_tour_98 : decode cX0_tour 98 = .ok (.iload_n 3, 1) := dk_29 (dk_at dksX0_tour_4 5 rfl rfl)
theorem dX0_tour_99 : decode cX0_tour 99 = .ok (.ifCond .eq 14, 3) := dk_153 0 14 (dk_at dksX0_tour_4 6 rfl rfl)
theorem dX0_tour_102 : decode cX0_tour 102 = .ok (.iload_n 1, 1) := dk_27 (dk_at dksX0_tour_4 9 rfl rfl)
theorem dX0_tour_103 : decode cX0_tour 103 = .ok (.bipush 60, 2) := dk_16 60 (dk_at dksX0_tour_4 10 rfl rfl)
theorem dX0_tour_105 : decode cX0_tour 105 = .ok (.if_icmp .ge 11, 3) := dk_162 0 11 (dk_at dksX0_tour_4 12 rfl rfl)
theorem dX0_tour_108 : decode cX0_tour 108 = .ok (.iload_n 1, 1) := dk_27 (dk_at dksX0_tour_4 15 rfl rfl)
theorem dX0_tour_109 : decode cX0_tour 109 = .ok (.iload_n 2, 1) := dk_28 (dk_at dksX0_tour_4 16 rfl rfl)
theorem dX0_tour_110 : decode cX0_tour 110 = .ok (.if_icmp .lt 6, 3) := dk_161 0 6 (dk_at dksX0_tour_4 17 rfl rfl)
theorem dX0_tour_113 : decode cX0_tour 113 = .ok (.bipush (-4), 2) := dk_16 252 (dk_at dksX0_tour_4 20 rfl rfl)
theorem dX0_tour_115 : decode cX0_tour 115 = .ok (.ireturn, 1) := dk_172 (dk_at dksX0_tour_4 22 rfl rfl)
theorem dX0_tour_116 : decode cX0_tour 116 = .ok (.aload_n 0, 1) := dk_42 (dk_at dksX0_tour_4 23 rfl rfl)
theorem dX0_tour_117 : decode cX0_tour 117 = .ok (.aload_n 0, 1) := dk_42 (dk_at dksX0_tour_5 0 rfl rfl)
theorem dX0_tour_118 : decode cX0_tour 118 = .ok (.getfield 66, 3) := dk_180 0 66 (dk_at dksX0_tour_5 1 rfl rfl)
theorem dX0_tour_121 : decode cX0_tour 121 = .ok (.getfield 137, 3) := dk_180 0 137 (dk_at dksX0_tour_5 4 rfl rfl)
theorem dX0_tour_124 : decode cX0_tour 124 = .ok (.iload_n 2, 1) := dk_28 (dk_at dksX0_tour_5 7 rfl rfl)
theorem dX0_tour_125 : decode cX0_tour 125 = .ok (.invokevirtual 236, 3) := dk_182 0 236 (dk_at dksX0_tour_5 8 rfl rfl)
theorem dX0_tour_128 : decode cX0_tour 128 = .ok (.istore 4, 2) := dk_54 4 (dk_at dksX0_tour_5 11 rfl rfl)
theorem dX0_tour_130 : decode cX0_tour 130 = .ok (.iload_n 1, 1) := dk_27 (dk_at dksX0_tour_5 13 rfl rfl)
theorem dX0_tour_131 : decode cX0_tour 131 = .ok (.bipush 60, 2) := dk_16 60 (dk_at dksX0_tour_5 14 rfl rfl)
theorem dX0_tour_133 : decode cX0_tour 133 = .ok (.if_icmp .ge 12, 3) := dk_162 0 12 (dk_at dksX0_tour_5 16 rfl rfl)
theorem dX0_tour_136 : decode cX0_tour 136 = .ok (.aload_n 0, 1) := dk_42 (dk_at dksX0_tour_5 19 rfl rfl)
theorem dX0_tour_137 : decode cX0_tour 137 = .ok (.getfield 94, 3) := dk_180 0 94 (dk_at dksX0_tour_5 20 rfl rfl)
theorem dX0_tour_140 : decode cX0_tour 140 = .ok (.iload_n 1, 1) := dk_27 (dk_at dksX0_tour_5 23 rfl rfl)
theorem dX0_tour_141 : decode cX0_tour 141 = .ok (.iaload, 1) := dk_46 (dk_at dksX0_tour_6 0 rfl rfl)
theorem dX0_tour_142 : decode cX0_tour 142 = .ok (.goto 20, 3) := dk_167 0 20 (dk_at dksX0_tour_6 1 rfl rfl)
theorem dX0_tour_145 : decode cX0_tour 145 = .ok (.iload 4, 2) := dk_21 4 (dk_at dksX0_tour_6 4 rfl rfl)
theorem dX0_tour_147 : decode cX0_tour 147 = .ok (.aload_n 0, 1) := dk_42 (dk_at dksX0_tour_6 6 rfl rfl)
theorem dX0_tour_148 : decode cX0_tour 148 = .ok (.getfield 66, 3) := dk_180 0 66 (dk_at dksX0_tour_6 7 rfl rfl)
theorem dX0_tour_151 : decode cX0_tour 151 = .ok (.getfield 137, 3) := dk_180 0 137 (dk_at dksX0_tour_6 10 rfl rfl)
theorem dX0_tour_154 : decode cX0_tour 154 = .ok (.if_icmp .ne 7, 3) := dk_160 0 7 (dk_at dksX0_tour_6 13 rfl rfl)
theorem dX0_tour_157 : decode cX0_tour 157 = .ok (.iconst 1, 1) := dk_4 (dk_at dksX0_tour_6 16 rfl rfl)
theorem dX0_tour_158 : decode cX0_tour 158 = .ok (.goto 4, 3) := dk_167 0 4 (dk_at dksX0_tour_6 17 rfl rfl)
theorem dX0_tour_161 : decode cX0_tour 161 = .ok (.iconst 0, 1) := dk_3 (dk_at dksX0_tour_6 20 rfl rfl)
theorem dX0_tour_162 : decode cX0_tour 162 = .ok (.ireturn, 1) := dk_172 (dk_at dksX0_tour_6 21 rfl rfl)
abbrev cX0_laysTour : ByteArray := prog_1_method_26_code
def yX0_laysTour : MethodName := ⟨RX0, "laysTour", "(II)I"⟩
def dkwX0_laysTour_2 : List UInt8 := [180, 0, 94, 21, 4, 21, 5, 79, 21, 5, 62, 132, 4, 1, 167, 255, 216, 29, 172]
abbrev dktX0_laysTour_2 : List UInt8 := dkwX0_laysTour_2 ++ []
def dkwX0_laysTour_1 : List UInt8 := [162, 0, 40, 3, 54, 5, 42, 29, 21, 5, 182, 0, 230, 154, 0, 9, 132, 5, 1, 167, 255, 243, 42]
abbrev dktX0_laysTour_1 : List UInt8 := dkwX0_laysTour_1 ++ dktX0_laysTour_2
def dkwX0_laysTour_0 : List UInt8 := [42, 180, 0, 90, 42, 180, 0, 66, 180, 0, 131, 182, 0, 167, 87, 27, 62, 3, 54, 4, 21, 4, 28]
abbrev dktX0_laysTour_0 : List UInt8 := dkwX0_laysTour_0 ++ dktX0_laysTour_1
theorem dksX0_laysTour_0 : cX0_laysTour.data.toList.drop 0 = dktX0_laysTour_0 := by decide +kernel
theorem dksX0_laysTour_1 : cX0_laysTour.data.toList.drop 23 = dktX0_laysTour_1 := dk_seg dksX0_laysTour_0 23 rfl rfl
theorem dksX0_laysTour_2 : cX0_laysTour.data.toList.drop 46 = dktX0_laysTour_2 := dk_seg dksX0_laysTour_1 23 rfl rfl
theorem dX0_laysTour_0 : decode cX0_laysTour 0 = .ok (.aload_n 0, 1) := dk_42 (dk_at dksX0_laysTour_0 0 rfl rfl)
theorem dX0_laysTour_1 : decode cX0_laysTour 1 = .ok (.getfield 90, 3) := dk_180 0 90 (dk_at dksX0_laysTour_0 1 rfl rfl)
theorem dX0_laysTour_4 : decode cX0_laysTour 4 = .ok (.aload_n 0, 1) := dk_42 (dk_at dksX0_laysTour_0 4 rfl rfl)
theorem dX0_laysTour_5 : decode cX0_laysTour 5 = .ok (.getfield 66, 3) := dk_180 0 66 (dk_at dksX0_laysTour_0 5 rfl rfl)
theorem dX0_laysTour_8 : decode cX0_laysTour 8 = .ok (.getfield 131, 3) := dk_180 0 131 (dk_at dksX0_laysTour_0 8 rfl rfl)
theorem dX0_laysTour_11 : decode cX0_laysTour 11 = .ok (.invokevirtual 167, 3) := dk_182 0 167 (dk_at dksX0_laysTour_0 11 rfl rfl)
theorem dX0_laysTour_14 : decode cX0_laysTour 14 = .ok (.pop, 1) := dk_87 (dk_at dksX0_laysTour_0 14 rfl rfl)
theorem dX0_laysTour_15 : decode cX0_laysTour 15 = .ok (.iload_n 1, 1) := dk_27 (dk_at dksX0_laysTour_0 15 rfl rfl)
theorem dX0_laysTour_16 : decode cX0_laysTour 16 = .ok (.istore_n 3, 1) := dk_62 (dk_at dksX0_laysTour_0 16 rfl rfl)
theorem dX0_laysTour_17 : decode cX0_laysTour 17 = .ok (.iconst 0, 1) := dk_3 (dk_at dksX0_laysTour_0 17 rfl rfl)
theorem dX0_laysTour_18 : decode cX0_laysTour 18 = .ok (.istore 4, 2) := dk_54 4 (dk_at dksX0_laysTour_0 18 rfl rfl)
theorem dX0_laysTour_20 : decode cX0_laysTour 20 = .ok (.iload 4, 2) := dk_21 4 (dk_at dksX0_laysTour_0 20 rfl rfl)
theorem dX0_laysTour_22 : decode cX0_laysTour 22 = .ok (.iload_n 2, 1) := dk_28 (dk_at dksX0_laysTour_0 22 rfl rfl)
theorem dX0_laysTour_23 : decode cX0_laysTour 23 = .ok (.if_icmp .ge 40, 3) := dk_162 0 40 (dk_at dksX0_laysTour_1 0 rfl rfl)
theorem dX0_laysTour_26 : decode cX0_laysTour 26 = .ok (.iconst 0, 1) := dk_3 (dk_at dksX0_laysTour_1 3 rfl rfl)
theorem dX0_laysTour_27 : decode cX0_laysTour 27 = .ok (.istore 5, 2) := dk_54 5 (dk_at dksX0_laysTour_1 4 rfl rfl)
theorem dX0_laysTour_29 : decode cX0_laysTour 29 = .ok (.aload_n 0, 1) := dk_42 (dk_at dksX0_laysTour_1 6 rfl rfl)
theorem dX0_laysTour_30 : decode cX0_laysTour 30 = .ok (.iload_n 3, 1) := dk_29 (dk_at dksX0_laysTour_1 7 rfl rfl)
theorem dX0_laysTour_31 : decode cX0_laysTour 31 = .ok (.iload 5, 2) := dk_21 5 (dk_at dksX0_laysTour_1 8 rfl rfl)
theorem dX0_laysTour_33 : decode cX0_laysTour 33 = .ok (.invokevirtual 230, 3) := dk_182 0 230 (dk_at dksX0_laysTour_1 10 rfl rfl)
theorem dX0_laysTour_36 : decode cX0_laysTour 36 = .ok (.ifCond .ne 9, 3) := dk_154 0 9 (dk_at dksX0_laysTour_1 13 rfl rfl)
theorem dX0_laysTour_39 : decode cX0_laysTour 39 = .ok (.iinc 5 1, 3) := dk_132 5 1 (dk_at dksX0_laysTour_1 16 rfl rfl)
theorem dX0_laysTour_42 : decode cX0_laysTour 42 = .ok (.goto (-13), 3) := dk_167 255 243 (dk_at dksX0_laysTour_1 19 rfl rfl)
theorem dX0_laysTour_45 : decode cX0_laysTour 45 = .ok (.aload_n 0, 1) := dk_42 (dk_at dksX0_laysTour_1 22 rfl rfl)
theorem dX0_laysTour_46 : decode cX0_laysTour 46 = .ok (.getfield 94, 3) := dk_180 0 94 (dk_at dksX0_laysTour_2 0 rfl rfl)
theorem dX0_laysTour_49 : decode cX0_laysTour 49 = .ok (.iload 4, 2) := dk_21 4 (dk_at dksX0_laysTour_2 3 rfl rfl)
theorem dX0_laysTour_51 : decode cX0_laysTour 51 = .ok (.iload 5, 2) := dk_21 5 (dk_at dksX0_laysTour_2 5 rfl rfl)
theorem dX0_laysTour_53 : decode cX0_laysTour 53 = .ok (.iastore, 1) := dk_79 (dk_at dksX0_laysTour_2 7 rfl rfl)
theorem dX0_laysTour_54 : decode cX0_laysTour 54 = .ok (.iload 5, 2) := dk_21 5 (dk_at dksX0_laysTour_2 8 rfl rfl)
theorem dX0_laysTour_56 : decode cX0_laysTour 56 = .ok (.istore_n 3, 1) := dk_62 (dk_at dksX0_laysTour_2 10 rfl rfl)
theorem dX0_laysTour_57 : decode cX0_laysTour 57 = .ok (.iinc 4 1, 3) := dk_132 4 1 (dk_at dksX0_laysTour_2 11 rfl rfl)
theorem dX0_laysTour_60 : decode cX0_laysTour 60 = .ok (.goto (-40), 3) := dk_167 255 216 (dk_at dksX0_laysTour_2 14 rfl rfl)
theorem dX0_laysTour_63 : decode cX0_laysTour 63 = .ok (.iload_n 3, 1) := dk_29 (dk_at dksX0_laysTour_2 17 rfl rfl)
theorem dX0_laysTour_64 : decode cX0_laysTour 64 = .ok (.ireturn, 1) := dk_172 (dk_at dksX0_laysTour_2 18 rfl rfl)
abbrev cX0_canPay : ByteArray := prog_1_method_27_code
def yX0_canPay : MethodName := ⟨RX0, "canPay", "(II)Z"⟩
def dkwX0_canPay_2 : List UInt8 := [180, 0, 134, 27, 50, 28, 92, 46, 4, 96, 79, 3, 172]
abbrev dktX0_canPay_2 : List UInt8 := dkwX0_canPay_2 ++ []
def dkwX0_canPay_1 : List UInt8 := [50, 28, 92, 46, 4, 100, 79, 42, 180, 0, 90, 28, 182, 0, 233, 153, 0, 5, 4, 172, 42, 180, 0, 90]
abbrev dktX0_canPay_1 : List UInt8 := dkwX0_canPay_1 ++ dktX0_canPay_2
def dkwX0_canPay_0 : List UInt8 := [42, 180, 0, 90, 180, 0, 134, 27, 50, 28, 46, 154, 0, 5, 3, 172, 42, 180, 0, 90, 180, 0, 134, 27]
abbrev dktX0_canPay_0 : List UInt8 := dkwX0_canPay_0 ++ dktX0_canPay_1
theorem dksX0_canPay_0 : cX0_canPay.data.toList.drop 0 = dktX0_canPay_0 := by decide +kernel
theorem dksX0_canPay_1 : cX0_canPay.data.toList.drop 24 = dktX0_canPay_1 := dk_seg dksX0_canPay_0 24 rfl rfl
theorem dksX0_canPay_2 : cX0_canPay.data.toList.drop 48 = dktX0_canPay_2 := dk_seg dksX0_canPay_1 24 rfl rfl
theorem dX0_canPay_0 : decode cX0_canPay 0 = .ok (.aload_n 0, 1) := dk_42 (dk_at dksX0_canPay_0 0 rfl rfl)
theorem dX0_canPay_1 : decode cX0_canPay 1 = .ok (.getfield 90, 3) := dk_180 0 90 (dk_at dksX0_canPay_0 1 rfl rfl)
theorem dX0_canPay_4 : decode cX0_canPay 4 = .ok (.getfield 134, 3) := dk_180 0 134 (dk_at dksX0_canPay_0 4 rfl rfl)
theorem dX0_canPay_7 : decode cX0_canPay 7 = .ok (.iload_n 1, 1) := dk_27 (dk_at dksX0_canPay_0 7 rfl rfl)
theorem dX0_canPay_8 : decode cX0_canPay 8 = .ok (.aaload, 1) := dk_50 (dk_at dksX0_canPay_0 8 rfl rfl)
theorem dX0_canPay_9 : decode cX0_canPay 9 = .ok (.iload_n 2, 1) := dk_28 (dk_at dksX0_canPay_0 9 rfl rfl)
theorem dX0_canPay_10 : decode cX0_canPay 10 = .ok (.iaload, 1) := dk_46 (dk_at dksX0_canPay_0 10 rfl rfl)
theorem dX0_canPay_11 : decode cX0_canPay 11 = .ok (.ifCond .ne 5, 3) := dk_154 0 5 (dk_at dksX0_canPay_0 11 rfl rfl)
theorem dX0_canPay_14 : decode cX0_canPay 14 = .ok (.iconst 0, 1) := dk_3 (dk_at dksX0_canPay_0 14 rfl rfl)
theorem dX0_canPay_15 : decode cX0_canPay 15 = .ok (.ireturn, 1) := dk_172 (dk_at dksX0_canPay_0 15 rfl rfl)
theorem dX0_canPay_16 : decode cX0_canPay 16 = .ok (.aload_n 0, 1) := dk_42 (dk_at dksX0_canPay_0 16 rfl rfl)
theorem dX0_canPay_17 : decode cX0_canPay 17 = .ok (.getfield 90, 3) := dk_180 0 90 (dk_at dksX0_canPay_0 17 rfl rfl)
theorem dX0_canPay_20 : decode cX0_canPay 20 = .ok (.getfield 134, 3) := dk_180 0 134 (dk_at dksX0_canPay_0 20 rfl rfl)
theorem dX0_canPay_23 : decode cX0_canPay 23 = .ok (.iload_n 1, 1) := dk_27 (dk_at dksX0_canPay_0 23 rfl rfl)
theorem dX0_canPay_24 : decode cX0_canPay 24 = .ok (.aaload, 1) := dk_50 (dk_at dksX0_canPay_1 0 rfl rfl)
theorem dX0_canPay_25 : decode cX0_canPay 25 = .ok (.iload_n 2, 1) := dk_28 (dk_at dksX0_canPay_1 1 rfl rfl)
theorem dX0_canPay_26 : decode cX0_canPay 26 = .ok (.dup2, 1) := dk_92 (dk_at dksX0_canPay_1 2 rfl rfl)
theorem dX0_canPay_27 : decode cX0_canPay 27 = .ok (.iaload, 1) := dk_46 (dk_at dksX0_canPay_1 3 rfl rfl)
theorem dX0_canPay_28 : decode cX0_canPay 28 = .ok (.iconst 1, 1) := dk_4 (dk_at dksX0_canPay_1 4 rfl rfl)
theorem dX0_canPay_29 : decode cX0_canPay 29 = .ok (.isub, 1) := dk_100 (dk_at dksX0_canPay_1 5 rfl rfl)
theorem dX0_canPay_30 : decode cX0_canPay 30 = .ok (.iastore, 1) := dk_79 (dk_at dksX0_canPay_1 6 rfl rfl)
theorem dX0_canPay_31 : decode cX0_canPay 31 = .ok (.aload_n 0, 1) := dk_42 (dk_at dksX0_canPay_1 7 rfl rfl)
theorem dX0_canPay_32 : decode cX0_canPay 32 = .ok (.getfield 90, 3) := dk_180 0 90 (dk_at dksX0_canPay_1 8 rfl rfl)
theorem dX0_canPay_35 : decode cX0_canPay 35 = .ok (.iload_n 2, 1) := dk_28 (dk_at dksX0_canPay_1 11 rfl rfl)
theorem dX0_canPay_36 : decode cX0_canPay 36 = .ok (.invokevirtual 233, 3) := dk_182 0 233 (dk_at dksX0_canPay_1 12 rfl rfl)
theorem dX0_canPay_39 : decode cX0_canPay 39 = .ok (.ifCond .eq 5, 3) := dk_153 0 5 (dk_at dksX0_canPay_1 15 rfl rfl)
theorem dX0_canPay_42 : decode cX0_canPay 42 = .ok (.iconst 1, 1) := dk_4 (dk_at dksX0_canPay_1 18 rfl rfl)
theorem dX0_canPay_43 : decode cX0_canPay 43 = .ok (.ireturn, 1) := dk_172 (dk_at dksX0_canPay_1 19 rfl rfl)
theorem dX0_canPay_44 : decode cX0_canPay 44 = .ok (.aload_n 0, 1) := dk_42 (dk_at dksX0_canPay_1 20 rfl rfl)
theorem dX0_canPay_45 : decode cX0_canPay 45 = .ok (.getfield 90, 3) := dk_180 0 90 (dk_at dksX0_canPay_1 21 rfl rfl)
theorem dX0_canPay_48 : decode cX0_canPay 48 = .ok (.getfield 134, 3) := dk_180 0 134 (dk_at dksX0_canPay_2 0 rfl rfl)
theorem dX0_canPay_51 : decode cX0_canPay 51 = .ok (.iload_n 1, 1) := dk_27 (dk_at dksX0_canPay_2 3 rfl rfl)
theorem dX0_canPay_52 : decode cX0_canPay 52 = .ok (.aaload, 1) := dk_50 (dk_at dksX0_canPay_2 4 rfl rfl)
theorem dX0_canPay_53 : decode cX0_canPay 53 = .ok (.iload_n 2, 1) := dk_28 (dk_at dksX0_canPay_2 5 rfl rfl)
theorem dX0_canPay_54 : decode cX0_canPay 54 = .ok (.dup2, 1) := dk_92 (dk_at dksX0_canPay_2 6 rfl rfl)
theorem dX0_canPay_55 : decode cX0_canPay 55 = .ok (.iaload, 1) := dk_46 (dk_at dksX0_canPay_2 7 rfl rfl)
theorem dX0_canPay_56 : decode cX0_canPay 56 = .ok (.iconst 1, 1) := dk_4 (dk_at dksX0_canPay_2 8 rfl rfl)
theorem dX0_canPay_57 : decode cX0_canPay 57 = .ok (.iadd, 1) := dk_96 (dk_at dksX0_canPay_2 9 rfl rfl)
theorem dX0_canPay_58 : decode cX0_canPay 58 = .ok (.iastore, 1) := dk_79 (dk_at dksX0_canPay_2 10 rfl rfl)
theorem dX0_canPay_59 : decode cX0_canPay 59 = .ok (.iconst 0, 1) := dk_3 (dk_at dksX0_canPay_2 11 rfl rfl)
theorem dX0_canPay_60 : decode cX0_canPay 60 = .ok (.ireturn, 1) := dk_172 (dk_at dksX0_canPay_2 12 rfl rfl)
abbrev cX0_most : ByteArray := prog_1_method_30_code
def yX0_most : MethodName := ⟨RX0, "most", "(I)I"⟩
def dkwX0_most_4 : List UInt8 := [42, 180, 0, 239, 162, 0, 12, 42, 180, 0, 97, 27, 46, 167, 0, 5, 16, 252, 172]
abbrev dktX0_most_4 : List UInt8 := dkwX0_most_4 ++ []
def dkwX0_most_3 : List UInt8 := [180, 0, 66, 180, 0, 137, 3, 182, 0, 242, 27, 16, 100, 160, 0, 10, 42, 180, 0, 239, 167, 0, 22, 27]
abbrev dktX0_most_3 : List UInt8 := dkwX0_most_3 ++ dktX0_most_4
def dkwX0_most_2 : List UInt8 := [172, 42, 180, 0, 90, 42, 180, 0, 66, 180, 0, 131, 182, 0, 167, 87, 42, 3, 181, 0, 239, 42, 42]
abbrev dktX0_most_2 : List UInt8 := dkwX0_most_2 ++ dktX0_most_3
def dkwX0_most_1 : List UInt8 := [2, 160, 0, 6, 16, 254, 172, 42, 180, 0, 66, 180, 0, 131, 182, 0, 199, 16, 12, 164, 0, 6, 16, 253]
abbrev dktX0_most_1 : List UInt8 := dkwX0_most_1 ++ dktX0_most_2
def dkwX0_most_0 : List UInt8 := [27, 16, 100, 159, 0, 14, 27, 16, 12, 184, 0, 15, 154, 0, 5, 2, 172, 42, 180, 0, 66, 180, 0, 137]
abbrev dktX0_most_0 : List UInt8 := dkwX0_most_0 ++ dktX0_most_1
theorem dksX0_most_0 : cX0_most.data.toList.drop 0 = dktX0_most_0 := by decide +kernel
theorem dksX0_most_1 : cX0_most.data.toList.drop 24 = dktX0_most_1 := dk_seg dksX0_most_0 24 rfl rfl
theorem dksX0_most_2 : cX0_most.data.toList.drop 48 = dktX0_most_2 := dk_seg dksX0_most_1 24 rfl rfl
theorem dksX0_most_3 : cX0_most.data.toList.drop 71 = dktX0_most_3 := dk_seg dksX0_most_2 23 rfl rfl
theorem dksX0_most_4 : cX0_most.data.toList.drop 95 = dktX0_most_4 := dk_seg dksX0_most_3 24 rfl rfl
theorem dX0_most_0 : decode cX0_most 0 = .ok (.iload_n 1, 1) := dk_27 (dk_at dksX0_most_0 0 rfl rfl)
theorem dX0_most_1 : decode cX0_most 1 = .ok (.bipush 100, 2) := dk_16 100 (dk_at dksX0_most_0 1 rfl rfl)
theorem dX0_most_3 : decode cX0_most 3 = .ok (.if_icmp .eq 14, 3) := dk_159 0 14 (dk_at dksX0_most_0 3 rfl rfl)
theorem dX0_most_6 : decode cX0_most 6 = .ok (.iload_n 1, 1) := dk_27 (dk_at dksX0_most_0 6 rfl rfl)
theorem dX0_most_7 : decode cX0_most 7 = .ok (.bipush 12, 2) := dk_16 12 (dk_at dksX0_most_0 7 rfl rfl)
theorem dX0_most_9 : decode cX0_most 9 = .ok (.invokestatic 15, 3) := dk_184 0 15 (dk_at dksX0_most_0 9 rfl rfl)
theorem dX0_most_12 : decode cX0_most 12 = .ok (.ifCond .ne 5, 3) := dk_154 0 5 (dk_at dksX0_most_0 12 rfl rfl)
theorem dX0_most_15 : decode cX0_most 15 = .ok (.iconst (-1), 1) := dk_2 (dk_at dksX0_most_0 15 rfl rfl)
theorem dX0_most_16 : decode cX0_most 16 = .ok (.ireturn, 1) := dk_172 (dk_at dksX0_most_0 16 rfl rfl)
theorem dX0_most_17 : decode cX0_most 17 = .ok (.aload_n 0, 1) := dk_42 (dk_at dksX0_most_0 17 rfl rfl)
theorem dX0_most_18 : decode cX0_most 18 = .ok (.getfield 66, 3) := dk_180 0 66 (dk_at dksX0_most_0 18 rfl rfl)
theorem dX0_most_21 : decode cX0_most 21 = .ok (.getfield 137, 3) := dk_180 0 137 (dk_at dksX0_most_0 21 rfl rfl)
theorem dX0_most_24 : decode cX0_most 24 = .ok (.iconst (-1), 1) := dk_2 (dk_at dksX0_most_1 0 rfl rfl)
theorem dX0_most_25 : decode cX0_most 25 = .ok (.if_icmp .ne 6, 3) := dk_160 0 6 (dk_at dksX0_most_1 1 rfl rfl)
theorem dX0_most_28 : decode cX0_most 28 = .ok (.bipush (-2), 2) := dk_16 254 (dk_at dksX0_most_1 4 rfl rfl)
theorem dX0_most_30 : decode cX0_most 30 = .ok (.ireturn, 1) := dk_172 (dk_at dksX0_most_1 6 rfl rfl)
theorem dX0_most_31 : decode cX0_most 31 = .ok (.aload_n 0, 1) := dk_42 (dk_at dksX0_most_1 7 rfl rfl)
theorem dX0_most_32 : decode cX0_most 32 = .ok (.getfield 66, 3) := dk_180 0 66 (dk_at dksX0_most_1 8 rfl rfl)
theorem dX0_most_35 : decode cX0_most 35 = .ok (.getfield 131, 3) := dk_180 0 131 (dk_at dksX0_most_1 11 rfl rfl)
theorem dX0_most_38 : decode cX0_most 38 = .ok (.invokevirtual 199, 3) := dk_182 0 199 (dk_at dksX0_most_1 14 rfl rfl)
theorem dX0_most_41 : decode cX0_most 41 = .ok (.bipush 12, 2) := dk_16 12 (dk_at dksX0_most_1 17 rfl rfl)
theorem dX0_most_43 : decode cX0_most 43 = .ok (.if_icmp .le 6, 3) := dk_164 0 6 (dk_at dksX0_most_1 19 rfl rfl)
theorem dX0_most_46 : decode cX0_most 46 = .ok (.bipush (-3), 2) := dk_16 253 (dk_at dksX0_most_1 22 rfl rfl)
theorem dX0_most_48 : decode cX0_most 48 = .ok (.ireturn, 1) := dk_172 (dk_at dksX0_most_2 0 rfl rfl)
theorem dX0_most_49 : decode cX0_most 49 = .ok (.aload_n 0, 1) := dk_42 (dk_at dksX0_most_2 1 rfl rfl)
theorem dX0_most_50 : decode cX0_most 50 = .ok (.getfield 90, 3) := dk_180 0 90 (dk_at dksX0_most_2 2 rfl rfl)
theorem dX0_most_53 : decode cX0_most 53 = .ok (.aload_n 0, 1) := dk_42 (dk_at dksX0_most_2 5 rfl rfl)
theorem dX0_most_54 : decode cX0_most 54 = .ok (.getfield 66, 3) := dk_180 0 66 (dk_at dksX0_most_2 6 rfl rfl)
theorem dX0_most_57 : decode cX0_most 57 = .ok (.getfield 131, 3) := dk_180 0 131 (dk_at dksX0_most_2 9 rfl rfl)
theorem dX0_most_60 : decode cX0_most 60 = .ok (.invokevirtual 167, 3) := dk_182 0 167 (dk_at dksX0_most_2 12 rfl rfl)
theorem dX0_most_63 : decode cX0_most 63 = .ok (.pop, 1) := dk_87 (dk_at dksX0_most_2 15 rfl rfl)
theorem dX0_most_64 : decode cX0_most 64 = .ok (.aload_n 0, 1) := dk_42 (dk_at dksX0_most_2 16 rfl rfl)
theorem dX0_most_65 : decode cX0_most 65 = .ok (.iconst 0, 1) := dk_3 (dk_at dksX0_most_2 17 rfl rfl)
theorem dX0_most_66 : decode cX0_most 66 = .ok (.putfield 239, 3) := dk_181 0 239 (dk_at dksX0_most_2 18 rfl rfl)
theorem dX0_most_69 : decode cX0_most 69 = .ok (.aload_n 0, 1) := dk_42 (dk_at dksX0_most_2 21 rfl rfl)
theorem dX0_most_70 : decode cX0_most 70 = .ok (.aload_n 0, 1) := dk_42 (dk_at dksX0_most_2 22 rfl rfl)
theorem dX0_most_71 : decode cX0_most 71 = .ok (.getfield 66, 3) := dk_180 0 66 (dk_at dksX0_most_3 0 rfl rfl)
theorem dX0_most_74 : decode cX0_most 74 = .ok (.getfield 137, 3) := dk_180 0 137 (dk_at dksX0_most_3 3 rfl rfl)
theorem dX0_most_77 : decode cX0_most 77 = .ok (.iconst 0, 1) := dk_3 (dk_at dksX0_most_3 6 rfl rfl)
theorem dX0_most_78 : decode cX0_most 78 = .ok (.invokevirtual 242, 3) := dk_182 0 242 (dk_at dksX0_most_3 7 rfl rfl)
theorem dX0_most_81 : decode cX0_most 81 = .ok (.iload_n 1, 1) := dk_27 (dk_at dksX0_most_3 10 rfl rfl)
theorem dX0_most_82 : decode cX0_most 82 = .ok (.bipush 100, 2) := dk_16 100 (dk_at dksX0_most_3 11 rfl rfl)
theorem dX0_most_84 : decode cX0_most 84 = .ok (.if_icmp .ne 10, 3) := dk_160 0 10 (dk_at dksX0_most_3 13 rfl rfl)
theorem dX0_most_87 : decode cX0_most 87 = .ok (.aload_n 0, 1) := dk_42 (dk_at dksX0_most_3 16 rfl rfl)
theorem dX0_most_88 : decode cX0_most 88 = .ok (.getfield 239, 3) := dk_180 0 239 (dk_at dksX0_most_3 17 rfl rfl)
theorem dX0_most_91 : decode cX0_most 91 = .ok (.goto 22, 3) := dk_167 0 22 (dk_at dksX0_most_3 20 rfl rfl)
theorem dX0_most_94 : decode cX0_most 94 = .ok (.iload_n 1, 1) := dk_27 (dk_at dksX0_most_3 23 rfl rfl)
theorem dX0_most_95 : decode cX0_most 95 = .ok (.aload_n 0, 1) := dk_42 (dk_at dksX0_most_4 0 rfl rfl)
theorem dX0_most_96 : decode cX0_most 96 = .ok (.getfield 239, 3) := dk_180 0 239 (dk_at dksX0_most_4 1 rfl rfl)
theorem dX0_most_99 : decode cX0_most 99 = .ok (.if_icmp .ge 12, 3) := dk_162 0 12 (dk_at dksX0_most_4 4 rfl rfl)
theorem dX0_most_102 : decode cX0_most 102 = .ok (.aload_n 0, 1) := dk_42 (dk_at dksX0_most_4 7 rfl rfl)
theorem dX0_most_103 : decode cX0_most 103 = .ok (.getfield 97, 3) := dk_180 0 97 (dk_at dksX0_most_4 8 rfl rfl)
theorem dX0_most_106 : decode cX0_most 106 = .ok (.iload_n 1, 1) := dk_27 (dk_at dksX0_most_4 11 rfl rfl)
theorem dX0_most_107 : decode cX0_most 107 = .ok (.iaload, 1) := dk_46 (dk_at dksX0_most_4 12 rfl rfl)
theorem dX0_most_108 : decode cX0_most 108 = .ok (.goto 5, 3) := dk_167 0 5 (dk_at dksX0_most_4 13 rfl rfl)
theorem dX0_most_111 : decode cX0_most 111 = .ok (.bipush (-4), 2) := dk_16 252 (dk_at dksX0_most_4 16 rfl rfl)
theorem dX0_most_113 : decode cX0_most 113 = .ok (.ireturn, 1) := dk_172 (dk_at dksX0_most_4 18 rfl rfl)
abbrev cX0_longest : ByteArray := prog_1_method_29_code
def yX0_longest : MethodName := ⟨RX0, "longest", "(II)V"⟩
def dkwX0_longest_4 : List UInt8 := [180, 0, 90, 180, 0, 134, 27, 50, 29, 92, 46, 4, 96, 79, 132, 3, 1, 167, 255, 185, 177]
abbrev dktX0_longest_4 : List UInt8 := dkwX0_longest_4 ++ []
def dkwX0_longest_3 : List UInt8 := [50, 29, 92, 46, 4, 100, 79, 42, 180, 0, 94, 28, 29, 79, 42, 29, 28, 4, 96, 182, 0, 242, 42]
abbrev dktX0_longest_3 : List UInt8 := dkwX0_longest_3 ++ dktX0_longest_4
def dkwX0_longest_2 : List UInt8 := [180, 0, 90, 180, 0, 134, 27, 50, 29, 46, 154, 0, 6, 167, 0, 48, 42, 180, 0, 90, 180, 0, 134, 27]
abbrev dktX0_longest_2 : List UInt8 := dkwX0_longest_2 ++ dktX0_longest_3
def dkwX0_longest_1 : List UInt8 := [29, 42, 180, 0, 94, 29, 46, 79, 132, 3, 1, 167, 255, 236, 3, 62, 29, 16, 10, 162, 0, 71, 42]
abbrev dktX0_longest_1 : List UInt8 := dkwX0_longest_1 ++ dktX0_longest_2
def dkwX0_longest_0 : List UInt8 := [28, 42, 180, 0, 239, 164, 0, 33, 42, 28, 181, 0, 239, 3, 62, 29, 28, 162, 0, 21, 42, 180, 0, 97]
abbrev dktX0_longest_0 : List UInt8 := dkwX0_longest_0 ++ dktX0_longest_1
theorem dksX0_longest_0 : cX0_longest.data.toList.drop 0 = dktX0_longest_0 := by decide +kernel
theorem dksX0_longest_1 : cX0_longest.data.toList.drop 24 = dktX0_longest_1 := dk_seg dksX0_longest_0 24 rfl rfl
theorem dksX0_longest_2 : cX0_longest.data.toList.drop 47 = dktX0_longest_2 := dk_seg dksX0_longest_1 23 rfl rfl
theorem dksX0_longest_3 : cX0_longest.data.toList.drop 71 = dktX0_longest_3 := dk_seg dksX0_longest_2 24 rfl rfl
theorem dksX0_longest_4 : cX0_longest.data.toList.drop 94 = dktX0_longest_4 := dk_seg dksX0_longest_3 23 rfl rfl
theorem dX0_longest_0 : decode cX0_longest 0 = .ok (.iload_n 2, 1) := dk_28 (dk_at dksX0_longest_0 0 rfl rfl)
theorem dX0_longest_1 : decode cX0_longest 1 = .ok (.aload_n 0, 1) := dk_42 (dk_at dksX0_longest_0 1 rfl rfl)
theorem dX0_longest_2 : decode cX0_longest 2 = .ok (.getfield 239, 3) := dk_180 0 239 (dk_at dksX0_longest_0 2 rfl rfl)
theorem dX0_longest_5 : decode cX0_longest 5 = .ok (.if_icmp .le 33, 3) := dk_164 0 33 (dk_at dksX0_longest_0 5 rfl rfl)
theorem dX0_longest_8 : decode cX0_longest 8 = .ok (.aload_n 0, 1) := dk_42 (dk_at dksX0_longest_0 8 rfl rfl)
theorem dX0_longest_9 : decode cX0_longest 9 = .ok (.iload_n 2, 1) := dk_28 (dk_at dksX0_longest_0 9 rfl rfl)
theorem dX0_longest_10 : decode cX0_longest 10 = .ok (.putfield 239, 3) := dk_181 0 239 (dk_at dksX0_longest_0 10 rfl rfl)
theorem dX0_longest_13 : decode cX0_longest 13 = .ok (.iconst 0, 1) := dk_3 (dk_at dksX0_longest_0 13 rfl rfl)
theorem dX0_longest_14 : decode cX0_longest 14 = .ok (.istore_n 3, 1) := dk_62 (dk_at dksX0_longest_0 14 rfl rfl)
theorem dX0_longest_15 : decode cX0_longest 15 = .ok (.iload_n 3, 1) := dk_29 (dk_at dksX0_longest_0 15 rfl rfl)
theorem dX0_longest_16 : decode cX0_longest 16 = .ok (.iload_n 2, 1) := dk_28 (dk_at dksX0_longest_0 16 rfl rfl)
theorem dX0_longest_17 : decode cX0_longest 17 = .ok (.if_icmp .ge 21, 3) := dk_162 0 21 (dk_at dksX0_longest_0 17 rfl rfl)
theorem dX0_longest_20 : decode cX0_longest 20 = .ok (.aload_n 0, 1) := dk_42 (dk_at dksX0_longest_0 20 rfl rfl)
theorem dX0_longest_21 : decode cX0_longest 21 = .ok (.getfield 97, 3) := dk_180 0 97 (dk_at dksX0_longest_0 21 rfl rfl)
theorem dX0_longest_24 : decode cX0_longest 24 = .ok (.iload_n 3, 1) := dk_29 (dk_at dksX0_longest_1 0 rfl rfl)
theorem dX0_longest_25 : decode cX0_longest 25 = .ok (.aload_n 0, 1) := dk_42 (dk_at dksX0_longest_1 1 rfl rfl)
theorem dX0_longest_26 : decode cX0_longest 26 = .ok (.getfield 94, 3) := dk_180 0 94 (dk_at dksX0_longest_1 2 rfl rfl)
theorem dX0_longest_29 : decode cX0_longest 29 = .ok (.iload_n 3, 1) := dk_29 (dk_at dksX0_longest_1 5 rfl rfl)
theorem dX0_longest_30 : decode cX0_longest 30 = .ok (.iaload, 1) := dk_46 (dk_at dksX0_longest_1 6 rfl rfl)
theorem dX0_longest_31 : decode cX0_longest 31 = .ok (.iastore, 1) := dk_79 (dk_at dksX0_longest_1 7 rfl rfl)
theorem dX0_longest_32 : decode cX0_longest 32 = .ok (.iinc 3 1, 3) := dk_132 3 1 (dk_at dksX0_longest_1 8 rfl rfl)
theorem dX0_longest_35 : decode cX0_longest 35 = .ok (.goto (-20), 3) := dk_167 255 236 (dk_at dksX0_longest_1 11 rfl rfl)
theorem dX0_longest_38 : decode cX0_longest 38 = .ok (.iconst 0, 1) := dk_3 (dk_at dksX0_longest_1 14 rfl rfl)
theorem dX0_longest_39 : decode cX0_longest 39 = .ok (.istore_n 3, 1) := dk_62 (dk_at dksX0_longest_1 15 rfl rfl)
theorem dX0_longest_40 : decode cX0_longest 40 = .ok (.iload_n 3, 1) := dk_29 (dk_at dksX0_longest_1 16 rfl rfl)
theorem dX0_longest_41 : decode cX0_longest 41 = .ok (.bipush 10, 2) := dk_16 10 (dk_at dksX0_longest_1 17 rfl rfl)
theorem dX0_longest_43 : decode cX0_longest 43 = .ok (.if_icmp .ge 71, 3) := dk_162 0 71 (dk_at dksX0_longest_1 19 rfl rfl)
theorem dX0_longest_46 : decode cX0_longest 46 = .ok (.aload_n 0, 1) := dk_42 (dk_at dksX0_longest_1 22 rfl rfl)
theorem dX0_longest_47 : decode cX0_longest 47 = .ok (.getfield 90, 3) := dk_180 0 90 (dk_at dksX0_longest_2 0 rfl rfl)
theorem dX0_longest_50 : decode cX0_longest 50 = .ok (.getfield 134, 3) := dk_180 0 134 (dk_at dksX0_longest_2 3 rfl rfl)
theorem dX0_longest_53 : decode cX0_longest 53 = .ok (.iload_n 1, 1) := dk_27 (dk_at dksX0_longest_2 6 rfl rfl)
theorem dX0_longest_54 : decode cX0_longest 54 = .ok (.aaload, 1) := dk_50 (dk_at dksX0_longest_2 7 rfl rfl)
theorem dX0_longest_55 : decode cX0_longest 55 = .ok (.iload_n 3, 1) := dk_29 (dk_at dksX0_longest_2 8 rfl rfl)
theorem dX0_longest_56 : decode cX0_longest 56 = .ok (.iaload, 1) := dk_46 (dk_at dksX0_longest_2 9 rfl rfl)
theorem dX0_longest_57 : decode cX0_longest 57 = .ok (.ifCond .ne 6, 3) := dk_154 0 6 (dk_at dksX0_longest_2 10 rfl rfl)
theorem dX0_longest_60 : decode cX0_longest 60 = .ok (.goto 48, 3) := dk_167 0 48 (dk_at dksX0_longest_2 13 rfl rfl)
theorem dX0_longest_63 : decode cX0_longest 63 = .ok (.aload_n 0, 1) := dk_42 (dk_at dksX0_longest_2 16 rfl rfl)
theorem dX0_longest_64 : decode cX0_longest 64 = .ok (.getfield 90, 3) := dk_180 0 90 (dk_at dksX0_longest_2 17 rfl rfl)
theorem dX0_longest_67 : decode cX0_longest 67 = .ok (.getfield 134, 3) := dk_180 0 134 (dk_at dksX0_longest_2 20 rfl rfl)
theorem dX0_longest_70 : decode cX0_longest 70 = .ok (.iload_n 1, 1) := dk_27 (dk_at dksX0_longest_2 23 rfl rfl)
theorem dX0_longest_71 : decode cX0_longest 71 = .ok (.aaload, 1) := dk_50 (dk_at dksX0_longest_3 0 rfl rfl)
theorem dX0_longest_72 : decode cX0_longest 72 = .ok (.iload_n 3, 1) := dk_29 (dk_at dksX0_longest_3 1 rfl rfl)
theorem dX0_longest_73 : decode cX0_longest 73 = .ok (.dup2, 1) := dk_92 (dk_at dksX0_longest_3 2 rfl rfl)
theorem dX0_longest_74 : decode cX0_longest 74 = .ok (.iaload, 1) := dk_46 (dk_at dksX0_longest_3 3 rfl rfl)
theorem dX0_longest_75 : decode cX0_longest 75 = .ok (.iconst 1, 1) := dk_4 (dk_at dksX0_longest_3 4 rfl rfl)
theorem dX0_longest_76 : decode cX0_longest 76 = .ok (.isub, 1) := dk_100 (dk_at dksX0_longest_3 5 rfl rfl)
theorem dX0_longest_77 : decode cX0_longest 77 = .ok (.iastore, 1) := dk_79 (dk_at dksX0_longest_3 6 rfl rfl)
theorem dX0_longest_78 : decode cX0_longest 78 = .ok (.aload_n 0, 1) := dk_42 (dk_at dksX0_longest_3 7 rfl rfl)
theorem dX0_longest_79 : decode cX0_longest 79 = .ok (.getfield 94, 3) := dk_180 0 94 (dk_at dksX0_longest_3 8 rfl rfl)
theorem dX0_longest_82 : decode cX0_longest 82 = .ok (.iload_n 2, 1) := dk_28 (dk_at dksX0_longest_3 11 rfl rfl)
theorem dX0_longest_83 : decode cX0_longest 83 = .ok (.iload_n 3, 1) := dk_29 (dk_at dksX0_longest_3 12 rfl rfl)
theorem dX0_longest_84 : decode cX0_longest 84 = .ok (.iastore, 1) := dk_79 (dk_at dksX0_longest_3 13 rfl rfl)
theorem dX0_longest_85 : decode cX0_longest 85 = .ok (.aload_n 0, 1) := dk_42 (dk_at dksX0_longest_3 14 rfl rfl)
theorem dX0_longest_86 : decode cX0_longest 86 = .ok (.iload_n 3, 1) := dk_29 (dk_at dksX0_longest_3 15 rfl rfl)
theorem dX0_longest_87 : decode cX0_longest 87 = .ok (.iload_n 2, 1) := dk_28 (dk_at dksX0_longest_3 16 rfl rfl)
theorem dX0_longest_88 : decode cX0_longest 88 = .ok (.iconst 1, 1) := dk_4 (dk_at dksX0_longest_3 17 rfl rfl)
theorem dX0_longest_89 : decode cX0_longest 89 = .ok (.iadd, 1) := dk_96 (dk_at dksX0_longest_3 18 rfl rfl)
theorem dX0_longest_90 : decode cX0_longest 90 = .ok (.invokevirtual 242, 3) := dk_182 0 242 (dk_at dksX0_longest_3 19 rfl rfl)
theorem dX0_longest_93 : decode cX0_longest 93 = .ok (.aload_n 0, 1) := dk_42 (dk_at dksX0_longest_3 22 rfl rfl)
theorem dX0_longest_94 : decode cX0_longest 94 = .ok (.getfield 90, 3) := dk_180 0 90 (dk_at dksX0_longest_4 0 rfl rfl)
theorem dX0_longest_97 : decode cX0_longest 97 = .ok (.getfield 134, 3) := dk_180 0 134 (dk_at dksX0_longest_4 3 rfl rfl)
theorem dX0_longest_100 : decode cX0_longest 100 = .ok (.iload_n 1, 1) := dk_27 (dk_at dksX0_longest_4 6 rfl rfl)
theorem dX0_longest_101 : decode cX0_longest 101 = .ok (.aaload, 1) := dk_50 (dk_at dksX0_longest_4 7 rfl rfl)
theorem dX0_longest_102 : decode cX0_longest 102 = .ok (.iload_n 3, 1) := dk_29 (dk_at dksX0_longest_4 8 rfl rfl)
theorem dX0_longest_103 : decode cX0_longest 103 = .ok (.dup2, 1) := dk_92 (dk_at dksX0_longest_4 9 rfl rfl)
theorem dX0_longest_104 : decode cX0_longest 104 = .ok (.iaload, 1) := dk_46 (dk_at dksX0_longest_4 10 rfl rfl)
theorem dX0_longest_105 : decode cX0_longest 105 = .ok (.iconst 1, 1) := dk_4 (dk_at dksX0_longest_4 11 rfl rfl)
theorem dX0_longest_106 : decode cX0_longest 106 = .ok (.iadd, 1) := dk_96 (dk_at dksX0_longest_4 12 rfl rfl)
theorem dX0_longest_107 : decode cX0_longest 107 = .ok (.iastore, 1) := dk_79 (dk_at dksX0_longest_4 13 rfl rfl)
theorem dX0_longest_108 : decode cX0_longest 108 = .ok (.iinc 3 1, 3) := dk_132 3 1 (dk_at dksX0_longest_4 14 rfl rfl)
theorem dX0_longest_111 : decode cX0_longest 111 = .ok (.goto (-71), 3) := dk_167 255 185 (dk_at dksX0_longest_4 17 rfl rfl)
theorem dX0_longest_114 : decode cX0_longest 114 = .ok (.return_, 1) := dk_177 (dk_at dksX0_longest_4 20 rfl rfl)
abbrev cX0_back : ByteArray := prog_1_method_32_code
def yX0_back : MethodName := ⟨RX0, "back", "(II)I"⟩
def dkwX0_back_2 : List UInt8 := [167, 0, 11, 42, 180, 0, 102, 27, 50, 27, 46, 172]
abbrev dktX0_back_2 : List UInt8 := dkwX0_back_2 ++ []
def dkwX0_back_1 : List UInt8 := [4, 167, 0, 4, 3, 182, 0, 247, 42, 180, 0, 102, 27, 50, 27, 46, 18, 246, 161, 0, 8, 16, 254]
abbrev dktX0_back_1 : List UInt8 := dkwX0_back_1 ++ dktX0_back_2
def dkwX0_back_0 : List UInt8 := [42, 27, 182, 0, 123, 153, 0, 11, 28, 5, 184, 0, 15, 154, 0, 5, 2, 172, 42, 28, 4, 160, 0, 7]
abbrev dktX0_back_0 : List UInt8 := dkwX0_back_0 ++ dktX0_back_1
theorem dksX0_back_0 : cX0_back.data.toList.drop 0 = dktX0_back_0 := by decide +kernel
theorem dksX0_back_1 : cX0_back.data.toList.drop 24 = dktX0_back_1 := dk_seg dksX0_back_0 24 rfl rfl
theorem dksX0_back_2 : cX0_back.data.toList.drop 47 = dktX0_back_2 := dk_seg dksX0_back_1 23 rfl rfl
theorem dX0_back_0 : decode cX0_back 0 = .ok (.aload_n 0, 1) := dk_42 (dk_at dksX0_back_0 0 rfl rfl)
theorem dX0_back_1 : decode cX0_back 1 = .ok (.iload_n 1, 1) := dk_27 (dk_at dksX0_back_0 1 rfl rfl)
theorem dX0_back_2 : decode cX0_back 2 = .ok (.invokevirtual 123, 3) := dk_182 0 123 (dk_at dksX0_back_0 2 rfl rfl)
theorem dX0_back_5 : decode cX0_back 5 = .ok (.ifCond .eq 11, 3) := dk_153 0 11 (dk_at dksX0_back_0 5 rfl rfl)
theorem dX0_back_8 : decode cX0_back 8 = .ok (.iload_n 2, 1) := dk_28 (dk_at dksX0_back_0 8 rfl rfl)
theorem dX0_back_9 : decode cX0_back 9 = .ok (.iconst 2, 1) := dk_5 (dk_at dksX0_back_0 9 rfl rfl)
theorem dX0_back_10 : decode cX0_back 10 = .ok (.invokestatic 15, 3) := dk_184 0 15 (dk_at dksX0_back_0 10 rfl rfl)
theorem dX0_back_13 : decode cX0_back 13 = .ok (.ifCond .ne 5, 3) := dk_154 0 5 (dk_at dksX0_back_0 13 rfl rfl)
theorem dX0_back_16 : decode cX0_back 16 = .ok (.iconst (-1), 1) := dk_2 (dk_at dksX0_back_0 16 rfl rfl)
theorem dX0_back_17 : decode cX0_back 17 = .ok (.ireturn, 1) := dk_172 (dk_at dksX0_back_0 17 rfl rfl)
theorem dX0_back_18 : decode cX0_back 18 = .ok (.aload_n 0, 1) := dk_42 (dk_at dksX0_back_0 18 rfl rfl)
theorem dX0_back_19 : decode cX0_back 19 = .ok (.iload_n 2, 1) := dk_28 (dk_at dksX0_back_0 19 rfl rfl)
theorem dX0_back_20 : decode cX0_back 20 = .ok (.iconst 1, 1) := dk_4 (dk_at dksX0_back_0 20 rfl rfl)
theorem dX0_back_21 : decode cX0_back 21 = .ok (.if_icmp .ne 7, 3) := dk_160 0 7 (dk_at dksX0_back_0 21 rfl rfl)
theorem dX0_back_24 : decode cX0_back 24 = .ok (.iconst 1, 1) := dk_4 (dk_at dksX0_back_1 0 rfl rfl)
theorem dX0_back_25 : decode cX0_back 25 = .ok (.goto 4, 3) := dk_167 0 4 (dk_at dksX0_back_1 1 rfl rfl)
theorem dX0_back_28 : decode cX0_back 28 = .ok (.iconst 0, 1) := dk_3 (dk_at dksX0_back_1 4 rfl rfl)
theorem dX0_back_29 : decode cX0_back 29 = .ok (.invokevirtual 247, 3) := dk_182 0 247 (dk_at dksX0_back_1 5 rfl rfl)
theorem dX0_back_32 : decode cX0_back 32 = .ok (.aload_n 0, 1) := dk_42 (dk_at dksX0_back_1 8 rfl rfl)
theorem dX0_back_33 : decode cX0_back 33 = .ok (.getfield 102, 3) := dk_180 0 102 (dk_at dksX0_back_1 9 rfl rfl)
theorem dX0_back_36 : decode cX0_back 36 = .ok (.iload_n 1, 1) := dk_27 (dk_at dksX0_back_1 12 rfl rfl)
theorem dX0_back_37 : decode cX0_back 37 = .ok (.aaload, 1) := dk_50 (dk_at dksX0_back_1 13 rfl rfl)
theorem dX0_back_38 : decode cX0_back 38 = .ok (.iload_n 1, 1) := dk_27 (dk_at dksX0_back_1 14 rfl rfl)
theorem dX0_back_39 : decode cX0_back 39 = .ok (.iaload, 1) := dk_46 (dk_at dksX0_back_1 15 rfl rfl)
theorem dX0_back_40 : decode cX0_back 40 = .ok (.ldc 246, 2) := dk_18 246 (dk_at dksX0_back_1 16 rfl rfl)
theorem dX0_back_42 : decode cX0_back 42 = .ok (.if_icmp .lt 8, 3) := dk_161 0 8 (dk_at dksX0_back_1 18 rfl rfl)
theorem dX0_back_45 : decode cX0_back 45 = .ok (.bipush (-2), 2) := dk_16 254 (dk_at dksX0_back_1 21 rfl rfl)
theorem dX0_back_47 : decode cX0_back 47 = .ok (.goto 11, 3) := dk_167 0 11 (dk_at dksX0_back_2 0 rfl rfl)
theorem dX0_back_50 : decode cX0_back 50 = .ok (.aload_n 0, 1) := dk_42 (dk_at dksX0_back_2 3 rfl rfl)
theorem dX0_back_51 : decode cX0_back 51 = .ok (.getfield 102, 3) := dk_180 0 102 (dk_at dksX0_back_2 4 rfl rfl)
theorem dX0_back_54 : decode cX0_back 54 = .ok (.iload_n 1, 1) := dk_27 (dk_at dksX0_back_2 7 rfl rfl)
theorem dX0_back_55 : decode cX0_back 55 = .ok (.aaload, 1) := dk_50 (dk_at dksX0_back_2 8 rfl rfl)
theorem dX0_back_56 : decode cX0_back 56 = .ok (.iload_n 1, 1) := dk_27 (dk_at dksX0_back_2 9 rfl rfl)
theorem dX0_back_57 : decode cX0_back 57 = .ok (.iaload, 1) := dk_46 (dk_at dksX0_back_2 10 rfl rfl)
theorem dX0_back_58 : decode cX0_back 58 = .ok (.ireturn, 1) := dk_172 (dk_at dksX0_back_2 11 rfl rfl)
abbrev cX0_laysWays : ByteArray := prog_1_method_31_code
def yX0_laysWays : MethodName := ⟨RX0, "laysWays", "(Z)V"⟩
def dkwX0_laysWays_6 : List UInt8 := [167, 255, 207, 132, 3, 1, 167, 255, 192, 132, 2, 1, 167, 255, 178, 177]
abbrev dktX0_laysWays_6 : List UInt8 := dkwX0_laysWays_6 ++ []
def dkwX0_laysWays_5 : List UInt8 := [180, 0, 102, 29, 50, 28, 46, 42, 180, 0, 102, 28, 50, 21, 4, 46, 96, 184, 0, 1, 79, 132, 4, 1]
abbrev dktX0_laysWays_5 : List UInt8 := dkwX0_laysWays_5 ++ dktX0_laysWays_6
def dkwX0_laysWays_4 : List UInt8 := [16, 10, 162, 0, 48, 42, 180, 0, 102, 29, 50, 21, 4, 42, 180, 0, 102, 29, 50, 21, 4, 46, 42]
abbrev dktX0_laysWays_4 : List UInt8 := dkwX0_laysWays_4 ++ dktX0_laysWays_5
def dkwX0_laysWays_3 : List UInt8 := [167, 255, 189, 3, 61, 28, 16, 10, 162, 0, 78, 3, 62, 29, 16, 10, 162, 0, 64, 3, 54, 4, 21, 4]
abbrev dktX0_laysWays_3 : List UInt8 := dkwX0_laysWays_3 ++ dktX0_laysWays_4
def dkwX0_laysWays_2 : List UInt8 := [153, 0, 12, 42, 28, 29, 182, 0, 177, 167, 0, 4, 4, 79, 132, 3, 1, 167, 255, 203, 132, 2, 1]
abbrev dktX0_laysWays_2 : List UInt8 := dkwX0_laysWays_2 ++ dktX0_laysWays_3
def dkwX0_laysWays_1 : List UInt8 := [180, 0, 66, 180, 0, 131, 180, 0, 134, 28, 50, 29, 46, 154, 0, 8, 18, 246, 167, 0, 17, 27]
abbrev dktX0_laysWays_1 : List UInt8 := dkwX0_laysWays_1 ++ dktX0_laysWays_2
def dkwX0_laysWays_0 : List UInt8 := [3, 61, 28, 16, 10, 162, 0, 67, 3, 62, 29, 16, 10, 162, 0, 53, 42, 180, 0, 102, 28, 50, 29, 42]
abbrev dktX0_laysWays_0 : List UInt8 := dkwX0_laysWays_0 ++ dktX0_laysWays_1
theorem dksX0_laysWays_0 : cX0_laysWays.data.toList.drop 0 = dktX0_laysWays_0 := by decide +kernel
theorem dksX0_laysWays_1 : cX0_laysWays.data.toList.drop 24 = dktX0_laysWays_1 := dk_seg dksX0_laysWays_0 24 rfl rfl
theorem dksX0_laysWays_2 : cX0_laysWays.data.toList.drop 46 = dktX0_laysWays_2 := dk_seg dksX0_laysWays_1 22 rfl rfl
theorem dksX0_laysWays_3 : cX0_laysWays.data.toList.drop 69 = dktX0_laysWays_3 := dk_seg dksX0_laysWays_2 23 rfl rfl
theorem dksX0_laysWays_4 : cX0_laysWays.data.toList.drop 93 = dktX0_laysWays_4 := dk_seg dksX0_laysWays_3 24 rfl rfl
theorem dksX0_laysWays_5 : cX0_laysWays.data.toList.drop 116 = dktX0_laysWays_5 := dk_seg dksX0_laysWays_4 23 rfl rfl
theorem dksX0_laysWays_6 : cX0_laysWays.data.toList.drop 140 = dktX0_laysWays_6 := dk_seg dksX0_laysWays_5 24 rfl rfl
theorem dX0_laysWays_0 : decode cX0_laysWays 0 = .ok (.iconst 0, 1) := dk_3 (dk_at dksX0_laysWays_0 0 rfl rfl)
theorem dX0_laysWays_1 : decode cX0_laysWays 1 = .ok (.istore_n 2, 1) := dk_61 (dk_at dksX0_laysWays_0 1 rfl rfl)
theorem dX0_laysWays_2 : decode cX0_laysWays 2 = .ok (.iload_n 2, 1) := dk_28 (dk_at dksX0_laysWays_0 2 rfl rfl)
theorem dX0_laysWays_3 : decode cX0_laysWays 3 = .ok (.bipush 10, 2) := dk_16 10 (dk_at dksX0_laysWays_0 3 rfl rfl)
theorem dX0_laysWays_5 : decode cX0_laysWays 5 = .ok (.if_icmp .ge 67, 3) := dk_162 0 67 (dk_at dksX0_laysWays_0 5 rfl rfl)
theorem dX0_laysWays_8 : decode cX0_laysWays 8 = .ok (.iconst 0, 1) := dk_3 (dk_at dksX0_laysWays_0 8 rfl rfl)
theorem dX0_laysWays_9 : decode cX0_laysWays 9 = .ok (.istore_n 3, 1) := dk_62 (dk_at dksX0_laysWays_0 9 rfl rfl)
theorem dX0_laysWays_10 : decode cX0_laysWays 10 = .ok (.iload_n 3, 1) := dk_29 (dk_at dksX0_laysWays_0 10 rfl rfl)
theorem dX0_laysWays_11 : decode cX0_laysWays 11 = .ok (.bipush 10, 2) := dk_16 10 (dk_at dksX0_laysWays_0 11 rfl rfl)
theorem dX0_laysWays_13 : decode cX0_laysWays 13 = .ok (.if_icmp .ge 53, 3) := dk_162 0 53 (dk_at dksX0_laysWays_0 13 rfl rfl)
theorem dX0_laysWays_16 : decode cX0_laysWays 16 = .ok (.aload_n 0, 1) := dk_42 (dk_at dksX0_laysWays_0 16 rfl rfl)
theorem dX0_laysWays_17 : decode cX0_laysWays 17 = .ok (.getfield 102, 3) := dk_180 0 102 (dk_at dksX0_laysWays_0 17 rfl rfl)
theorem dX0_laysWays_20 : decode cX0_laysWays 20 = .ok (.iload_n 2, 1) := dk_28 (dk_at dksX0_laysWays_0 20 rfl rfl)
theorem dX0_laysWays_21 : decode cX0_laysWays 21 = .ok (.aaload, 1) := dk_50 (dk_at dksX0_laysWays_0 21 rfl rfl)
theorem dX0_laysWays_22 : decode cX0_laysWays 22 = .ok (.iload_n 3, 1) := dk_29 (dk_at dksX0_laysWays_0 22 rfl rfl)
theorem dX0_laysWays_23 : decode cX0_laysWays 23 = .ok (.aload_n 0, 1) := dk_42 (dk_at dksX0_laysWays_0 23 rfl rfl)
theorem dX0_laysWays_24 : decode cX0_laysWays 24 = .ok (.getfield 66, 3) := dk_180 0 66 (dk_at dksX0_laysWays_1 0 rfl rfl)
theorem dX0_laysWays_27 : decode cX0_laysWays 27 = .ok (.getfield 131, 3) := dk_180 0 131 (dk_at dksX0_laysWays_1 3 rfl rfl)
theorem dX0_laysWays_30 : decode cX0_laysWays 30 = .ok (.getfield 134, 3) := dk_180 0 134 (dk_at dksX0_laysWays_1 6 rfl rfl)
theorem dX0_laysWays_33 : decode cX0_laysWays 33 = .ok (.iload_n 2, 1) := dk_28 (dk_at dksX0_laysWays_1 9 rfl rfl)
theorem dX0_laysWays_34 : decode cX0_laysWays 34 = .ok (.aaload, 1) := dk_50 (dk_at dksX0_laysWays_1 10 rfl rfl)
theorem dX0_laysWays_35 : decode cX0_laysWays 35 = .ok (.iload_n 3, 1) := dk_29 (dk_at dksX0_laysWays_1 11 rfl rfl)
theorem dX0_laysWays_36 : decode cX0_laysWays 36 = .ok (.iaload, 1) := dk_46 (dk_at dksX0_laysWays_1 12 rfl rfl)
theorem dX0_laysWays_37 : decode cX0_laysWays 37 = .ok (.ifCond .ne 8, 3) := dk_154 0 8 (dk_at dksX0_laysWays_1 13 rfl rfl)
theorem dX0_laysWays_40 : decode cX0_laysWays 40 = .ok (.ldc 246, 2) := dk_18 246 (dk_at dksX0_laysWays_1 16 rfl rfl)
theorem dX0_laysWays_42 : decode cX0_laysWays 42 = .ok (.goto 17, 3) := dk_167 0 17 (dk_at dksX0_laysWays_1 18 rfl rfl)
theorem dX0_laysWays_45 : decode cX0_laysWays 45 = .ok (.iload_n 1, 1) := dk_27 (dk_at dksX0_laysWays_1 21 rfl rfl)
theorem dX0_laysWays_46 : decode cX0_laysWays 46 = .ok (.ifCond .eq 12, 3) := dk_153 0 12 (dk_at dksX0_laysWays_2 0 rfl rfl)
theorem dX0_laysWays_49 : decode cX0_laysWays 49 = .ok (.aload_n 0, 1) := dk_42 (dk_at dksX0_laysWays_2 3 rfl rfl)
theorem dX0_laysWays_50 : decode cX0_laysWays 50 = .ok (.iload_n 2, 1) := dk_28 (dk_at dksX0_laysWays_2 4 rfl rfl)
theorem dX0_laysWays_51 : decode cX0_laysWays 51 = .ok (.iload_n 3, 1) := dk_29 (dk_at dksX0_laysWays_2 5 rfl rfl)
theorem dX0_laysWays_52 : decode cX0_laysWays 52 = .ok (.invokevirtual 177, 3) := dk_182 0 177 (dk_at dksX0_laysWays_2 6 rfl rfl)
theorem dX0_laysWays_55 : decode cX0_laysWays 55 = .ok (.goto 4, 3) := dk_167 0 4 (dk_at dksX0_laysWays_2 9 rfl rfl)
theorem dX0_laysWays_58 : decode cX0_laysWays 58 = .ok (.iconst 1, 1) := dk_4 (dk_at dksX0_laysWays_2 12 rfl rfl)
theorem dX0_laysWays_59 : decode cX0_laysWays 59 = .ok (.iastore, 1) := dk_79 (dk_at dksX0_laysWays_2 13 rfl rfl)
theorem dX0_laysWays_60 : decode cX0_laysWays 60 = .ok (.iinc 3 1, 3) := dk_132 3 1 (dk_at dksX0_laysWays_2 14 rfl rfl)
theorem dX0_laysWays_63 : decode cX0_laysWays 63 = .ok (.goto (-53), 3) := dk_167 255 203 (dk_at dksX0_laysWays_2 17 rfl rfl)
theorem dX0_laysWays_66 : decode cX0_laysWays 66 = .ok (.iinc 2 1, 3) := dk_132 2 1 (dk_at dksX0_laysWays_2 20 rfl rfl)
theorem dX0_laysWays_69 : decode cX0_laysWays 69 = .ok (.goto (-67), 3) := dk_167 255 189 (dk_at dksX0_laysWays_3 0 rfl rfl)
theorem dX0_laysWays_72 : decode cX0_laysWays 72 = .ok (.iconst 0, 1) := dk_3 (dk_at dksX0_laysWays_3 3 rfl rfl)
theorem dX0_laysWays_73 : decode cX0_laysWays 73 = .ok (.istore_n 2, 1) := dk_61 (dk_at dksX0_laysWays_3 4 rfl rfl)
theorem dX0_laysWays_74 : decode cX0_laysWays 74 = .ok (.iload_n 2, 1) := dk_28 (dk_at dksX0_laysWays_3 5 rfl rfl)
theorem dX0_laysWays_75 : decode cX0_laysWays 75 = .ok (.bipush 10, 2) := dk_16 10 (dk_at dksX0_laysWays_3 6 rfl rfl)
theorem dX0_laysWays_77 : decode cX0_laysWays 77 = .ok (.if_icmp .ge 78, 3) := dk_162 0 78 (dk_at dksX0_laysWays_3 8 rfl rfl)
theorem dX0_laysWays_80 : decode cX0_laysWays 80 = .ok (.iconst 0, 1) := dk_3 (dk_at dksX0_laysWays_3 11 rfl rfl)
theorem dX0_laysWays_81 : decode cX0_laysWays 81 = .ok (.istore_n 3, 1) := dk_62 (dk_at dksX0_laysWays_3 12 rfl rfl)
theorem dX0_laysWays_82 : decode cX0_laysWays 82 = .ok (.iload_n 3, 1) := dk_29 (dk_at dksX0_laysWays_3 13 rfl rfl)
theorem dX0_laysWays_83 : decode cX0_laysWays 83 = .ok (.bipush 10, 2) := dk_16 10 (dk_at dksX0_laysWays_3 14 rfl rfl)
theorem dX0_laysWays_85 : decode cX0_laysWays 85 = .ok (.if_icmp .ge 64, 3) := dk_162 0 64 (dk_at dksX0_laysWays_3 16 rfl rfl)
theorem dX0_laysWays_88 : decode cX0_laysWays 88 = .ok (.iconst 0, 1) := dk_3 (dk_at dksX0_laysWays_3 19 rfl rfl)
theorem dX0_laysWays_89 : decode cX0_laysWays 89 = .ok (.istore 4, 2) := dk_54 4 (dk_at dksX0_laysWays_3 20 rfl rfl)
theorem dX0_laysWays_91 : decode cX0_laysWays 91 = .ok (.iload 4, 2) := dk_21 4 (dk_at dksX0_laysWays_3 22 rfl rfl)
theorem dX0_laysWays_93 : decode cX0_laysWays 93 = .ok (.bipush 10, 2) := dk_16 10 (dk_at dksX0_laysWays_4 0 rfl rfl)
theorem dX0_laysWays_95 : decode cX0_laysWays 95 = .ok (.if_icmp .ge 48, 3) := dk_162 0 48 (dk_at dksX0_laysWays_4 2 rfl rfl)
theorem dX0_laysWays_98 : decode cX0_laysWays 98 = .ok (.aload_n 0, 1) := dk_42 (dk_at dksX0_laysWays_4 5 rfl rfl)
theorem dX0_laysWays_99 : decode cX0_laysWays 99 = .ok (.getfield 102, 3) := dk_180 0 102 (dk_at dksX0_laysWays_4 6 rfl rfl)
theorem dX0_laysWays_102 : decode cX0_laysWays 102 = .ok (.iload_n 3, 1) := dk_29 (dk_at dksX0_laysWays_4 9 rfl rfl)
theorem dX0_laysWays_103 : decode cX0_laysWays 103 = .ok (.aaload, 1) := dk_50 (dk_at dksX0_laysWays_4 10 rfl rfl)
theorem dX0_laysWays_104 : decode cX0_laysWays 104 = .ok (.iload 4, 2) := dk_21 4 (dk_at dksX0_laysWays_4 11 rfl rfl)
theorem dX0_laysWays_106 : decode cX0_laysWays 106 = .ok (.aload_n 0, 1) := dk_42 (dk_at dksX0_laysWays_4 13 rfl rfl)
theorem dX0_laysWays_107 : decode cX0_laysWays 107 = .ok (.getfield 102, 3) := dk_180 0 102 (dk_at dksX0_laysWays_4 14 rfl rfl)
theorem dX0_laysWays_110 : decode cX0_laysWays 110 = .ok (.iload_n 3, 1) := dk_29 (dk_at dksX0_laysWays_4 17 rfl rfl)
theorem dX0_laysWays_111 : decode cX0_laysWays 111 = .ok (.aaload, 1) := dk_50 (dk_at dksX0_laysWays_4 18 rfl rfl)
theorem dX0_laysWays_112 : decode cX0_laysWays 112 = .ok (.iload 4, 2) := dk_21 4 (dk_at dksX0_laysWays_4 19 rfl rfl)
theorem dX0_laysWays_114 : decode cX0_laysWays 114 = .ok (.iaload, 1) := dk_46 (dk_at dksX0_laysWays_4 21 rfl rfl)
theorem dX0_laysWays_115 : decode cX0_laysWays 115 = .ok (.aload_n 0, 1) := dk_42 (dk_at dksX0_laysWays_4 22 rfl rfl)
theorem dX0_laysWays_116 : decode cX0_laysWays 116 = .ok (.getfield 102, 3) := dk_180 0 102 (dk_at dksX0_laysWays_5 0 rfl rfl)
theorem dX0_laysWays_119 : decode cX0_laysWays 119 = .ok (.iload_n 3, 1) := dk_29 (dk_at dksX0_laysWays_5 3 rfl rfl)
theorem dX0_laysWays_120 : decode cX0_laysWays 120 = .ok (.aaload, 1) := dk_50 (dk_at dksX0_laysWays_5 4 rfl rfl)
theorem dX0_laysWays_121 : decode cX0_laysWays 121 = .ok (.iload_n 2, 1) := dk_28 (dk_at dksX0_laysWays_5 5 rfl rfl)
theorem dX0_laysWays_122 : decode cX0_laysWays 122 = .ok (.iaload, 1) := dk_46 (dk_at dksX0_laysWays_5 6 rfl rfl)
theorem dX0_laysWays_123 : decode cX0_laysWays 123 = .ok (.aload_n 0, 1) := dk_42 (dk_at dksX0_laysWays_5 7 rfl rfl)
theorem dX0_laysWays_124 : decode cX0_laysWays 124 = .ok (.getfield 102, 3) := dk_180 0 102 (dk_at dksX0_laysWays_5 8 rfl rfl)
theorem dX0_laysWays_127 : decode cX0_laysWays 127 = .ok (.iload_n 2, 1) := dk_28 (dk_at dksX0_laysWays_5 11 rfl rfl)
theorem dX0_laysWays_128 : decode cX0_laysWays 128 = .ok (.aaload, 1) := dk_50 (dk_at dksX0_laysWays_5 12 rfl rfl)
theorem dX0_laysWays_129 : decode cX0_laysWays 129 = .ok (.iload 4, 2) := dk_21 4 (dk_at dksX0_laysWays_5 13 rfl rfl)
theorem dX0_laysWays_131 : decode cX0_laysWays 131 = .ok (.iaload, 1) := dk_46 (dk_at dksX0_laysWays_5 15 rfl rfl)
theorem dX0_laysWays_132 : decode cX0_laysWays 132 = .ok (.iadd, 1) := dk_96 (dk_at dksX0_laysWays_5 16 rfl rfl)
theorem dX0_laysWays_133 : decode cX0_laysWays 133 = .ok (.invokestatic 1, 3) := dk_184 0 1 (dk_at dksX0_laysWays_5 17 rfl rfl)
theorem dX0_laysWays_136 : decode cX0_laysWays 136 = .ok (.iastore, 1) := dk_79 (dk_at dksX0_laysWays_5 20 rfl rfl)
theorem dX0_laysWays_137 : decode cX0_laysWays 137 = .ok (.iinc 4 1, 3) := dk_132 4 1 (dk_at dksX0_laysWays_5 21 rfl rfl)
theorem dX0_laysWays_140 : decode cX0_laysWays 140 = .ok (.goto (-49), 3) := dk_167 255 207 (dk_at dksX0_laysWays_6 0 rfl rfl)
theorem dX0_laysWays_143 : decode cX0_laysWays 143 = .ok (.iinc 3 1, 3) := dk_132 3 1 (dk_at dksX0_laysWays_6 3 rfl rfl)
theorem dX0_laysWays_146 : decode cX0_laysWays 146 = .ok (.goto (-64), 3) := dk_167 255 192 (dk_at dksX0_laysWays_6 6 rfl rfl)
theorem dX0_laysWays_149 : decode cX0_laysWays 149 = .ok (.iinc 2 1, 3) := dk_132 2 1 (dk_at dksX0_laysWays_6 9 rfl rfl)
theorem dX0_laysWays_152 : decode cX0_laysWays 152 = .ok (.goto (-78), 3) := dk_167 255 178 (dk_at dksX0_laysWays_6 12 rfl rfl)
theorem dX0_laysWays_155 : decode cX0_laysWays 155 = .ok (.return_, 1) := dk_177 (dk_at dksX0_laysWays_6 15 rfl rfl)
abbrev cX0_even : ByteArray := prog_1_method_37_code
def yX0_even : MethodName := ⟨RX0, "even", "(I)I"⟩
def dkwX0_even_4 : List UInt8 := [172]
abbrev dktX0_even_4 : List UInt8 := dkwX0_even_4 ++ []
def dkwX0_even_3 : List UInt8 := [3, 3, 182, 0, 254, 27, 16, 101, 160, 0, 10, 42, 180, 0, 239, 167, 0, 9, 42, 180, 0, 97, 27, 46]
abbrev dktX0_even_3 : List UInt8 := dkwX0_even_3 ++ dktX0_even_4
def dkwX0_even_2 : List UInt8 := [162, 0, 11, 27, 28, 161, 0, 6, 16, 252, 172, 42, 182, 1, 5, 42, 18, 246, 181, 0, 239, 42, 3, 28]
abbrev dktX0_even_2 : List UInt8 := dkwX0_even_2 ++ dktX0_even_3
def dkwX0_even_1 : List UInt8 := [182, 1, 2, 61, 27, 16, 100, 160, 0, 5, 28, 172, 28, 16, 6, 164, 0, 6, 16, 253, 172, 27, 16, 6]
abbrev dktX0_even_1 : List UInt8 := dkwX0_even_1 ++ dktX0_even_2
def dkwX0_even_0 : List UInt8 := [27, 16, 100, 16, 101, 184, 0, 127, 154, 0, 14, 27, 16, 6, 184, 0, 15, 154, 0, 5, 2, 172, 42]
abbrev dktX0_even_0 : List UInt8 := dkwX0_even_0 ++ dktX0_even_1
theorem dksX0_even_0 : cX0_even.data.toList.drop 0 = dktX0_even_0 := by decide +kernel
theorem dksX0_even_1 : cX0_even.data.toList.drop 23 = dktX0_even_1 := dk_seg dksX0_even_0 23 rfl rfl
theorem dksX0_even_2 : cX0_even.data.toList.drop 47 = dktX0_even_2 := dk_seg dksX0_even_1 24 rfl rfl
theorem dksX0_even_3 : cX0_even.data.toList.drop 71 = dktX0_even_3 := dk_seg dksX0_even_2 24 rfl rfl
theorem dksX0_even_4 : cX0_even.data.toList.drop 95 = dktX0_even_4 := dk_seg dksX0_even_3 24 rfl rfl
theorem dX0_even_0 : decode cX0_even 0 = .ok (.iload_n 1, 1) := dk_27 (dk_at dksX0_even_0 0 rfl rfl)
theorem dX0_even_1 : decode cX0_even 1 = .ok (.bipush 100, 2) := dk_16 100 (dk_at dksX0_even_0 1 rfl rfl)
theorem dX0_even_3 : decode cX0_even 3 = .ok (.bipush 101, 2) := dk_16 101 (dk_at dksX0_even_0 3 rfl rfl)
theorem dX0_even_5 : decode cX0_even 5 = .ok (.invokestatic 127, 3) := dk_184 0 127 (dk_at dksX0_even_0 5 rfl rfl)
theorem dX0_even_8 : decode cX0_even 8 = .ok (.ifCond .ne 14, 3) := dk_154 0 14 (dk_at dksX0_even_0 8 rfl rfl)
theorem dX0_even_11 : decode cX0_even 11 = .ok (.iload_n 1, 1) := dk_27 (dk_at dksX0_even_0 11 rfl rfl)
theorem dX0_even_12 : decode cX0_even 12 = .ok (.bipush 6, 2) := dk_16 6 (dk_at dksX0_even_0 12 rfl rfl)
theorem dX0_even_14 : decode cX0_even 14 = .ok (.invokestatic 15, 3) := dk_184 0 15 (dk_at dksX0_even_0 14 rfl rfl)
theorem dX0_even_17 : decode cX0_even 17 = .ok (.ifCond .ne 5, 3) := dk_154 0 5 (dk_at dksX0_even_0 17 rfl rfl)
theorem dX0_even_20 : decode cX0_even 20 = .ok (.iconst (-1), 1) := dk_2 (dk_at dksX0_even_0 20 rfl rfl)
theorem dX0_even_21 : decode cX0_even 21 = .ok (.ireturn, 1) := dk_172 (dk_at dksX0_even_0 21 rfl rfl)
theorem dX0_even_22 : decode cX0_even 22 = .ok (.aload_n 0, 1) := dk_42 (dk_at dksX0_even_0 22 rfl rfl)
theorem dX0_even_23 : decode cX0_even 23 = .ok (.invokevirtual 258, 3) := dk_182 1 2 (dk_at dksX0_even_1 0 rfl rfl)
theorem dX0_even_26 : decode cX0_even 26 = .ok (.istore_n 2, 1) := dk_61 (dk_at dksX0_even_1 3 rfl rfl)
theorem dX0_even_27 : decode cX0_even 27 = .ok (.iload_n 1, 1) := dk_27 (dk_at dksX0_even_1 4 rfl rfl)
theorem dX0_even_28 : decode cX0_even 28 = .ok (.bipush 100, 2) := dk_16 100 (dk_at dksX0_even_1 5 rfl rfl)
theorem dX0_even_30 : decode cX0_even 30 = .ok (.if_icmp .ne 5, 3) := dk_160 0 5 (dk_at dksX0_even_1 7 rfl rfl)
theorem dX0_even_33 : decode cX0_even 33 = .ok (.iload_n 2, 1) := dk_28 (dk_at dksX0_even_1 10 rfl rfl)
theorem dX0_even_34 : decode cX0_even 34 = .ok (.ireturn, 1) := dk_172 (dk_at dksX0_even_1 11 rfl rfl)
theorem dX0_even_35 : decode cX0_even 35 = .ok (.iload_n 2, 1) := dk_28 (dk_at dksX0_even_1 12 rfl rfl)
theorem dX0_even_36 : decode cX0_even 36 = .ok (.bipush 6, 2) := dk_16 6 (dk_at dksX0_even_1 13 rfl rfl)
theorem dX0_even_38 : decode cX0_even 38 = .ok (.if_icmp .le 6, 3) := dk_164 0 6 (dk_at dksX0_even_1 15 rfl rfl)
theorem dX0_even_41 : decode cX0_even 41 = .ok (.bipush (-3), 2) := dk_16 253 (dk_at dksX0_even_1 18 rfl rfl)
theorem dX0_even_43 : decode cX0_even 43 = .ok (.ireturn, 1) := dk_172 (dk_at dksX0_even_1 20 rfl rfl)
theorem dX0_even_44 : decode cX0_even 44 = .ok (.iload_n 1, 1) := dk_27 (dk_at dksX0_even_1 21 rfl rfl)
theorem dX0_even_45 : decode cX0_even 45 = .ok (.bipush 6, 2) := dk_16 6 (dk_at dksX0_even_1 22 rfl rfl)
theorem dX0_even_47 : decode cX0_even 47 = .ok (.if_icmp .ge 11, 3) := dk_162 0 11 (dk_at dksX0_even_2 0 rfl rfl)
theorem dX0_even_50 : decode cX0_even 50 = .ok (.iload_n 1, 1) := dk_27 (dk_at dksX0_even_2 3 rfl rfl)
theorem dX0_even_51 : decode cX0_even 51 = .ok (.iload_n 2, 1) := dk_28 (dk_at dksX0_even_2 4 rfl rfl)
theorem dX0_even_52 : decode cX0_even 52 = .ok (.if_icmp .lt 6, 3) := dk_161 0 6 (dk_at dksX0_even_2 5 rfl rfl)
theorem dX0_even_55 : decode cX0_even 55 = .ok (.bipush (-4), 2) := dk_16 252 (dk_at dksX0_even_2 8 rfl rfl)
theorem dX0_even_57 : decode cX0_even 57 = .ok (.ireturn, 1) := dk_172 (dk_at dksX0_even_2 10 rfl rfl)
theorem dX0_even_58 : decode cX0_even 58 = .ok (.aload_n 0, 1) := dk_42 (dk_at dksX0_even_2 11 rfl rfl)
theorem dX0_even_59 : decode cX0_even 59 = .ok (.invokevirtual 261, 3) := dk_182 1 5 (dk_at dksX0_even_2 12 rfl rfl)
theorem dX0_even_62 : decode cX0_even 62 = .ok (.aload_n 0, 1) := dk_42 (dk_at dksX0_even_2 15 rfl rfl)
theorem dX0_even_63 : decode cX0_even 63 = .ok (.ldc 246, 2) := dk_18 246 (dk_at dksX0_even_2 16 rfl rfl)
theorem dX0_even_65 : decode cX0_even 65 = .ok (.putfield 239, 3) := dk_181 0 239 (dk_at dksX0_even_2 18 rfl rfl)
theorem dX0_even_68 : decode cX0_even 68 = .ok (.aload_n 0, 1) := dk_42 (dk_at dksX0_even_2 21 rfl rfl)
theorem dX0_even_69 : decode cX0_even 69 = .ok (.iconst 0, 1) := dk_3 (dk_at dksX0_even_2 22 rfl rfl)
theorem dX0_even_70 : decode cX0_even 70 = .ok (.iload_n 2, 1) := dk_28 (dk_at dksX0_even_2 23 rfl rfl)
theorem dX0_even_71 : decode cX0_even 71 = .ok (.iconst 0, 1) := dk_3 (dk_at dksX0_even_3 0 rfl rfl)
theorem dX0_even_72 : decode cX0_even 72 = .ok (.iconst 0, 1) := dk_3 (dk_at dksX0_even_3 1 rfl rfl)
theorem dX0_even_73 : decode cX0_even 73 = .ok (.invokevirtual 254, 3) := dk_182 0 254 (dk_at dksX0_even_3 2 rfl rfl)
theorem dX0_even_76 : decode cX0_even 76 = .ok (.iload_n 1, 1) := dk_27 (dk_at dksX0_even_3 5 rfl rfl)
theorem dX0_even_77 : decode cX0_even 77 = .ok (.bipush 101, 2) := dk_16 101 (dk_at dksX0_even_3 6 rfl rfl)
theorem dX0_even_79 : decode cX0_even 79 = .ok (.if_icmp .ne 10, 3) := dk_160 0 10 (dk_at dksX0_even_3 8 rfl rfl)
theorem dX0_even_82 : decode cX0_even 82 = .ok (.aload_n 0, 1) := dk_42 (dk_at dksX0_even_3 11 rfl rfl)
theorem dX0_even_83 : decode cX0_even 83 = .ok (.getfield 239, 3) := dk_180 0 239 (dk_at dksX0_even_3 12 rfl rfl)
theorem dX0_even_86 : decode cX0_even 86 = .ok (.goto 9, 3) := dk_167 0 9 (dk_at dksX0_even_3 15 rfl rfl)
theorem dX0_even_89 : decode cX0_even 89 = .ok (.aload_n 0, 1) := dk_42 (dk_at dksX0_even_3 18 rfl rfl)
theorem dX0_even_90 : decode cX0_even 90 = .ok (.getfield 97, 3) := dk_180 0 97 (dk_at dksX0_even_3 19 rfl rfl)
theorem dX0_even_93 : decode cX0_even 93 = .ok (.iload_n 1, 1) := dk_27 (dk_at dksX0_even_3 22 rfl rfl)
theorem dX0_even_94 : decode cX0_even 94 = .ok (.iaload, 1) := dk_46 (dk_at dksX0_even_3 23 rfl rfl)
theorem dX0_even_95 : decode cX0_even 95 = .ok (.ireturn, 1) := dk_172 (dk_at dksX0_even_4 0 rfl rfl)
abbrev cX0_lack : ByteArray := prog_1_method_34_code
def yX0_lack : MethodName := ⟨RX0, "lack", "()I"⟩
def dkwX0_lack_1 : List UInt8 := [132, 2, 1, 167, 255, 235, 27, 172]
abbrev dktX0_lack_1 : List UInt8 := dkwX0_lack_1 ++ []
def dkwX0_lack_0 : List UInt8 := [3, 60, 3, 61, 28, 16, 10, 162, 0, 21, 27, 3, 42, 28, 182, 0, 251, 184, 0, 7, 96, 60]
abbrev dktX0_lack_0 : List UInt8 := dkwX0_lack_0 ++ dktX0_lack_1
theorem dksX0_lack_0 : cX0_lack.data.toList.drop 0 = dktX0_lack_0 := by decide +kernel
theorem dksX0_lack_1 : cX0_lack.data.toList.drop 22 = dktX0_lack_1 := dk_seg dksX0_lack_0 22 rfl rfl
theorem dX0_lack_0 : decode cX0_lack 0 = .ok (.iconst 0, 1) := dk_3 (dk_at dksX0_lack_0 0 rfl rfl)
theorem dX0_lack_1 : decode cX0_lack 1 = .ok (.istore_n 1, 1) := dk_60 (dk_at dksX0_lack_0 1 rfl rfl)
theorem dX0_lack_2 : decode cX0_lack 2 = .ok (.iconst 0, 1) := dk_3 (dk_at dksX0_lack_0 2 rfl rfl)
theorem dX0_lack_3 : decode cX0_lack 3 = .ok (.istore_n 2, 1) := dk_61 (dk_at dksX0_lack_0 3 rfl rfl)
theorem dX0_lack_4 : decode cX0_lack 4 = .ok (.iload_n 2, 1) := dk_28 (dk_at dksX0_lack_0 4 rfl rfl)
theorem dX0_lack_5 : decode cX0_lack 5 = .ok (.bipush 10, 2) := dk_16 10 (dk_at dksX0_lack_0 5 rfl rfl)
theorem dX0_lack_7 : decode cX0_lack 7 = .ok (.if_icmp .ge 21, 3) := dk_162 0 21 (dk_at dksX0_lack_0 7 rfl rfl)
theorem dX0_lack_10 : decode cX0_lack 10 = .ok (.iload_n 1, 1) := dk_27 (dk_at dksX0_lack_0 10 rfl rfl)
theorem dX0_lack_11 : decode cX0_lack 11 = .ok (.iconst 0, 1) := dk_3 (dk_at dksX0_lack_0 11 rfl rfl)
theorem dX0_lack_12 : decode cX0_lack 12 = .ok (.aload_n 0, 1) := dk_42 (dk_at dksX0_lack_0 12 rfl rfl)
theorem dX0_lack_13 : decode cX0_lack 13 = .ok (.iload_n 2, 1) := dk_28 (dk_at dksX0_lack_0 13 rfl rfl)
theorem dX0_lack_14 : decode cX0_lack 14 = .ok (.invokevirtual 251, 3) := dk_182 0 251 (dk_at dksX0_lack_0 14 rfl rfl)
theorem dX0_lack_17 : decode cX0_lack 17 = .ok (.invokestatic 7, 3) := dk_184 0 7 (dk_at dksX0_lack_0 17 rfl rfl)
theorem dX0_lack_20 : decode cX0_lack 20 = .ok (.iadd, 1) := dk_96 (dk_at dksX0_lack_0 20 rfl rfl)
theorem dX0_lack_21 : decode cX0_lack 21 = .ok (.istore_n 1, 1) := dk_60 (dk_at dksX0_lack_0 21 rfl rfl)
theorem dX0_lack_22 : decode cX0_lack 22 = .ok (.iinc 2 1, 3) := dk_132 2 1 (dk_at dksX0_lack_1 0 rfl rfl)
theorem dX0_lack_25 : decode cX0_lack 25 = .ok (.goto (-21), 3) := dk_167 255 235 (dk_at dksX0_lack_1 3 rfl rfl)
theorem dX0_lack_28 : decode cX0_lack 28 = .ok (.iload_n 1, 1) := dk_27 (dk_at dksX0_lack_1 6 rfl rfl)
theorem dX0_lack_29 : decode cX0_lack 29 = .ok (.ireturn, 1) := dk_172 (dk_at dksX0_lack_1 7 rfl rfl)
abbrev cX0_netOf : ByteArray := prog_1_method_33_code
def yX0_netOf : MethodName := ⟨RX0, "netOf", "(I)I"⟩
def dkwX0_netOf_0 : List UInt8 := [42, 180, 0, 66, 180, 0, 131, 27, 182, 0, 217, 42, 180, 0, 66, 180, 0, 131, 27, 182, 0, 214, 100, 172]
abbrev dktX0_netOf_0 : List UInt8 := dkwX0_netOf_0 ++ []
theorem dksX0_netOf_0 : cX0_netOf.data.toList.drop 0 = dktX0_netOf_0 := by decide +kernel
theorem dX0_netOf_0 : decode cX0_netOf 0 = .ok (.aload_n 0, 1) := dk_42 (dk_at dksX0_netOf_0 0 rfl rfl)
theorem dX0_netOf_1 : decode cX0_netOf 1 = .ok (.getfield 66, 3) := dk_180 0 66 (dk_at dksX0_netOf_0 1 rfl rfl)
theorem dX0_netOf_4 : decode cX0_netOf 4 = .ok (.getfield 131, 3) := dk_180 0 131 (dk_at dksX0_netOf_0 4 rfl rfl)
theorem dX0_netOf_7 : decode cX0_netOf 7 = .ok (.iload_n 1, 1) := dk_27 (dk_at dksX0_netOf_0 7 rfl rfl)
theorem dX0_netOf_8 : decode cX0_netOf 8 = .ok (.invokevirtual 217, 3) := dk_182 0 217 (dk_at dksX0_netOf_0 8 rfl rfl)
theorem dX0_netOf_11 : decode cX0_netOf 11 = .ok (.aload_n 0, 1) := dk_42 (dk_at dksX0_netOf_0 11 rfl rfl)
theorem dX0_netOf_12 : decode cX0_netOf 12 = .ok (.getfield 66, 3) := dk_180 0 66 (dk_at dksX0_netOf_0 12 rfl rfl)
theorem dX0_netOf_15 : decode cX0_netOf 15 = .ok (.getfield 131, 3) := dk_180 0 131 (dk_at dksX0_netOf_0 15 rfl rfl)
theorem dX0_netOf_18 : decode cX0_netOf 18 = .ok (.iload_n 1, 1) := dk_27 (dk_at dksX0_netOf_0 18 rfl rfl)
theorem dX0_netOf_19 : decode cX0_netOf 19 = .ok (.invokevirtual 214, 3) := dk_182 0 214 (dk_at dksX0_netOf_0 19 rfl rfl)
theorem dX0_netOf_22 : decode cX0_netOf 22 = .ok (.isub, 1) := dk_100 (dk_at dksX0_netOf_0 22 rfl rfl)
theorem dX0_netOf_23 : decode cX0_netOf 23 = .ok (.ireturn, 1) := dk_172 (dk_at dksX0_netOf_0 23 rfl rfl)
abbrev cX0_takesLack : ByteArray := prog_1_method_35_code
def yX0_takesLack : MethodName := ⟨RX0, "takesLack", "()V"⟩
def dkwX0_takesLack_3 : List UInt8 := [167, 255, 232, 132, 3, 1, 167, 255, 188, 177]
abbrev dktX0_takesLack_3 : List UInt8 := dkwX0_takesLack_3 ++ []
def dkwX0_takesLack_2 : List UInt8 := [42, 29, 182, 0, 251, 116, 162, 0, 19, 42, 180, 0, 108, 28, 29, 79, 132, 2, 1, 132, 4, 1]
abbrev dktX0_takesLack_2 : List UInt8 := dkwX0_takesLack_2 ++ dktX0_takesLack_3
def dkwX0_takesLack_1 : List UInt8 := [162, 0, 19, 42, 180, 0, 105, 27, 29, 79, 132, 1, 1, 132, 4, 1, 167, 255, 233, 3, 54, 4, 21, 4]
abbrev dktX0_takesLack_1 : List UInt8 := dkwX0_takesLack_1 ++ dktX0_takesLack_2
def dkwX0_takesLack_0 : List UInt8 := [3, 60, 3, 61, 3, 62, 29, 16, 10, 162, 0, 68, 3, 54, 4, 21, 4, 42, 29, 182, 0, 251]
abbrev dktX0_takesLack_0 : List UInt8 := dkwX0_takesLack_0 ++ dktX0_takesLack_1
theorem dksX0_takesLack_0 : cX0_takesLack.data.toList.drop 0 = dktX0_takesLack_0 := by decide +kernel
theorem dksX0_takesLack_1 : cX0_takesLack.data.toList.drop 22 = dktX0_takesLack_1 := dk_seg dksX0_takesLack_0 22 rfl rfl
theorem dksX0_takesLack_2 : cX0_takesLack.data.toList.drop 46 = dktX0_takesLack_2 := dk_seg dksX0_takesLack_1 24 rfl rfl
theorem dksX0_takesLack_3 : cX0_takesLack.data.toList.drop 68 = dktX0_takesLack_3 := dk_seg dksX0_takesLack_2 22 rfl rfl
theorem dX0_takesLack_0 : decode cX0_takesLack 0 = .ok (.iconst 0, 1) := dk_3 (dk_at dksX0_takesLack_0 0 rfl rfl)
theorem dX0_takesLack_1 : decode cX0_takesLack 1 = .ok (.istore_n 1, 1) := dk_60 (dk_at dksX0_takesLack_0 1 rfl rfl)
theorem dX0_takesLack_2 : decode cX0_takesLack 2 = .ok (.iconst 0, 1) := dk_3 (dk_at dksX0_takesLack_0 2 rfl rfl)
theorem dX0_takesLack_3 : decode cX0_takesLack 3 = .ok (.istore_n 2, 1) := dk_61 (dk_at dksX0_takesLack_0 3 rfl rfl)
theorem dX0_takesLack_4 : decode cX0_takesLack 4 = .ok (.iconst 0, 1) := dk_3 (dk_at dksX0_takesLack_0 4 rfl rfl)
theorem dX0_takesLack_5 : decode cX0_takesLack 5 = .ok (.istore_n 3, 1) := dk_62 (dk_at dksX0_takesLack_0 5 rfl rfl)
theorem dX0_takesLack_6 : decode cX0_takesLack 6 = .ok (.iload_n 3, 1) := dk_29 (dk_at dksX0_takesLack_0 6 rfl rfl)
theorem dX0_takesLack_7 : decode cX0_takesLack 7 = .ok (.bipush 10, 2) := dk_16 10 (dk_at dksX0_takesLack_0 7 rfl rfl)
theorem dX0_takesLack_9 : decode cX0_takesLack 9 = .ok (.if_icmp .ge 68, 3) := dk_162 0 68 (dk_at dksX0_takesLack_0 9 rfl rfl)
theorem dX0_takesLack_12 : decode cX0_takesLack 12 = .ok (.iconst 0, 1) := dk_3 (dk_at dksX0_takesLack_0 12 rfl rfl)
theorem dX0_takesLack_13 : decode cX0_takesLack 13 = .ok (.istore 4, 2) := dk_54 4 (dk_at dksX0_takesLack_0 13 rfl rfl)
theorem dX0_takesLack_15 : decode cX0_takesLack 15 = .ok (.iload 4, 2) := dk_21 4 (dk_at dksX0_takesLack_0 15 rfl rfl)
theorem dX0_takesLack_17 : decode cX0_takesLack 17 = .ok (.aload_n 0, 1) := dk_42 (dk_at dksX0_takesLack_0 17 rfl rfl)
theorem dX0_takesLack_18 : decode cX0_takesLack 18 = .ok (.iload_n 3, 1) := dk_29 (dk_at dksX0_takesLack_0 18 rfl rfl)
theorem dX0_takesLack_19 : decode cX0_takesLack 19 = .ok (.invokevirtual 251, 3) := dk_182 0 251 (dk_at dksX0_takesLack_0 19 rfl rfl)
theorem dX0_takesLack_22 : decode cX0_takesLack 22 = .ok (.if_icmp .ge 19, 3) := dk_162 0 19 (dk_at dksX0_takesLack_1 0 rfl rfl)
theorem dX0_takesLack_25 : decode cX0_takesLack 25 = .ok (.aload_n 0, 1) := dk_42 (dk_at dksX0_takesLack_1 3 rfl rfl)
theorem dX0_takesLack_26 : decode cX0_takesLack 26 = .ok (.getfield 105, 3) := dk_180 0 105 (dk_at dksX0_takesLack_1 4 rfl rfl)
theorem dX0_takesLack_29 : decode cX0_takesLack 29 = .ok (.iload_n 1, 1) := dk_27 (dk_at dksX0_takesLack_1 7 rfl rfl)
theorem dX0_takesLack_30 : decode cX0_takesLack 30 = .ok (.iload_n 3, 1) := dk_29 (dk_at dksX0_takesLack_1 8 rfl rfl)
theorem dX0_takesLack_31 : decode cX0_takesLack 31 = .ok (.iastore, 1) := dk_79 (dk_at dksX0_takesLack_1 9 rfl rfl)
theorem dX0_takesLack_32 : decode cX0_takesLack 32 = .ok (.iinc 1 1, 3) := dk_132 1 1 (dk_at dksX0_takesLack_1 10 rfl rfl)
theorem dX0_takesLack_35 : decode cX0_takesLack 35 = .ok (.iinc 4 1, 3) := dk_132 4 1 (dk_at dksX0_takesLack_1 13 rfl rfl)
theorem dX0_takesLack_38 : decode cX0_takesLack 38 = .ok (.goto (-23), 3) := dk_167 255 233 (dk_at dksX0_takesLack_1 16 rfl rfl)
theorem dX0_takesLack_41 : decode cX0_takesLack 41 = .ok (.iconst 0, 1) := dk_3 (dk_at dksX0_takesLack_1 19 rfl rfl)
theorem dX0_takesLack_42 : decode cX0_takesLack 42 = .ok (.istore 4, 2) := dk_54 4 (dk_at dksX0_takesLack_1 20 rfl rfl)
theorem dX0_takesLack_44 : decode cX0_takesLack 44 = .ok (.iload 4, 2) := dk_21 4 (dk_at dksX0_takesLack_1 22 rfl rfl)
theorem dX0_takesLack_46 : decode cX0_takesLack 46 = .ok (.aload_n 0, 1) := dk_42 (dk_at dksX0_takesLack_2 0 rfl rfl)
theorem dX0_takesLack_47 : decode cX0_takesLack 47 = .ok (.iload_n 3, 1) := dk_29 (dk_at dksX0_takesLack_2 1 rfl rfl)
theorem dX0_takesLack_48 : decode cX0_takesLack 48 = .ok (.invokevirtual 251, 3) := dk_182 0 251 (dk_at dksX0_takesLack_2 2 rfl rfl)
theorem dX0_takesLack_51 : decode cX0_takesLack 51 = .ok (.ineg, 1) := dk_116 (dk_at dksX0_takesLack_2 5 rfl rfl)
theorem dX0_takesLack_52 : decode cX0_takesLack 52 = .ok (.if_icmp .ge 19, 3) := dk_162 0 19 (dk_at dksX0_takesLack_2 6 rfl rfl)
theorem dX0_takesLack_55 : decode cX0_takesLack 55 = .ok (.aload_n 0, 1) := dk_42 (dk_at dksX0_takesLack_2 9 rfl rfl)
theorem dX0_takesLack_56 : decode cX0_takesLack 56 = .ok (.getfield 108, 3) := dk_180 0 108 (dk_at dksX0_takesLack_2 10 rfl rfl)
theorem dX0_takesLack_59 : decode cX0_takesLack 59 = .ok (.iload_n 2, 1) := dk_28 (dk_at dksX0_takesLack_2 13 rfl rfl)
theorem dX0_takesLack_60 : decode cX0_takesLack 60 = .ok (.iload_n 3, 1) := dk_29 (dk_at dksX0_takesLack_2 14 rfl rfl)
theorem dX0_takesLack_61 : decode cX0_takesLack 61 = .ok (.iastore, 1) := dk_79 (dk_at dksX0_takesLack_2 15 rfl rfl)
theorem dX0_takesLack_62 : decode cX0_takesLack 62 = .ok (.iinc 2 1, 3) := dk_132 2 1 (dk_at dksX0_takesLack_2 16 rfl rfl)
theorem dX0_takesLack_65 : decode cX0_takesLack 65 = .ok (.iinc 4 1, 3) := dk_132 4 1 (dk_at dksX0_takesLack_2 19 rfl rfl)
theorem dX0_takesLack_68 : decode cX0_takesLack 68 = .ok (.goto (-24), 3) := dk_167 255 232 (dk_at dksX0_takesLack_3 0 rfl rfl)
theorem dX0_takesLack_71 : decode cX0_takesLack 71 = .ok (.iinc 3 1, 3) := dk_132 3 1 (dk_at dksX0_takesLack_3 3 rfl rfl)
theorem dX0_takesLack_74 : decode cX0_takesLack 74 = .ok (.goto (-68), 3) := dk_167 255 188 (dk_at dksX0_takesLack_3 6 rfl rfl)
theorem dX0_takesLack_77 : decode cX0_takesLack 77 = .ok (.return_, 1) := dk_177 (dk_at dksX0_takesLack_3 9 rfl rfl)
abbrev cX0_evens : ByteArray := prog_1_method_36_code
def yX0_evens : MethodName := ⟨RX0, "evens", "(IIII)V"⟩
def dkwX0_evens_5 : List UInt8 := [182, 0, 254, 132, 5, 1, 167, 255, 188, 177]
abbrev dktX0_evens_5 : List UInt8 := dkwX0_evens_5 ++ []
def dkwX0_evens_4 : List UInt8 := [21, 5, 120, 128, 21, 4, 42, 42, 180, 0, 105, 27, 46, 42, 180, 0, 108, 21, 5, 46, 182, 0, 177, 96]
abbrev dktX0_evens_4 : List UInt8 := dkwX0_evens_4 ++ dktX0_evens_5
def dkwX0_evens_3 : List UInt8 := [167, 0, 50, 42, 180, 0, 94, 27, 42, 180, 0, 108, 21, 5, 46, 79, 42, 27, 4, 96, 28, 29, 4]
abbrev dktX0_evens_3 : List UInt8 := dkwX0_evens_3 ++ dktX0_evens_4
def dkwX0_evens_2 : List UInt8 := [167, 255, 233, 177, 3, 54, 5, 21, 5, 28, 162, 0, 68, 29, 21, 5, 184, 0, 23, 153, 0, 6]
abbrev dktX0_evens_2 : List UInt8 := dkwX0_evens_2 ++ dktX0_evens_3
def dkwX0_evens_1 : List UInt8 := [21, 5, 28, 162, 0, 23, 42, 180, 0, 97, 21, 5, 42, 180, 0, 94, 21, 5, 46, 79, 132, 5, 1]
abbrev dktX0_evens_1 : List UInt8 := dkwX0_evens_1 ++ dktX0_evens_2
def dkwX0_evens_0 : List UInt8 := [21, 4, 42, 180, 0, 239, 161, 0, 4, 177, 27, 28, 160, 0, 39, 42, 21, 4, 181, 0, 239, 3, 54, 5]
abbrev dktX0_evens_0 : List UInt8 := dkwX0_evens_0 ++ dktX0_evens_1
theorem dksX0_evens_0 : cX0_evens.data.toList.drop 0 = dktX0_evens_0 := by decide +kernel
theorem dksX0_evens_1 : cX0_evens.data.toList.drop 24 = dktX0_evens_1 := dk_seg dksX0_evens_0 24 rfl rfl
theorem dksX0_evens_2 : cX0_evens.data.toList.drop 47 = dktX0_evens_2 := dk_seg dksX0_evens_1 23 rfl rfl
theorem dksX0_evens_3 : cX0_evens.data.toList.drop 69 = dktX0_evens_3 := dk_seg dksX0_evens_2 22 rfl rfl
theorem dksX0_evens_4 : cX0_evens.data.toList.drop 92 = dktX0_evens_4 := dk_seg dksX0_evens_3 23 rfl rfl
theorem dksX0_evens_5 : cX0_evens.data.toList.drop 116 = dktX0_evens_5 := dk_seg dksX0_evens_4 24 rfl rfl
theorem dX0_evens_0 : decode cX0_evens 0 = .ok (.iload 4, 2) := dk_21 4 (dk_at dksX0_evens_0 0 rfl rfl)
theorem dX0_evens_2 : decode cX0_evens 2 = .ok (.aload_n 0, 1) := dk_42 (dk_at dksX0_evens_0 2 rfl rfl)
theorem dX0_evens_3 : decode cX0_evens 3 = .ok (.getfield 239, 3) := dk_180 0 239 (dk_at dksX0_evens_0 3 rfl rfl)
theorem dX0_evens_6 : decode cX0_evens 6 = .ok (.if_icmp .lt 4, 3) := dk_161 0 4 (dk_at dksX0_evens_0 6 rfl rfl)
theorem dX0_evens_9 : decode cX0_evens 9 = .ok (.return_, 1) := dk_177 (dk_at dksX0_evens_0 9 rfl rfl)
theorem dX0_evens_10 : decode cX0_evens 10 = .ok (.iload_n 1, 1) := dk_27 (dk_at dksX0_evens_0 10 rfl rfl)
theorem dX0_evens_11 : decode cX0_evens 11 = .ok (.iload_n 2, 1) := dk_28 (dk_at dksX0_evens_0 11 rfl rfl)
theorem dX0_evens_12 : decode cX0_evens 12 = .ok (.if_icmp .ne 39, 3) := dk_160 0 39 (dk_at dksX0_evens_0 12 rfl rfl)
theorem dX0_evens_15 : decode cX0_evens 15 = .ok (.aload_n 0, 1) := dk_42 (dk_at dksX0_evens_0 15 rfl rfl)
theorem dX0_evens_16 : decode cX0_evens 16 = .ok (.iload 4, 2) := dk_21 4 (dk_at dksX0_evens_0 16 rfl rfl)
theorem dX0_evens_18 : decode cX0_evens 18 = .ok (.putfield 239, 3) := dk_181 0 239 (dk_at dksX0_evens_0 18 rfl rfl)
theorem dX0_evens_21 : decode cX0_evens 21 = .ok (.iconst 0, 1) := dk_3 (dk_at dksX0_evens_0 21 rfl rfl)
theorem dX0_evens_22 : decode cX0_evens 22 = .ok (.istore 5, 2) := dk_54 5 (dk_at dksX0_evens_0 22 rfl rfl)
theorem dX0_evens_24 : decode cX0_evens 24 = .ok (.iload 5, 2) := dk_21 5 (dk_at dksX0_evens_1 0 rfl rfl)
theorem dX0_evens_26 : decode cX0_evens 26 = .ok (.iload_n 2, 1) := dk_28 (dk_at dksX0_evens_1 2 rfl rfl)
theorem dX0_evens_27 : decode cX0_evens 27 = .ok (.if_icmp .ge 23, 3) := dk_162 0 23 (dk_at dksX0_evens_1 3 rfl rfl)
theorem dX0_evens_30 : decode cX0_evens 30 = .ok (.aload_n 0, 1) := dk_42 (dk_at dksX0_evens_1 6 rfl rfl)
theorem dX0_evens_31 : decode cX0_evens 31 = .ok (.getfield 97, 3) := dk_180 0 97 (dk_at dksX0_evens_1 7 rfl rfl)
theorem dX0_evens_34 : decode cX0_evens 34 = .ok (.iload 5, 2) := dk_21 5 (dk_at dksX0_evens_1 10 rfl rfl)
theorem dX0_evens_36 : decode cX0_evens 36 = .ok (.aload_n 0, 1) := dk_42 (dk_at dksX0_evens_1 12 rfl rfl)
theorem dX0_evens_37 : decode cX0_evens 37 = .ok (.getfield 94, 3) := dk_180 0 94 (dk_at dksX0_evens_1 13 rfl rfl)
theorem dX0_evens_40 : decode cX0_evens 40 = .ok (.iload 5, 2) := dk_21 5 (dk_at dksX0_evens_1 16 rfl rfl)
theorem dX0_evens_42 : decode cX0_evens 42 = .ok (.iaload, 1) := dk_46 (dk_at dksX0_evens_1 18 rfl rfl)
theorem dX0_evens_43 : decode cX0_evens 43 = .ok (.iastore, 1) := dk_79 (dk_at dksX0_evens_1 19 rfl rfl)
theorem dX0_evens_44 : decode cX0_evens 44 = .ok (.iinc 5 1, 3) := dk_132 5 1 (dk_at dksX0_evens_1 20 rfl rfl)
theorem dX0_evens_47 : decode cX0_evens 47 = .ok (.goto (-23), 3) := dk_167 255 233 (dk_at dksX0_evens_2 0 rfl rfl)
theorem dX0_evens_50 : decode cX0_evens 50 = .ok (.return_, 1) := dk_177 (dk_at dksX0_evens_2 3 rfl rfl)
theorem dX0_evens_51 : decode cX0_evens 51 = .ok (.iconst 0, 1) := dk_3 (dk_at dksX0_evens_2 4 rfl rfl)
theorem dX0_evens_52 : decode cX0_evens 52 = .ok (.istore 5, 2) := dk_54 5 (dk_at dksX0_evens_2 5 rfl rfl)
theorem dX0_evens_54 : decode cX0_evens 54 = .ok (.iload 5, 2) := dk_21 5 (dk_at dksX0_evens_2 7 rfl rfl)
theorem dX0_evens_56 : decode cX0_evens 56 = .ok (.iload_n 2, 1) := dk_28 (dk_at dksX0_evens_2 9 rfl rfl)
theorem dX0_evens_57 : decode cX0_evens 57 = .ok (.if_icmp .ge 68, 3) := dk_162 0 68 (dk_at dksX0_evens_2 10 rfl rfl)
theorem dX0_evens_60 : decode cX0_evens 60 = .ok (.iload_n 3, 1) := dk_29 (dk_at dksX0_evens_2 13 rfl rfl)
theorem dX0_evens_61 : decode cX0_evens 61 = .ok (.iload 5, 2) := dk_21 5 (dk_at dksX0_evens_2 14 rfl rfl)
theorem dX0_evens_63 : decode cX0_evens 63 = .ok (.invokestatic 23, 3) := dk_184 0 23 (dk_at dksX0_evens_2 16 rfl rfl)
theorem dX0_evens_66 : decode cX0_evens 66 = .ok (.ifCond .eq 6, 3) := dk_153 0 6 (dk_at dksX0_evens_2 19 rfl rfl)
theorem dX0_evens_69 : decode cX0_evens 69 = .ok (.goto 50, 3) := dk_167 0 50 (dk_at dksX0_evens_3 0 rfl rfl)
theorem dX0_evens_72 : decode cX0_evens 72 = .ok (.aload_n 0, 1) := dk_42 (dk_at dksX0_evens_3 3 rfl rfl)
theorem dX0_evens_73 : decode cX0_evens 73 = .ok (.getfield 94, 3) := dk_180 0 94 (dk_at dksX0_evens_3 4 rfl rfl)
theorem dX0_evens_76 : decode cX0_evens 76 = .ok (.iload_n 1, 1) := dk_27 (dk_at dksX0_evens_3 7 rfl rfl)
theorem dX0_evens_77 : decode cX0_evens 77 = .ok (.aload_n 0, 1) := dk_42 (dk_at dksX0_evens_3 8 rfl rfl)
theorem dX0_evens_78 : decode cX0_evens 78 = .ok (.getfield 108, 3) := dk_180 0 108 (dk_at dksX0_evens_3 9 rfl rfl)
theorem dX0_evens_81 : decode cX0_evens 81 = .ok (.iload 5, 2) := dk_21 5 (dk_at dksX0_evens_3 12 rfl rfl)
theorem dX0_evens_83 : decode cX0_evens 83 = .ok (.iaload, 1) := dk_46 (dk_at dksX0_evens_3 14 rfl rfl)
theorem dX0_evens_84 : decode cX0_evens 84 = .ok (.iastore, 1) := dk_79 (dk_at dksX0_evens_3 15 rfl rfl)
theorem dX0_evens_85 : decode cX0_evens 85 = .ok (.aload_n 0, 1) := dk_42 (dk_at dksX0_evens_3 16 rfl rfl)
theorem dX0_evens_86 : decode cX0_evens 86 = .ok (.iload_n 1, 1) := dk_27 (dk_at dksX0_evens_3 17 rfl rfl)
theorem dX0_evens_87 : decode cX0_evens 87 = .ok (.iconst 1, 1) := dk_4 (dk_at dksX0_evens_3 18 rfl rfl)
theorem dX0_evens_88 : decode cX0_evens 88 = .ok (.iadd, 1) := dk_96 (dk_at dksX0_evens_3 19 rfl rfl)
theorem dX0_evens_89 : decode cX0_evens 89 = .ok (.iload_n 2, 1) := dk_28 (dk_at dksX0_evens_3 20 rfl rfl)
theorem dX0_evens_90 : decode cX0_evens 90 = .ok (.iload_n 3, 1) := dk_29 (dk_at dksX0_evens_3 21 rfl rfl)
theorem dX0_evens_91 : decode cX0_evens 91 = .ok (.iconst 1, 1) := dk_4 (dk_at dksX0_evens_3 22 rfl rfl)
theorem dX0_evens_92 : decode cX0_evens 92 = .ok (.iload 5, 2) := dk_21 5 (dk_at dksX0_evens_4 0 rfl rfl)
theorem dX0_evens_94 : decode cX0_evens 94 = .ok (.ishl, 1) := dk_120 (dk_at dksX0_evens_4 2 rfl rfl)
theorem dX0_evens_95 : decode cX0_evens 95 = .ok (.ior, 1) := dk_128 (dk_at dksX0_evens_4 3 rfl rfl)
theorem dX0_evens_96 : decode cX0_evens 96 = .ok (.iload 4, 2) := dk_21 4 (dk_at dksX0_evens_4 4 rfl rfl)
theorem dX0_evens_98 : decode cX0_evens 98 = .ok (.aload_n 0, 1) := dk_42 (dk_at dksX0_evens_4 6 rfl rfl)
theorem dX0_evens_99 : decode cX0_evens 99 = .ok (.aload_n 0, 1) := dk_42 (dk_at dksX0_evens_4 7 rfl rfl)
theorem dX0_evens_100 : decode cX0_evens 100 = .ok (.getfield 105, 3) := dk_180 0 105 (dk_at dksX0_evens_4 8 rfl rfl)
theorem dX0_evens_103 : decode cX0_evens 103 = .ok (.iload_n 1, 1) := dk_27 (dk_at dksX0_evens_4 11 rfl rfl)
theorem dX0_evens_104 : decode cX0_evens 104 = .ok (.iaload, 1) := dk_46 (dk_at dksX0_evens_4 12 rfl rfl)
theorem dX0_evens_105 : decode cX0_evens 105 = .ok (.aload_n 0, 1) := dk_42 (dk_at dksX0_evens_4 13 rfl rfl)
theorem dX0_evens_106 : decode cX0_evens 106 = .ok (.getfield 108, 3) := dk_180 0 108 (dk_at dksX0_evens_4 14 rfl rfl)
theorem dX0_evens_109 : decode cX0_evens 109 = .ok (.iload 5, 2) := dk_21 5 (dk_at dksX0_evens_4 17 rfl rfl)
theorem dX0_evens_111 : decode cX0_evens 111 = .ok (.iaload, 1) := dk_46 (dk_at dksX0_evens_4 19 rfl rfl)
theorem dX0_evens_112 : decode cX0_evens 112 = .ok (.invokevirtual 177, 3) := dk_182 0 177 (dk_at dksX0_evens_4 20 rfl rfl)
theorem dX0_evens_115 : decode cX0_evens 115 = .ok (.iadd, 1) := dk_96 (dk_at dksX0_evens_4 23 rfl rfl)
theorem dX0_evens_116 : decode cX0_evens 116 = .ok (.invokevirtual 254, 3) := dk_182 0 254 (dk_at dksX0_evens_5 0 rfl rfl)
theorem dX0_evens_119 : decode cX0_evens 119 = .ok (.iinc 5 1, 3) := dk_132 5 1 (dk_at dksX0_evens_5 3 rfl rfl)
theorem dX0_evens_122 : decode cX0_evens 122 = .ok (.goto (-68), 3) := dk_167 255 188 (dk_at dksX0_evens_5 6 rfl rfl)
theorem dX0_evens_125 : decode cX0_evens 125 = .ok (.return_, 1) := dk_177 (dk_at dksX0_evens_5 9 rfl rfl)
abbrev cX0_turned : ByteArray := prog_1_method_40_code
def yX0_turned : MethodName := ⟨RX0, "turned", "(I)I"⟩
def dkwX0_turned_4 : List UInt8 := [154, 0, 10, 29, 184, 1, 11, 167, 0, 4, 29, 172]
abbrev dktX0_turned_4 : List UInt8 := dkwX0_turned_4 ++ []
def dkwX0_turned_3 : List UInt8 := [153, 0, 6, 21, 4, 62, 132, 4, 1, 167, 255, 215, 29, 2, 160, 0, 8, 16, 254, 167, 0, 15, 27]
abbrev dktX0_turned_3 : List UInt8 := dkwX0_turned_3 ++ dktX0_turned_4
def dkwX0_turned_2 : List UInt8 := [29, 2, 159, 0, 15, 21, 4, 184, 1, 11, 29, 184, 1, 11, 162, 0, 16, 42, 21, 4, 28, 182, 1, 16]
abbrev dktX0_turned_2 : List UInt8 := dkwX0_turned_2 ++ dktX0_turned_3
def dkwX0_turned_1 : List UInt8 := [164, 0, 6, 16, 253, 172, 42, 182, 1, 8, 61, 2, 62, 3, 54, 4, 21, 4, 4, 28, 120, 162, 0, 39]
abbrev dktX0_turned_1 : List UInt8 := dkwX0_turned_1 ++ dktX0_turned_2
def dkwX0_turned_0 : List UInt8 := [27, 5, 184, 0, 15, 154, 0, 5, 2, 172, 42, 180, 0, 66, 180, 0, 131, 182, 0, 199, 16, 12]
abbrev dktX0_turned_0 : List UInt8 := dkwX0_turned_0 ++ dktX0_turned_1
theorem dksX0_turned_0 : cX0_turned.data.toList.drop 0 = dktX0_turned_0 := by decide +kernel
theorem dksX0_turned_1 : cX0_turned.data.toList.drop 22 = dktX0_turned_1 := dk_seg dksX0_turned_0 22 rfl rfl
theorem dksX0_turned_2 : cX0_turned.data.toList.drop 46 = dktX0_turned_2 := dk_seg dksX0_turned_1 24 rfl rfl
theorem dksX0_turned_3 : cX0_turned.data.toList.drop 70 = dktX0_turned_3 := dk_seg dksX0_turned_2 24 rfl rfl
theorem dksX0_turned_4 : cX0_turned.data.toList.drop 93 = dktX0_turned_4 := dk_seg dksX0_turned_3 23 rfl rfl
theorem dX0_turned_0 : decode cX0_turned 0 = .ok (.iload_n 1, 1) := dk_27 (dk_at dksX0_turned_0 0 rfl rfl)
theorem dX0_turned_1 : decode cX0_turned 1 = .ok (.iconst 2, 1) := dk_5 (dk_at dksX0_turned_0 1 rfl rfl)
theorem dX0_turned_2 : decode cX0_turned 2 = .ok (.invokestatic 15, 3) := dk_184 0 15 (dk_at dksX0_turned_0 2 rfl rfl)
theorem dX0_turned_5 : decode cX0_turned 5 = .ok (.ifCond .ne 5, 3) := dk_154 0 5 (dk_at dksX0_turned_0 5 rfl rfl)
theorem dX0_turned_8 : decode cX0_turned 8 = .ok (.iconst (-1), 1) := dk_2 (dk_at dksX0_turned_0 8 rfl rfl)
theorem dX0_turned_9 : decode cX0_turned 9 = .ok (.ireturn, 1) := dk_172 (dk_at dksX0_turned_0 9 rfl rfl)
theorem dX0_turned_10 : decode cX0_turned 10 = .ok (.aload_n 0, 1) := dk_42 (dk_at dksX0_turned_0 10 rfl rfl)
theorem dX0_turned_11 : decode cX0_turned 11 = .ok (.getfield 66, 3) := dk_180 0 66 (dk_at dksX0_turned_0 11 rfl rfl)
theorem dX0_turned_14 : decode cX0_turned 14 = .ok (.getfield 131, 3) := dk_180 0 131 (dk_at dksX0_turned_0 14 rfl rfl)
theorem dX0_turned_17 : decode cX0_turned 17 = .ok (.invokevirtual 199, 3) := dk_182 0 199 (dk_at dksX0_turned_0 17 rfl rfl)
theorem dX0_turned_20 : decode cX0_turned 20 = .ok (.bipush 12, 2) := dk_16 12 (dk_at dksX0_turned_0 20 rfl rfl)
theorem dX0_turned_22 : decode cX0_turned 22 = .ok (.if_icmp .le 6, 3) := dk_164 0 6 (dk_at dksX0_turned_1 0 rfl rfl)
theorem dX0_turned_25 : decode cX0_turned 25 = .ok (.bipush (-3), 2) := dk_16 253 (dk_at dksX0_turned_1 3 rfl rfl)
theorem dX0_turned_27 : decode cX0_turned 27 = .ok (.ireturn, 1) := dk_172 (dk_at dksX0_turned_1 5 rfl rfl)
theorem dX0_turned_28 : decode cX0_turned 28 = .ok (.aload_n 0, 1) := dk_42 (dk_at dksX0_turned_1 6 rfl rfl)
theorem dX0_turned_29 : decode cX0_turned 29 = .ok (.invokevirtual 264, 3) := dk_182 1 8 (dk_at dksX0_turned_1 7 rfl rfl)
theorem dX0_turned_32 : decode cX0_turned 32 = .ok (.istore_n 2, 1) := dk_61 (dk_at dksX0_turned_1 10 rfl rfl)
theorem dX0_turned_33 : decode cX0_turned 33 = .ok (.iconst (-1), 1) := dk_2 (dk_at dksX0_turned_1 11 rfl rfl)
theorem dX0_turned_34 : decode cX0_turned 34 = .ok (.istore_n 3, 1) := dk_62 (dk_at dksX0_turned_1 12 rfl rfl)
theorem dX0_turned_35 : decode cX0_turned 35 = .ok (.iconst 0, 1) := dk_3 (dk_at dksX0_turned_1 13 rfl rfl)
theorem dX0_turned_36 : decode cX0_turned 36 = .ok (.istore 4, 2) := dk_54 4 (dk_at dksX0_turned_1 14 rfl rfl)
theorem dX0_turned_38 : decode cX0_turned 38 = .ok (.iload 4, 2) := dk_21 4 (dk_at dksX0_turned_1 16 rfl rfl)
theorem dX0_turned_40 : decode cX0_turned 40 = .ok (.iconst 1, 1) := dk_4 (dk_at dksX0_turned_1 18 rfl rfl)
theorem dX0_turned_41 : decode cX0_turned 41 = .ok (.iload_n 2, 1) := dk_28 (dk_at dksX0_turned_1 19 rfl rfl)
theorem dX0_turned_42 : decode cX0_turned 42 = .ok (.ishl, 1) := dk_120 (dk_at dksX0_turned_1 20 rfl rfl)
theorem dX0_turned_43 : decode cX0_turned 43 = .ok (.if_icmp .ge 39, 3) := dk_162 0 39 (dk_at dksX0_turned_1 21 rfl rfl)
theorem dX0_turned_46 : decode cX0_turned 46 = .ok (.iload_n 3, 1) := dk_29 (dk_at dksX0_turned_2 0 rfl rfl)
theorem dX0_turned_47 : decode cX0_turned 47 = .ok (.iconst (-1), 1) := dk_2 (dk_at dksX0_turned_2 1 rfl rfl)
theorem dX0_turned_48 : decode cX0_turned 48 = .ok (.if_icmp .eq 15, 3) := dk_159 0 15 (dk_at dksX0_turned_2 2 rfl rfl)
theorem dX0_turned_51 : decode cX0_turned 51 = .ok (.iload 4, 2) := dk_21 4 (dk_at dksX0_turned_2 5 rfl rfl)
theorem dX0_turned_53 : decode cX0_turned 53 = .ok (.invokestatic 267, 3) := dk_184 1 11 (dk_at dksX0_turned_2 7 rfl rfl)
theorem dX0_turned_56 : decode cX0_turned 56 = .ok (.iload_n 3, 1) := dk_29 (dk_at dksX0_turned_2 10 rfl rfl)
theorem dX0_turned_57 : decode cX0_turned 57 = .ok (.invokestatic 267, 3) := dk_184 1 11 (dk_at dksX0_turned_2 11 rfl rfl)
theorem dX0_turned_60 : decode cX0_turned 60 = .ok (.if_icmp .ge 16, 3) := dk_162 0 16 (dk_at dksX0_turned_2 14 rfl rfl)
theorem dX0_turned_63 : decode cX0_turned 63 = .ok (.aload_n 0, 1) := dk_42 (dk_at dksX0_turned_2 17 rfl rfl)
theorem dX0_turned_64 : decode cX0_turned 64 = .ok (.iload 4, 2) := dk_21 4 (dk_at dksX0_turned_2 18 rfl rfl)
theorem dX0_turned_66 : decode cX0_turned 66 = .ok (.iload_n 2, 1) := dk_28 (dk_at dksX0_turned_2 20 rfl rfl)
theorem dX0_turned_67 : decode cX0_turned 67 = .ok (.invokevirtual 272, 3) := dk_182 1 16 (dk_at dksX0_turned_2 21 rfl rfl)
theorem dX0_turned_70 : decode cX0_turned 70 = .ok (.ifCond .eq 6, 3) := dk_153 0 6 (dk_at dksX0_turned_3 0 rfl rfl)
theorem dX0_turned_73 : decode cX0_turned 73 = .ok (.iload 4, 2) := dk_21 4 (dk_at dksX0_turned_3 3 rfl rfl)
theorem dX0_turned_75 : decode cX0_turned 75 = .ok (.istore_n 3, 1) := dk_62 (dk_at dksX0_turned_3 5 rfl rfl)
theorem dX0_turned_76 : decode cX0_turned 76 = .ok (.iinc 4 1, 3) := dk_132 4 1 (dk_at dksX0_turned_3 6 rfl rfl)
theorem dX0_turned_79 : decode cX0_turned 79 = .ok (.goto (-41), 3) := dk_167 255 215 (dk_at dksX0_turned_3 9 rfl rfl)
theorem dX0_turned_82 : decode cX0_turned 82 = .ok (.iload_n 3, 1) := dk_29 (dk_at dksX0_turned_3 12 rfl rfl)
theorem dX0_turned_83 : decode cX0_turned 83 = .ok (.iconst (-1), 1) := dk_2 (dk_at dksX0_turned_3 13 rfl rfl)
theorem dX0_turned_84 : decode cX0_turned 84 = .ok (.if_icmp .ne 8, 3) := dk_160 0 8 (dk_at dksX0_turned_3 14 rfl rfl)
theorem dX0_turned_87 : decode cX0_turned 87 = .ok (.bipush (-2), 2) := dk_16 254 (dk_at dksX0_turned_3 17 rfl rfl)
theorem dX0_turned_89 : decode cX0_turned 89 = .ok (.goto 15, 3) := dk_167 0 15 (dk_at dksX0_turned_3 19 rfl rfl)
theorem dX0_turned_92 : decode cX0_turned 92 = .ok (.iload_n 1, 1) := dk_27 (dk_at dksX0_turned_3 22 rfl rfl)
theorem dX0_turned_93 : decode cX0_turned 93 = .ok (.ifCond .ne 10, 3) := dk_154 0 10 (dk_at dksX0_turned_4 0 rfl rfl)
theorem dX0_turned_96 : decode cX0_turned 96 = .ok (.iload_n 3, 1) := dk_29 (dk_at dksX0_turned_4 3 rfl rfl)
theorem dX0_turned_97 : decode cX0_turned 97 = .ok (.invokestatic 267, 3) := dk_184 1 11 (dk_at dksX0_turned_4 4 rfl rfl)
theorem dX0_turned_100 : decode cX0_turned 100 = .ok (.goto 4, 3) := dk_167 0 4 (dk_at dksX0_turned_4 7 rfl rfl)
theorem dX0_turned_103 : decode cX0_turned 103 = .ok (.iload_n 3, 1) := dk_29 (dk_at dksX0_turned_4 10 rfl rfl)
theorem dX0_turned_104 : decode cX0_turned 104 = .ok (.ireturn, 1) := dk_172 (dk_at dksX0_turned_4 11 rfl rfl)
abbrev cX0_takesDebts : ByteArray := prog_1_method_38_code
def yX0_takesDebts : MethodName := ⟨RX0, "takesDebts", "()I"⟩
def dkwX0_takesDebts_3 : List UInt8 := [167, 255, 188, 27, 172]
abbrev dktX0_takesDebts_3 : List UInt8 := dkwX0_takesDebts_3 ++ []
def dkwX0_takesDebts_2 : List UInt8 := [180, 0, 114, 27, 29, 79, 132, 1, 1, 132, 4, 1, 167, 255, 217, 132, 3, 1, 167, 255, 202, 132, 2, 1]
abbrev dktX0_takesDebts_2 : List UInt8 := dkwX0_takesDebts_2 ++ dktX0_takesDebts_3
def dkwX0_takesDebts_1 : List UInt8 := [180, 0, 66, 180, 0, 131, 180, 0, 134, 28, 50, 29, 46, 162, 0, 26, 42, 180, 0, 111, 27, 28, 79, 42]
abbrev dktX0_takesDebts_1 : List UInt8 := dkwX0_takesDebts_1 ++ dktX0_takesDebts_2
def dkwX0_takesDebts_0 : List UInt8 := [3, 60, 3, 61, 28, 16, 10, 162, 0, 68, 3, 62, 29, 16, 10, 162, 0, 54, 3, 54, 4, 21, 4, 42]
abbrev dktX0_takesDebts_0 : List UInt8 := dkwX0_takesDebts_0 ++ dktX0_takesDebts_1
theorem dksX0_takesDebts_0 : cX0_takesDebts.data.toList.drop 0 = dktX0_takesDebts_0 := by decide +kernel
theorem dksX0_takesDebts_1 : cX0_takesDebts.data.toList.drop 24 = dktX0_takesDebts_1 := dk_seg dksX0_takesDebts_0 24 rfl rfl
theorem dksX0_takesDebts_2 : cX0_takesDebts.data.toList.drop 48 = dktX0_takesDebts_2 := dk_seg dksX0_takesDebts_1 24 rfl rfl
theorem dksX0_takesDebts_3 : cX0_takesDebts.data.toList.drop 72 = dktX0_takesDebts_3 := dk_seg dksX0_takesDebts_2 24 rfl rfl
theorem dX0_takesDebts_0 : decode cX0_takesDebts 0 = .ok (.iconst 0, 1) := dk_3 (dk_at dksX0_takesDebts_0 0 rfl rfl)
theorem dX0_takesDebts_1 : decode cX0_takesDebts 1 = .ok (.istore_n 1, 1) := dk_60 (dk_at dksX0_takesDebts_0 1 rfl rfl)
theorem dX0_takesDebts_2 : decode cX0_takesDebts 2 = .ok (.iconst 0, 1) := dk_3 (dk_at dksX0_takesDebts_0 2 rfl rfl)
theorem dX0_takesDebts_3 : decode cX0_takesDebts 3 = .ok (.istore_n 2, 1) := dk_61 (dk_at dksX0_takesDebts_0 3 rfl rfl)
theorem dX0_takesDebts_4 : decode cX0_takesDebts 4 = .ok (.iload_n 2, 1) := dk_28 (dk_at dksX0_takesDebts_0 4 rfl rfl)
theorem dX0_takesDebts_5 : decode cX0_takesDebts 5 = .ok (.bipush 10, 2) := dk_16 10 (dk_at dksX0_takesDebts_0 5 rfl rfl)
theorem dX0_takesDebts_7 : decode cX0_takesDebts 7 = .ok (.if_icmp .ge 68, 3) := dk_162 0 68 (dk_at dksX0_takesDebts_0 7 rfl rfl)
theorem dX0_takesDebts_10 : decode cX0_takesDebts 10 = .ok (.iconst 0, 1) := dk_3 (dk_at dksX0_takesDebts_0 10 rfl rfl)
theorem dX0_takesDebts_11 : decode cX0_takesDebts 11 = .ok (.istore_n 3, 1) := dk_62 (dk_at dksX0_takesDebts_0 11 rfl rfl)
theorem dX0_takesDebts_12 : decode cX0_takesDebts 12 = .ok (.iload_n 3, 1) := dk_29 (dk_at dksX0_takesDebts_0 12 rfl rfl)
theorem dX0_takesDebts_13 : decode cX0_takesDebts 13 = .ok (.bipush 10, 2) := dk_16 10 (dk_at dksX0_takesDebts_0 13 rfl rfl)
theorem dX0_takesDebts_15 : decode cX0_takesDebts 15 = .ok (.if_icmp .ge 54, 3) := dk_162 0 54 (dk_at dksX0_takesDebts_0 15 rfl rfl)
theorem dX0_takesDebts_18 : decode cX0_takesDebts 18 = .ok (.iconst 0, 1) := dk_3 (dk_at dksX0_takesDebts_0 18 rfl rfl)
theorem dX0_takesDebts_19 : decode cX0_takesDebts 19 = .ok (.istore 4, 2) := dk_54 4 (dk_at dksX0_takesDebts_0 19 rfl rfl)
theorem dX0_takesDebts_21 : decode cX0_takesDebts 21 = .ok (.iload 4, 2) := dk_21 4 (dk_at dksX0_takesDebts_0 21 rfl rfl)
theorem dX0_takesDebts_23 : decode cX0_takesDebts 23 = .ok (.aload_n 0, 1) := dk_42 (dk_at dksX0_takesDebts_0 23 rfl rfl)
theorem dX0_takesDebts_24 : decode cX0_takesDebts 24 = .ok (.getfield 66, 3) := dk_180 0 66 (dk_at dksX0_takesDebts_1 0 rfl rfl)
theorem dX0_takesDebts_27 : decode cX0_takesDebts 27 = .ok (.getfield 131, 3) := dk_180 0 131 (dk_at dksX0_takesDebts_1 3 rfl rfl)
theorem dX0_takesDebts_30 : decode cX0_takesDebts 30 = .ok (.getfield 134, 3) := dk_180 0 134 (dk_at dksX0_takesDebts_1 6 rfl rfl)
theorem dX0_takesDebts_33 : decode cX0_takesDebts 33 = .ok (.iload_n 2, 1) := dk_28 (dk_at dksX0_takesDebts_1 9 rfl rfl)
theorem dX0_takesDebts_34 : decode cX0_takesDebts 34 = .ok (.aaload, 1) := dk_50 (dk_at dksX0_takesDebts_1 10 rfl rfl)
theorem dX0_takesDebts_35 : decode cX0_takesDebts 35 = .ok (.iload_n 3, 1) := dk_29 (dk_at dksX0_takesDebts_1 11 rfl rfl)
theorem dX0_takesDebts_36 : decode cX0_takesDebts 36 = .ok (.iaload, 1) := dk_46 (dk_at dksX0_takesDebts_1 12 rfl rfl)
theorem dX0_takesDebts_37 : decode cX0_takesDebts 37 = .ok (.if_icmp .ge 26, 3) := dk_162 0 26 (dk_at dksX0_takesDebts_1 13 rfl rfl)
theorem dX0_takesDebts_40 : decode cX0_takesDebts 40 = .ok (.aload_n 0, 1) := dk_42 (dk_at dksX0_takesDebts_1 16 rfl rfl)
theorem dX0_takesDebts_41 : decode cX0_takesDebts 41 = .ok (.getfield 111, 3) := dk_180 0 111 (dk_at dksX0_takesDebts_1 17 rfl rfl)
theorem dX0_takesDebts_44 : decode cX0_takesDebts 44 = .ok (.iload_n 1, 1) := dk_27 (dk_at dksX0_takesDebts_1 20 rfl rfl)
theorem dX0_takesDebts_45 : decode cX0_takesDebts 45 = .ok (.iload_n 2, 1) := dk_28 (dk_at dksX0_takesDebts_1 21 rfl rfl)
theorem dX0_takesDebts_46 : decode cX0_takesDebts 46 = .ok (.iastore, 1) := dk_79 (dk_at dksX0_takesDebts_1 22 rfl rfl)
theorem dX0_takesDebts_47 : decode cX0_takesDebts 47 = .ok (.aload_n 0, 1) := dk_42 (dk_at dksX0_takesDebts_1 23 rfl rfl)
theorem dX0_takesDebts_48 : decode cX0_takesDebts 48 = .ok (.getfield 114, 3) := dk_180 0 114 (dk_at dksX0_takesDebts_2 0 rfl rfl)
theorem dX0_takesDebts_51 : decode cX0_takesDebts 51 = .ok (.iload_n 1, 1) := dk_27 (dk_at dksX0_takesDebts_2 3 rfl rfl)
theorem dX0_takesDebts_52 : decode cX0_takesDebts 52 = .ok (.iload_n 3, 1) := dk_29 (dk_at dksX0_takesDebts_2 4 rfl rfl)
theorem dX0_takesDebts_53 : decode cX0_takesDebts 53 = .ok (.iastore, 1) := dk_79 (dk_at dksX0_takesDebts_2 5 rfl rfl)
theorem dX0_takesDebts_54 : decode cX0_takesDebts 54 = .ok (.iinc 1 1, 3) := dk_132 1 1 (dk_at dksX0_takesDebts_2 6 rfl rfl)
theorem dX0_takesDebts_57 : decode cX0_takesDebts 57 = .ok (.iinc 4 1, 3) := dk_132 4 1 (dk_at dksX0_takesDebts_2 9 rfl rfl)
theorem dX0_takesDebts_60 : decode cX0_takesDebts 60 = .ok (.goto (-39), 3) := dk_167 255 217 (dk_at dksX0_takesDebts_2 12 rfl rfl)
theorem dX0_takesDebts_63 : decode cX0_takesDebts 63 = .ok (.iinc 3 1, 3) := dk_132 3 1 (dk_at dksX0_takesDebts_2 15 rfl rfl)
theorem dX0_takesDebts_66 : decode cX0_takesDebts 66 = .ok (.goto (-54), 3) := dk_167 255 202 (dk_at dksX0_takesDebts_2 18 rfl rfl)
theorem dX0_takesDebts_69 : decode cX0_takesDebts 69 = .ok (.iinc 2 1, 3) := dk_132 2 1 (dk_at dksX0_takesDebts_2 21 rfl rfl)
theorem dX0_takesDebts_72 : decode cX0_takesDebts 72 = .ok (.goto (-68), 3) := dk_167 255 188 (dk_at dksX0_takesDebts_3 0 rfl rfl)
theorem dX0_takesDebts_75 : decode cX0_takesDebts 75 = .ok (.iload_n 1, 1) := dk_27 (dk_at dksX0_takesDebts_3 3 rfl rfl)
theorem dX0_takesDebts_76 : decode cX0_takesDebts 76 = .ok (.ireturn, 1) := dk_172 (dk_at dksX0_takesDebts_3 4 rfl rfl)
abbrev cX0_isEvenBy : ByteArray := prog_1_method_39_code
def yX0_isEvenBy : MethodName := ⟨RX0, "isEvenBy", "(II)Z"⟩
def dkwX0_isEvenBy_3 : List UInt8 := [54, 4, 132, 5, 1, 167, 255, 196, 21, 4, 153, 0, 5, 3, 172, 132, 3, 1, 167, 255, 171, 4, 172]
abbrev dktX0_isEvenBy_3 : List UInt8 := dkwX0_isEvenBy_3 ++ []
def dkwX0_isEvenBy_2 : List UInt8 := [160, 0, 7, 2, 167, 0, 4, 3, 27, 21, 5, 184, 0, 23, 153, 0, 7, 2, 167, 0, 4, 4, 104, 96]
abbrev dktX0_isEvenBy_2 : List UInt8 := dkwX0_isEvenBy_2 ++ dktX0_isEvenBy_3
def dkwX0_isEvenBy_1 : List UInt8 := [180, 0, 114, 21, 5, 46, 29, 160, 0, 7, 4, 167, 0, 19, 42, 180, 0, 111, 21, 5, 46, 29]
abbrev dktX0_isEvenBy_1 : List UInt8 := dkwX0_isEvenBy_1 ++ dktX0_isEvenBy_2
def dkwX0_isEvenBy_0 : List UInt8 := [3, 62, 29, 16, 10, 162, 0, 85, 3, 54, 4, 3, 54, 5, 21, 5, 28, 162, 0, 60, 21, 4, 42]
abbrev dktX0_isEvenBy_0 : List UInt8 := dkwX0_isEvenBy_0 ++ dktX0_isEvenBy_1
theorem dksX0_isEvenBy_0 : cX0_isEvenBy.data.toList.drop 0 = dktX0_isEvenBy_0 := by decide +kernel
theorem dksX0_isEvenBy_1 : cX0_isEvenBy.data.toList.drop 23 = dktX0_isEvenBy_1 := dk_seg dksX0_isEvenBy_0 23 rfl rfl
theorem dksX0_isEvenBy_2 : cX0_isEvenBy.data.toList.drop 45 = dktX0_isEvenBy_2 := dk_seg dksX0_isEvenBy_1 22 rfl rfl
theorem dksX0_isEvenBy_3 : cX0_isEvenBy.data.toList.drop 69 = dktX0_isEvenBy_3 := dk_seg dksX0_isEvenBy_2 24 rfl rfl
theorem dX0_isEvenBy_0 : decode cX0_isEvenBy 0 = .ok (.iconst 0, 1) := dk_3 (dk_at dksX0_isEvenBy_0 0 rfl rfl)
theorem dX0_isEvenBy_1 : decode cX0_isEvenBy 1 = .ok (.istore_n 3, 1) := dk_62 (dk_at dksX0_isEvenBy_0 1 rfl rfl)
theorem dX0_isEvenBy_2 : decode cX0_isEvenBy 2 = .ok (.iload_n 3, 1) := dk_29 (dk_at dksX0_isEvenBy_0 2 rfl rfl)
theorem dX0_isEvenBy_3 : decode cX0_isEvenBy 3 = .ok (.bipush 10, 2) := dk_16 10 (dk_at dksX0_isEvenBy_0 3 rfl rfl)
theorem dX0_isEvenBy_5 : decode cX0_isEvenBy 5 = .ok (.if_icmp .ge 85, 3) := dk_162 0 85 (dk_at dksX0_isEvenBy_0 5 rfl rfl)
theorem dX0_isEvenBy_8 : decode cX0_isEvenBy 8 = .ok (.iconst 0, 1) := dk_3 (dk_at dksX0_isEvenBy_0 8 rfl rfl)
theorem dX0_isEvenBy_9 : decode cX0_isEvenBy 9 = .ok (.istore 4, 2) := dk_54 4 (dk_at dksX0_isEvenBy_0 9 rfl rfl)
theorem dX0_isEvenBy_11 : decode cX0_isEvenBy 11 = .ok (.iconst 0, 1) := dk_3 (dk_at dksX0_isEvenBy_0 11 rfl rfl)
theorem dX0_isEvenBy_12 : decode cX0_isEvenBy 12 = .ok (.istore 5, 2) := dk_54 5 (dk_at dksX0_isEvenBy_0 12 rfl rfl)
theorem dX0_isEvenBy_14 : decode cX0_isEvenBy 14 = .ok (.iload 5, 2) := dk_21 5 (dk_at dksX0_isEvenBy_0 14 rfl rfl)
theorem dX0_isEvenBy_16 : decode cX0_isEvenBy 16 = .ok (.iload_n 2, 1) := dk_28 (dk_at dksX0_isEvenBy_0 16 rfl rfl)
theorem dX0_isEvenBy_17 : decode cX0_isEvenBy 17 = .ok (.if_icmp .ge 60, 3) := dk_162 0 60 (dk_at dksX0_isEvenBy_0 17 rfl rfl)
theorem dX0_isEvenBy_20 : decode cX0_isEvenBy 20 = .ok (.iload 4, 2) := dk_21 4 (dk_at dksX0_isEvenBy_0 20 rfl rfl)
theorem dX0_isEvenBy_22 : decode cX0_isEvenBy 22 = .ok (.aload_n 0, 1) := dk_42 (dk_at dksX0_isEvenBy_0 22 rfl rfl)
theorem dX0_isEvenBy_23 : decode cX0_isEvenBy 23 = .ok (.getfield 114, 3) := dk_180 0 114 (dk_at dksX0_isEvenBy_1 0 rfl rfl)
theorem dX0_isEvenBy_26 : decode cX0_isEvenBy 26 = .ok (.iload 5, 2) := dk_21 5 (dk_at dksX0_isEvenBy_1 3 rfl rfl)
theorem dX0_isEvenBy_28 : decode cX0_isEvenBy 28 = .ok (.iaload, 1) := dk_46 (dk_at dksX0_isEvenBy_1 5 rfl rfl)
theorem dX0_isEvenBy_29 : decode cX0_isEvenBy 29 = .ok (.iload_n 3, 1) := dk_29 (dk_at dksX0_isEvenBy_1 6 rfl rfl)
theorem dX0_isEvenBy_30 : decode cX0_isEvenBy 30 = .ok (.if_icmp .ne 7, 3) := dk_160 0 7 (dk_at dksX0_isEvenBy_1 7 rfl rfl)
theorem dX0_isEvenBy_33 : decode cX0_isEvenBy 33 = .ok (.iconst 1, 1) := dk_4 (dk_at dksX0_isEvenBy_1 10 rfl rfl)
theorem dX0_isEvenBy_34 : decode cX0_isEvenBy 34 = .ok (.goto 19, 3) := dk_167 0 19 (dk_at dksX0_isEvenBy_1 11 rfl rfl)
theorem dX0_isEvenBy_37 : decode cX0_isEvenBy 37 = .ok (.aload_n 0, 1) := dk_42 (dk_at dksX0_isEvenBy_1 14 rfl rfl)
theorem dX0_isEvenBy_38 : decode cX0_isEvenBy 38 = .ok (.getfield 111, 3) := dk_180 0 111 (dk_at dksX0_isEvenBy_1 15 rfl rfl)
theorem dX0_isEvenBy_41 : decode cX0_isEvenBy 41 = .ok (.iload 5, 2) := dk_21 5 (dk_at dksX0_isEvenBy_1 18 rfl rfl)
theorem dX0_isEvenBy_43 : decode cX0_isEvenBy 43 = .ok (.iaload, 1) := dk_46 (dk_at dksX0_isEvenBy_1 20 rfl rfl)
theorem dX0_isEvenBy_44 : decode cX0_isEvenBy 44 = .ok (.iload_n 3, 1) := dk_29 (dk_at dksX0_isEvenBy_1 21 rfl rfl)
theorem dX0_isEvenBy_45 : decode cX0_isEvenBy 45 = .ok (.if_icmp .ne 7, 3) := dk_160 0 7 (dk_at dksX0_isEvenBy_2 0 rfl rfl)
theorem dX0_isEvenBy_48 : decode cX0_isEvenBy 48 = .ok (.iconst (-1), 1) := dk_2 (dk_at dksX0_isEvenBy_2 3 rfl rfl)
theorem dX0_isEvenBy_49 : decode cX0_isEvenBy 49 = .ok (.goto 4, 3) := dk_167 0 4 (dk_at dksX0_isEvenBy_2 4 rfl rfl)
theorem dX0_isEvenBy_52 : decode cX0_isEvenBy 52 = .ok (.iconst 0, 1) := dk_3 (dk_at dksX0_isEvenBy_2 7 rfl rfl)
theorem dX0_isEvenBy_53 : decode cX0_isEvenBy 53 = .ok (.iload_n 1, 1) := dk_27 (dk_at dksX0_isEvenBy_2 8 rfl rfl)
theorem dX0_isEvenBy_54 : decode cX0_isEvenBy 54 = .ok (.iload 5, 2) := dk_21 5 (dk_at dksX0_isEvenBy_2 9 rfl rfl)
theorem dX0_isEvenBy_56 : decode cX0_isEvenBy 56 = .ok (.invokestatic 23, 3) := dk_184 0 23 (dk_at dksX0_isEvenBy_2 11 rfl rfl)
theorem dX0_isEvenBy_59 : decode cX0_isEvenBy 59 = .ok (.ifCond .eq 7, 3) := dk_153 0 7 (dk_at dksX0_isEvenBy_2 14 rfl rfl)
theorem dX0_isEvenBy_62 : decode cX0_isEvenBy 62 = .ok (.iconst (-1), 1) := dk_2 (dk_at dksX0_isEvenBy_2 17 rfl rfl)
theorem dX0_isEvenBy_63 : decode cX0_isEvenBy 63 = .ok (.goto 4, 3) := dk_167 0 4 (dk_at dksX0_isEvenBy_2 18 rfl rfl)
theorem dX0_isEvenBy_66 : decode cX0_isEvenBy 66 = .ok (.iconst 1, 1) := dk_4 (dk_at dksX0_isEvenBy_2 21 rfl rfl)
theorem dX0_isEvenBy_67 : decode cX0_isEvenBy 67 = .ok (.imul, 1) := dk_104 (dk_at dksX0_isEvenBy_2 22 rfl rfl)
theorem dX0_isEvenBy_68 : decode cX0_isEvenBy 68 = .ok (.iadd, 1) := dk_96 (dk_at dksX0_isEvenBy_2 23 rfl rfl)
theorem dX0_isEvenBy_69 : decode cX0_isEvenBy 69 = .ok (.istore 4, 2) := dk_54 4 (dk_at dksX0_isEvenBy_3 0 rfl rfl)
theorem dX0_isEvenBy_71 : decode cX0_isEvenBy 71 = .ok (.iinc 5 1, 3) := dk_132 5 1 (dk_at dksX0_isEvenBy_3 2 rfl rfl)
theorem dX0_isEvenBy_74 : decode cX0_isEvenBy 74 = .ok (.goto (-60), 3) := dk_167 255 196 (dk_at dksX0_isEvenBy_3 5 rfl rfl)
theorem dX0_isEvenBy_77 : decode cX0_isEvenBy 77 = .ok (.iload 4, 2) := dk_21 4 (dk_at dksX0_isEvenBy_3 8 rfl rfl)
theorem dX0_isEvenBy_79 : decode cX0_isEvenBy 79 = .ok (.ifCond .eq 5, 3) := dk_153 0 5 (dk_at dksX0_isEvenBy_3 10 rfl rfl)
theorem dX0_isEvenBy_82 : decode cX0_isEvenBy 82 = .ok (.iconst 0, 1) := dk_3 (dk_at dksX0_isEvenBy_3 13 rfl rfl)
theorem dX0_isEvenBy_83 : decode cX0_isEvenBy 83 = .ok (.ireturn, 1) := dk_172 (dk_at dksX0_isEvenBy_3 14 rfl rfl)
theorem dX0_isEvenBy_84 : decode cX0_isEvenBy 84 = .ok (.iinc 3 1, 3) := dk_132 3 1 (dk_at dksX0_isEvenBy_3 15 rfl rfl)
theorem dX0_isEvenBy_87 : decode cX0_isEvenBy 87 = .ok (.goto (-85), 3) := dk_167 255 171 (dk_at dksX0_isEvenBy_3 18 rfl rfl)
theorem dX0_isEvenBy_90 : decode cX0_isEvenBy 90 = .ok (.iconst 1, 1) := dk_4 (dk_at dksX0_isEvenBy_3 21 rfl rfl)
theorem dX0_isEvenBy_91 : decode cX0_isEvenBy 91 = .ok (.ireturn, 1) := dk_172 (dk_at dksX0_isEvenBy_3 22 rfl rfl)
abbrev cX0_setOff : ByteArray := prog_1_method_41_code
def yX0_setOff : MethodName := ⟨RX0, "setOff", "(I)I"⟩
def dkwX0_setOff_0 : List UInt8 := [42, 27, 182, 0, 123, 153, 0, 11, 42, 27, 182, 0, 251, 167, 0, 6, 19, 1, 19, 172]
abbrev dktX0_setOff_0 : List UInt8 := dkwX0_setOff_0 ++ []
theorem dksX0_setOff_0 : cX0_setOff.data.toList.drop 0 = dktX0_setOff_0 := by decide +kernel
theorem dX0_setOff_0 : decode cX0_setOff 0 = .ok (.aload_n 0, 1) := dk_42 (dk_at dksX0_setOff_0 0 rfl rfl)
theorem dX0_setOff_1 : decode cX0_setOff 1 = .ok (.iload_n 1, 1) := dk_27 (dk_at dksX0_setOff_0 1 rfl rfl)
theorem dX0_setOff_2 : decode cX0_setOff 2 = .ok (.invokevirtual 123, 3) := dk_182 0 123 (dk_at dksX0_setOff_0 2 rfl rfl)
theorem dX0_setOff_5 : decode cX0_setOff 5 = .ok (.ifCond .eq 11, 3) := dk_153 0 11 (dk_at dksX0_setOff_0 5 rfl rfl)
theorem dX0_setOff_8 : decode cX0_setOff 8 = .ok (.aload_n 0, 1) := dk_42 (dk_at dksX0_setOff_0 8 rfl rfl)
theorem dX0_setOff_9 : decode cX0_setOff 9 = .ok (.iload_n 1, 1) := dk_27 (dk_at dksX0_setOff_0 9 rfl rfl)
theorem dX0_setOff_10 : decode cX0_setOff 10 = .ok (.invokevirtual 251, 3) := dk_182 0 251 (dk_at dksX0_setOff_0 10 rfl rfl)
theorem dX0_setOff_13 : decode cX0_setOff 13 = .ok (.goto 6, 3) := dk_167 0 6 (dk_at dksX0_setOff_0 13 rfl rfl)
theorem dX0_setOff_16 : decode cX0_setOff 16 = .ok (.ldc_w 275, 3) := dk_19 1 19 (dk_at dksX0_setOff_0 16 rfl rfl)
theorem dX0_setOff_19 : decode cX0_setOff 19 = .ok (.ireturn, 1) := dk_172 (dk_at dksX0_setOff_0 19 rfl rfl)
abbrev cX0_fewest : ByteArray := prog_1_method_43_code
def yX0_fewest : MethodName := ⟨RX0, "fewest", "()I"⟩
def dkwX0_fewest_6 : List UInt8 := [27, 46, 100, 172]
abbrev dktX0_fewest_6 : List UInt8 := dkwX0_fewest_6 ++ []
def dkwX0_fewest_5 : List UInt8 := [154, 0, 7, 4, 167, 0, 4, 3, 96, 79, 132, 2, 1, 167, 255, 163, 27, 184, 1, 11, 42, 180, 0, 117]
abbrev dktX0_fewest_5 : List UInt8 := dkwX0_fewest_5 ++ dktX0_fewest_6
def dkwX0_fewest_4 : List UInt8 := [62, 132, 4, 1, 167, 255, 215, 42, 180, 0, 117, 28, 29, 28, 153, 0, 15, 42, 28, 182, 1, 20]
abbrev dktX0_fewest_4 : List UInt8 := dkwX0_fewest_4 ++ dktX0_fewest_5
def dkwX0_fewest_3 : List UInt8 := [153, 0, 23, 29, 42, 180, 0, 117, 28, 4, 21, 4, 120, 2, 130, 126, 46, 184, 0, 7, 167, 0, 4, 29]
abbrev dktX0_fewest_3 : List UInt8 := dkwX0_fewest_3 ++ dktX0_fewest_4
def dkwX0_fewest_2 : List UInt8 := [153, 0, 6, 167, 0, 77, 3, 62, 3, 54, 4, 21, 4, 16, 10, 162, 0, 40, 28, 21, 4, 184, 0, 23]
abbrev dktX0_fewest_2 : List UInt8 := dkwX0_fewest_2 ++ dktX0_fewest_3
def dkwX0_fewest_1 : List UInt8 := [167, 0, 4, 3, 128, 60, 132, 2, 1, 167, 255, 229, 3, 61, 28, 27, 163, 0, 94, 28, 27, 2, 130, 126]
abbrev dktX0_fewest_1 : List UInt8 := dkwX0_fewest_1 ++ dktX0_fewest_2
def dkwX0_fewest_0 : List UInt8 := [3, 60, 3, 61, 28, 16, 10, 162, 0, 27, 27, 42, 28, 182, 0, 251, 153, 0, 9, 4, 28, 120]
abbrev dktX0_fewest_0 : List UInt8 := dkwX0_fewest_0 ++ dktX0_fewest_1
theorem dksX0_fewest_0 : cX0_fewest.data.toList.drop 0 = dktX0_fewest_0 := by decide +kernel
theorem dksX0_fewest_1 : cX0_fewest.data.toList.drop 22 = dktX0_fewest_1 := dk_seg dksX0_fewest_0 22 rfl rfl
theorem dksX0_fewest_2 : cX0_fewest.data.toList.drop 46 = dktX0_fewest_2 := dk_seg dksX0_fewest_1 24 rfl rfl
theorem dksX0_fewest_3 : cX0_fewest.data.toList.drop 70 = dktX0_fewest_3 := dk_seg dksX0_fewest_2 24 rfl rfl
theorem dksX0_fewest_4 : cX0_fewest.data.toList.drop 94 = dktX0_fewest_4 := dk_seg dksX0_fewest_3 24 rfl rfl
theorem dksX0_fewest_5 : cX0_fewest.data.toList.drop 116 = dktX0_fewest_5 := dk_seg dksX0_fewest_4 22 rfl rfl
theorem dksX0_fewest_6 : cX0_fewest.data.toList.drop 140 = dktX0_fewest_6 := dk_seg dksX0_fewest_5 24 rfl rfl
theorem dX0_fewest_0 : decode cX0_fewest 0 = .ok (.iconst 0, 1) := dk_3 (dk_at dksX0_fewest_0 0 rfl rfl)
theorem dX0_fewest_1 : decode cX0_fewest 1 = .ok (.istore_n 1, 1) := dk_60 (dk_at dksX0_fewest_0 1 rfl rfl)
theorem dX0_fewest_2 : decode cX0_fewest 2 = .ok (.iconst 0, 1) := dk_3 (dk_at dksX0_fewest_0 2 rfl rfl)
theorem dX0_fewest_3 : decode cX0_fewest 3 = .ok (.istore_n 2, 1) := dk_61 (dk_at dksX0_fewest_0 3 rfl rfl)
theorem dX0_fewest_4 : decode cX0_fewest 4 = .ok (.iload_n 2, 1) := dk_28 (dk_at dksX0_fewest_0 4 rfl rfl)
theorem dX0_fewest_5 : decode cX0_fewest 5 = .ok (.bipush 10, 2) := dk_16 10 (dk_at dksX0_fewest_0 5 rfl rfl)
theorem dX0_fewest_7 : decode cX0_fewest 7 = .ok (.if_icmp .ge 27, 3) := dk_162 0 27 (dk_at dksX0_fewest_0 7 rfl rfl)
theorem dX0_fewest_10 : decode cX0_fewest 10 = .ok (.iload_n 1, 1) := dk_27 (dk_at dksX0_fewest_0 10 rfl rfl)
theorem dX0_fewest_11 : decode cX0_fewest 11 = .ok (.aload_n 0, 1) := dk_42 (dk_at dksX0_fewest_0 11 rfl rfl)
theorem dX0_fewest_12 : decode cX0_fewest 12 = .ok (.iload_n 2, 1) := dk_28 (dk_at dksX0_fewest_0 12 rfl rfl)
theorem dX0_fewest_13 : decode cX0_fewest 13 = .ok (.invokevirtual 251, 3) := dk_182 0 251 (dk_at dksX0_fewest_0 13 rfl rfl)
theorem dX0_fewest_16 : decode cX0_fewest 16 = .ok (.ifCond .eq 9, 3) := dk_153 0 9 (dk_at dksX0_fewest_0 16 rfl rfl)
theorem dX0_fewest_19 : decode cX0_fewest 19 = .ok (.iconst 1, 1) := dk_4 (dk_at dksX0_fewest_0 19 rfl rfl)
theorem dX0_fewest_20 : decode cX0_fewest 20 = .ok (.iload_n 2, 1) := dk_28 (dk_at dksX0_fewest_0 20 rfl rfl)
theorem dX0_fewest_21 : decode cX0_fewest 21 = .ok (.ishl, 1) := dk_120 (dk_at dksX0_fewest_0 21 rfl rfl)
theorem dX0_fewest_22 : decode cX0_fewest 22 = .ok (.goto 4, 3) := dk_167 0 4 (dk_at dksX0_fewest_1 0 rfl rfl)
theorem dX0_fewest_25 : decode cX0_fewest 25 = .ok (.iconst 0, 1) := dk_3 (dk_at dksX0_fewest_1 3 rfl rfl)
theorem dX0_fewest_26 : decode cX0_fewest 26 = .ok (.ior, 1) := dk_128 (dk_at dksX0_fewest_1 4 rfl rfl)
theorem dX0_fewest_27 : decode cX0_fewest 27 = .ok (.istore_n 1, 1) := dk_60 (dk_at dksX0_fewest_1 5 rfl rfl)
theorem dX0_fewest_28 : decode cX0_fewest 28 = .ok (.iinc 2 1, 3) := dk_132 2 1 (dk_at dksX0_fewest_1 6 rfl rfl)
theorem dX0_fewest_31 : decode cX0_fewest 31 = .ok (.goto (-27), 3) := dk_167 255 229 (dk_at dksX0_fewest_1 9 rfl rfl)
theorem dX0_fewest_34 : decode cX0_fewest 34 = .ok (.iconst 0, 1) := dk_3 (dk_at dksX0_fewest_1 12 rfl rfl)
theorem dX0_fewest_35 : decode cX0_fewest 35 = .ok (.istore_n 2, 1) := dk_61 (dk_at dksX0_fewest_1 13 rfl rfl)
theorem dX0_fewest_36 : decode cX0_fewest 36 = .ok (.iload_n 2, 1) := dk_28 (dk_at dksX0_fewest_1 14 rfl rfl)
theorem dX0_fewest_37 : decode cX0_fewest 37 = .ok (.iload_n 1, 1) := dk_27 (dk_at dksX0_fewest_1 15 rfl rfl)
theorem dX0_fewest_38 : decode cX0_fewest 38 = .ok (.if_icmp .gt 94, 3) := dk_163 0 94 (dk_at dksX0_fewest_1 16 rfl rfl)
theorem dX0_fewest_41 : decode cX0_fewest 41 = .ok (.iload_n 2, 1) := dk_28 (dk_at dksX0_fewest_1 19 rfl rfl)
theorem dX0_fewest_42 : decode cX0_fewest 42 = .ok (.iload_n 1, 1) := dk_27 (dk_at dksX0_fewest_1 20 rfl rfl)
theorem dX0_fewest_43 : decode cX0_fewest 43 = .ok (.iconst (-1), 1) := dk_2 (dk_at dksX0_fewest_1 21 rfl rfl)
theorem dX0_fewest_44 : decode cX0_fewest 44 = .ok (.ixor, 1) := dk_130 (dk_at dksX0_fewest_1 22 rfl rfl)
theorem dX0_fewest_45 : decode cX0_fewest 45 = .ok (.iand, 1) := dk_126 (dk_at dksX0_fewest_1 23 rfl rfl)
theorem dX0_fewest_46 : decode cX0_fewest 46 = .ok (.ifCond .eq 6, 3) := dk_153 0 6 (dk_at dksX0_fewest_2 0 rfl rfl)
theorem dX0_fewest_49 : decode cX0_fewest 49 = .ok (.goto 77, 3) := dk_167 0 77 (dk_at dksX0_fewest_2 3 rfl rfl)
theorem dX0_fewest_52 : decode cX0_fewest 52 = .ok (.iconst 0, 1) := dk_3 (dk_at dksX0_fewest_2 6 rfl rfl)
theorem dX0_fewest_53 : decode cX0_fewest 53 = .ok (.istore_n 3, 1) := dk_62 (dk_at dksX0_fewest_2 7 rfl rfl)
theorem dX0_fewest_54 : decode cX0_fewest 54 = .ok (.iconst 0, 1) := dk_3 (dk_at dksX0_fewest_2 8 rfl rfl)
theorem dX0_fewest_55 : decode cX0_fewest 55 = .ok (.istore 4, 2) := dk_54 4 (dk_at dksX0_fewest_2 9 rfl rfl)
theorem dX0_fewest_57 : decode cX0_fewest 57 = .ok (.iload 4, 2) := dk_21 4 (dk_at dksX0_fewest_2 11 rfl rfl)
theorem dX0_fewest_59 : decode cX0_fewest 59 = .ok (.bipush 10, 2) := dk_16 10 (dk_at dksX0_fewest_2 13 rfl rfl)
theorem dX0_fewest_61 : decode cX0_fewest 61 = .ok (.if_icmp .ge 40, 3) := dk_162 0 40 (dk_at dksX0_fewest_2 15 rfl rfl)
theorem dX0_fewest_64 : decode cX0_fewest 64 = .ok (.iload_n 2, 1) := dk_28 (dk_at dksX0_fewest_2 18 rfl rfl)
theorem dX0_fewest_65 : decode cX0_fewest 65 = .ok (.iload 4, 2) := dk_21 4 (dk_at dksX0_fewest_2 19 rfl rfl)
theorem dX0_fewest_67 : decode cX0_fewest 67 = .ok (.invokestatic 23, 3) := dk_184 0 23 (dk_at dksX0_fewest_2 21 rfl rfl)
theorem dX0_fewest_70 : decode cX0_fewest 70 = .ok (.ifCond .eq 23, 3) := dk_153 0 23 (dk_at dksX0_fewest_3 0 rfl rfl)
theorem dX0_fewest_73 : decode cX0_fewest 73 = .ok (.iload_n 3, 1) := dk_29 (dk_at dksX0_fewest_3 3 rfl rfl)
theorem dX0_fewest_74 : decode cX0_fewest 74 = .ok (.aload_n 0, 1) := dk_42 (dk_at dksX0_fewest_3 4 rfl rfl)
theorem dX0_fewest_75 : decode cX0_fewest 75 = .ok (.getfield 117, 3) := dk_180 0 117 (dk_at dksX0_fewest_3 5 rfl rfl)
theorem dX0_fewest_78 : decode cX0_fewest 78 = .ok (.iload_n 2, 1) := dk_28 (dk_at dksX0_fewest_3 8 rfl rfl)
theorem dX0_fewest_79 : decode cX0_fewest 79 = .ok (.iconst 1, 1) := dk_4 (dk_at dksX0_fewest_3 9 rfl rfl)
theorem dX0_fewest_80 : decode cX0_fewest 80 = .ok (.iload 4, 2) := dk_21 4 (dk_at dksX0_fewest_3 10 rfl rfl)
theorem dX0_fewest_82 : decode cX0_fewest 82 = .ok (.ishl, 1) := dk_120 (dk_at dksX0_fewest_3 12 rfl rfl)
theorem dX0_fewest_83 : decode cX0_fewest 83 = .ok (.iconst (-1), 1) := dk_2 (dk_at dksX0_fewest_3 13 rfl rfl)
theorem dX0_fewest_84 : decode cX0_fewest 84 = .ok (.ixor, 1) := dk_130 (dk_at dksX0_fewest_3 14 rfl rfl)
theorem dX0_fewest_85 : decode cX0_fewest 85 = .ok (.iand, 1) := dk_126 (dk_at dksX0_fewest_3 15 rfl rfl)
theorem dX0_fewest_86 : decode cX0_fewest 86 = .ok (.iaload, 1) := dk_46 (dk_at dksX0_fewest_3 16 rfl rfl)
theorem dX0_fewest_87 : decode cX0_fewest 87 = .ok (.invokestatic 7, 3) := dk_184 0 7 (dk_at dksX0_fewest_3 17 rfl rfl)
theorem dX0_fewest_90 : decode cX0_fewest 90 = .ok (.goto 4, 3) := dk_167 0 4 (dk_at dksX0_fewest_3 20 rfl rfl)
theorem dX0_fewest_93 : decode cX0_fewest 93 = .ok (.iload_n 3, 1) := dk_29 (dk_at dksX0_fewest_3 23 rfl rfl)
theorem dX0_fewest_94 : decode cX0_fewest 94 = .ok (.istore_n 3, 1) := dk_62 (dk_at dksX0_fewest_4 0 rfl rfl)
theorem dX0_fewest_95 : decode cX0_fewest 95 = .ok (.iinc 4 1, 3) := dk_132 4 1 (dk_at dksX0_fewest_4 1 rfl rfl)
theorem dX0_fewest_98 : decode cX0_fewest 98 = .ok (.goto (-41), 3) := dk_167 255 215 (dk_at dksX0_fewest_4 4 rfl rfl)
theorem dX0_fewest_101 : decode cX0_fewest 101 = .ok (.aload_n 0, 1) := dk_42 (dk_at dksX0_fewest_4 7 rfl rfl)
theorem dX0_fewest_102 : decode cX0_fewest 102 = .ok (.getfield 117, 3) := dk_180 0 117 (dk_at dksX0_fewest_4 8 rfl rfl)
theorem dX0_fewest_105 : decode cX0_fewest 105 = .ok (.iload_n 2, 1) := dk_28 (dk_at dksX0_fewest_4 11 rfl rfl)
theorem dX0_fewest_106 : decode cX0_fewest 106 = .ok (.iload_n 3, 1) := dk_29 (dk_at dksX0_fewest_4 12 rfl rfl)
theorem dX0_fewest_107 : decode cX0_fewest 107 = .ok (.iload_n 2, 1) := dk_28 (dk_at dksX0_fewest_4 13 rfl rfl)
theorem dX0_fewest_108 : decode cX0_fewest 108 = .ok (.ifCond .eq 15, 3) := dk_153 0 15 (dk_at dksX0_fewest_4 14 rfl rfl)
theorem dX0_fewest_111 : decode cX0_fewest 111 = .ok (.aload_n 0, 1) := dk_42 (dk_at dksX0_fewest_4 17 rfl rfl)
theorem dX0_fewest_112 : decode cX0_fewest 112 = .ok (.iload_n 2, 1) := dk_28 (dk_at dksX0_fewest_4 18 rfl rfl)
theorem dX0_fewest_113 : decode cX0_fewest 113 = .ok (.invokevirtual 276, 3) := dk_182 1 20 (dk_at dksX0_fewest_4 19 rfl rfl)
theorem dX0_fewest_116 : decode cX0_fewest 116 = .ok (.ifCond .ne 7, 3) := dk_154 0 7 (dk_at dksX0_fewest_5 0 rfl rfl)
theorem dX0_fewest_119 : decode cX0_fewest 119 = .ok (.iconst 1, 1) := dk_4 (dk_at dksX0_fewest_5 3 rfl rfl)
theorem dX0_fewest_120 : decode cX0_fewest 120 = .ok (.goto 4, 3) := dk_167 0 4 (dk_at dksX0_fewest_5 4 rfl rfl)
theorem dX0_fewest_123 : decode cX0_fewest 123 = .ok (.iconst 0, 1) := dk_3 (dk_at dksX0_fewest_5 7 rfl rfl)
theorem dX0_fewest_124 : decode cX0_fewest 124 = .ok (.iadd, 1) := dk_96 (dk_at dksX0_fewest_5 8 rfl rfl)
theorem dX0_fewest_125 : decode cX0_fewest 125 = .ok (.iastore, 1) := dk_79 (dk_at dksX0_fewest_5 9 rfl rfl)
theorem dX0_fewest_126 : decode cX0_fewest 126 = .ok (.iinc 2 1, 3) := dk_132 2 1 (dk_at dksX0_fewest_5 10 rfl rfl)
theorem dX0_fewest_129 : decode cX0_fewest 129 = .ok (.goto (-93), 3) := dk_167 255 163 (dk_at dksX0_fewest_5 13 rfl rfl)
theorem dX0_fewest_132 : decode cX0_fewest 132 = .ok (.iload_n 1, 1) := dk_27 (dk_at dksX0_fewest_5 16 rfl rfl)
theorem dX0_fewest_133 : decode cX0_fewest 133 = .ok (.invokestatic 267, 3) := dk_184 1 11 (dk_at dksX0_fewest_5 17 rfl rfl)
theorem dX0_fewest_136 : decode cX0_fewest 136 = .ok (.aload_n 0, 1) := dk_42 (dk_at dksX0_fewest_5 20 rfl rfl)
theorem dX0_fewest_137 : decode cX0_fewest 137 = .ok (.getfield 117, 3) := dk_180 0 117 (dk_at dksX0_fewest_5 21 rfl rfl)
theorem dX0_fewest_140 : decode cX0_fewest 140 = .ok (.iload_n 1, 1) := dk_27 (dk_at dksX0_fewest_6 0 rfl rfl)
theorem dX0_fewest_141 : decode cX0_fewest 141 = .ok (.iaload, 1) := dk_46 (dk_at dksX0_fewest_6 1 rfl rfl)
theorem dX0_fewest_142 : decode cX0_fewest 142 = .ok (.isub, 1) := dk_100 (dk_at dksX0_fewest_6 2 rfl rfl)
theorem dX0_fewest_143 : decode cX0_fewest 143 = .ok (.ireturn, 1) := dk_172 (dk_at dksX0_fewest_6 3 rfl rfl)
abbrev cX0_netOfAll : ByteArray := prog_1_method_42_code
def yX0_netOfAll : MethodName := ⟨RX0, "netOfAll", "(I)I"⟩
def dkwX0_netOfAll_1 : List UInt8 := [167, 0, 4, 3, 96, 61, 132, 3, 1, 167, 255, 227, 28, 172]
abbrev dktX0_netOfAll_1 : List UInt8 := dkwX0_netOfAll_1 ++ []
def dkwX0_netOfAll_0 : List UInt8 := [3, 61, 3, 62, 29, 16, 10, 162, 0, 29, 28, 27, 29, 184, 0, 23, 153, 0, 11, 42, 29, 182, 0, 251]
abbrev dktX0_netOfAll_0 : List UInt8 := dkwX0_netOfAll_0 ++ dktX0_netOfAll_1
theorem dksX0_netOfAll_0 : cX0_netOfAll.data.toList.drop 0 = dktX0_netOfAll_0 := by decide +kernel
theorem dksX0_netOfAll_1 : cX0_netOfAll.data.toList.drop 24 = dktX0_netOfAll_1 := dk_seg dksX0_netOfAll_0 24 rfl rfl
theorem dX0_netOfAll_0 : decode cX0_netOfAll 0 = .ok (.iconst 0, 1) := dk_3 (dk_at dksX0_netOfAll_0 0 rfl rfl)
theorem dX0_netOfAll_1 : decode cX0_netOfAll 1 = .ok (.istore_n 2, 1) := dk_61 (dk_at dksX0_netOfAll_0 1 rfl rfl)
theorem dX0_netOfAll_2 : decode cX0_netOfAll 2 = .ok (.iconst 0, 1) := dk_3 (dk_at dksX0_netOfAll_0 2 rfl rfl)
theorem dX0_netOfAll_3 : decode cX0_netOfAll 3 = .ok (.istore_n 3, 1) := dk_62 (dk_at dksX0_netOfAll_0 3 rfl rfl)
theorem dX0_netOfAll_4 : decode cX0_netOfAll 4 = .ok (.iload_n 3, 1) := dk_29 (dk_at dksX0_netOfAll_0 4 rfl rfl)
theorem dX0_netOfAll_5 : decode cX0_netOfAll 5 = .ok (.bipush 10, 2) := dk_16 10 (dk_at dksX0_netOfAll_0 5 rfl rfl)
theorem dX0_netOfAll_7 : decode cX0_netOfAll 7 = .ok (.if_icmp .ge 29, 3) := dk_162 0 29 (dk_at dksX0_netOfAll_0 7 rfl rfl)
theorem dX0_netOfAll_10 : decode cX0_netOfAll 10 = .ok (.iload_n 2, 1) := dk_28 (dk_at dksX0_netOfAll_0 10 rfl rfl)
theorem dX0_netOfAll_11 : decode cX0_netOfAll 11 = .ok (.iload_n 1, 1) := dk_27 (dk_at dksX0_netOfAll_0 11 rfl rfl)
theorem dX0_netOfAll_12 : decode cX0_netOfAll 12 = .ok (.iload_n 3, 1) := dk_29 (dk_at dksX0_netOfAll_0 12 rfl rfl)
theorem dX0_netOfAll_13 : decode cX0_netOfAll 13 = .ok (.invokestatic 23, 3) := dk_184 0 23 (dk_at dksX0_netOfAll_0 13 rfl rfl)
theorem dX0_netOfAll_16 : decode cX0_netOfAll 16 = .ok (.ifCond .eq 11, 3) := dk_153 0 11 (dk_at dksX0_netOfAll_0 16 rfl rfl)
theorem dX0_netOfAll_19 : decode cX0_netOfAll 19 = .ok (.aload_n 0, 1) := dk_42 (dk_at dksX0_netOfAll_0 19 rfl rfl)
theorem dX0_netOfAll_20 : decode cX0_netOfAll 20 = .ok (.iload_n 3, 1) := dk_29 (dk_at dksX0_netOfAll_0 20 rfl rfl)
theorem dX0_netOfAll_21 : decode cX0_netOfAll 21 = .ok (.invokevirtual 251, 3) := dk_182 0 251 (dk_at dksX0_netOfAll_0 21 rfl rfl)
theorem dX0_netOfAll_24 : decode cX0_netOfAll 24 = .ok (.goto 4, 3) := dk_167 0 4 (dk_at dksX0_netOfAll_1 0 rfl rfl)
theorem dX0_netOfAll_27 : decode cX0_netOfAll 27 = .ok (.iconst 0, 1) := dk_3 (dk_at dksX0_netOfAll_1 3 rfl rfl)
theorem dX0_netOfAll_28 : decode cX0_netOfAll 28 = .ok (.iadd, 1) := dk_96 (dk_at dksX0_netOfAll_1 4 rfl rfl)
theorem dX0_netOfAll_29 : decode cX0_netOfAll 29 = .ok (.istore_n 2, 1) := dk_61 (dk_at dksX0_netOfAll_1 5 rfl rfl)
theorem dX0_netOfAll_30 : decode cX0_netOfAll 30 = .ok (.iinc 3 1, 3) := dk_132 3 1 (dk_at dksX0_netOfAll_1 6 rfl rfl)
theorem dX0_netOfAll_33 : decode cX0_netOfAll 33 = .ok (.goto (-29), 3) := dk_167 255 227 (dk_at dksX0_netOfAll_1 9 rfl rfl)
theorem dX0_netOfAll_36 : decode cX0_netOfAll 36 = .ok (.iload_n 2, 1) := dk_28 (dk_at dksX0_netOfAll_1 12 rfl rfl)
theorem dX0_netOfAll_37 : decode cX0_netOfAll 37 = .ok (.ireturn, 1) := dk_172 (dk_at dksX0_netOfAll_1 13 rfl rfl)
abbrev cX0_rings : ByteArray := prog_1_method_45_code
def yX0_rings : MethodName := ⟨RX0, "rings", "(I)I"⟩
def dkwX0_rings_2 : List UInt8 := [184, 1, 29, 29, 160, 0, 7, 4, 167, 0, 4, 3, 96, 61, 132, 3, 1, 167, 255, 219, 28, 172]
abbrev dktX0_rings_2 : List UInt8 := dkwX0_rings_2 ++ []
def dkwX0_rings_1 : List UInt8 := [3, 61, 3, 62, 29, 16, 10, 162, 0, 37, 28, 42, 29, 182, 0, 123, 153, 0, 19, 42, 29, 182, 1, 26]
abbrev dktX0_rings_1 : List UInt8 := dkwX0_rings_1 ++ dktX0_rings_2
def dkwX0_rings_0 : List UInt8 := [27, 16, 100, 159, 0, 21, 42, 27, 182, 0, 123, 153, 0, 11, 42, 27, 182, 1, 26, 167, 0, 4, 2, 172]
abbrev dktX0_rings_0 : List UInt8 := dkwX0_rings_0 ++ dktX0_rings_1
theorem dksX0_rings_0 : cX0_rings.data.toList.drop 0 = dktX0_rings_0 := by decide +kernel
theorem dksX0_rings_1 : cX0_rings.data.toList.drop 24 = dktX0_rings_1 := dk_seg dksX0_rings_0 24 rfl rfl
theorem dksX0_rings_2 : cX0_rings.data.toList.drop 48 = dktX0_rings_2 := dk_seg dksX0_rings_1 24 rfl rfl
theorem dX0_rings_0 : decode cX0_rings 0 = .ok (.iload_n 1, 1) := dk_27 (dk_at dksX0_rings_0 0 rfl rfl)
theorem dX0_rings_1 : decode cX0_rings 1 = .ok (.bipush 100, 2) := dk_16 100 (dk_at dksX0_rings_0 1 rfl rfl)
theorem dX0_rings_3 : decode cX0_rings 3 = .ok (.if_icmp .eq 21, 3) := dk_159 0 21 (dk_at dksX0_rings_0 3 rfl rfl)
theorem dX0_rings_6 : decode cX0_rings 6 = .ok (.aload_n 0, 1) := dk_42 (dk_at dksX0_rings_0 6 rfl rfl)
theorem dX0_rings_7 : decode cX0_rings 7 = .ok (.iload_n 1, 1) := dk_27 (dk_at dksX0_rings_0 7 rfl rfl)
theorem dX0_rings_8 : decode cX0_rings 8 = .ok (.invokevirtual 123, 3) := dk_182 0 123 (dk_at dksX0_rings_0 8 rfl rfl)
theorem dX0_rings_11 : decode cX0_rings 11 = .ok (.ifCond .eq 11, 3) := dk_153 0 11 (dk_at dksX0_rings_0 11 rfl rfl)
theorem dX0_rings_14 : decode cX0_rings 14 = .ok (.aload_n 0, 1) := dk_42 (dk_at dksX0_rings_0 14 rfl rfl)
theorem dX0_rings_15 : decode cX0_rings 15 = .ok (.iload_n 1, 1) := dk_27 (dk_at dksX0_rings_0 15 rfl rfl)
theorem dX0_rings_16 : decode cX0_rings 16 = .ok (.invokevirtual 282, 3) := dk_182 1 26 (dk_at dksX0_rings_0 16 rfl rfl)
theorem dX0_rings_19 : decode cX0_rings 19 = .ok (.goto 4, 3) := dk_167 0 4 (dk_at dksX0_rings_0 19 rfl rfl)
theorem dX0_rings_22 : decode cX0_rings 22 = .ok (.iconst (-1), 1) := dk_2 (dk_at dksX0_rings_0 22 rfl rfl)
theorem dX0_rings_23 : decode cX0_rings 23 = .ok (.ireturn, 1) := dk_172 (dk_at dksX0_rings_0 23 rfl rfl)
theorem dX0_rings_24 : decode cX0_rings 24 = .ok (.iconst 0, 1) := dk_3 (dk_at dksX0_rings_1 0 rfl rfl)
theorem dX0_rings_25 : decode cX0_rings 25 = .ok (.istore_n 2, 1) := dk_61 (dk_at dksX0_rings_1 1 rfl rfl)
theorem dX0_rings_26 : decode cX0_rings 26 = .ok (.iconst 0, 1) := dk_3 (dk_at dksX0_rings_1 2 rfl rfl)
theorem dX0_rings_27 : decode cX0_rings 27 = .ok (.istore_n 3, 1) := dk_62 (dk_at dksX0_rings_1 3 rfl rfl)
theorem dX0_rings_28 : decode cX0_rings 28 = .ok (.iload_n 3, 1) := dk_29 (dk_at dksX0_rings_1 4 rfl rfl)
theorem dX0_rings_29 : decode cX0_rings 29 = .ok (.bipush 10, 2) := dk_16 10 (dk_at dksX0_rings_1 5 rfl rfl)
theorem dX0_rings_31 : decode cX0_rings 31 = .ok (.if_icmp .ge 37, 3) := dk_162 0 37 (dk_at dksX0_rings_1 7 rfl rfl)
theorem dX0_rings_34 : decode cX0_rings 34 = .ok (.iload_n 2, 1) := dk_28 (dk_at dksX0_rings_1 10 rfl rfl)
theorem dX0_rings_35 : decode cX0_rings 35 = .ok (.aload_n 0, 1) := dk_42 (dk_at dksX0_rings_1 11 rfl rfl)
theorem dX0_rings_36 : decode cX0_rings 36 = .ok (.iload_n 3, 1) := dk_29 (dk_at dksX0_rings_1 12 rfl rfl)
theorem dX0_rings_37 : decode cX0_rings 37 = .ok (.invokevirtual 123, 3) := dk_182 0 123 (dk_at dksX0_rings_1 13 rfl rfl)
theorem dX0_rings_40 : decode cX0_rings 40 = .ok (.ifCond .eq 19, 3) := dk_153 0 19 (dk_at dksX0_rings_1 16 rfl rfl)
theorem dX0_rings_43 : decode cX0_rings 43 = .ok (.aload_n 0, 1) := dk_42 (dk_at dksX0_rings_1 19 rfl rfl)
theorem dX0_rings_44 : decode cX0_rings 44 = .ok (.iload_n 3, 1) := dk_29 (dk_at dksX0_rings_1 20 rfl rfl)
theorem dX0_rings_45 : decode cX0_rings 45 = .ok (.invokevirtual 282, 3) := dk_182 1 26 (dk_at dksX0_rings_1 21 rfl rfl)
theorem dX0_rings_48 : decode cX0_rings 48 = .ok (.invokestatic 285, 3) := dk_184 1 29 (dk_at dksX0_rings_2 0 rfl rfl)
theorem dX0_rings_51 : decode cX0_rings 51 = .ok (.iload_n 3, 1) := dk_29 (dk_at dksX0_rings_2 3 rfl rfl)
theorem dX0_rings_52 : decode cX0_rings 52 = .ok (.if_icmp .ne 7, 3) := dk_160 0 7 (dk_at dksX0_rings_2 4 rfl rfl)
theorem dX0_rings_55 : decode cX0_rings 55 = .ok (.iconst 1, 1) := dk_4 (dk_at dksX0_rings_2 7 rfl rfl)
theorem dX0_rings_56 : decode cX0_rings 56 = .ok (.goto 4, 3) := dk_167 0 4 (dk_at dksX0_rings_2 8 rfl rfl)
theorem dX0_rings_59 : decode cX0_rings 59 = .ok (.iconst 0, 1) := dk_3 (dk_at dksX0_rings_2 11 rfl rfl)
theorem dX0_rings_60 : decode cX0_rings 60 = .ok (.iadd, 1) := dk_96 (dk_at dksX0_rings_2 12 rfl rfl)
theorem dX0_rings_61 : decode cX0_rings 61 = .ok (.istore_n 2, 1) := dk_61 (dk_at dksX0_rings_2 13 rfl rfl)
theorem dX0_rings_62 : decode cX0_rings 62 = .ok (.iinc 3 1, 3) := dk_132 3 1 (dk_at dksX0_rings_2 14 rfl rfl)
theorem dX0_rings_65 : decode cX0_rings 65 = .ok (.goto (-37), 3) := dk_167 255 219 (dk_at dksX0_rings_2 17 rfl rfl)
theorem dX0_rings_68 : decode cX0_rings 68 = .ok (.iload_n 2, 1) := dk_28 (dk_at dksX0_rings_2 20 rfl rfl)
theorem dX0_rings_69 : decode cX0_rings 69 = .ok (.ireturn, 1) := dk_172 (dk_at dksX0_rings_2 21 rfl rfl)
abbrev cX0_ringOf : ByteArray := prog_1_method_44_code
def yX0_ringOf : MethodName := ⟨RX0, "ringOf", "(I)I"⟩
def dkwX0_ringOf_2 : List UInt8 := [184, 0, 23, 153, 0, 10, 4, 21, 4, 120, 167, 0, 4, 3, 128, 61, 132, 4, 1, 167, 255, 207, 28, 172]
abbrev dktX0_ringOf_2 : List UInt8 := dkwX0_ringOf_2 ++ []
def dkwX0_ringOf_1 : List UInt8 := [28, 29, 21, 4, 184, 0, 23, 153, 0, 29, 42, 180, 0, 66, 180, 0, 131, 21, 4, 182, 1, 23, 27]
abbrev dktX0_ringOf_1 : List UInt8 := dkwX0_ringOf_1 ++ dktX0_ringOf_2
def dkwX0_ringOf_0 : List UInt8 := [3, 61, 42, 180, 0, 66, 180, 0, 131, 27, 182, 1, 23, 62, 3, 54, 4, 21, 4, 16, 10, 162, 0, 48]
abbrev dktX0_ringOf_0 : List UInt8 := dkwX0_ringOf_0 ++ dktX0_ringOf_1
theorem dksX0_ringOf_0 : cX0_ringOf.data.toList.drop 0 = dktX0_ringOf_0 := by decide +kernel
theorem dksX0_ringOf_1 : cX0_ringOf.data.toList.drop 24 = dktX0_ringOf_1 := dk_seg dksX0_ringOf_0 24 rfl rfl
theorem dksX0_ringOf_2 : cX0_ringOf.data.toList.drop 47 = dktX0_ringOf_2 := dk_seg dksX0_ringOf_1 23 rfl rfl
theorem dX0_ringOf_0 : decode cX0_ringOf 0 = .ok (.iconst 0, 1) := dk_3 (dk_at dksX0_ringOf_0 0 rfl rfl)
theorem dX0_ringOf_1 : decode cX0_ringOf 1 = .ok (.istore_n 2, 1) := dk_61 (dk_at dksX0_ringOf_0 1 rfl rfl)
theorem dX0_ringOf_2 : decode cX0_ringOf 2 = .ok (.aload_n 0, 1) := dk_42 (dk_at dksX0_ringOf_0 2 rfl rfl)
theorem dX0_ringOf_3 : decode cX0_ringOf 3 = .ok (.getfield 66, 3) := dk_180 0 66 (dk_at dksX0_ringOf_0 3 rfl rfl)
theorem dX0_ringOf_6 : decode cX0_ringOf 6 = .ok (.getfield 131, 3) := dk_180 0 131 (dk_at dksX0_ringOf_0 6 rfl rfl)
theorem dX0_ringOf_9 : decode cX0_ringOf 9 = .ok (.iload_n 1, 1) := dk_27 (dk_at dksX0_ringOf_0 9 rfl rfl)
theorem dX0_ringOf_10 : decode cX0_ringOf 10 = .ok (.invokevirtual 279, 3) := dk_182 1 23 (dk_at dksX0_ringOf_0 10 rfl rfl)
theorem dX0_ringOf_13 : decode cX0_ringOf 13 = .ok (.istore_n 3, 1) := dk_62 (dk_at dksX0_ringOf_0 13 rfl rfl)
theorem dX0_ringOf_14 : decode cX0_ringOf 14 = .ok (.iconst 0, 1) := dk_3 (dk_at dksX0_ringOf_0 14 rfl rfl)
theorem dX0_ringOf_15 : decode cX0_ringOf 15 = .ok (.istore 4, 2) := dk_54 4 (dk_at dksX0_ringOf_0 15 rfl rfl)
theorem dX0_ringOf_17 : decode cX0_ringOf 17 = .ok (.iload 4, 2) := dk_21 4 (dk_at dksX0_ringOf_0 17 rfl rfl)
theorem dX0_ringOf_19 : decode cX0_ringOf 19 = .ok (.bipush 10, 2) := dk_16 10 (dk_at dksX0_ringOf_0 19 rfl rfl)
theorem dX0_ringOf_21 : decode cX0_ringOf 21 = .ok (.if_icmp .ge 48, 3) := dk_162 0 48 (dk_at dksX0_ringOf_0 21 rfl rfl)
theorem dX0_ringOf_24 : decode cX0_ringOf 24 = .ok (.iload_n 2, 1) := dk_28 (dk_at dksX0_ringOf_1 0 rfl rfl)
theorem dX0_ringOf_25 : decode cX0_ringOf 25 = .ok (.iload_n 3, 1) := dk_29 (dk_at dksX0_ringOf_1 1 rfl rfl)
theorem dX0_ringOf_26 : decode cX0_ringOf 26 = .ok (.iload 4, 2) := dk_21 4 (dk_at dksX0_ringOf_1 2 rfl rfl)
theorem dX0_ringOf_28 : decode cX0_ringOf 28 = .ok (.invokestatic 23, 3) := dk_184 0 23 (dk_at dksX0_ringOf_1 4 rfl rfl)
theorem dX0_ringOf_31 : decode cX0_ringOf 31 = .ok (.ifCond .eq 29, 3) := dk_153 0 29 (dk_at dksX0_ringOf_1 7 rfl rfl)
theorem dX0_ringOf_34 : decode cX0_ringOf 34 = .ok (.aload_n 0, 1) := dk_42 (dk_at dksX0_ringOf_1 10 rfl rfl)
theorem dX0_ringOf_35 : decode cX0_ringOf 35 = .ok (.getfield 66, 3) := dk_180 0 66 (dk_at dksX0_ringOf_1 11 rfl rfl)
theorem dX0_ringOf_38 : decode cX0_ringOf 38 = .ok (.getfield 131, 3) := dk_180 0 131 (dk_at dksX0_ringOf_1 14 rfl rfl)
theorem dX0_ringOf_41 : decode cX0_ringOf 41 = .ok (.iload 4, 2) := dk_21 4 (dk_at dksX0_ringOf_1 17 rfl rfl)
theorem dX0_ringOf_43 : decode cX0_ringOf 43 = .ok (.invokevirtual 279, 3) := dk_182 1 23 (dk_at dksX0_ringOf_1 19 rfl rfl)
theorem dX0_ringOf_46 : decode cX0_ringOf 46 = .ok (.iload_n 1, 1) := dk_27 (dk_at dksX0_ringOf_1 22 rfl rfl)
theorem dX0_ringOf_47 : decode cX0_ringOf 47 = .ok (.invokestatic 23, 3) := dk_184 0 23 (dk_at dksX0_ringOf_2 0 rfl rfl)
theorem dX0_ringOf_50 : decode cX0_ringOf 50 = .ok (.ifCond .eq 10, 3) := dk_153 0 10 (dk_at dksX0_ringOf_2 3 rfl rfl)
theorem dX0_ringOf_53 : decode cX0_ringOf 53 = .ok (.iconst 1, 1) := dk_4 (dk_at dksX0_ringOf_2 6 rfl rfl)
theorem dX0_ringOf_54 : decode cX0_ringOf 54 = .ok (.iload 4, 2) := dk_21 4 (dk_at dksX0_ringOf_2 7 rfl rfl)
theorem dX0_ringOf_56 : decode cX0_ringOf 56 = .ok (.ishl, 1) := dk_120 (dk_at dksX0_ringOf_2 9 rfl rfl)
theorem dX0_ringOf_57 : decode cX0_ringOf 57 = .ok (.goto 4, 3) := dk_167 0 4 (dk_at dksX0_ringOf_2 10 rfl rfl)
theorem dX0_ringOf_60 : decode cX0_ringOf 60 = .ok (.iconst 0, 1) := dk_3 (dk_at dksX0_ringOf_2 13 rfl rfl)
theorem dX0_ringOf_61 : decode cX0_ringOf 61 = .ok (.ior, 1) := dk_128 (dk_at dksX0_ringOf_2 14 rfl rfl)
theorem dX0_ringOf_62 : decode cX0_ringOf 62 = .ok (.istore_n 2, 1) := dk_61 (dk_at dksX0_ringOf_2 15 rfl rfl)
theorem dX0_ringOf_63 : decode cX0_ringOf 63 = .ok (.iinc 4 1, 3) := dk_132 4 1 (dk_at dksX0_ringOf_2 16 rfl rfl)
theorem dX0_ringOf_66 : decode cX0_ringOf 66 = .ok (.goto (-49), 3) := dk_167 255 207 (dk_at dksX0_ringOf_2 19 rfl rfl)
theorem dX0_ringOf_69 : decode cX0_ringOf 69 = .ok (.iload_n 2, 1) := dk_28 (dk_at dksX0_ringOf_2 22 rfl rfl)
theorem dX0_ringOf_70 : decode cX0_ringOf 70 = .ok (.ireturn, 1) := dk_172 (dk_at dksX0_ringOf_2 23 rfl rfl)
abbrev cX0_off : ByteArray := prog_1_method_46_code
def yX0_off : MethodName := ⟨RX0, "off", "()I"⟩
def dkwX0_off_1 : List UInt8 := [180, 0, 131, 42, 180, 0, 66, 180, 0, 137, 182, 1, 23, 2, 130, 126, 172]
abbrev dktX0_off_1 : List UInt8 := dkwX0_off_1 ++ []
def dkwX0_off_0 : List UInt8 := [42, 180, 0, 66, 180, 0, 137, 2, 160, 0, 8, 16, 254, 167, 0, 27, 42, 180, 0, 19, 42, 180, 0, 66]
abbrev dktX0_off_0 : List UInt8 := dkwX0_off_0 ++ dktX0_off_1
theorem dksX0_off_0 : cX0_off.data.toList.drop 0 = dktX0_off_0 := by decide +kernel
theorem dksX0_off_1 : cX0_off.data.toList.drop 24 = dktX0_off_1 := dk_seg dksX0_off_0 24 rfl rfl
theorem dX0_off_0 : decode cX0_off 0 = .ok (.aload_n 0, 1) := dk_42 (dk_at dksX0_off_0 0 rfl rfl)
theorem dX0_off_1 : decode cX0_off 1 = .ok (.getfield 66, 3) := dk_180 0 66 (dk_at dksX0_off_0 1 rfl rfl)
theorem dX0_off_4 : decode cX0_off 4 = .ok (.getfield 137, 3) := dk_180 0 137 (dk_at dksX0_off_0 4 rfl rfl)
theorem dX0_off_7 : decode cX0_off 7 = .ok (.iconst (-1), 1) := dk_2 (dk_at dksX0_off_0 7 rfl rfl)
theorem dX0_off_8 : decode cX0_off 8 = .ok (.if_icmp .ne 8, 3) := dk_160 0 8 (dk_at dksX0_off_0 8 rfl rfl)
theorem dX0_off_11 : decode cX0_off 11 = .ok (.bipush (-2), 2) := dk_16 254 (dk_at dksX0_off_0 11 rfl rfl)
theorem dX0_off_13 : decode cX0_off 13 = .ok (.goto 27, 3) := dk_167 0 27 (dk_at dksX0_off_0 13 rfl rfl)
theorem dX0_off_16 : decode cX0_off 16 = .ok (.aload_n 0, 1) := dk_42 (dk_at dksX0_off_0 16 rfl rfl)
theorem dX0_off_17 : decode cX0_off 17 = .ok (.getfield 19, 3) := dk_180 0 19 (dk_at dksX0_off_0 17 rfl rfl)
theorem dX0_off_20 : decode cX0_off 20 = .ok (.aload_n 0, 1) := dk_42 (dk_at dksX0_off_0 20 rfl rfl)
theorem dX0_off_21 : decode cX0_off 21 = .ok (.getfield 66, 3) := dk_180 0 66 (dk_at dksX0_off_0 21 rfl rfl)
theorem dX0_off_24 : decode cX0_off 24 = .ok (.getfield 131, 3) := dk_180 0 131 (dk_at dksX0_off_1 0 rfl rfl)
theorem dX0_off_27 : decode cX0_off 27 = .ok (.aload_n 0, 1) := dk_42 (dk_at dksX0_off_1 3 rfl rfl)
theorem dX0_off_28 : decode cX0_off 28 = .ok (.getfield 66, 3) := dk_180 0 66 (dk_at dksX0_off_1 4 rfl rfl)
theorem dX0_off_31 : decode cX0_off 31 = .ok (.getfield 137, 3) := dk_180 0 137 (dk_at dksX0_off_1 7 rfl rfl)
theorem dX0_off_34 : decode cX0_off 34 = .ok (.invokevirtual 279, 3) := dk_182 1 23 (dk_at dksX0_off_1 10 rfl rfl)
theorem dX0_off_37 : decode cX0_off 37 = .ok (.iconst (-1), 1) := dk_2 (dk_at dksX0_off_1 13 rfl rfl)
theorem dX0_off_38 : decode cX0_off 38 = .ok (.ixor, 1) := dk_130 (dk_at dksX0_off_1 14 rfl rfl)
theorem dX0_off_39 : decode cX0_off 39 = .ok (.iand, 1) := dk_126 (dk_at dksX0_off_1 15 rfl rfl)
theorem dX0_off_40 : decode cX0_off 40 = .ok (.ireturn, 1) := dk_172 (dk_at dksX0_off_1 16 rfl rfl)
abbrev cX0_when : ByteArray := prog_1_method_47_code
def yX0_when : MethodName := ⟨RX0, "when", "(II)I"⟩
def dkwX0_when_3 : List UInt8 := [27, 160, 0, 5, 29, 172, 132, 3, 1, 167, 255, 225, 16, 254, 172]
abbrev dktX0_when_3 : List UInt8 := dkwX0_when_3 ++ []
def dkwX0_when_2 : List UInt8 := [4, 62, 29, 28, 163, 0, 32, 42, 180, 0, 70, 182, 1, 32, 153, 0, 22, 42, 180, 0, 70, 182, 1, 35]
abbrev dktX0_when_2 : List UInt8 := dkwX0_when_2 ++ dktX0_when_3
def dkwX0_when_1 : List UInt8 := [180, 0, 66, 180, 0, 137, 27, 160, 0, 5, 3, 172, 42, 180, 0, 70, 42, 180, 0, 66, 182, 0, 184, 87]
abbrev dktX0_when_1 : List UInt8 := dkwX0_when_1 ++ dktX0_when_2
def dkwX0_when_0 : List UInt8 := [42, 27, 182, 0, 123, 153, 0, 14, 28, 4, 17, 0, 240, 184, 0, 127, 154, 0, 5, 2, 172, 42]
abbrev dktX0_when_0 : List UInt8 := dkwX0_when_0 ++ dktX0_when_1
theorem dksX0_when_0 : cX0_when.data.toList.drop 0 = dktX0_when_0 := by decide +kernel
theorem dksX0_when_1 : cX0_when.data.toList.drop 22 = dktX0_when_1 := dk_seg dksX0_when_0 22 rfl rfl
theorem dksX0_when_2 : cX0_when.data.toList.drop 46 = dktX0_when_2 := dk_seg dksX0_when_1 24 rfl rfl
theorem dksX0_when_3 : cX0_when.data.toList.drop 70 = dktX0_when_3 := dk_seg dksX0_when_2 24 rfl rfl
theorem dX0_when_0 : decode cX0_when 0 = .ok (.aload_n 0, 1) := dk_42 (dk_at dksX0_when_0 0 rfl rfl)
theorem dX0_when_1 : decode cX0_when 1 = .ok (.iload_n 1, 1) := dk_27 (dk_at dksX0_when_0 1 rfl rfl)
theorem dX0_when_2 : decode cX0_when 2 = .ok (.invokevirtual 123, 3) := dk_182 0 123 (dk_at dksX0_when_0 2 rfl rfl)
theorem dX0_when_5 : decode cX0_when 5 = .ok (.ifCond .eq 14, 3) := dk_153 0 14 (dk_at dksX0_when_0 5 rfl rfl)
theorem dX0_when_8 : decode cX0_when 8 = .ok (.iload_n 2, 1) := dk_28 (dk_at dksX0_when_0 8 rfl rfl)
theorem dX0_when_9 : decode cX0_when 9 = .ok (.iconst 1, 1) := dk_4 (dk_at dksX0_when_0 9 rfl rfl)
theorem dX0_when_10 : decode cX0_when 10 = .ok (.sipush 240, 3) := dk_17 0 240 (dk_at dksX0_when_0 10 rfl rfl)
theorem dX0_when_13 : decode cX0_when 13 = .ok (.invokestatic 127, 3) := dk_184 0 127 (dk_at dksX0_when_0 13 rfl rfl)
theorem dX0_when_16 : decode cX0_when 16 = .ok (.ifCond .ne 5, 3) := dk_154 0 5 (dk_at dksX0_when_0 16 rfl rfl)
theorem dX0_when_19 : decode cX0_when 19 = .ok (.iconst (-1), 1) := dk_2 (dk_at dksX0_when_0 19 rfl rfl)
theorem dX0_when_20 : decode cX0_when 20 = .ok (.ireturn, 1) := dk_172 (dk_at dksX0_when_0 20 rfl rfl)
theorem dX0_when_21 : decode cX0_when 21 = .ok (.aload_n 0, 1) := dk_42 (dk_at dksX0_when_0 21 rfl rfl)
theorem dX0_when_22 : decode cX0_when 22 = .ok (.getfield 66, 3) := dk_180 0 66 (dk_at dksX0_when_1 0 rfl rfl)
theorem dX0_when_25 : decode cX0_when 25 = .ok (.getfield 137, 3) := dk_180 0 137 (dk_at dksX0_when_1 3 rfl rfl)
theorem dX0_when_28 : decode cX0_when 28 = .ok (.iload_n 1, 1) := dk_27 (dk_at dksX0_when_1 6 rfl rfl)
theorem dX0_when_29 : decode cX0_when 29 = .ok (.if_icmp .ne 5, 3) := dk_160 0 5 (dk_at dksX0_when_1 7 rfl rfl)
theorem dX0_when_32 : decode cX0_when 32 = .ok (.iconst 0, 1) := dk_3 (dk_at dksX0_when_1 10 rfl rfl)
theorem dX0_when_33 : decode cX0_when 33 = .ok (.ireturn, 1) := dk_172 (dk_at dksX0_when_1 11 rfl rfl)
theorem dX0_when_34 : decode cX0_when 34 = .ok (.aload_n 0, 1) := dk_42 (dk_at dksX0_when_1 12 rfl rfl)
theorem dX0_when_35 : decode cX0_when 35 = .ok (.getfield 70, 3) := dk_180 0 70 (dk_at dksX0_when_1 13 rfl rfl)
theorem dX0_when_38 : decode cX0_when 38 = .ok (.aload_n 0, 1) := dk_42 (dk_at dksX0_when_1 16 rfl rfl)
theorem dX0_when_39 : decode cX0_when 39 = .ok (.getfield 66, 3) := dk_180 0 66 (dk_at dksX0_when_1 17 rfl rfl)
theorem dX0_when_42 : decode cX0_when 42 = .ok (.invokevirtual 184, 3) := dk_182 0 184 (dk_at dksX0_when_1 20 rfl rfl)
theorem dX0_when_45 : decode cX0_when 45 = .ok (.pop, 1) := dk_87 (dk_at dksX0_when_1 23 rfl rfl)
theorem dX0_when_46 : decode cX0_when 46 = .ok (.iconst 1, 1) := dk_4 (dk_at dksX0_when_2 0 rfl rfl)
theorem dX0_when_47 : decode cX0_when 47 = .ok (.istore_n 3, 1) := dk_62 (dk_at dksX0_when_2 1 rfl rfl)
theorem dX0_when_48 : decode cX0_when 48 = .ok (.iload_n 3, 1) := dk_29 (dk_at dksX0_when_2 2 rfl rfl)
theorem dX0_when_49 : decode cX0_when 49 = .ok (.iload_n 2, 1) := dk_28 (dk_at dksX0_when_2 3 rfl rfl)
theorem dX0_when_50 : decode cX0_when 50 = .ok (.if_icmp .gt 32, 3) := dk_163 0 32 (dk_at dksX0_when_2 4 rfl rfl)
theorem dX0_when_53 : decode cX0_when 53 = .ok (.aload_n 0, 1) := dk_42 (dk_at dksX0_when_2 7 rfl rfl)
theorem dX0_when_54 : decode cX0_when 54 = .ok (.getfield 70, 3) := dk_180 0 70 (dk_at dksX0_when_2 8 rfl rfl)
theorem dX0_when_57 : decode cX0_when 57 = .ok (.invokevirtual 288, 3) := dk_182 1 32 (dk_at dksX0_when_2 11 rfl rfl)
theorem dX0_when_60 : decode cX0_when 60 = .ok (.ifCond .eq 22, 3) := dk_153 0 22 (dk_at dksX0_when_2 14 rfl rfl)
theorem dX0_when_63 : decode cX0_when 63 = .ok (.aload_n 0, 1) := dk_42 (dk_at dksX0_when_2 17 rfl rfl)
theorem dX0_when_64 : decode cX0_when 64 = .ok (.getfield 70, 3) := dk_180 0 70 (dk_at dksX0_when_2 18 rfl rfl)
theorem dX0_when_67 : decode cX0_when 67 = .ok (.invokevirtual 291, 3) := dk_182 1 35 (dk_at dksX0_when_2 21 rfl rfl)
theorem dX0_when_70 : decode cX0_when 70 = .ok (.iload_n 1, 1) := dk_27 (dk_at dksX0_when_3 0 rfl rfl)
theorem dX0_when_71 : decode cX0_when 71 = .ok (.if_icmp .ne 5, 3) := dk_160 0 5 (dk_at dksX0_when_3 1 rfl rfl)
theorem dX0_when_74 : decode cX0_when 74 = .ok (.iload_n 3, 1) := dk_29 (dk_at dksX0_when_3 4 rfl rfl)
theorem dX0_when_75 : decode cX0_when 75 = .ok (.ireturn, 1) := dk_172 (dk_at dksX0_when_3 5 rfl rfl)
theorem dX0_when_76 : decode cX0_when 76 = .ok (.iinc 3 1, 3) := dk_132 3 1 (dk_at dksX0_when_3 6 rfl rfl)
theorem dX0_when_79 : decode cX0_when 79 = .ok (.goto (-31), 3) := dk_167 255 225 (dk_at dksX0_when_3 9 rfl rfl)
theorem dX0_when_82 : decode cX0_when 82 = .ok (.bipush (-2), 2) := dk_16 254 (dk_at dksX0_when_3 12 rfl rfl)
theorem dX0_when_84 : decode cX0_when 84 = .ok (.ireturn, 1) := dk_172 (dk_at dksX0_when_3 14 rfl rfl)
abbrev cX0_wedding : ByteArray := prog_1_method_48_code
def yX0_wedding : MethodName := ⟨RX0, "wedding", "(III)I"⟩
def dkwX0_wedding_5 : List UInt8 := [21, 5, 160, 0, 6, 21, 4, 172, 132, 6, 1, 167, 255, 173, 16, 254, 172]
abbrev dktX0_wedding_5 : List UInt8 := dkwX0_wedding_5 ++ []
def dkwX0_wedding_4 : List UInt8 := [21, 8, 28, 160, 0, 8, 21, 7, 167, 0, 5, 21, 5, 54, 5, 21, 4, 2, 159, 0, 13, 21, 4]
abbrev dktX0_wedding_4 : List UInt8 := dkwX0_wedding_4 ++ dktX0_wedding_5
def dkwX0_wedding_3 : List UInt8 := [180, 0, 70, 182, 1, 35, 54, 8, 21, 8, 27, 160, 0, 8, 21, 7, 167, 0, 5, 21, 4, 54, 4]
abbrev dktX0_wedding_3 : List UInt8 := dkwX0_wedding_3 ++ dktX0_wedding_4
def dkwX0_wedding_2 : List UInt8 := [162, 0, 83, 42, 180, 0, 70, 182, 1, 32, 153, 0, 73, 42, 180, 0, 70, 180, 1, 38, 54, 7, 42]
abbrev dktX0_wedding_2 : List UInt8 := dkwX0_wedding_2 ++ dktX0_wedding_3
def dkwX0_wedding_1 : List UInt8 := [180, 0, 70, 42, 180, 0, 66, 182, 0, 184, 87, 2, 54, 4, 2, 54, 5, 3, 54, 6, 21, 6, 29]
abbrev dktX0_wedding_1 : List UInt8 := dkwX0_wedding_1 ++ dktX0_wedding_2
def dkwX0_wedding_0 : List UInt8 := [42, 27, 28, 182, 0, 223, 153, 0, 14, 29, 4, 17, 0, 240, 184, 0, 127, 154, 0, 5, 2, 172, 42]
abbrev dktX0_wedding_0 : List UInt8 := dkwX0_wedding_0 ++ dktX0_wedding_1
theorem dksX0_wedding_0 : cX0_wedding.data.toList.drop 0 = dktX0_wedding_0 := by decide +kernel
theorem dksX0_wedding_1 : cX0_wedding.data.toList.drop 23 = dktX0_wedding_1 := dk_seg dksX0_wedding_0 23 rfl rfl
theorem dksX0_wedding_2 : cX0_wedding.data.toList.drop 46 = dktX0_wedding_2 := dk_seg dksX0_wedding_1 23 rfl rfl
theorem dksX0_wedding_3 : cX0_wedding.data.toList.drop 69 = dktX0_wedding_3 := dk_seg dksX0_wedding_2 23 rfl rfl
theorem dksX0_wedding_4 : cX0_wedding.data.toList.drop 92 = dktX0_wedding_4 := dk_seg dksX0_wedding_3 23 rfl rfl
theorem dksX0_wedding_5 : cX0_wedding.data.toList.drop 115 = dktX0_wedding_5 := dk_seg dksX0_wedding_4 23 rfl rfl
theorem dX0_wedding_0 : decode cX0_wedding 0 = .ok (.aload_n 0, 1) := dk_42 (dk_at dksX0_wedding_0 0 rfl rfl)
theorem dX0_wedding_1 : decode cX0_wedding 1 = .ok (.iload_n 1, 1) := dk_27 (dk_at dksX0_wedding_0 1 rfl rfl)
theorem dX0_wedding_2 : decode cX0_wedding 2 = .ok (.iload_n 2, 1) := dk_28 (dk_at dksX0_wedding_0 2 rfl rfl)
theorem dX0_wedding_3 : decode cX0_wedding 3 = .ok (.invokevirtual 223, 3) := dk_182 0 223 (dk_at dksX0_wedding_0 3 rfl rfl)
theorem dX0_wedding_6 : decode cX0_wedding 6 = .ok (.ifCond .eq 14, 3) := dk_153 0 14 (dk_at dksX0_wedding_0 6 rfl rfl)
theorem dX0_wedding_9 : decode cX0_wedding 9 = .ok (.iload_n 3, 1) := dk_29 (dk_at dksX0_wedding_0 9 rfl rfl)
theorem dX0_wedding_10 : decode cX0_wedding 10 = .ok (.iconst 1, 1) := dk_4 (dk_at dksX0_wedding_0 10 rfl rfl)
theorem dX0_wedding_11 : decode cX0_wedding 11 = .ok (.sipush 240, 3) := dk_17 0 240 (dk_at dksX0_wedding_0 11 rfl rfl)
theorem dX0_wedding_14 : decode cX0_wedding 14 = .ok (.invokestatic 127, 3) := dk_184 0 127 (dk_at dksX0_wedding_0 14 rfl rfl)
theorem dX0_wedding_17 : decode cX0_wedding 17 = .ok (.ifCond .ne 5, 3) := dk_154 0 5 (dk_at dksX0_wedding_0 17 rfl rfl)
theorem dX0_wedding_20 : decode cX0_wedding 20 = .ok (.iconst (-1), 1) := dk_2 (dk_at dksX0_wedding_0 20 rfl rfl)
theorem dX0_wedding_21 : decode cX0_wedding 21 = .ok (.ireturn, 1) := dk_172 (dk_at dksX0_wedding_0 21 rfl rfl)
theorem dX0_wedding_22 : decode cX0_wedding 22 = .ok (.aload_n 0, 1) := dk_42 (dk_at dksX0_wedding_0 22 rfl rfl)
theorem dX0_wedding_23 : decode cX0_wedding 23 = .ok (.getfield 70, 3) := dk_180 0 70 (dk_at dksX0_wedding_1 0 rfl rfl)
theorem dX0_wedding_26 : decode cX0_wedding 26 = .ok (.aload_n 0, 1) := dk_42 (dk_at dksX0_wedding_1 3 rfl rfl)
theorem dX0_wedding_27 : decode cX0_wedding 27 = .ok (.getfield 66, 3) := dk_180 0 66 (dk_at dksX0_wedding_1 4 rfl rfl)
theorem dX0_wedding_30 : decode cX0_wedding 30 = .ok (.invokevirtual 184, 3) := dk_182 0 184 (dk_at dksX0_wedding_1 7 rfl rfl)
theorem dX0_wedding_33 : decode cX0_wedding 33 = .ok (.pop, 1) := dk_87 (dk_at dksX0_wedding_1 10 rfl rfl)
theorem dX0_wedding_34 : decode cX0_wedding 34 = .ok (.iconst (-1), 1) := dk_2 (dk_at dksX0_wedding_1 11 rfl rfl)
theorem dX0_wedding_35 : decode cX0_wedding 35 = .ok (.istore 4, 2) := dk_54 4 (dk_at dksX0_wedding_1 12 rfl rfl)
theorem dX0_wedding_37 : decode cX0_wedding 37 = .ok (.iconst (-1), 1) := dk_2 (dk_at dksX0_wedding_1 14 rfl rfl)
theorem dX0_wedding_38 : decode cX0_wedding 38 = .ok (.istore 5, 2) := dk_54 5 (dk_at dksX0_wedding_1 15 rfl rfl)
theorem dX0_wedding_40 : decode cX0_wedding 40 = .ok (.iconst 0, 1) := dk_3 (dk_at dksX0_wedding_1 17 rfl rfl)
theorem dX0_wedding_41 : decode cX0_wedding 41 = .ok (.istore 6, 2) := dk_54 6 (dk_at dksX0_wedding_1 18 rfl rfl)
theorem dX0_wedding_43 : decode cX0_wedding 43 = .ok (.iload 6, 2) := dk_21 6 (dk_at dksX0_wedding_1 20 rfl rfl)
theorem dX0_wedding_45 : decode cX0_wedding 45 = .ok (.iload_n 3, 1) := dk_29 (dk_at dksX0_wedding_1 22 rfl rfl)
theorem dX0_wedding_46 : decode cX0_wedding 46 = .ok (.if_icmp .ge 83, 3) := dk_162 0 83 (dk_at dksX0_wedding_2 0 rfl rfl)
theorem dX0_wedding_49 : decode cX0_wedding 49 = .ok (.aload_n 0, 1) := dk_42 (dk_at dksX0_wedding_2 3 rfl rfl)
theorem dX0_wedding_50 : decode cX0_wedding 50 = .ok (.getfield 70, 3) := dk_180 0 70 (dk_at dksX0_wedding_2 4 rfl rfl)
theorem dX0_wedding_53 : decode cX0_wedding 53 = .ok (.invokevirtual 288, 3) := dk_182 1 32 (dk_at dksX0_wedding_2 7 rfl rfl)
theorem dX0_wedding_56 : decode cX0_wedding 56 = .ok (.ifCond .eq 73, 3) := dk_153 0 73 (dk_at dksX0_wedding_2 10 rfl rfl)
theorem dX0_wedding_59 : decode cX0_wedding 59 = .ok (.aload_n 0, 1) := dk_42 (dk_at dksX0_wedding_2 13 rfl rfl)
theorem dX0_wedding_60 : decode cX0_wedding 60 = .ok (.getfield 70, 3) := dk_180 0 70 (dk_at dksX0_wedding_2 14 rfl rfl)
theorem dX0_wedding_63 : decode cX0_wedding 63 = .ok (.getfield 294, 3) := dk_180 1 38 (dk_at dksX0_wedding_2 17 rfl rfl)
theorem dX0_wedding_66 : decode cX0_wedding 66 = .ok (.istore 7, 2) := dk_54 7 (dk_at dksX0_wedding_2 20 rfl rfl)
theorem dX0_wedding_68 : decode cX0_wedding 68 = .ok (.aload_n 0, 1) := dk_42 (dk_at dksX0_wedding_2 22 rfl rfl)
theorem dX0_wedding_69 : decode cX0_wedding 69 = .ok (.getfield 70, 3) := dk_180 0 70 (dk_at dksX0_wedding_3 0 rfl rfl)
theorem dX0_wedding_72 : decode cX0_wedding 72 = .ok (.invokevirtual 291, 3) := dk_182 1 35 (dk_at dksX0_wedding_3 3 rfl rfl)
theorem dX0_wedding_75 : decode cX0_wedding 75 = .ok (.istore 8, 2) := dk_54 8 (dk_at dksX0_wedding_3 6 rfl rfl)
theorem dX0_wedding_77 : decode cX0_wedding 77 = .ok (.iload 8, 2) := dk_21 8 (dk_at dksX0_wedding_3 8 rfl rfl)
theorem dX0_wedding_79 : decode cX0_wedding 79 = .ok (.iload_n 1, 1) := dk_27 (dk_at dksX0_wedding_3 10 rfl rfl)
theorem dX0_wedding_80 : decode cX0_wedding 80 = .ok (.if_icmp .ne 8, 3) := dk_160 0 8 (dk_at dksX0_wedding_3 11 rfl rfl)
theorem dX0_wedding_83 : decode cX0_wedding 83 = .ok (.iload 7, 2) := dk_21 7 (dk_at dksX0_wedding_3 14 rfl rfl)
theorem dX0_wedding_85 : decode cX0_wedding 85 = .ok (.goto 5, 3) := dk_167 0 5 (dk_at dksX0_wedding_3 16 rfl rfl)
theorem dX0_wedding_88 : decode cX0_wedding 88 = .ok (.iload 4, 2) := dk_21 4 (dk_at dksX0_wedding_3 19 rfl rfl)
theorem dX0_wedding_90 : decode cX0_wedding 90 = .ok (.istore 4, 2) := dk_54 4 (dk_at dksX0_wedding_3 21 rfl rfl)
theorem dX0_wedding_92 : decode cX0_wedding 92 = .ok (.iload 8, 2) := dk_21 8 (dk_at dksX0_wedding_4 0 rfl rfl)
theorem dX0_wedding_94 : decode cX0_wedding 94 = .ok (.iload_n 2, 1) := dk_28 (dk_at dksX0_wedding_4 2 rfl rfl)
theorem dX0_wedding_95 : decode cX0_wedding 95 = .ok (.if_icmp .ne 8, 3) := dk_160 0 8 (dk_at dksX0_wedding_4 3 rfl rfl)
theorem dX0_wedding_98 : decode cX0_wedding 98 = .ok (.iload 7, 2) := dk_21 7 (dk_at dksX0_wedding_4 6 rfl rfl)
theorem dX0_wedding_100 : decode cX0_wedding 100 = .ok (.goto 5, 3) := dk_167 0 5 (dk_at dksX0_wedding_4 8 rfl rfl)
theorem dX0_wedding_103 : decode cX0_wedding 103 = .ok (.iload 5, 2) := dk_21 5 (dk_at dksX0_wedding_4 11 rfl rfl)
theorem dX0_wedding_105 : decode cX0_wedding 105 = .ok (.istore 5, 2) := dk_54 5 (dk_at dksX0_wedding_4 13 rfl rfl)
theorem dX0_wedding_107 : decode cX0_wedding 107 = .ok (.iload 4, 2) := dk_21 4 (dk_at dksX0_wedding_4 15 rfl rfl)
theorem dX0_wedding_109 : decode cX0_wedding 109 = .ok (.iconst (-1), 1) := dk_2 (dk_at dksX0_wedding_4 17 rfl rfl)
theorem dX0_wedding_110 : decode cX0_wedding 110 = .ok (.if_icmp .eq 13, 3) := dk_159 0 13 (dk_at dksX0_wedding_4 18 rfl rfl)
theorem dX0_wedding_113 : decode cX0_wedding 113 = .ok (.iload 4, 2) := dk_21 4 (dk_at dksX0_wedding_4 21 rfl rfl)
theorem dX0_wedding_115 : decode cX0_wedding 115 = .ok (.iload 5, 2) := dk_21 5 (dk_at dksX0_wedding_5 0 rfl rfl)
theorem dX0_wedding_117 : decode cX0_wedding 117 = .ok (.if_icmp .ne 6, 3) := dk_160 0 6 (dk_at dksX0_wedding_5 2 rfl rfl)
theorem dX0_wedding_120 : decode cX0_wedding 120 = .ok (.iload 4, 2) := dk_21 4 (dk_at dksX0_wedding_5 5 rfl rfl)
theorem dX0_wedding_122 : decode cX0_wedding 122 = .ok (.ireturn, 1) := dk_172 (dk_at dksX0_wedding_5 7 rfl rfl)
theorem dX0_wedding_123 : decode cX0_wedding 123 = .ok (.iinc 6 1, 3) := dk_132 6 1 (dk_at dksX0_wedding_5 8 rfl rfl)
theorem dX0_wedding_126 : decode cX0_wedding 126 = .ok (.goto (-83), 3) := dk_167 255 173 (dk_at dksX0_wedding_5 11 rfl rfl)
theorem dX0_wedding_129 : decode cX0_wedding 129 = .ok (.bipush (-2), 2) := dk_16 254 (dk_at dksX0_wedding_5 14 rfl rfl)
theorem dX0_wedding_131 : decode cX0_wedding 131 = .ok (.ireturn, 1) := dk_172 (dk_at dksX0_wedding_5 16 rfl rfl)
abbrev cX0_longest_2 : ByteArray := prog_1_method_49_code
def yX0_longest_2 : MethodName := ⟨RX0, "longest", "()I"⟩
def dkwX0_longest_2_2 : List UInt8 := [29, 46, 61, 132, 3, 1, 167, 255, 211, 27, 172]
abbrev dktX0_longest_2_2 : List UInt8 := dkwX0_longest_2_2 ++ []
def dkwX0_longest_2_1 : List UInt8 := [180, 0, 66, 180, 0, 211, 29, 46, 28, 163, 0, 6, 167, 0, 15, 29, 60, 42, 180, 0, 66, 180, 0, 211]
abbrev dktX0_longest_2_1 : List UInt8 := dkwX0_longest_2_1 ++ dktX0_longest_2_2
def dkwX0_longest_2_0 : List UInt8 := [16, 254, 60, 3, 61, 3, 62, 29, 16, 10, 162, 0, 45, 42, 29, 182, 0, 123, 153, 0, 31, 42]
abbrev dktX0_longest_2_0 : List UInt8 := dkwX0_longest_2_0 ++ dktX0_longest_2_1
theorem dksX0_longest_2_0 : cX0_longest_2.data.toList.drop 0 = dktX0_longest_2_0 := by decide +kernel
theorem dksX0_longest_2_1 : cX0_longest_2.data.toList.drop 22 = dktX0_longest_2_1 := dk_seg dksX0_longest_2_0 22 rfl rfl
theorem dksX0_longest_2_2 : cX0_longest_2.data.toList.drop 46 = dktX0_longest_2_2 := dk_seg dksX0_longest_2_1 24 rfl rfl
theorem dX0_longest_2_0 : decode cX0_longest_2 0 = .ok (.bipush (-2), 2) := dk_16 254 (dk_at dksX0_longest_2_0 0 rfl rfl)
theorem dX0_longest_2_2 : decode cX0_longest_2 2 = .ok (.istore_n 1, 1) := dk_60 (dk_at dksX0_longest_2_0 2 rfl rfl)
theorem dX0_longest_2_3 : decode cX0_longest_2 3 = .ok (.iconst 0, 1) := dk_3 (dk_at dksX0_longest_2_0 3 rfl rfl)
theorem dX0_longest_2_4 : decode cX0_longest_2 4 = .ok (.istore_n 2, 1) := dk_61 (dk_at dksX0_longest_2_0 4 rfl rfl)
theorem dX0_longest_2_5 : decode cX0_longest_2 5 = .ok (.iconst 0, 1) := dk_3 (dk_at dksX0_longest_2_0 5 rfl rfl)
theorem dX0_longest_2_6 : decode cX0_longest_2 6 = .ok (.istore_n 3, 1) := dk_62 (dk_at dksX0_longest_2_0 6 rfl rfl)
theorem dX0_longest_2_7 : decode cX0_longest_2 7 = .ok (.iload_n 3, 1) := dk_29 (dk_at dksX0_longest_2_0 7 rfl rfl)
theorem dX0_longest_2_8 : decode cX0_longest_2 8 = .ok (.bipush 10, 2) := dk_16 10 (dk_at dksX0_longest_2_0 8 rfl rfl)
theorem dX0_longest_2_10 : decode cX0_longest_2 10 = .ok (.if_icmp .ge 45, 3) := dk_162 0 45 (dk_at dksX0_longest_2_0 10 rfl rfl)
theorem dX0_longest_2_13 : decode cX0_longest_2 13 = .ok (.aload_n 0, 1) := dk_42 (dk_at dksX0_longest_2_0 13 rfl rfl)
theorem dX0_longest_2_14 : decode cX0_longest_2 14 = .ok (.iload_n 3, 1) := dk_29 (dk_at dksX0_longest_2_0 14 rfl rfl)
theorem dX0_longest_2_15 : decode cX0_longest_2 15 = .ok (.invokevirtual 123, 3) := dk_182 0 123 (dk_at dksX0_longest_2_0 15 rfl rfl)
theorem dX0_longest_2_18 : decode cX0_longest_2 18 = .ok (.ifCond .eq 31, 3) := dk_153 0 31 (dk_at dksX0_longest_2_0 18 rfl rfl)
theorem dX0_longest_2_21 : decode cX0_longest_2 21 = .ok (.aload_n 0, 1) := dk_42 (dk_at dksX0_longest_2_0 21 rfl rfl)
theorem dX0_longest_2_22 : decode cX0_longest_2 22 = .ok (.getfield 66, 3) := dk_180 0 66 (dk_at dksX0_longest_2_1 0 rfl rfl)
theorem dX0_longest_2_25 : decode cX0_longest_2 25 = .ok (.getfield 211, 3) := dk_180 0 211 (dk_at dksX0_longest_2_1 3 rfl rfl)
theorem dX0_longest_2_28 : decode cX0_longest_2 28 = .ok (.iload_n 3, 1) := dk_29 (dk_at dksX0_longest_2_1 6 rfl rfl)
theorem dX0_longest_2_29 : decode cX0_longest_2 29 = .ok (.iaload, 1) := dk_46 (dk_at dksX0_longest_2_1 7 rfl rfl)
theorem dX0_longest_2_30 : decode cX0_longest_2 30 = .ok (.iload_n 2, 1) := dk_28 (dk_at dksX0_longest_2_1 8 rfl rfl)
theorem dX0_longest_2_31 : decode cX0_longest_2 31 = .ok (.if_icmp .gt 6, 3) := dk_163 0 6 (dk_at dksX0_longest_2_1 9 rfl rfl)
theorem dX0_longest_2_34 : decode cX0_longest_2 34 = .ok (.goto 15, 3) := dk_167 0 15 (dk_at dksX0_longest_2_1 12 rfl rfl)
theorem dX0_longest_2_37 : decode cX0_longest_2 37 = .ok (.iload_n 3, 1) := dk_29 (dk_at dksX0_longest_2_1 15 rfl rfl)
theorem dX0_longest_2_38 : decode cX0_longest_2 38 = .ok (.istore_n 1, 1) := dk_60 (dk_at dksX0_longest_2_1 16 rfl rfl)
theorem dX0_longest_2_39 : decode cX0_longest_2 39 = .ok (.aload_n 0, 1) := dk_42 (dk_at dksX0_longest_2_1 17 rfl rfl)
theorem dX0_longest_2_40 : decode cX0_longest_2 40 = .ok (.getfield 66, 3) := dk_180 0 66 (dk_at dksX0_longest_2_1 18 rfl rfl)
theorem dX0_longest_2_43 : decode cX0_longest_2 43 = .ok (.getfield 211, 3) := dk_180 0 211 (dk_at dksX0_longest_2_1 21 rfl rfl)
theorem dX0_longest_2_46 : decode cX0_longest_2 46 = .ok (.iload_n 3, 1) := dk_29 (dk_at dksX0_longest_2_2 0 rfl rfl)
theorem dX0_longest_2_47 : decode cX0_longest_2 47 = .ok (.iaload, 1) := dk_46 (dk_at dksX0_longest_2_2 1 rfl rfl)
theorem dX0_longest_2_48 : decode cX0_longest_2 48 = .ok (.istore_n 2, 1) := dk_61 (dk_at dksX0_longest_2_2 2 rfl rfl)
theorem dX0_longest_2_49 : decode cX0_longest_2 49 = .ok (.iinc 3 1, 3) := dk_132 3 1 (dk_at dksX0_longest_2_2 3 rfl rfl)
theorem dX0_longest_2_52 : decode cX0_longest_2 52 = .ok (.goto (-45), 3) := dk_167 255 211 (dk_at dksX0_longest_2_2 6 rfl rfl)
theorem dX0_longest_2_55 : decode cX0_longest_2 55 = .ok (.iload_n 1, 1) := dk_27 (dk_at dksX0_longest_2_2 9 rfl rfl)
theorem dX0_longest_2_56 : decode cX0_longest_2 56 = .ok (.ireturn, 1) := dk_172 (dk_at dksX0_longest_2_2 10 rfl rfl)
abbrev cX0_chalk : ByteArray := prog_1_method_50_code
def yX0_chalk : MethodName := ⟨RX0, "chalk", "(I)I"⟩
def dkwX0_chalk_1 : List UInt8 := [167, 0, 4, 2, 172]
abbrev dktX0_chalk_1 : List UInt8 := dkwX0_chalk_1 ++ []
def dkwX0_chalk_0 : List UInt8 := [27, 42, 180, 0, 66, 182, 1, 41, 184, 0, 15, 153, 0, 14, 42, 180, 0, 66, 27, 182, 1, 44]
abbrev dktX0_chalk_0 : List UInt8 := dkwX0_chalk_0 ++ dktX0_chalk_1
theorem dksX0_chalk_0 : cX0_chalk.data.toList.drop 0 = dktX0_chalk_0 := by decide +kernel
theorem dksX0_chalk_1 : cX0_chalk.data.toList.drop 22 = dktX0_chalk_1 := dk_seg dksX0_chalk_0 22 rfl rfl
theorem dX0_chalk_0 : decode cX0_chalk 0 = .ok (.iload_n 1, 1) := dk_27 (dk_at dksX0_chalk_0 0 rfl rfl)
theorem dX0_chalk_1 : decode cX0_chalk 1 = .ok (.aload_n 0, 1) := dk_42 (dk_at dksX0_chalk_0 1 rfl rfl)
theorem dX0_chalk_2 : decode cX0_chalk 2 = .ok (.getfield 66, 3) := dk_180 0 66 (dk_at dksX0_chalk_0 2 rfl rfl)
theorem dX0_chalk_5 : decode cX0_chalk 5 = .ok (.invokevirtual 297, 3) := dk_182 1 41 (dk_at dksX0_chalk_0 5 rfl rfl)
theorem dX0_chalk_8 : decode cX0_chalk 8 = .ok (.invokestatic 15, 3) := dk_184 0 15 (dk_at dksX0_chalk_0 8 rfl rfl)
theorem dX0_chalk_11 : decode cX0_chalk 11 = .ok (.ifCond .eq 14, 3) := dk_153 0 14 (dk_at dksX0_chalk_0 11 rfl rfl)
theorem dX0_chalk_14 : decode cX0_chalk 14 = .ok (.aload_n 0, 1) := dk_42 (dk_at dksX0_chalk_0 14 rfl rfl)
theorem dX0_chalk_15 : decode cX0_chalk 15 = .ok (.getfield 66, 3) := dk_180 0 66 (dk_at dksX0_chalk_0 15 rfl rfl)
theorem dX0_chalk_18 : decode cX0_chalk 18 = .ok (.iload_n 1, 1) := dk_27 (dk_at dksX0_chalk_0 18 rfl rfl)
theorem dX0_chalk_19 : decode cX0_chalk 19 = .ok (.invokevirtual 300, 3) := dk_182 1 44 (dk_at dksX0_chalk_0 19 rfl rfl)
theorem dX0_chalk_22 : decode cX0_chalk 22 = .ok (.goto 4, 3) := dk_167 0 4 (dk_at dksX0_chalk_1 0 rfl rfl)
theorem dX0_chalk_25 : decode cX0_chalk 25 = .ok (.iconst (-1), 1) := dk_2 (dk_at dksX0_chalk_1 3 rfl rfl)
theorem dX0_chalk_26 : decode cX0_chalk 26 = .ok (.ireturn, 1) := dk_172 (dk_at dksX0_chalk_1 4 rfl rfl)
abbrev cX0_two : ByteArray := prog_1_method_52_code
def yX0_two : MethodName := ⟨RX0, "two", "(I)I"⟩
def dkwX0_two_5 : List UInt8 := [167, 0, 5, 21, 4, 172]
abbrev dktX0_two_5 : List UInt8 := dkwX0_two_5 ++ []
def dkwX0_two_4 : List UInt8 := [184, 0, 7, 184, 0, 1, 54, 4, 132, 5, 1, 167, 255, 211, 21, 4, 18, 246, 160, 0, 8, 16, 252]
abbrev dktX0_two_4 : List UInt8 := dkwX0_two_4 ++ dktX0_two_5
def dkwX0_two_3 : List UInt8 := [42, 180, 0, 66, 180, 0, 137, 182, 1, 51, 42, 29, 21, 5, 2, 130, 126, 28, 27, 182, 1, 51]
abbrev dktX0_two_3 : List UInt8 := dkwX0_two_3 ++ dktX0_two_4
def dkwX0_two_2 : List UInt8 := [28, 120, 4, 100, 62, 18, 246, 54, 4, 3, 54, 5, 21, 5, 29, 163, 0, 45, 21, 4, 42, 21, 5, 28]
abbrev dktX0_two_2 : List UInt8 := dkwX0_two_2 ++ dktX0_two_3
def dkwX0_two_1 : List UInt8 := [42, 180, 0, 66, 180, 0, 131, 182, 0, 199, 16, 8, 164, 0, 6, 16, 253, 172, 42, 182, 1, 8, 61, 4]
abbrev dktX0_two_1 : List UInt8 := dkwX0_two_1 ++ dktX0_two_2
def dkwX0_two_0 : List UInt8 := [42, 27, 182, 0, 123, 154, 0, 5, 2, 172, 42, 180, 0, 66, 180, 0, 137, 2, 160, 0, 6, 16, 254, 172]
abbrev dktX0_two_0 : List UInt8 := dkwX0_two_0 ++ dktX0_two_1
theorem dksX0_two_0 : cX0_two.data.toList.drop 0 = dktX0_two_0 := by decide +kernel
theorem dksX0_two_1 : cX0_two.data.toList.drop 24 = dktX0_two_1 := dk_seg dksX0_two_0 24 rfl rfl
theorem dksX0_two_2 : cX0_two.data.toList.drop 48 = dktX0_two_2 := dk_seg dksX0_two_1 24 rfl rfl
theorem dksX0_two_3 : cX0_two.data.toList.drop 72 = dktX0_two_3 := dk_seg dksX0_two_2 24 rfl rfl
theorem dksX0_two_4 : cX0_two.data.toList.drop 94 = dktX0_two_4 := dk_seg dksX0_two_3 22 rfl rfl
theorem dksX0_two_5 : cX0_two.data.toList.drop 117 = dktX0_two_5 := dk_seg dksX0_two_4 23 rfl rfl
theorem dX0_two_0 : decode cX0_two 0 = .ok (.aload_n 0, 1) := dk_42 (dk_at dksX0_two_0 0 rfl rfl)
theorem dX0_two_1 : decode cX0_two 1 = .ok (.iload_n 1, 1) := dk_27 (dk_at dksX0_two_0 1 rfl rfl)
theorem dX0_two_2 : decode cX0_two 2 = .ok (.invokevirtual 123, 3) := dk_182 0 123 (dk_at dksX0_two_0 2 rfl rfl)
theorem dX0_two_5 : decode cX0_two 5 = .ok (.ifCond .ne 5, 3) := dk_154 0 5 (dk_at dksX0_two_0 5 rfl rfl)
theorem dX0_two_8 : decode cX0_two 8 = .ok (.iconst (-1), 1) := dk_2 (dk_at dksX0_two_0 8 rfl rfl)
theorem dX0_two_9 : decode cX0_two 9 = .ok (.ireturn, 1) := dk_172 (dk_at dksX0_two_0 9 rfl rfl)
theorem dX0_two_10 : decode cX0_two 10 = .ok (.aload_n 0, 1) := dk_42 (dk_at dksX0_two_0 10 rfl rfl)
theorem dX0_two_11 : decode cX0_two 11 = .ok (.getfield 66, 3) := dk_180 0 66 (dk_at dksX0_two_0 11 rfl rfl)
theorem dX0_two_14 : decode cX0_two 14 = .ok (.getfield 137, 3) := dk_180 0 137 (dk_at dksX0_two_0 14 rfl rfl)
theorem dX0_two_17 : decode cX0_two 17 = .ok (.iconst (-1), 1) := dk_2 (dk_at dksX0_two_0 17 rfl rfl)
theorem dX0_two_18 : decode cX0_two 18 = .ok (.if_icmp .ne 6, 3) := dk_160 0 6 (dk_at dksX0_two_0 18 rfl rfl)
theorem dX0_two_21 : decode cX0_two 21 = .ok (.bipush (-2), 2) := dk_16 254 (dk_at dksX0_two_0 21 rfl rfl)
theorem dX0_two_23 : decode cX0_two 23 = .ok (.ireturn, 1) := dk_172 (dk_at dksX0_two_0 23 rfl rfl)
theorem dX0_two_24 : decode cX0_two 24 = .ok (.aload_n 0, 1) := dk_42 (dk_at dksX0_two_1 0 rfl rfl)
theorem dX0_two_25 : decode cX0_two 25 = .ok (.getfield 66, 3) := dk_180 0 66 (dk_at dksX0_two_1 1 rfl rfl)
theorem dX0_two_28 : decode cX0_two 28 = .ok (.getfield 131, 3) := dk_180 0 131 (dk_at dksX0_two_1 4 rfl rfl)
theorem dX0_two_31 : decode cX0_two 31 = .ok (.invokevirtual 199, 3) := dk_182 0 199 (dk_at dksX0_two_1 7 rfl rfl)
theorem dX0_two_34 : decode cX0_two 34 = .ok (.bipush 8, 2) := dk_16 8 (dk_at dksX0_two_1 10 rfl rfl)
theorem dX0_two_36 : decode cX0_two 36 = .ok (.if_icmp .le 6, 3) := dk_164 0 6 (dk_at dksX0_two_1 12 rfl rfl)
theorem dX0_two_39 : decode cX0_two 39 = .ok (.bipush (-3), 2) := dk_16 253 (dk_at dksX0_two_1 15 rfl rfl)
theorem dX0_two_41 : decode cX0_two 41 = .ok (.ireturn, 1) := dk_172 (dk_at dksX0_two_1 17 rfl rfl)
theorem dX0_two_42 : decode cX0_two 42 = .ok (.aload_n 0, 1) := dk_42 (dk_at dksX0_two_1 18 rfl rfl)
theorem dX0_two_43 : decode cX0_two 43 = .ok (.invokevirtual 264, 3) := dk_182 1 8 (dk_at dksX0_two_1 19 rfl rfl)
theorem dX0_two_46 : decode cX0_two 46 = .ok (.istore_n 2, 1) := dk_61 (dk_at dksX0_two_1 22 rfl rfl)
theorem dX0_two_47 : decode cX0_two 47 = .ok (.iconst 1, 1) := dk_4 (dk_at dksX0_two_1 23 rfl rfl)
theorem dX0_two_48 : decode cX0_two 48 = .ok (.iload_n 2, 1) := dk_28 (dk_at dksX0_two_2 0 rfl rfl)
theorem dX0_two_49 : decode cX0_two 49 = .ok (.ishl, 1) := dk_120 (dk_at dksX0_two_2 1 rfl rfl)
theorem dX0_two_50 : decode cX0_two 50 = .ok (.iconst 1, 1) := dk_4 (dk_at dksX0_two_2 2 rfl rfl)
theorem dX0_two_51 : decode cX0_two 51 = .ok (.isub, 1) := dk_100 (dk_at dksX0_two_2 3 rfl rfl)
theorem dX0_two_52 : decode cX0_two 52 = .ok (.istore_n 3, 1) := dk_62 (dk_at dksX0_two_2 4 rfl rfl)
theorem dX0_two_53 : decode cX0_two 53 = .ok (.ldc 246, 2) := dk_18 246 (dk_at dksX0_two_2 5 rfl rfl)
theorem dX0_two_55 : decode cX0_two 55 = .ok (.istore 4, 2) := dk_54 4 (dk_at dksX0_two_2 7 rfl rfl)
theorem dX0_two_57 : decode cX0_two 57 = .ok (.iconst 0, 1) := dk_3 (dk_at dksX0_two_2 9 rfl rfl)
theorem dX0_two_58 : decode cX0_two 58 = .ok (.istore 5, 2) := dk_54 5 (dk_at dksX0_two_2 10 rfl rfl)
theorem dX0_two_60 : decode cX0_two 60 = .ok (.iload 5, 2) := dk_21 5 (dk_at dksX0_two_2 12 rfl rfl)
theorem dX0_two_62 : decode cX0_two 62 = .ok (.iload_n 3, 1) := dk_29 (dk_at dksX0_two_2 14 rfl rfl)
theorem dX0_two_63 : decode cX0_two 63 = .ok (.if_icmp .gt 45, 3) := dk_163 0 45 (dk_at dksX0_two_2 15 rfl rfl)
theorem dX0_two_66 : decode cX0_two 66 = .ok (.iload 4, 2) := dk_21 4 (dk_at dksX0_two_2 18 rfl rfl)
theorem dX0_two_68 : decode cX0_two 68 = .ok (.aload_n 0, 1) := dk_42 (dk_at dksX0_two_2 20 rfl rfl)
theorem dX0_two_69 : decode cX0_two 69 = .ok (.iload 5, 2) := dk_21 5 (dk_at dksX0_two_2 21 rfl rfl)
theorem dX0_two_71 : decode cX0_two 71 = .ok (.iload_n 2, 1) := dk_28 (dk_at dksX0_two_2 23 rfl rfl)
theorem dX0_two_72 : decode cX0_two 72 = .ok (.aload_n 0, 1) := dk_42 (dk_at dksX0_two_3 0 rfl rfl)
theorem dX0_two_73 : decode cX0_two 73 = .ok (.getfield 66, 3) := dk_180 0 66 (dk_at dksX0_two_3 1 rfl rfl)
theorem dX0_two_76 : decode cX0_two 76 = .ok (.getfield 137, 3) := dk_180 0 137 (dk_at dksX0_two_3 4 rfl rfl)
theorem dX0_two_79 : decode cX0_two 79 = .ok (.invokevirtual 307, 3) := dk_182 1 51 (dk_at dksX0_two_3 7 rfl rfl)
theorem dX0_two_82 : decode cX0_two 82 = .ok (.aload_n 0, 1) := dk_42 (dk_at dksX0_two_3 10 rfl rfl)
theorem dX0_two_83 : decode cX0_two 83 = .ok (.iload_n 3, 1) := dk_29 (dk_at dksX0_two_3 11 rfl rfl)
theorem dX0_two_84 : decode cX0_two 84 = .ok (.iload 5, 2) := dk_21 5 (dk_at dksX0_two_3 12 rfl rfl)
theorem dX0_two_86 : decode cX0_two 86 = .ok (.iconst (-1), 1) := dk_2 (dk_at dksX0_two_3 14 rfl rfl)
theorem dX0_two_87 : decode cX0_two 87 = .ok (.ixor, 1) := dk_130 (dk_at dksX0_two_3 15 rfl rfl)
theorem dX0_two_88 : decode cX0_two 88 = .ok (.iand, 1) := dk_126 (dk_at dksX0_two_3 16 rfl rfl)
theorem dX0_two_89 : decode cX0_two 89 = .ok (.iload_n 2, 1) := dk_28 (dk_at dksX0_two_3 17 rfl rfl)
theorem dX0_two_90 : decode cX0_two 90 = .ok (.iload_n 1, 1) := dk_27 (dk_at dksX0_two_3 18 rfl rfl)
theorem dX0_two_91 : decode cX0_two 91 = .ok (.invokevirtual 307, 3) := dk_182 1 51 (dk_at dksX0_two_3 19 rfl rfl)
theorem dX0_two_94 : decode cX0_two 94 = .ok (.invokestatic 7, 3) := dk_184 0 7 (dk_at dksX0_two_4 0 rfl rfl)
theorem dX0_two_97 : decode cX0_two 97 = .ok (.invokestatic 1, 3) := dk_184 0 1 (dk_at dksX0_two_4 3 rfl rfl)
theorem dX0_two_100 : decode cX0_two 100 = .ok (.istore 4, 2) := dk_54 4 (dk_at dksX0_two_4 6 rfl rfl)
theorem dX0_two_102 : decode cX0_two 102 = .ok (.iinc 5 1, 3) := dk_132 5 1 (dk_at dksX0_two_4 8 rfl rfl)
theorem dX0_two_105 : decode cX0_two 105 = .ok (.goto (-45), 3) := dk_167 255 211 (dk_at dksX0_two_4 11 rfl rfl)
theorem dX0_two_108 : decode cX0_two 108 = .ok (.iload 4, 2) := dk_21 4 (dk_at dksX0_two_4 14 rfl rfl)
theorem dX0_two_110 : decode cX0_two 110 = .ok (.ldc 246, 2) := dk_18 246 (dk_at dksX0_two_4 16 rfl rfl)
theorem dX0_two_112 : decode cX0_two 112 = .ok (.if_icmp .ne 8, 3) := dk_160 0 8 (dk_at dksX0_two_4 18 rfl rfl)
theorem dX0_two_115 : decode cX0_two 115 = .ok (.bipush (-4), 2) := dk_16 252 (dk_at dksX0_two_4 21 rfl rfl)
theorem dX0_two_117 : decode cX0_two 117 = .ok (.goto 5, 3) := dk_167 0 5 (dk_at dksX0_two_5 0 rfl rfl)
theorem dX0_two_120 : decode cX0_two 120 = .ok (.iload 4, 2) := dk_21 4 (dk_at dksX0_two_5 3 rfl rfl)
theorem dX0_two_122 : decode cX0_two 122 = .ok (.ireturn, 1) := dk_172 (dk_at dksX0_two_5 5 rfl rfl)
abbrev cX0_hoursOf : ByteArray := prog_1_method_51_code
def yX0_hoursOf : MethodName := ⟨RX0, "hoursOf", "(III)I"⟩
def dkwX0_hoursOf_4 : List UInt8 := [182, 0, 233, 153, 0, 8, 21, 4, 167, 0, 5, 18, 246, 172]
abbrev dktX0_hoursOf_4 : List UInt8 := dkwX0_hoursOf_4 ++ []
def dkwX0_hoursOf_3 : List UInt8 := [180, 0, 114, 21, 5, 46, 182, 0, 177, 96, 54, 4, 132, 5, 1, 167, 255, 185, 42, 180, 0, 90, 29]
abbrev dktX0_hoursOf_3 : List UInt8 := dkwX0_hoursOf_3 ++ dktX0_hoursOf_4
def dkwX0_hoursOf_2 : List UInt8 := [42, 180, 0, 114, 21, 5, 46, 92, 46, 4, 96, 79, 21, 4, 42, 42, 180, 0, 111, 21, 5, 46, 42]
abbrev dktX0_hoursOf_2 : List UInt8 := dkwX0_hoursOf_2 ++ dktX0_hoursOf_3
def dkwX0_hoursOf_1 : List UInt8 := [184, 0, 23, 154, 0, 6, 167, 0, 53, 42, 180, 0, 90, 180, 0, 134, 42, 180, 0, 111, 21, 5, 46, 50]
abbrev dktX0_hoursOf_1 : List UInt8 := dkwX0_hoursOf_1 ++ dktX0_hoursOf_2
def dkwX0_hoursOf_0 : List UInt8 := [42, 180, 0, 90, 182, 1, 47, 87, 3, 54, 4, 3, 54, 5, 21, 5, 28, 162, 0, 71, 27, 21, 5]
abbrev dktX0_hoursOf_0 : List UInt8 := dkwX0_hoursOf_0 ++ dktX0_hoursOf_1
theorem dksX0_hoursOf_0 : cX0_hoursOf.data.toList.drop 0 = dktX0_hoursOf_0 := by decide +kernel
theorem dksX0_hoursOf_1 : cX0_hoursOf.data.toList.drop 23 = dktX0_hoursOf_1 := dk_seg dksX0_hoursOf_0 23 rfl rfl
theorem dksX0_hoursOf_2 : cX0_hoursOf.data.toList.drop 47 = dktX0_hoursOf_2 := dk_seg dksX0_hoursOf_1 24 rfl rfl
theorem dksX0_hoursOf_3 : cX0_hoursOf.data.toList.drop 70 = dktX0_hoursOf_3 := dk_seg dksX0_hoursOf_2 23 rfl rfl
theorem dksX0_hoursOf_4 : cX0_hoursOf.data.toList.drop 93 = dktX0_hoursOf_4 := dk_seg dksX0_hoursOf_3 23 rfl rfl
theorem dX0_hoursOf_0 : decode cX0_hoursOf 0 = .ok (.aload_n 0, 1) := dk_42 (dk_at dksX0_hoursOf_0 0 rfl rfl)
theorem dX0_hoursOf_1 : decode cX0_hoursOf 1 = .ok (.getfield 90, 3) := dk_180 0 90 (dk_at dksX0_hoursOf_0 1 rfl rfl)
theorem dX0_hoursOf_4 : decode cX0_hoursOf 4 = .ok (.invokevirtual 303, 3) := dk_182 1 47 (dk_at dksX0_hoursOf_0 4 rfl rfl)
theorem dX0_hoursOf_7 : decode cX0_hoursOf 7 = .ok (.pop, 1) := dk_87 (dk_at dksX0_hoursOf_0 7 rfl rfl)
theorem dX0_hoursOf_8 : decode cX0_hoursOf 8 = .ok (.iconst 0, 1) := dk_3 (dk_at dksX0_hoursOf_0 8 rfl rfl)
theorem dX0_hoursOf_9 : decode cX0_hoursOf 9 = .ok (.istore 4, 2) := dk_54 4 (dk_at dksX0_hoursOf_0 9 rfl rfl)
theorem dX0_hoursOf_11 : decode cX0_hoursOf 11 = .ok (.iconst 0, 1) := dk_3 (dk_at dksX0_hoursOf_0 11 rfl rfl)
theorem dX0_hoursOf_12 : decode cX0_hoursOf 12 = .ok (.istore 5, 2) := dk_54 5 (dk_at dksX0_hoursOf_0 12 rfl rfl)
theorem dX0_hoursOf_14 : decode cX0_hoursOf 14 = .ok (.iload 5, 2) := dk_21 5 (dk_at dksX0_hoursOf_0 14 rfl rfl)
theorem dX0_hoursOf_16 : decode cX0_hoursOf 16 = .ok (.iload_n 2, 1) := dk_28 (dk_at dksX0_hoursOf_0 16 rfl rfl)
theorem dX0_hoursOf_17 : decode cX0_hoursOf 17 = .ok (.if_icmp .ge 71, 3) := dk_162 0 71 (dk_at dksX0_hoursOf_0 17 rfl rfl)
theorem dX0_hoursOf_20 : decode cX0_hoursOf 20 = .ok (.iload_n 1, 1) := dk_27 (dk_at dksX0_hoursOf_0 20 rfl rfl)
theorem dX0_hoursOf_21 : decode cX0_hoursOf 21 = .ok (.iload 5, 2) := dk_21 5 (dk_at dksX0_hoursOf_0 21 rfl rfl)
theorem dX0_hoursOf_23 : decode cX0_hoursOf 23 = .ok (.invokestatic 23, 3) := dk_184 0 23 (dk_at dksX0_hoursOf_1 0 rfl rfl)
theorem dX0_hoursOf_26 : decode cX0_hoursOf 26 = .ok (.ifCond .ne 6, 3) := dk_154 0 6 (dk_at dksX0_hoursOf_1 3 rfl rfl)
theorem dX0_hoursOf_29 : decode cX0_hoursOf 29 = .ok (.goto 53, 3) := dk_167 0 53 (dk_at dksX0_hoursOf_1 6 rfl rfl)
theorem dX0_hoursOf_32 : decode cX0_hoursOf 32 = .ok (.aload_n 0, 1) := dk_42 (dk_at dksX0_hoursOf_1 9 rfl rfl)
theorem dX0_hoursOf_33 : decode cX0_hoursOf 33 = .ok (.getfield 90, 3) := dk_180 0 90 (dk_at dksX0_hoursOf_1 10 rfl rfl)
theorem dX0_hoursOf_36 : decode cX0_hoursOf 36 = .ok (.getfield 134, 3) := dk_180 0 134 (dk_at dksX0_hoursOf_1 13 rfl rfl)
theorem dX0_hoursOf_39 : decode cX0_hoursOf 39 = .ok (.aload_n 0, 1) := dk_42 (dk_at dksX0_hoursOf_1 16 rfl rfl)
theorem dX0_hoursOf_40 : decode cX0_hoursOf 40 = .ok (.getfield 111, 3) := dk_180 0 111 (dk_at dksX0_hoursOf_1 17 rfl rfl)
theorem dX0_hoursOf_43 : decode cX0_hoursOf 43 = .ok (.iload 5, 2) := dk_21 5 (dk_at dksX0_hoursOf_1 20 rfl rfl)
theorem dX0_hoursOf_45 : decode cX0_hoursOf 45 = .ok (.iaload, 1) := dk_46 (dk_at dksX0_hoursOf_1 22 rfl rfl)
theorem dX0_hoursOf_46 : decode cX0_hoursOf 46 = .ok (.aaload, 1) := dk_50 (dk_at dksX0_hoursOf_1 23 rfl rfl)
theorem dX0_hoursOf_47 : decode cX0_hoursOf 47 = .ok (.aload_n 0, 1) := dk_42 (dk_at dksX0_hoursOf_2 0 rfl rfl)
theorem dX0_hoursOf_48 : decode cX0_hoursOf 48 = .ok (.getfield 114, 3) := dk_180 0 114 (dk_at dksX0_hoursOf_2 1 rfl rfl)
theorem dX0_hoursOf_51 : decode cX0_hoursOf 51 = .ok (.iload 5, 2) := dk_21 5 (dk_at dksX0_hoursOf_2 4 rfl rfl)
theorem dX0_hoursOf_53 : decode cX0_hoursOf 53 = .ok (.iaload, 1) := dk_46 (dk_at dksX0_hoursOf_2 6 rfl rfl)
theorem dX0_hoursOf_54 : decode cX0_hoursOf 54 = .ok (.dup2, 1) := dk_92 (dk_at dksX0_hoursOf_2 7 rfl rfl)
theorem dX0_hoursOf_55 : decode cX0_hoursOf 55 = .ok (.iaload, 1) := dk_46 (dk_at dksX0_hoursOf_2 8 rfl rfl)
theorem dX0_hoursOf_56 : decode cX0_hoursOf 56 = .ok (.iconst 1, 1) := dk_4 (dk_at dksX0_hoursOf_2 9 rfl rfl)
theorem dX0_hoursOf_57 : decode cX0_hoursOf 57 = .ok (.iadd, 1) := dk_96 (dk_at dksX0_hoursOf_2 10 rfl rfl)
theorem dX0_hoursOf_58 : decode cX0_hoursOf 58 = .ok (.iastore, 1) := dk_79 (dk_at dksX0_hoursOf_2 11 rfl rfl)
theorem dX0_hoursOf_59 : decode cX0_hoursOf 59 = .ok (.iload 4, 2) := dk_21 4 (dk_at dksX0_hoursOf_2 12 rfl rfl)
theorem dX0_hoursOf_61 : decode cX0_hoursOf 61 = .ok (.aload_n 0, 1) := dk_42 (dk_at dksX0_hoursOf_2 14 rfl rfl)
theorem dX0_hoursOf_62 : decode cX0_hoursOf 62 = .ok (.aload_n 0, 1) := dk_42 (dk_at dksX0_hoursOf_2 15 rfl rfl)
theorem dX0_hoursOf_63 : decode cX0_hoursOf 63 = .ok (.getfield 111, 3) := dk_180 0 111 (dk_at dksX0_hoursOf_2 16 rfl rfl)
theorem dX0_hoursOf_66 : decode cX0_hoursOf 66 = .ok (.iload 5, 2) := dk_21 5 (dk_at dksX0_hoursOf_2 19 rfl rfl)
theorem dX0_hoursOf_68 : decode cX0_hoursOf 68 = .ok (.iaload, 1) := dk_46 (dk_at dksX0_hoursOf_2 21 rfl rfl)
theorem dX0_hoursOf_69 : decode cX0_hoursOf 69 = .ok (.aload_n 0, 1) := dk_42 (dk_at dksX0_hoursOf_2 22 rfl rfl)
theorem dX0_hoursOf_70 : decode cX0_hoursOf 70 = .ok (.getfield 114, 3) := dk_180 0 114 (dk_at dksX0_hoursOf_3 0 rfl rfl)
theorem dX0_hoursOf_73 : decode cX0_hoursOf 73 = .ok (.iload 5, 2) := dk_21 5 (dk_at dksX0_hoursOf_3 3 rfl rfl)
theorem dX0_hoursOf_75 : decode cX0_hoursOf 75 = .ok (.iaload, 1) := dk_46 (dk_at dksX0_hoursOf_3 5 rfl rfl)
theorem dX0_hoursOf_76 : decode cX0_hoursOf 76 = .ok (.invokevirtual 177, 3) := dk_182 0 177 (dk_at dksX0_hoursOf_3 6 rfl rfl)
theorem dX0_hoursOf_79 : decode cX0_hoursOf 79 = .ok (.iadd, 1) := dk_96 (dk_at dksX0_hoursOf_3 9 rfl rfl)
theorem dX0_hoursOf_80 : decode cX0_hoursOf 80 = .ok (.istore 4, 2) := dk_54 4 (dk_at dksX0_hoursOf_3 10 rfl rfl)
theorem dX0_hoursOf_82 : decode cX0_hoursOf 82 = .ok (.iinc 5 1, 3) := dk_132 5 1 (dk_at dksX0_hoursOf_3 12 rfl rfl)
theorem dX0_hoursOf_85 : decode cX0_hoursOf 85 = .ok (.goto (-71), 3) := dk_167 255 185 (dk_at dksX0_hoursOf_3 15 rfl rfl)
theorem dX0_hoursOf_88 : decode cX0_hoursOf 88 = .ok (.aload_n 0, 1) := dk_42 (dk_at dksX0_hoursOf_3 18 rfl rfl)
theorem dX0_hoursOf_89 : decode cX0_hoursOf 89 = .ok (.getfield 90, 3) := dk_180 0 90 (dk_at dksX0_hoursOf_3 19 rfl rfl)
theorem dX0_hoursOf_92 : decode cX0_hoursOf 92 = .ok (.iload_n 3, 1) := dk_29 (dk_at dksX0_hoursOf_3 22 rfl rfl)
theorem dX0_hoursOf_93 : decode cX0_hoursOf 93 = .ok (.invokevirtual 233, 3) := dk_182 0 233 (dk_at dksX0_hoursOf_4 0 rfl rfl)
theorem dX0_hoursOf_96 : decode cX0_hoursOf 96 = .ok (.ifCond .eq 8, 3) := dk_153 0 8 (dk_at dksX0_hoursOf_4 3 rfl rfl)
theorem dX0_hoursOf_99 : decode cX0_hoursOf 99 = .ok (.iload 4, 2) := dk_21 4 (dk_at dksX0_hoursOf_4 6 rfl rfl)
theorem dX0_hoursOf_101 : decode cX0_hoursOf 101 = .ok (.goto 5, 3) := dk_167 0 5 (dk_at dksX0_hoursOf_4 8 rfl rfl)
theorem dX0_hoursOf_104 : decode cX0_hoursOf 104 = .ok (.ldc 246, 2) := dk_18 246 (dk_at dksX0_hoursOf_4 11 rfl rfl)
theorem dX0_hoursOf_106 : decode cX0_hoursOf 106 = .ok (.ireturn, 1) := dk_172 (dk_at dksX0_hoursOf_4 13 rfl rfl)
abbrev cX0_dry : ByteArray := prog_1_method_53_code
def yX0_dry : MethodName := ⟨RX0, "dry", "(II)I"⟩
def dkwX0_dry_4 : List UInt8 := [21, 6, 108, 167, 0, 8, 21, 5, 21, 6, 108, 172]
abbrev dktX0_dry_4 : List UInt8 := dkwX0_dry_4 ++ []
def dkwX0_dry_3 : List UInt8 := [104, 54, 5, 132, 6, 1, 167, 255, 234, 21, 4, 21, 5, 184, 0, 10, 54, 6, 28, 154, 0, 11, 21, 4]
abbrev dktX0_dry_3 : List UInt8 := dkwX0_dry_3 ++ dktX0_dry_4
def dkwX0_dry_2 : List UInt8 := [54, 4, 4, 54, 5, 3, 54, 6, 21, 6, 27, 162, 0, 22, 21, 4, 29, 104, 54, 4, 21, 5, 16, 10]
abbrev dktX0_dry_2 : List UInt8 := dkwX0_dry_2 ++ dktX0_dry_3
def dkwX0_dry_1 : List UInt8 := [180, 0, 37, 3, 42, 180, 0, 66, 180, 1, 38, 182, 1, 55, 16, 114, 16, 10, 182, 0, 51, 100, 62, 4]
abbrev dktX0_dry_1 : List UInt8 := dkwX0_dry_1 ++ dktX0_dry_2
def dkwX0_dry_0 : List UInt8 := [27, 4, 16, 9, 184, 0, 127, 153, 0, 11, 28, 5, 184, 0, 15, 154, 0, 5, 2, 172, 16, 10, 42]
abbrev dktX0_dry_0 : List UInt8 := dkwX0_dry_0 ++ dktX0_dry_1
theorem dksX0_dry_0 : cX0_dry.data.toList.drop 0 = dktX0_dry_0 := by decide +kernel
theorem dksX0_dry_1 : cX0_dry.data.toList.drop 23 = dktX0_dry_1 := dk_seg dksX0_dry_0 23 rfl rfl
theorem dksX0_dry_2 : cX0_dry.data.toList.drop 47 = dktX0_dry_2 := dk_seg dksX0_dry_1 24 rfl rfl
theorem dksX0_dry_3 : cX0_dry.data.toList.drop 71 = dktX0_dry_3 := dk_seg dksX0_dry_2 24 rfl rfl
theorem dksX0_dry_4 : cX0_dry.data.toList.drop 95 = dktX0_dry_4 := dk_seg dksX0_dry_3 24 rfl rfl
theorem dX0_dry_0 : decode cX0_dry 0 = .ok (.iload_n 1, 1) := dk_27 (dk_at dksX0_dry_0 0 rfl rfl)
theorem dX0_dry_1 : decode cX0_dry 1 = .ok (.iconst 1, 1) := dk_4 (dk_at dksX0_dry_0 1 rfl rfl)
theorem dX0_dry_2 : decode cX0_dry 2 = .ok (.bipush 9, 2) := dk_16 9 (dk_at dksX0_dry_0 2 rfl rfl)
theorem dX0_dry_4 : decode cX0_dry 4 = .ok (.invokestatic 127, 3) := dk_184 0 127 (dk_at dksX0_dry_0 4 rfl rfl)
theorem dX0_dry_7 : decode cX0_dry 7 = .ok (.ifCond .eq 11, 3) := dk_153 0 11 (dk_at dksX0_dry_0 7 rfl rfl)
theorem dX0_dry_10 : decode cX0_dry 10 = .ok (.iload_n 2, 1) := dk_28 (dk_at dksX0_dry_0 10 rfl rfl)
theorem dX0_dry_11 : decode cX0_dry 11 = .ok (.iconst 2, 1) := dk_5 (dk_at dksX0_dry_0 11 rfl rfl)
theorem dX0_dry_12 : decode cX0_dry 12 = .ok (.invokestatic 15, 3) := dk_184 0 15 (dk_at dksX0_dry_0 12 rfl rfl)
theorem dX0_dry_15 : decode cX0_dry 15 = .ok (.ifCond .ne 5, 3) := dk_154 0 5 (dk_at dksX0_dry_0 15 rfl rfl)
theorem dX0_dry_18 : decode cX0_dry 18 = .ok (.iconst (-1), 1) := dk_2 (dk_at dksX0_dry_0 18 rfl rfl)
theorem dX0_dry_19 : decode cX0_dry 19 = .ok (.ireturn, 1) := dk_172 (dk_at dksX0_dry_0 19 rfl rfl)
theorem dX0_dry_20 : decode cX0_dry 20 = .ok (.bipush 10, 2) := dk_16 10 (dk_at dksX0_dry_0 20 rfl rfl)
theorem dX0_dry_22 : decode cX0_dry 22 = .ok (.aload_n 0, 1) := dk_42 (dk_at dksX0_dry_0 22 rfl rfl)
theorem dX0_dry_23 : decode cX0_dry 23 = .ok (.getfield 37, 3) := dk_180 0 37 (dk_at dksX0_dry_1 0 rfl rfl)
theorem dX0_dry_26 : decode cX0_dry 26 = .ok (.iconst 0, 1) := dk_3 (dk_at dksX0_dry_1 3 rfl rfl)
theorem dX0_dry_27 : decode cX0_dry 27 = .ok (.aload_n 0, 1) := dk_42 (dk_at dksX0_dry_1 4 rfl rfl)
theorem dX0_dry_28 : decode cX0_dry 28 = .ok (.getfield 66, 3) := dk_180 0 66 (dk_at dksX0_dry_1 5 rfl rfl)
theorem dX0_dry_31 : decode cX0_dry 31 = .ok (.getfield 294, 3) := dk_180 1 38 (dk_at dksX0_dry_1 8 rfl rfl)
theorem dX0_dry_34 : decode cX0_dry 34 = .ok (.invokevirtual 311, 3) := dk_182 1 55 (dk_at dksX0_dry_1 11 rfl rfl)
theorem dX0_dry_37 : decode cX0_dry 37 = .ok (.bipush 114, 2) := dk_16 114 (dk_at dksX0_dry_1 14 rfl rfl)
theorem dX0_dry_39 : decode cX0_dry 39 = .ok (.bipush 10, 2) := dk_16 10 (dk_at dksX0_dry_1 16 rfl rfl)
theorem dX0_dry_41 : decode cX0_dry 41 = .ok (.invokevirtual 51, 3) := dk_182 0 51 (dk_at dksX0_dry_1 18 rfl rfl)
theorem dX0_dry_44 : decode cX0_dry 44 = .ok (.isub, 1) := dk_100 (dk_at dksX0_dry_1 21 rfl rfl)
theorem dX0_dry_45 : decode cX0_dry 45 = .ok (.istore_n 3, 1) := dk_62 (dk_at dksX0_dry_1 22 rfl rfl)
theorem dX0_dry_46 : decode cX0_dry 46 = .ok (.iconst 1, 1) := dk_4 (dk_at dksX0_dry_1 23 rfl rfl)
theorem dX0_dry_47 : decode cX0_dry 47 = .ok (.istore 4, 2) := dk_54 4 (dk_at dksX0_dry_2 0 rfl rfl)
theorem dX0_dry_49 : decode cX0_dry 49 = .ok (.iconst 1, 1) := dk_4 (dk_at dksX0_dry_2 2 rfl rfl)
theorem dX0_dry_50 : decode cX0_dry 50 = .ok (.istore 5, 2) := dk_54 5 (dk_at dksX0_dry_2 3 rfl rfl)
theorem dX0_dry_52 : decode cX0_dry 52 = .ok (.iconst 0, 1) := dk_3 (dk_at dksX0_dry_2 5 rfl rfl)
theorem dX0_dry_53 : decode cX0_dry 53 = .ok (.istore 6, 2) := dk_54 6 (dk_at dksX0_dry_2 6 rfl rfl)
theorem dX0_dry_55 : decode cX0_dry 55 = .ok (.iload 6, 2) := dk_21 6 (dk_at dksX0_dry_2 8 rfl rfl)
theorem dX0_dry_57 : decode cX0_dry 57 = .ok (.iload_n 1, 1) := dk_27 (dk_at dksX0_dry_2 10 rfl rfl)
theorem dX0_dry_58 : decode cX0_dry 58 = .ok (.if_icmp .ge 22, 3) := dk_162 0 22 (dk_at dksX0_dry_2 11 rfl rfl)
theorem dX0_dry_61 : decode cX0_dry 61 = .ok (.iload 4, 2) := dk_21 4 (dk_at dksX0_dry_2 14 rfl rfl)
theorem dX0_dry_63 : decode cX0_dry 63 = .ok (.iload_n 3, 1) := dk_29 (dk_at dksX0_dry_2 16 rfl rfl)
theorem dX0_dry_64 : decode cX0_dry 64 = .ok (.imul, 1) := dk_104 (dk_at dksX0_dry_2 17 rfl rfl)
theorem dX0_dry_65 : decode cX0_dry 65 = .ok (.istore 4, 2) := dk_54 4 (dk_at dksX0_dry_2 18 rfl rfl)
theorem dX0_dry_67 : decode cX0_dry 67 = .ok (.iload 5, 2) := dk_21 5 (dk_at dksX0_dry_2 20 rfl rfl)
theorem dX0_dry_69 : decode cX0_dry 69 = .ok (.bipush 10, 2) := dk_16 10 (dk_at dksX0_dry_2 22 rfl rfl)
theorem dX0_dry_71 : decode cX0_dry 71 = .ok (.imul, 1) := dk_104 (dk_at dksX0_dry_3 0 rfl rfl)
theorem dX0_dry_72 : decode cX0_dry 72 = .ok (.istore 5, 2) := dk_54 5 (dk_at dksX0_dry_3 1 rfl rfl)
theorem dX0_dry_74 : decode cX0_dry 74 = .ok (.iinc 6 1, 3) := dk_132 6 1 (dk_at dksX0_dry_3 3 rfl rfl)
theorem dX0_dry_77 : decode cX0_dry 77 = .ok (.goto (-22), 3) := dk_167 255 234 (dk_at dksX0_dry_3 6 rfl rfl)
theorem dX0_dry_80 : decode cX0_dry 80 = .ok (.iload 4, 2) := dk_21 4 (dk_at dksX0_dry_3 9 rfl rfl)
theorem dX0_dry_82 : decode cX0_dry 82 = .ok (.iload 5, 2) := dk_21 5 (dk_at dksX0_dry_3 11 rfl rfl)
theorem dX0_dry_84 : decode cX0_dry 84 = .ok (.invokestatic 10, 3) := dk_184 0 10 (dk_at dksX0_dry_3 13 rfl rfl)
theorem dX0_dry_87 : decode cX0_dry 87 = .ok (.istore 6, 2) := dk_54 6 (dk_at dksX0_dry_3 16 rfl rfl)
theorem dX0_dry_89 : decode cX0_dry 89 = .ok (.iload_n 2, 1) := dk_28 (dk_at dksX0_dry_3 18 rfl rfl)
theorem dX0_dry_90 : decode cX0_dry 90 = .ok (.ifCond .ne 11, 3) := dk_154 0 11 (dk_at dksX0_dry_3 19 rfl rfl)
theorem dX0_dry_93 : decode cX0_dry 93 = .ok (.iload 4, 2) := dk_21 4 (dk_at dksX0_dry_3 22 rfl rfl)
theorem dX0_dry_95 : decode cX0_dry 95 = .ok (.iload 6, 2) := dk_21 6 (dk_at dksX0_dry_4 0 rfl rfl)
theorem dX0_dry_97 : decode cX0_dry 97 = .ok (.idiv, 1) := dk_108 (dk_at dksX0_dry_4 2 rfl rfl)
theorem dX0_dry_98 : decode cX0_dry 98 = .ok (.goto 8, 3) := dk_167 0 8 (dk_at dksX0_dry_4 3 rfl rfl)
theorem dX0_dry_101 : decode cX0_dry 101 = .ok (.iload 5, 2) := dk_21 5 (dk_at dksX0_dry_4 6 rfl rfl)
theorem dX0_dry_103 : decode cX0_dry 103 = .ok (.iload 6, 2) := dk_21 6 (dk_at dksX0_dry_4 8 rfl rfl)
theorem dX0_dry_105 : decode cX0_dry 105 = .ok (.idiv, 1) := dk_108 (dk_at dksX0_dry_4 10 rfl rfl)
theorem dX0_dry_106 : decode cX0_dry 106 = .ok (.ireturn, 1) := dk_172 (dk_at dksX0_dry_4 11 rfl rfl)
abbrev cX0_divisor : ByteArray := prog_1_method_5_code
def yX0_divisor : MethodName := ⟨RX0, "divisor", "(II)I"⟩
def dkwX0_divisor_0 : List UInt8 := [27, 154, 0, 7, 26, 167, 0, 10, 27, 26, 27, 112, 184, 0, 10, 172]
abbrev dktX0_divisor_0 : List UInt8 := dkwX0_divisor_0 ++ []
theorem dksX0_divisor_0 : cX0_divisor.data.toList.drop 0 = dktX0_divisor_0 := by decide +kernel
theorem dX0_divisor_0 : decode cX0_divisor 0 = .ok (.iload_n 1, 1) := dk_27 (dk_at dksX0_divisor_0 0 rfl rfl)
theorem dX0_divisor_1 : decode cX0_divisor 1 = .ok (.ifCond .ne 7, 3) := dk_154 0 7 (dk_at dksX0_divisor_0 1 rfl rfl)
theorem dX0_divisor_4 : decode cX0_divisor 4 = .ok (.iload_n 0, 1) := dk_26 (dk_at dksX0_divisor_0 4 rfl rfl)
theorem dX0_divisor_5 : decode cX0_divisor 5 = .ok (.goto 10, 3) := dk_167 0 10 (dk_at dksX0_divisor_0 5 rfl rfl)
theorem dX0_divisor_8 : decode cX0_divisor 8 = .ok (.iload_n 1, 1) := dk_27 (dk_at dksX0_divisor_0 8 rfl rfl)
theorem dX0_divisor_9 : decode cX0_divisor 9 = .ok (.iload_n 0, 1) := dk_26 (dk_at dksX0_divisor_0 9 rfl rfl)
theorem dX0_divisor_10 : decode cX0_divisor 10 = .ok (.iload_n 1, 1) := dk_27 (dk_at dksX0_divisor_0 10 rfl rfl)
theorem dX0_divisor_11 : decode cX0_divisor 11 = .ok (.irem, 1) := dk_112 (dk_at dksX0_divisor_0 11 rfl rfl)
theorem dX0_divisor_12 : decode cX0_divisor 12 = .ok (.invokestatic 10, 3) := dk_184 0 10 (dk_at dksX0_divisor_0 12 rfl rfl)
theorem dX0_divisor_15 : decode cX0_divisor 15 = .ok (.ireturn, 1) := dk_172 (dk_at dksX0_divisor_0 15 rfl rfl)
abbrev cX0_seed : ByteArray := prog_1_method_54_code
def yX0_seed : MethodName := ⟨RX0, "seed", "(I)Z"⟩
def dkwX0_seed_0 : List UInt8 := [27, 19, 1, 59, 184, 0, 15, 154, 0, 5, 3, 172, 42, 180, 0, 66, 27, 181, 0, 120, 4, 172]
abbrev dktX0_seed_0 : List UInt8 := dkwX0_seed_0 ++ []
theorem dksX0_seed_0 : cX0_seed.data.toList.drop 0 = dktX0_seed_0 := by decide +kernel
theorem dX0_seed_0 : decode cX0_seed 0 = .ok (.iload_n 1, 1) := dk_27 (dk_at dksX0_seed_0 0 rfl rfl)
theorem dX0_seed_1 : decode cX0_seed 1 = .ok (.ldc_w 315, 3) := dk_19 1 59 (dk_at dksX0_seed_0 1 rfl rfl)
theorem dX0_seed_4 : decode cX0_seed 4 = .ok (.invokestatic 15, 3) := dk_184 0 15 (dk_at dksX0_seed_0 4 rfl rfl)
theorem dX0_seed_7 : decode cX0_seed 7 = .ok (.ifCond .ne 5, 3) := dk_154 0 5 (dk_at dksX0_seed_0 7 rfl rfl)
theorem dX0_seed_10 : decode cX0_seed 10 = .ok (.iconst 0, 1) := dk_3 (dk_at dksX0_seed_0 10 rfl rfl)
theorem dX0_seed_11 : decode cX0_seed 11 = .ok (.ireturn, 1) := dk_172 (dk_at dksX0_seed_0 11 rfl rfl)
theorem dX0_seed_12 : decode cX0_seed 12 = .ok (.aload_n 0, 1) := dk_42 (dk_at dksX0_seed_0 12 rfl rfl)
theorem dX0_seed_13 : decode cX0_seed 13 = .ok (.getfield 66, 3) := dk_180 0 66 (dk_at dksX0_seed_0 13 rfl rfl)
theorem dX0_seed_16 : decode cX0_seed 16 = .ok (.iload_n 1, 1) := dk_27 (dk_at dksX0_seed_0 16 rfl rfl)
theorem dX0_seed_17 : decode cX0_seed 17 = .ok (.putfield 120, 3) := dk_181 0 120 (dk_at dksX0_seed_0 17 rfl rfl)
theorem dX0_seed_20 : decode cX0_seed 20 = .ok (.iconst 1, 1) := dk_4 (dk_at dksX0_seed_0 20 rfl rfl)
theorem dX0_seed_21 : decode cX0_seed 21 = .ok (.ireturn, 1) := dk_172 (dk_at dksX0_seed_0 21 rfl rfl)
abbrev cX0_keep : ByteArray := prog_1_method_55_code
def yX0_keep : MethodName := ⟨RX0, "keep", "()I"⟩
def dkwX0_keep_1 : List UInt8 := [182, 0, 199, 172]
abbrev dktX0_keep_1 : List UInt8 := dkwX0_keep_1 ++ []
def dkwX0_keep_0 : List UInt8 := [42, 4, 181, 1, 60, 42, 180, 0, 73, 42, 180, 0, 66, 182, 0, 184, 87, 42, 180, 0, 66, 180, 0, 131]
abbrev dktX0_keep_0 : List UInt8 := dkwX0_keep_0 ++ dktX0_keep_1
theorem dksX0_keep_0 : cX0_keep.data.toList.drop 0 = dktX0_keep_0 := by decide +kernel
theorem dksX0_keep_1 : cX0_keep.data.toList.drop 24 = dktX0_keep_1 := dk_seg dksX0_keep_0 24 rfl rfl
theorem dX0_keep_0 : decode cX0_keep 0 = .ok (.aload_n 0, 1) := dk_42 (dk_at dksX0_keep_0 0 rfl rfl)
theorem dX0_keep_1 : decode cX0_keep 1 = .ok (.iconst 1, 1) := dk_4 (dk_at dksX0_keep_0 1 rfl rfl)
theorem dX0_keep_2 : decode cX0_keep 2 = .ok (.putfield 316, 3) := dk_181 1 60 (dk_at dksX0_keep_0 2 rfl rfl)
theorem dX0_keep_5 : decode cX0_keep 5 = .ok (.aload_n 0, 1) := dk_42 (dk_at dksX0_keep_0 5 rfl rfl)
theorem dX0_keep_6 : decode cX0_keep 6 = .ok (.getfield 73, 3) := dk_180 0 73 (dk_at dksX0_keep_0 6 rfl rfl)
theorem dX0_keep_9 : decode cX0_keep 9 = .ok (.aload_n 0, 1) := dk_42 (dk_at dksX0_keep_0 9 rfl rfl)
theorem dX0_keep_10 : decode cX0_keep 10 = .ok (.getfield 66, 3) := dk_180 0 66 (dk_at dksX0_keep_0 10 rfl rfl)
theorem dX0_keep_13 : decode cX0_keep 13 = .ok (.invokevirtual 184, 3) := dk_182 0 184 (dk_at dksX0_keep_0 13 rfl rfl)
theorem dX0_keep_16 : decode cX0_keep 16 = .ok (.pop, 1) := dk_87 (dk_at dksX0_keep_0 16 rfl rfl)
theorem dX0_keep_17 : decode cX0_keep 17 = .ok (.aload_n 0, 1) := dk_42 (dk_at dksX0_keep_0 17 rfl rfl)
theorem dX0_keep_18 : decode cX0_keep 18 = .ok (.getfield 66, 3) := dk_180 0 66 (dk_at dksX0_keep_0 18 rfl rfl)
theorem dX0_keep_21 : decode cX0_keep 21 = .ok (.getfield 131, 3) := dk_180 0 131 (dk_at dksX0_keep_0 21 rfl rfl)
theorem dX0_keep_24 : decode cX0_keep 24 = .ok (.invokevirtual 199, 3) := dk_182 0 199 (dk_at dksX0_keep_1 0 rfl rfl)
theorem dX0_keep_27 : decode cX0_keep 27 = .ok (.ireturn, 1) := dk_172 (dk_at dksX0_keep_1 3 rfl rfl)
abbrev cX0_undo : ByteArray := prog_1_method_56_code
def yX0_undo : MethodName := ⟨RX0, "undo", "()Z"⟩
def dkwX0_undo_0 : List UInt8 := [42, 180, 1, 60, 154, 0, 5, 3, 172, 42, 180, 0, 66, 42, 180, 0, 73, 182, 0, 184, 87, 4, 172]
abbrev dktX0_undo_0 : List UInt8 := dkwX0_undo_0 ++ []
theorem dksX0_undo_0 : cX0_undo.data.toList.drop 0 = dktX0_undo_0 := by decide +kernel
theorem dX0_undo_0 : decode cX0_undo 0 = .ok (.aload_n 0, 1) := dk_42 (dk_at dksX0_undo_0 0 rfl rfl)
theorem dX0_undo_1 : decode cX0_undo 1 = .ok (.getfield 316, 3) := dk_180 1 60 (dk_at dksX0_undo_0 1 rfl rfl)
theorem dX0_undo_4 : decode cX0_undo 4 = .ok (.ifCond .ne 5, 3) := dk_154 0 5 (dk_at dksX0_undo_0 4 rfl rfl)
theorem dX0_undo_7 : decode cX0_undo 7 = .ok (.iconst 0, 1) := dk_3 (dk_at dksX0_undo_0 7 rfl rfl)
theorem dX0_undo_8 : decode cX0_undo 8 = .ok (.ireturn, 1) := dk_172 (dk_at dksX0_undo_0 8 rfl rfl)
theorem dX0_undo_9 : decode cX0_undo 9 = .ok (.aload_n 0, 1) := dk_42 (dk_at dksX0_undo_0 9 rfl rfl)
theorem dX0_undo_10 : decode cX0_undo 10 = .ok (.getfield 66, 3) := dk_180 0 66 (dk_at dksX0_undo_0 10 rfl rfl)
theorem dX0_undo_13 : decode cX0_undo 13 = .ok (.aload_n 0, 1) := dk_42 (dk_at dksX0_undo_0 13 rfl rfl)
theorem dX0_undo_14 : decode cX0_undo 14 = .ok (.getfield 73, 3) := dk_180 0 73 (dk_at dksX0_undo_0 14 rfl rfl)
theorem dX0_undo_17 : decode cX0_undo 17 = .ok (.invokevirtual 184, 3) := dk_182 0 184 (dk_at dksX0_undo_0 17 rfl rfl)
theorem dX0_undo_20 : decode cX0_undo 20 = .ok (.pop, 1) := dk_87 (dk_at dksX0_undo_0 20 rfl rfl)
theorem dX0_undo_21 : decode cX0_undo 21 = .ok (.iconst 1, 1) := dk_4 (dk_at dksX0_undo_0 21 rfl rfl)
theorem dX0_undo_22 : decode cX0_undo 22 = .ok (.ireturn, 1) := dk_172 (dk_at dksX0_undo_0 22 rfl rfl)
abbrev cX0_check : ByteArray := prog_1_method_57_code
def yX0_check : MethodName := ⟨RX0, "check", "(I)I"⟩
def dkwX0_check_3 : List UInt8 := [167, 0, 4, 3, 159, 0, 5, 28, 172, 132, 2, 1, 167, 255, 204, 2, 172]
abbrev dktX0_check_3 : List UInt8 := dkwX0_check_3 ++ []
def dkwX0_check_2 : List UInt8 := [182, 0, 123, 153, 0, 23, 17, 0, 255, 42, 180, 0, 66, 180, 0, 131, 28, 182, 0, 214, 184, 0, 1]
abbrev dktX0_check_2 : List UInt8 := dkwX0_check_2 ++ dktX0_check_3
def dkwX0_check_1 : List UInt8 := [181, 0, 143, 3, 61, 28, 27, 162, 0, 53, 42, 180, 0, 76, 28, 51, 17, 0, 255, 126, 42, 28]
abbrev dktX0_check_1 : List UInt8 := dkwX0_check_1 ++ dktX0_check_2
def dkwX0_check_0 : List UInt8 := [27, 3, 16, 10, 184, 0, 127, 153, 0, 11, 27, 42, 180, 0, 143, 164, 0, 6, 16, 254, 172, 42, 3]
abbrev dktX0_check_0 : List UInt8 := dkwX0_check_0 ++ dktX0_check_1
theorem dksX0_check_0 : cX0_check.data.toList.drop 0 = dktX0_check_0 := by decide +kernel
theorem dksX0_check_1 : cX0_check.data.toList.drop 23 = dktX0_check_1 := dk_seg dksX0_check_0 23 rfl rfl
theorem dksX0_check_2 : cX0_check.data.toList.drop 45 = dktX0_check_2 := dk_seg dksX0_check_1 22 rfl rfl
theorem dksX0_check_3 : cX0_check.data.toList.drop 68 = dktX0_check_3 := dk_seg dksX0_check_2 23 rfl rfl
theorem dX0_check_0 : decode cX0_check 0 = .ok (.iload_n 1, 1) := dk_27 (dk_at dksX0_check_0 0 rfl rfl)
theorem dX0_check_1 : decode cX0_check 1 = .ok (.iconst 0, 1) := dk_3 (dk_at dksX0_check_0 1 rfl rfl)
theorem dX0_check_2 : decode cX0_check 2 = .ok (.bipush 10, 2) := dk_16 10 (dk_at dksX0_check_0 2 rfl rfl)
theorem dX0_check_4 : decode cX0_check 4 = .ok (.invokestatic 127, 3) := dk_184 0 127 (dk_at dksX0_check_0 4 rfl rfl)
theorem dX0_check_7 : decode cX0_check 7 = .ok (.ifCond .eq 11, 3) := dk_153 0 11 (dk_at dksX0_check_0 7 rfl rfl)
theorem dX0_check_10 : decode cX0_check 10 = .ok (.iload_n 1, 1) := dk_27 (dk_at dksX0_check_0 10 rfl rfl)
theorem dX0_check_11 : decode cX0_check 11 = .ok (.aload_n 0, 1) := dk_42 (dk_at dksX0_check_0 11 rfl rfl)
theorem dX0_check_12 : decode cX0_check 12 = .ok (.getfield 143, 3) := dk_180 0 143 (dk_at dksX0_check_0 12 rfl rfl)
theorem dX0_check_15 : decode cX0_check 15 = .ok (.if_icmp .le 6, 3) := dk_164 0 6 (dk_at dksX0_check_0 15 rfl rfl)
theorem dX0_check_18 : decode cX0_check 18 = .ok (.bipush (-2), 2) := dk_16 254 (dk_at dksX0_check_0 18 rfl rfl)
theorem dX0_check_20 : decode cX0_check 20 = .ok (.ireturn, 1) := dk_172 (dk_at dksX0_check_0 20 rfl rfl)
theorem dX0_check_21 : decode cX0_check 21 = .ok (.aload_n 0, 1) := dk_42 (dk_at dksX0_check_0 21 rfl rfl)
theorem dX0_check_22 : decode cX0_check 22 = .ok (.iconst 0, 1) := dk_3 (dk_at dksX0_check_0 22 rfl rfl)
theorem dX0_check_23 : decode cX0_check 23 = .ok (.putfield 143, 3) := dk_181 0 143 (dk_at dksX0_check_1 0 rfl rfl)
theorem dX0_check_26 : decode cX0_check 26 = .ok (.iconst 0, 1) := dk_3 (dk_at dksX0_check_1 3 rfl rfl)
theorem dX0_check_27 : decode cX0_check 27 = .ok (.istore_n 2, 1) := dk_61 (dk_at dksX0_check_1 4 rfl rfl)
theorem dX0_check_28 : decode cX0_check 28 = .ok (.iload_n 2, 1) := dk_28 (dk_at dksX0_check_1 5 rfl rfl)
theorem dX0_check_29 : decode cX0_check 29 = .ok (.iload_n 1, 1) := dk_27 (dk_at dksX0_check_1 6 rfl rfl)
theorem dX0_check_30 : decode cX0_check 30 = .ok (.if_icmp .ge 53, 3) := dk_162 0 53 (dk_at dksX0_check_1 7 rfl rfl)
theorem dX0_check_33 : decode cX0_check 33 = .ok (.aload_n 0, 1) := dk_42 (dk_at dksX0_check_1 10 rfl rfl)
theorem dX0_check_34 : decode cX0_check 34 = .ok (.getfield 76, 3) := dk_180 0 76 (dk_at dksX0_check_1 11 rfl rfl)
theorem dX0_check_37 : decode cX0_check 37 = .ok (.iload_n 2, 1) := dk_28 (dk_at dksX0_check_1 14 rfl rfl)
theorem dX0_check_38 : decode cX0_check 38 = .ok (.baload, 1) := dk_51 (dk_at dksX0_check_1 15 rfl rfl)
theorem dX0_check_39 : decode cX0_check 39 = .ok (.sipush 255, 3) := dk_17 0 255 (dk_at dksX0_check_1 16 rfl rfl)
theorem dX0_check_42 : decode cX0_check 42 = .ok (.iand, 1) := dk_126 (dk_at dksX0_check_1 19 rfl rfl)
theorem dX0_check_43 : decode cX0_check 43 = .ok (.aload_n 0, 1) := dk_42 (dk_at dksX0_check_1 20 rfl rfl)
theorem dX0_check_44 : decode cX0_check 44 = .ok (.iload_n 2, 1) := dk_28 (dk_at dksX0_check_1 21 rfl rfl)
theorem dX0_check_45 : decode cX0_check 45 = .ok (.invokevirtual 123, 3) := dk_182 0 123 (dk_at dksX0_check_2 0 rfl rfl)
theorem dX0_check_48 : decode cX0_check 48 = .ok (.ifCond .eq 23, 3) := dk_153 0 23 (dk_at dksX0_check_2 3 rfl rfl)
theorem dX0_check_51 : decode cX0_check 51 = .ok (.sipush 255, 3) := dk_17 0 255 (dk_at dksX0_check_2 6 rfl rfl)
theorem dX0_check_54 : decode cX0_check 54 = .ok (.aload_n 0, 1) := dk_42 (dk_at dksX0_check_2 9 rfl rfl)
theorem dX0_check_55 : decode cX0_check 55 = .ok (.getfield 66, 3) := dk_180 0 66 (dk_at dksX0_check_2 10 rfl rfl)
theorem dX0_check_58 : decode cX0_check 58 = .ok (.getfield 131, 3) := dk_180 0 131 (dk_at dksX0_check_2 13 rfl rfl)
theorem dX0_check_61 : decode cX0_check 61 = .ok (.iload_n 2, 1) := dk_28 (dk_at dksX0_check_2 16 rfl rfl)
theorem dX0_check_62 : decode cX0_check 62 = .ok (.invokevirtual 214, 3) := dk_182 0 214 (dk_at dksX0_check_2 17 rfl rfl)
theorem dX0_check_65 : decode cX0_check 65 = .ok (.invokestatic 1, 3) := dk_184 0 1 (dk_at dksX0_check_2 20 rfl rfl)
theorem dX0_check_68 : decode cX0_check 68 = .ok (.goto 4, 3) := dk_167 0 4 (dk_at dksX0_check_3 0 rfl rfl)
theorem dX0_check_71 : decode cX0_check 71 = .ok (.iconst 0, 1) := dk_3 (dk_at dksX0_check_3 3 rfl rfl)
theorem dX0_check_72 : decode cX0_check 72 = .ok (.if_icmp .eq 5, 3) := dk_159 0 5 (dk_at dksX0_check_3 4 rfl rfl)
theorem dX0_check_75 : decode cX0_check 75 = .ok (.iload_n 2, 1) := dk_28 (dk_at dksX0_check_3 7 rfl rfl)
theorem dX0_check_76 : decode cX0_check 76 = .ok (.ireturn, 1) := dk_172 (dk_at dksX0_check_3 8 rfl rfl)
theorem dX0_check_77 : decode cX0_check 77 = .ok (.iinc 2 1, 3) := dk_132 2 1 (dk_at dksX0_check_3 9 rfl rfl)
theorem dX0_check_80 : decode cX0_check 80 = .ok (.goto (-52), 3) := dk_167 255 204 (dk_at dksX0_check_3 12 rfl rfl)
theorem dX0_check_83 : decode cX0_check 83 = .ok (.iconst (-1), 1) := dk_2 (dk_at dksX0_check_3 15 rfl rfl)
theorem dX0_check_84 : decode cX0_check 84 = .ok (.ireturn, 1) := dk_172 (dk_at dksX0_check_3 16 rfl rfl)
abbrev cX0_count : ByteArray := prog_1_method_58_code
def yX0_count : MethodName := ⟨RX0, "count", "(I)I"⟩
def dkwX0_count_8 : List UInt8 := [180, 0, 120, 172, 2, 172]
abbrev dktX0_count_8 : List UInt8 := dkwX0_count_8 ++ []
def dkwX0_count_7 : List UInt8 := [180, 0, 66, 182, 1, 41, 172, 42, 180, 0, 83, 180, 1, 70, 172, 42, 180, 0, 143, 172, 42, 180, 0, 66]
abbrev dktX0_count_7 : List UInt8 := dkwX0_count_7 ++ dktX0_count_8
def dkwX0_count_6 : List UInt8 := [180, 0, 66, 180, 1, 38, 172, 42, 180, 0, 66, 180, 1, 67, 153, 0, 7, 4, 167, 0, 4, 3, 172, 42]
abbrev dktX0_count_6 : List UInt8 := dkwX0_count_6 ++ dktX0_count_7
def dkwX0_count_5 : List UInt8 := [160, 0, 7, 3, 167, 0, 10, 42, 180, 0, 66, 180, 1, 64, 172, 42, 180, 0, 66, 180, 0, 208, 172, 42]
abbrev dktX0_count_5 : List UInt8 := dkwX0_count_5 ++ dktX0_count_6
def dkwX0_count_4 : List UInt8 := [160, 0, 8, 16, 254, 167, 0, 10, 42, 180, 0, 66, 180, 0, 140, 172, 42, 180, 0, 66, 180, 0, 140, 2]
abbrev dktX0_count_4 : List UInt8 := dkwX0_count_4 ++ dktX0_count_5
def dkwX0_count_3 : List UInt8 := [160, 0, 8, 16, 254, 167, 0, 10, 42, 180, 0, 66, 180, 0, 137, 172, 42, 180, 0, 66, 180, 0, 140, 2]
abbrev dktX0_count_3 : List UInt8 := dkwX0_count_3 ++ dktX0_count_4
def dkwX0_count_2 : List UInt8 := [42, 180, 0, 19, 172, 42, 180, 0, 66, 180, 0, 131, 182, 0, 199, 172, 42, 180, 0, 66, 180, 0, 137, 2]
abbrev dktX0_count_2 : List UInt8 := dkwX0_count_2 ++ dktX0_count_3
def dkwX0_count_1 : List UInt8 := [170, 0, 0, 0, 0, 0, 211, 0, 0, 0, 0, 0, 0, 0, 11, 0, 0, 0, 63, 0, 0, 0, 68, 0, 0, 0, 79, 0, 0, 0, 103, 0, 0, 0, 127, 0, 0, 0, 150, 0, 0, 0, 158, 0, 0, 0, 166, 0, 0, 0, 182, 0, 0, 0, 190, 0, 0, 0, 198, 0, 0, 0, 203]
abbrev dktX0_count_1 : List UInt8 := dkwX0_count_1 ++ dktX0_count_2
def dkwX0_count_0 : List UInt8 := [27]
abbrev dktX0_count_0 : List UInt8 := dkwX0_count_0 ++ dktX0_count_1
theorem dksX0_count_0 : cX0_count.data.toList.drop 0 = dktX0_count_0 := by decide +kernel
theorem dksX0_count_1 : cX0_count.data.toList.drop 1 = dktX0_count_1 := dk_seg dksX0_count_0 1 rfl rfl
theorem dksX0_count_2 : cX0_count.data.toList.drop 64 = dktX0_count_2 := dk_seg dksX0_count_1 63 rfl rfl
theorem dksX0_count_3 : cX0_count.data.toList.drop 88 = dktX0_count_3 := dk_seg dksX0_count_2 24 rfl rfl
theorem dksX0_count_4 : cX0_count.data.toList.drop 112 = dktX0_count_4 := dk_seg dksX0_count_3 24 rfl rfl
theorem dksX0_count_5 : cX0_count.data.toList.drop 136 = dktX0_count_5 := dk_seg dksX0_count_4 24 rfl rfl
theorem dksX0_count_6 : cX0_count.data.toList.drop 160 = dktX0_count_6 := dk_seg dksX0_count_5 24 rfl rfl
theorem dksX0_count_7 : cX0_count.data.toList.drop 184 = dktX0_count_7 := dk_seg dksX0_count_6 24 rfl rfl
theorem dksX0_count_8 : cX0_count.data.toList.drop 208 = dktX0_count_8 := dk_seg dksX0_count_7 24 rfl rfl
theorem dX0_count_0 : decode cX0_count 0 = .ok (.iload_n 1, 1) := dk_27 (dk_at dksX0_count_0 0 rfl rfl)
theorem dX0_count_1 : decode cX0_count 1 = .ok (.tableswitch 211 0 11 #[63, 68, 79, 103, 127, 150, 158, 166, 182, 190, 198, 203], 63) := by decide +kernel
theorem dX0_count_64 : decode cX0_count 64 = .ok (.aload_n 0, 1) := dk_42 (dk_at dksX0_count_2 0 rfl rfl)
theorem dX0_count_65 : decode cX0_count 65 = .ok (.getfield 19, 3) := dk_180 0 19 (dk_at dksX0_count_2 1 rfl rfl)
theorem dX0_count_68 : decode cX0_count 68 = .ok (.ireturn, 1) := dk_172 (dk_at dksX0_count_2 4 rfl rfl)
theorem dX0_count_69 : decode cX0_count 69 = .ok (.aload_n 0, 1) := dk_42 (dk_at dksX0_count_2 5 rfl rfl)
theorem dX0_count_70 : decode cX0_count 70 = .ok (.getfield 66, 3) := dk_180 0 66 (dk_at dksX0_count_2 6 rfl rfl)
theorem dX0_count_73 : decode cX0_count 73 = .ok (.getfield 131, 3) := dk_180 0 131 (dk_at dksX0_count_2 9 rfl rfl)
theorem dX0_count_76 : decode cX0_count 76 = .ok (.invokevirtual 199, 3) := dk_182 0 199 (dk_at dksX0_count_2 12 rfl rfl)
theorem dX0_count_79 : decode cX0_count 79 = .ok (.ireturn, 1) := dk_172 (dk_at dksX0_count_2 15 rfl rfl)
theorem dX0_count_80 : decode cX0_count 80 = .ok (.aload_n 0, 1) := dk_42 (dk_at dksX0_count_2 16 rfl rfl)
theorem dX0_count_81 : decode cX0_count 81 = .ok (.getfield 66, 3) := dk_180 0 66 (dk_at dksX0_count_2 17 rfl rfl)
theorem dX0_count_84 : decode cX0_count 84 = .ok (.getfield 137, 3) := dk_180 0 137 (dk_at dksX0_count_2 20 rfl rfl)
theorem dX0_count_87 : decode cX0_count 87 = .ok (.iconst (-1), 1) := dk_2 (dk_at dksX0_count_2 23 rfl rfl)
theorem dX0_count_88 : decode cX0_count 88 = .ok (.if_icmp .ne 8, 3) := dk_160 0 8 (dk_at dksX0_count_3 0 rfl rfl)
theorem dX0_count_91 : decode cX0_count 91 = .ok (.bipush (-2), 2) := dk_16 254 (dk_at dksX0_count_3 3 rfl rfl)
theorem dX0_count_93 : decode cX0_count 93 = .ok (.goto 10, 3) := dk_167 0 10 (dk_at dksX0_count_3 5 rfl rfl)
theorem dX0_count_96 : decode cX0_count 96 = .ok (.aload_n 0, 1) := dk_42 (dk_at dksX0_count_3 8 rfl rfl)
theorem dX0_count_97 : decode cX0_count 97 = .ok (.getfield 66, 3) := dk_180 0 66 (dk_at dksX0_count_3 9 rfl rfl)
theorem dX0_count_100 : decode cX0_count 100 = .ok (.getfield 137, 3) := dk_180 0 137 (dk_at dksX0_count_3 12 rfl rfl)
theorem dX0_count_103 : decode cX0_count 103 = .ok (.ireturn, 1) := dk_172 (dk_at dksX0_count_3 15 rfl rfl)
theorem dX0_count_104 : decode cX0_count 104 = .ok (.aload_n 0, 1) := dk_42 (dk_at dksX0_count_3 16 rfl rfl)
theorem dX0_count_105 : decode cX0_count 105 = .ok (.getfield 66, 3) := dk_180 0 66 (dk_at dksX0_count_3 17 rfl rfl)
theorem dX0_count_108 : decode cX0_count 108 = .ok (.getfield 140, 3) := dk_180 0 140 (dk_at dksX0_count_3 20 rfl rfl)
theorem dX0_count_111 : decode cX0_count 111 = .ok (.iconst (-1), 1) := dk_2 (dk_at dksX0_count_3 23 rfl rfl)
theorem dX0_count_112 : decode cX0_count 112 = .ok (.if_icmp .ne 8, 3) := dk_160 0 8 (dk_at dksX0_count_4 0 rfl rfl)
theorem dX0_count_115 : decode cX0_count 115 = .ok (.bipush (-2), 2) := dk_16 254 (dk_at dksX0_count_4 3 rfl rfl)
theorem dX0_count_117 : decode cX0_count 117 = .ok (.goto 10, 3) := dk_167 0 10 (dk_at dksX0_count_4 5 rfl rfl)
theorem dX0_count_120 : decode cX0_count 120 = .ok (.aload_n 0, 1) := dk_42 (dk_at dksX0_count_4 8 rfl rfl)
theorem dX0_count_121 : decode cX0_count 121 = .ok (.getfield 66, 3) := dk_180 0 66 (dk_at dksX0_count_4 9 rfl rfl)
theorem dX0_count_124 : decode cX0_count 124 = .ok (.getfield 140, 3) := dk_180 0 140 (dk_at dksX0_count_4 12 rfl rfl)
theorem dX0_count_127 : decode cX0_count 127 = .ok (.ireturn, 1) := dk_172 (dk_at dksX0_count_4 15 rfl rfl)
theorem dX0_count_128 : decode cX0_count 128 = .ok (.aload_n 0, 1) := dk_42 (dk_at dksX0_count_4 16 rfl rfl)
theorem dX0_count_129 : decode cX0_count 129 = .ok (.getfield 66, 3) := dk_180 0 66 (dk_at dksX0_count_4 17 rfl rfl)
theorem dX0_count_132 : decode cX0_count 132 = .ok (.getfield 140, 3) := dk_180 0 140 (dk_at dksX0_count_4 20 rfl rfl)
theorem dX0_count_135 : decode cX0_count 135 = .ok (.iconst (-1), 1) := dk_2 (dk_at dksX0_count_4 23 rfl rfl)
theorem dX0_count_136 : decode cX0_count 136 = .ok (.if_icmp .ne 7, 3) := dk_160 0 7 (dk_at dksX0_count_5 0 rfl rfl)
theorem dX0_count_139 : decode cX0_count 139 = .ok (.iconst 0, 1) := dk_3 (dk_at dksX0_count_5 3 rfl rfl)
theorem dX0_count_140 : decode cX0_count 140 = .ok (.goto 10, 3) := dk_167 0 10 (dk_at dksX0_count_5 4 rfl rfl)
theorem dX0_count_143 : decode cX0_count 143 = .ok (.aload_n 0, 1) := dk_42 (dk_at dksX0_count_5 7 rfl rfl)
theorem dX0_count_144 : decode cX0_count 144 = .ok (.getfield 66, 3) := dk_180 0 66 (dk_at dksX0_count_5 8 rfl rfl)
theorem dX0_count_147 : decode cX0_count 147 = .ok (.getfield 320, 3) := dk_180 1 64 (dk_at dksX0_count_5 11 rfl rfl)
theorem dX0_count_150 : decode cX0_count 150 = .ok (.ireturn, 1) := dk_172 (dk_at dksX0_count_5 14 rfl rfl)
theorem dX0_count_151 : decode cX0_count 151 = .ok (.aload_n 0, 1) := dk_42 (dk_at dksX0_count_5 15 rfl rfl)
theorem dX0_count_152 : decode cX0_count 152 = .ok (.getfield 66, 3) := dk_180 0 66 (dk_at dksX0_count_5 16 rfl rfl)
theorem dX0_count_155 : decode cX0_count 155 = .ok (.getfield 208, 3) := dk_180 0 208 (dk_at dksX0_count_5 19 rfl rfl)
theorem dX0_count_158 : decode cX0_count 158 = .ok (.ireturn, 1) := dk_172 (dk_at dksX0_count_5 22 rfl rfl)
theorem dX0_count_159 : decode cX0_count 159 = .ok (.aload_n 0, 1) := dk_42 (dk_at dksX0_count_5 23 rfl rfl)
theorem dX0_count_160 : decode cX0_count 160 = .ok (.getfield 66, 3) := dk_180 0 66 (dk_at dksX0_count_6 0 rfl rfl)
theorem dX0_count_163 : decode cX0_count 163 = .ok (.getfield 294, 3) := dk_180 1 38 (dk_at dksX0_count_6 3 rfl rfl)
theorem dX0_count_166 : decode cX0_count 166 = .ok (.ireturn, 1) := dk_172 (dk_at dksX0_count_6 6 rfl rfl)
theorem dX0_count_167 : decode cX0_count 167 = .ok (.aload_n 0, 1) := dk_42 (dk_at dksX0_count_6 7 rfl rfl)
theorem dX0_count_168 : decode cX0_count 168 = .ok (.getfield 66, 3) := dk_180 0 66 (dk_at dksX0_count_6 8 rfl rfl)
theorem dX0_count_171 : decode cX0_count 171 = .ok (.getfield 323, 3) := dk_180 1 67 (dk_at dksX0_count_6 11 rfl rfl)
theorem dX0_count_174 : decode cX0_count 174 = .ok (.ifCond .eq 7, 3) := dk_153 0 7 (dk_at dksX0_count_6 14 rfl rfl)
theorem dX0_count_177 : decode cX0_count 177 = .ok (.iconst 1, 1) := dk_4 (dk_at dksX0_count_6 17 rfl rfl)
theorem dX0_count_178 : decode cX0_count 178 = .ok (.goto 4, 3) := dk_167 0 4 (dk_at dksX0_count_6 18 rfl rfl)
theorem dX0_count_181 : decode cX0_count 181 = .ok (.iconst 0, 1) := dk_3 (dk_at dksX0_count_6 21 rfl rfl)
theorem dX0_count_182 : decode cX0_count 182 = .ok (.ireturn, 1) := dk_172 (dk_at dksX0_count_6 22 rfl rfl)
theorem dX0_count_183 : decode cX0_count 183 = .ok (.aload_n 0, 1) := dk_42 (dk_at dksX0_count_6 23 rfl rfl)
theorem dX0_count_184 : decode cX0_count 184 = .ok (.getfield 66, 3) := dk_180 0 66 (dk_at dksX0_count_7 0 rfl rfl)
theorem dX0_count_187 : decode cX0_count 187 = .ok (.invokevirtual 297, 3) := dk_182 1 41 (dk_at dksX0_count_7 3 rfl rfl)
theorem dX0_count_190 : decode cX0_count 190 = .ok (.ireturn, 1) := dk_172 (dk_at dksX0_count_7 6 rfl rfl)
theorem dX0_count_191 : decode cX0_count 191 = .ok (.aload_n 0, 1) := dk_42 (dk_at dksX0_count_7 7 rfl rfl)
theorem dX0_count_192 : decode cX0_count 192 = .ok (.getfield 83, 3) := dk_180 0 83 (dk_at dksX0_count_7 8 rfl rfl)
theorem dX0_count_195 : decode cX0_count 195 = .ok (.getfield 326, 3) := dk_180 1 70 (dk_at dksX0_count_7 11 rfl rfl)
theorem dX0_count_198 : decode cX0_count 198 = .ok (.ireturn, 1) := dk_172 (dk_at dksX0_count_7 14 rfl rfl)
theorem dX0_count_199 : decode cX0_count 199 = .ok (.aload_n 0, 1) := dk_42 (dk_at dksX0_count_7 15 rfl rfl)
theorem dX0_count_200 : decode cX0_count 200 = .ok (.getfield 143, 3) := dk_180 0 143 (dk_at dksX0_count_7 16 rfl rfl)
theorem dX0_count_203 : decode cX0_count 203 = .ok (.ireturn, 1) := dk_172 (dk_at dksX0_count_7 19 rfl rfl)
theorem dX0_count_204 : decode cX0_count 204 = .ok (.aload_n 0, 1) := dk_42 (dk_at dksX0_count_7 20 rfl rfl)
theorem dX0_count_205 : decode cX0_count 205 = .ok (.getfield 66, 3) := dk_180 0 66 (dk_at dksX0_count_7 21 rfl rfl)
theorem dX0_count_208 : decode cX0_count 208 = .ok (.getfield 120, 3) := dk_180 0 120 (dk_at dksX0_count_8 0 rfl rfl)
theorem dX0_count_211 : decode cX0_count 211 = .ok (.ireturn, 1) := dk_172 (dk_at dksX0_count_8 3 rfl rfl)
theorem dX0_count_212 : decode cX0_count 212 = .ok (.iconst (-1), 1) := dk_2 (dk_at dksX0_count_8 4 rfl rfl)
theorem dX0_count_213 : decode cX0_count 213 = .ok (.ireturn, 1) := dk_172 (dk_at dksX0_count_8 5 rfl rfl)
theorem q116 : (Jvm.Cond.initialized "OneCoin") ∈ lw_all := lw_g (lw_at lw_m1 1 rfl) rfl
theorem q143 : (Jvm.Cond.instantiable "OneCoin" (22 : Nat)) ∈ lw_all := lw_g (lw_at lw_m1 28 rfl) rfl
theorem q145 : (Jvm.Cond.instanceMethod ({ cls := "OneCoin", name := "<init>", desc := "()V" } : Jvm.MethodName)) ∈ lw_all := lw_g (lw_at lw_m1 30 rfl) rfl
theorem q146 : (Jvm.Cond.code ({ cls := "OneCoin", name := "<init>", desc := "()V" } : Jvm.MethodName) prog_1_method_9_code (1 : Nat) (Option.none : Option Jvm.ClassFile.FieldType)) ∈ lw_all := lw_g (lw_at lw_m1 31 rfl) rfl
theorem q147 : (Jvm.Cond.methodLink "OneCoin" (54 : Nat) ({ cls := "java/lang/Object", name := "<init>", desc := "()V" } : Jvm.MethodName)) ∈ lw_all := lw_g (lw_at lw_m1 32 rfl) rfl
theorem q150 : (Jvm.Cond.classLink "OneCoin" (42 : Nat) "OneCoin$Moment") ∈ lw_all := lw_g (lw_at lw_m1 35 rfl) rfl
theorem q152 : (Jvm.Cond.methodLinkNest "OneCoin" (60 : Nat) ({ cls := "OneCoin$Moment", name := "<init>", desc := "(LOneCoin;)V" } : Jvm.MethodName) "OneCoin") ∈ lw_tbl := lw_at lw_m1 37 rfl
theorem q193 : (Jvm.Cond.classLink "OneCoin" (63 : Nat) "OneCoin$Duchy") ∈ lw_all := lw_g (lw_at lw_m1 78 rfl) rfl
theorem q195 : (Jvm.Cond.methodLinkNest "OneCoin" (65 : Nat) ({ cls := "OneCoin$Duchy", name := "<init>", desc := "(LOneCoin;)V" } : Jvm.MethodName) "OneCoin") ∈ lw_tbl := lw_at lw_m1 80 rfl
theorem q211 : (Jvm.Cond.fieldLinkNest "OneCoin" (134 : Nat) "OneCoin$Debts" "owed" "[[I" "OneCoin") ∈ lw_tbl := lw_at lw_m1 96 rfl
theorem q217 : (Jvm.Cond.fieldLinkNest "OneCoin" (131 : Nat) "OneCoin$Duchy" "debts" "LOneCoin$Debts;" "OneCoin") ∈ lw_tbl := lw_at lw_m1 102 rfl
theorem q219 : (Jvm.Cond.fieldLinkNest "OneCoin" (211 : Nat) "OneCoin$Duchy" "had" "[I" "OneCoin") ∈ lw_tbl := lw_at lw_m1 104 rfl
theorem q222 : (Jvm.Cond.fieldLinkNest "OneCoin" (137 : Nat) "OneCoin$Duchy" "holder" "I" "OneCoin") ∈ lw_tbl := lw_at lw_m1 107 rfl
theorem q225 : (Jvm.Cond.fieldLinkNest "OneCoin" (140 : Nat) "OneCoin$Duchy" "goal" "I" "OneCoin") ∈ lw_tbl := lw_at lw_m1 110 rfl
theorem q227 : (Jvm.Cond.fieldLinkNest "OneCoin" (320 : Nat) "OneCoin$Duchy" "left" "I" "OneCoin") ∈ lw_tbl := lw_at lw_m1 112 rfl
theorem q230 : (Jvm.Cond.fieldLinkNest "OneCoin" (208 : Nat) "OneCoin$Duchy" "hour" "I" "OneCoin") ∈ lw_tbl := lw_at lw_m1 115 rfl
theorem q233 : (Jvm.Cond.fieldLinkNest "OneCoin" (294 : Nat) "OneCoin$Duchy" "day" "I" "OneCoin") ∈ lw_tbl := lw_at lw_m1 118 rfl
theorem q235 : (Jvm.Cond.fieldLinkNest "OneCoin" (120 : Nat) "OneCoin$Duchy" "x" "I" "OneCoin") ∈ lw_tbl := lw_at lw_m1 120 rfl
theorem q238 : (Jvm.Cond.fieldLinkNest "OneCoin" (196 : Nat) "OneCoin$Duchy" "payings" "I" "OneCoin") ∈ lw_tbl := lw_at lw_m1 123 rfl
theorem q240 : (Jvm.Cond.fieldLinkNest "OneCoin" (202 : Nat) "OneCoin$Duchy" "rainyDays" "I" "OneCoin") ∈ lw_tbl := lw_at lw_m1 125 rfl
theorem q242 : (Jvm.Cond.fieldLinkNest "OneCoin" (205 : Nat) "OneCoin$Duchy" "interest" "I" "OneCoin") ∈ lw_tbl := lw_at lw_m1 127 rfl
theorem q244 : (Jvm.Cond.fieldLinkNest "OneCoin" (323 : Nat) "OneCoin$Duchy" "isRainy" "Z" "OneCoin") ∈ lw_tbl := lw_at lw_m1 129 rfl
theorem q279 : (Jvm.Cond.classLink "OneCoin" (80 : Nat) "OneCoin$Text") ∈ lw_all := lw_g (lw_at lw_m1 164 rfl) rfl
theorem q281 : (Jvm.Cond.methodLinkNest "OneCoin" (82 : Nat) ({ cls := "OneCoin$Text", name := "<init>", desc := "()V" } : Jvm.MethodName) "OneCoin") ∈ lw_tbl := lw_at lw_m1 166 rfl
theorem q297 : (Jvm.Cond.fieldLinkNest "OneCoin" (326 : Nat) "OneCoin$Text" "many" "I" "OneCoin") ∈ lw_tbl := lw_at lw_m1 182 rfl
theorem q308 : (Jvm.Cond.classLink "OneCoin" (87 : Nat) "OneCoin$Debts") ∈ lw_all := lw_g (lw_at lw_m1 193 rfl) rfl
theorem q309 : (Jvm.Cond.methodLinkNest "OneCoin" (89 : Nat) ({ cls := "OneCoin$Debts", name := "<init>", desc := "()V" } : Jvm.MethodName) "OneCoin") ∈ lw_tbl := lw_at lw_m1 194 rfl
theorem q310 : (Jvm.Cond.classLink "OneCoin" (100 : Nat) "[[I") ∈ lw_all := lw_g (lw_at lw_m1 195 rfl) rfl
theorem q311 : (Jvm.Cond.fieldLink "OneCoin" (26 : Nat) "OneCoin" "xs" "[I") ∈ lw_all := lw_g (lw_at lw_m1 196 rfl) rfl
theorem q312 : (Jvm.Cond.fieldLink "OneCoin" (34 : Nat) "OneCoin" "ys" "[I") ∈ lw_all := lw_g (lw_at lw_m1 197 rfl) rfl
theorem q313 : (Jvm.Cond.fieldLink "OneCoin" (19 : Nat) "OneCoin" "told" "I") ∈ lw_all := lw_g (lw_at lw_m1 198 rfl) rfl
theorem q314 : (Jvm.Cond.fieldLink "OneCoin" (37 : Nat) "OneCoin" "moment" "LOneCoin$Moment;") ∈ lw_all := lw_g (lw_at lw_m1 199 rfl) rfl
theorem q316 : (Jvm.Cond.fieldLink "OneCoin" (66 : Nat) "OneCoin" "duchy" "LOneCoin$Duchy;") ∈ lw_all := lw_g (lw_at lw_m1 201 rfl) rfl
theorem q317 : (Jvm.Cond.fieldLink "OneCoin" (70 : Nat) "OneCoin" "then" "LOneCoin$Duchy;") ∈ lw_all := lw_g (lw_at lw_m1 202 rfl) rfl
theorem q318 : (Jvm.Cond.fieldLink "OneCoin" (73 : Nat) "OneCoin" "kept" "LOneCoin$Duchy;") ∈ lw_all := lw_g (lw_at lw_m1 203 rfl) rfl
theorem q321 : (Jvm.Cond.fieldLink "OneCoin" (76 : Nat) "OneCoin" "tape" "[B") ∈ lw_all := lw_g (lw_at lw_m1 206 rfl) rfl
theorem q323 : (Jvm.Cond.fieldLink "OneCoin" (83 : Nat) "OneCoin" "law" "LOneCoin$Text;") ∈ lw_all := lw_g (lw_at lw_m1 208 rfl) rfl
theorem q324 : (Jvm.Cond.fieldLink "OneCoin" (143 : Nat) "OneCoin" "taped" "I") ∈ lw_all := lw_g (lw_at lw_m1 209 rfl) rfl
theorem q325 : (Jvm.Cond.fieldLink "OneCoin" (316 : Nat) "OneCoin" "isKept" "Z") ∈ lw_all := lw_g (lw_at lw_m1 210 rfl) rfl
theorem q326 : (Jvm.Cond.fieldLink "OneCoin" (171 : Nat) "OneCoin" "walkedHours" "I") ∈ lw_all := lw_g (lw_at lw_m1 211 rfl) rfl
theorem q327 : (Jvm.Cond.fieldLink "OneCoin" (90 : Nat) "OneCoin" "work" "LOneCoin$Debts;") ∈ lw_all := lw_g (lw_at lw_m1 212 rfl) rfl
theorem q328 : (Jvm.Cond.fieldLink "OneCoin" (94 : Nat) "OneCoin" "row" "[I") ∈ lw_all := lw_g (lw_at lw_m1 213 rfl) rfl
theorem q329 : (Jvm.Cond.fieldLink "OneCoin" (97 : Nat) "OneCoin" "bestRow" "[I") ∈ lw_all := lw_g (lw_at lw_m1 214 rfl) rfl
theorem q330 : (Jvm.Cond.fieldLink "OneCoin" (239 : Nat) "OneCoin" "bestMany" "I") ∈ lw_all := lw_g (lw_at lw_m1 215 rfl) rfl
theorem q331 : (Jvm.Cond.fieldLink "OneCoin" (102 : Nat) "OneCoin" "ways" "[[I") ∈ lw_all := lw_g (lw_at lw_m1 216 rfl) rfl
theorem q332 : (Jvm.Cond.fieldLink "OneCoin" (105 : Nat) "OneCoin" "owing" "[I") ∈ lw_all := lw_g (lw_at lw_m1 217 rfl) rfl
theorem q333 : (Jvm.Cond.fieldLink "OneCoin" (108 : Nat) "OneCoin" "getting" "[I") ∈ lw_all := lw_g (lw_at lw_m1 218 rfl) rfl
theorem q334 : (Jvm.Cond.fieldLink "OneCoin" (111 : Nat) "OneCoin" "from" "[I") ∈ lw_all := lw_g (lw_at lw_m1 219 rfl) rfl
theorem q335 : (Jvm.Cond.fieldLink "OneCoin" (114 : Nat) "OneCoin" "to" "[I") ∈ lw_all := lw_g (lw_at lw_m1 220 rfl) rfl
theorem q336 : (Jvm.Cond.fieldLink "OneCoin" (117 : Nat) "OneCoin" "groups" "[I") ∈ lw_all := lw_g (lw_at lw_m1 221 rfl) rfl
theorem q337 : (Jvm.Cond.laysFinal "OneCoin" "OneCoin" "xs" "[I") ∈ lw_all := lw_g (lw_at lw_m1 222 rfl) rfl
theorem q338 : (Jvm.Cond.soleField "OneCoin" "xs") ∈ lw_all := lw_g (lw_at lw_m1 223 rfl) rfl
theorem q339 : (Jvm.Cond.laysFinal "OneCoin" "OneCoin" "ys" "[I") ∈ lw_all := lw_g (lw_at lw_m1 224 rfl) rfl
theorem q340 : (Jvm.Cond.soleField "OneCoin" "ys") ∈ lw_all := lw_g (lw_at lw_m1 225 rfl) rfl
theorem q341 : (Jvm.Cond.lays "OneCoin" "OneCoin" "told" "I") ∈ lw_all := lw_g (lw_at lw_m1 226 rfl) rfl
theorem q342 : (Jvm.Cond.soleField "OneCoin" "told") ∈ lw_all := lw_g (lw_at lw_m1 227 rfl) rfl
theorem q343 : (Jvm.Cond.laysFinal "OneCoin" "OneCoin" "moment" "LOneCoin$Moment;") ∈ lw_all := lw_g (lw_at lw_m1 228 rfl) rfl
theorem q344 : (Jvm.Cond.soleField "OneCoin" "moment") ∈ lw_all := lw_g (lw_at lw_m1 229 rfl) rfl
theorem q345 : (Jvm.Cond.laysFinal "OneCoin" "OneCoin" "duchy" "LOneCoin$Duchy;") ∈ lw_all := lw_g (lw_at lw_m1 230 rfl) rfl
theorem q346 : (Jvm.Cond.soleField "OneCoin" "duchy") ∈ lw_all := lw_g (lw_at lw_m1 231 rfl) rfl
theorem q347 : (Jvm.Cond.laysFinal "OneCoin" "OneCoin" "then" "LOneCoin$Duchy;") ∈ lw_all := lw_g (lw_at lw_m1 232 rfl) rfl
theorem q348 : (Jvm.Cond.soleField "OneCoin" "then") ∈ lw_all := lw_g (lw_at lw_m1 233 rfl) rfl
theorem q349 : (Jvm.Cond.laysFinal "OneCoin" "OneCoin" "kept" "LOneCoin$Duchy;") ∈ lw_all := lw_g (lw_at lw_m1 234 rfl) rfl
theorem q350 : (Jvm.Cond.soleField "OneCoin" "kept") ∈ lw_all := lw_g (lw_at lw_m1 235 rfl) rfl
theorem q351 : (Jvm.Cond.laysFinal "OneCoin" "OneCoin" "tape" "[B") ∈ lw_all := lw_g (lw_at lw_m1 236 rfl) rfl
theorem q352 : (Jvm.Cond.soleField "OneCoin" "tape") ∈ lw_all := lw_g (lw_at lw_m1 237 rfl) rfl
theorem q353 : (Jvm.Cond.lays "OneCoin" "OneCoin" "law" "LOneCoin$Text;") ∈ lw_all := lw_g (lw_at lw_m1 238 rfl) rfl
theorem q354 : (Jvm.Cond.soleField "OneCoin" "law") ∈ lw_all := lw_g (lw_at lw_m1 239 rfl) rfl
theorem q355 : (Jvm.Cond.lays "OneCoin" "OneCoin" "taped" "I") ∈ lw_all := lw_g (lw_at lw_m2 0 rfl) rfl
theorem q356 : (Jvm.Cond.soleField "OneCoin" "taped") ∈ lw_all := lw_g (lw_at lw_m2 1 rfl) rfl
theorem q357 : (Jvm.Cond.lays "OneCoin" "OneCoin" "isKept" "Z") ∈ lw_all := lw_g (lw_at lw_m2 2 rfl) rfl
theorem q358 : (Jvm.Cond.soleField "OneCoin" "isKept") ∈ lw_all := lw_g (lw_at lw_m2 3 rfl) rfl
theorem q359 : (Jvm.Cond.lays "OneCoin" "OneCoin" "walkedHours" "I") ∈ lw_all := lw_g (lw_at lw_m2 4 rfl) rfl
theorem q360 : (Jvm.Cond.soleField "OneCoin" "walkedHours") ∈ lw_all := lw_g (lw_at lw_m2 5 rfl) rfl
theorem q361 : (Jvm.Cond.laysFinal "OneCoin" "OneCoin" "work" "LOneCoin$Debts;") ∈ lw_all := lw_g (lw_at lw_m2 6 rfl) rfl
theorem q362 : (Jvm.Cond.soleField "OneCoin" "work") ∈ lw_all := lw_g (lw_at lw_m2 7 rfl) rfl
theorem q363 : (Jvm.Cond.laysFinal "OneCoin" "OneCoin" "row" "[I") ∈ lw_all := lw_g (lw_at lw_m2 8 rfl) rfl
theorem q364 : (Jvm.Cond.soleField "OneCoin" "row") ∈ lw_all := lw_g (lw_at lw_m2 9 rfl) rfl
theorem q365 : (Jvm.Cond.laysFinal "OneCoin" "OneCoin" "bestRow" "[I") ∈ lw_all := lw_g (lw_at lw_m2 10 rfl) rfl
theorem q366 : (Jvm.Cond.soleField "OneCoin" "bestRow") ∈ lw_all := lw_g (lw_at lw_m2 11 rfl) rfl
theorem q367 : (Jvm.Cond.lays "OneCoin" "OneCoin" "bestMany" "I") ∈ lw_all := lw_g (lw_at lw_m2 12 rfl) rfl
theorem q368 : (Jvm.Cond.soleField "OneCoin" "bestMany") ∈ lw_all := lw_g (lw_at lw_m2 13 rfl) rfl
theorem q369 : (Jvm.Cond.laysFinal "OneCoin" "OneCoin" "ways" "[[I") ∈ lw_all := lw_g (lw_at lw_m2 14 rfl) rfl
theorem q370 : (Jvm.Cond.soleField "OneCoin" "ways") ∈ lw_all := lw_g (lw_at lw_m2 15 rfl) rfl
theorem q371 : (Jvm.Cond.laysFinal "OneCoin" "OneCoin" "owing" "[I") ∈ lw_all := lw_g (lw_at lw_m2 16 rfl) rfl
theorem q372 : (Jvm.Cond.soleField "OneCoin" "owing") ∈ lw_all := lw_g (lw_at lw_m2 17 rfl) rfl
theorem q373 : (Jvm.Cond.laysFinal "OneCoin" "OneCoin" "getting" "[I") ∈ lw_all := lw_g (lw_at lw_m2 18 rfl) rfl
theorem q374 : (Jvm.Cond.soleField "OneCoin" "getting") ∈ lw_all := lw_g (lw_at lw_m2 19 rfl) rfl
theorem q375 : (Jvm.Cond.laysFinal "OneCoin" "OneCoin" "from" "[I") ∈ lw_all := lw_g (lw_at lw_m2 20 rfl) rfl
theorem q376 : (Jvm.Cond.soleField "OneCoin" "from") ∈ lw_all := lw_g (lw_at lw_m2 21 rfl) rfl
theorem q377 : (Jvm.Cond.laysFinal "OneCoin" "OneCoin" "to" "[I") ∈ lw_all := lw_g (lw_at lw_m2 22 rfl) rfl
theorem q378 : (Jvm.Cond.soleField "OneCoin" "to") ∈ lw_all := lw_g (lw_at lw_m2 23 rfl) rfl
theorem q379 : (Jvm.Cond.laysFinal "OneCoin" "OneCoin" "groups" "[I") ∈ lw_all := lw_g (lw_at lw_m2 24 rfl) rfl
theorem q380 : (Jvm.Cond.soleField "OneCoin" "groups") ∈ lw_all := lw_g (lw_at lw_m2 25 rfl) rfl
theorem q381 : (Jvm.Cond.superclass "OneCoin" "java/lang/Object") ∈ lw_all := lw_g (lw_at lw_m2 26 rfl) rfl
theorem q383 : (Jvm.Cond.instanceMethod ({ cls := "OneCoin", name := "person", desc := "(III)Z" } : Jvm.MethodName)) ∈ lw_all := lw_g (lw_at lw_m2 28 rfl) rfl
theorem q384 : (Jvm.Cond.selects "OneCoin" ({ cls := "OneCoin", name := "person", desc := "(III)Z" } : Jvm.MethodName) ({ cls := "OneCoin", name := "person", desc := "(III)Z" } : Jvm.MethodName)) ∈ lw_all := lw_g (lw_at lw_m2 29 rfl) rfl
theorem q385 : (Jvm.Cond.code ({ cls := "OneCoin", name := "person", desc := "(III)Z" } : Jvm.MethodName) prog_1_method_10_code (4 : Nat) (Option.some Jvm.ClassFile.FieldType.boolean)) ∈ lw_all := lw_g (lw_at lw_m2 30 rfl) rfl
theorem q386 : (Jvm.Cond.methodLink "OneCoin" (15 : Nat) ({ cls := "OneCoin", name := "in", desc := "(II)Z" } : Jvm.MethodName)) ∈ lw_all := lw_g (lw_at lw_m2 31 rfl) rfl
theorem q387 : (Jvm.Cond.static ({ cls := "OneCoin", name := "in", desc := "(II)Z" } : Jvm.MethodName)) ∈ lw_all := lw_g (lw_at lw_m2 32 rfl) rfl
theorem q388 : (Jvm.Cond.code ({ cls := "OneCoin", name := "in", desc := "(II)Z" } : Jvm.MethodName) prog_1_method_1_code (2 : Nat) (Option.some Jvm.ClassFile.FieldType.boolean)) ∈ lw_all := lw_g (lw_at lw_m2 33 rfl) rfl
theorem q390 : (Jvm.Cond.instanceMethod ({ cls := "OneCoin", name := "debt", desc := "(III)Z" } : Jvm.MethodName)) ∈ lw_all := lw_g (lw_at lw_m2 35 rfl) rfl
theorem q391 : (Jvm.Cond.selects "OneCoin" ({ cls := "OneCoin", name := "debt", desc := "(III)Z" } : Jvm.MethodName) ({ cls := "OneCoin", name := "debt", desc := "(III)Z" } : Jvm.MethodName)) ∈ lw_all := lw_g (lw_at lw_m2 36 rfl) rfl
theorem q392 : (Jvm.Cond.code ({ cls := "OneCoin", name := "debt", desc := "(III)Z" } : Jvm.MethodName) prog_1_method_11_code (4 : Nat) (Option.some Jvm.ClassFile.FieldType.boolean)) ∈ lw_all := lw_g (lw_at lw_m2 37 rfl) rfl
theorem q393 : (Jvm.Cond.methodLink "OneCoin" (123 : Nat) ({ cls := "OneCoin", name := "isTold", desc := "(I)Z" } : Jvm.MethodName)) ∈ lw_all := lw_g (lw_at lw_m2 38 rfl) rfl
theorem q394 : (Jvm.Cond.privateMethod ({ cls := "OneCoin", name := "isTold", desc := "(I)Z" } : Jvm.MethodName)) ∈ lw_tbl := lw_at lw_m2 39 rfl
theorem q395 : (Jvm.Cond.instanceMethod ({ cls := "OneCoin", name := "isTold", desc := "(I)Z" } : Jvm.MethodName)) ∈ lw_all := lw_g (lw_at lw_m2 40 rfl) rfl
theorem q396 : (Jvm.Cond.code ({ cls := "OneCoin", name := "isTold", desc := "(I)Z" } : Jvm.MethodName) prog_1_method_6_code (2 : Nat) (Option.some Jvm.ClassFile.FieldType.boolean)) ∈ lw_all := lw_g (lw_at lw_m2 41 rfl) rfl
theorem q397 : (Jvm.Cond.methodLink "OneCoin" (23 : Nat) ({ cls := "OneCoin", name := "has", desc := "(II)Z" } : Jvm.MethodName)) ∈ lw_all := lw_g (lw_at lw_m2 42 rfl) rfl
theorem q398 : (Jvm.Cond.static ({ cls := "OneCoin", name := "has", desc := "(II)Z" } : Jvm.MethodName)) ∈ lw_all := lw_g (lw_at lw_m2 43 rfl) rfl
theorem q399 : (Jvm.Cond.code ({ cls := "OneCoin", name := "has", desc := "(II)Z" } : Jvm.MethodName) prog_1_method_3_code (2 : Nat) (Option.some Jvm.ClassFile.FieldType.boolean)) ∈ lw_all := lw_g (lw_at lw_m2 44 rfl) rfl
theorem q400 : (Jvm.Cond.methodLink "OneCoin" (127 : Nat) ({ cls := "OneCoin", name := "within", desc := "(III)Z" } : Jvm.MethodName)) ∈ lw_all := lw_g (lw_at lw_m2 45 rfl) rfl
theorem q401 : (Jvm.Cond.static ({ cls := "OneCoin", name := "within", desc := "(III)Z" } : Jvm.MethodName)) ∈ lw_all := lw_g (lw_at lw_m2 46 rfl) rfl
theorem q402 : (Jvm.Cond.code ({ cls := "OneCoin", name := "within", desc := "(III)Z" } : Jvm.MethodName) prog_1_method_2_code (3 : Nat) (Option.some Jvm.ClassFile.FieldType.boolean)) ∈ lw_all := lw_g (lw_at lw_m2 47 rfl) rfl
theorem q404 : (Jvm.Cond.instanceMethod ({ cls := "OneCoin", name := "coin", desc := "(I)Z" } : Jvm.MethodName)) ∈ lw_all := lw_g (lw_at lw_m2 49 rfl) rfl
theorem q405 : (Jvm.Cond.selects "OneCoin" ({ cls := "OneCoin", name := "coin", desc := "(I)Z" } : Jvm.MethodName) ({ cls := "OneCoin", name := "coin", desc := "(I)Z" } : Jvm.MethodName)) ∈ lw_all := lw_g (lw_at lw_m2 50 rfl) rfl
theorem q406 : (Jvm.Cond.code ({ cls := "OneCoin", name := "coin", desc := "(I)Z" } : Jvm.MethodName) prog_1_method_12_code (2 : Nat) (Option.some Jvm.ClassFile.FieldType.boolean)) ∈ lw_all := lw_g (lw_at lw_m2 51 rfl) rfl
theorem q408 : (Jvm.Cond.instanceMethod ({ cls := "OneCoin", name := "feed", desc := "(IIIII)I" } : Jvm.MethodName)) ∈ lw_all := lw_g (lw_at lw_m2 53 rfl) rfl
theorem q409 : (Jvm.Cond.selects "OneCoin" ({ cls := "OneCoin", name := "feed", desc := "(IIIII)I" } : Jvm.MethodName) ({ cls := "OneCoin", name := "feed", desc := "(IIIII)I" } : Jvm.MethodName)) ∈ lw_all := lw_g (lw_at lw_m2 54 rfl) rfl
theorem q410 : (Jvm.Cond.code ({ cls := "OneCoin", name := "feed", desc := "(IIIII)I" } : Jvm.MethodName) prog_1_method_14_code (6 : Nat) (Option.some Jvm.ClassFile.FieldType.int)) ∈ lw_all := lw_g (lw_at lw_m2 55 rfl) rfl
theorem q411 : (Jvm.Cond.methodLink "OneCoin" (146 : Nat) ({ cls := "OneCoin", name := "push", desc := "(I)V" } : Jvm.MethodName)) ∈ lw_all := lw_g (lw_at lw_m2 56 rfl) rfl
theorem q412 : (Jvm.Cond.privateMethod ({ cls := "OneCoin", name := "push", desc := "(I)V" } : Jvm.MethodName)) ∈ lw_tbl := lw_at lw_m2 57 rfl
theorem q413 : (Jvm.Cond.instanceMethod ({ cls := "OneCoin", name := "push", desc := "(I)V" } : Jvm.MethodName)) ∈ lw_all := lw_g (lw_at lw_m2 58 rfl) rfl
theorem q414 : (Jvm.Cond.code ({ cls := "OneCoin", name := "push", desc := "(I)V" } : Jvm.MethodName) prog_1_method_13_code (3 : Nat) (Option.none : Option Jvm.ClassFile.FieldType)) ∈ lw_all := lw_g (lw_at lw_m2 59 rfl) rfl
theorem q416 : (Jvm.Cond.instanceMethod ({ cls := "OneCoin", name := "law", desc := "(I)I" } : Jvm.MethodName)) ∈ lw_all := lw_g (lw_at lw_m2 61 rfl) rfl
theorem q417 : (Jvm.Cond.selects "OneCoin" ({ cls := "OneCoin", name := "law", desc := "(I)I" } : Jvm.MethodName) ({ cls := "OneCoin", name := "law", desc := "(I)I" } : Jvm.MethodName)) ∈ lw_all := lw_g (lw_at lw_m2 62 rfl) rfl
theorem q418 : (Jvm.Cond.code ({ cls := "OneCoin", name := "law", desc := "(I)I" } : Jvm.MethodName) prog_1_method_15_code (4 : Nat) (Option.some Jvm.ClassFile.FieldType.int)) ∈ lw_all := lw_g (lw_at lw_m2 63 rfl) rfl
theorem q419 : (Jvm.Cond.classLink "OneCoin" (150 : Nat) "OneCoin$Reader") ∈ lw_all := lw_g (lw_at lw_m2 64 rfl) rfl
theorem q421 : (Jvm.Cond.methodLink "OneCoin" (152 : Nat) ({ cls := "OneCoin$Reader", name := "<init>", desc := "(LOneCoin;I)V" } : Jvm.MethodName)) ∈ lw_all := lw_g (lw_at lw_m2 66 rfl) rfl
theorem q429 : (Jvm.Cond.fieldLinkNest "OneCoin" (159 : Nat) "OneCoin$Reader" "text" "LOneCoin$Text;" "OneCoin") ∈ lw_tbl := lw_at lw_m2 74 rfl
theorem q450 : (Jvm.Cond.methodLink "OneCoin" (155 : Nat) ({ cls := "OneCoin$Reader", name := "read", desc := "()I" } : Jvm.MethodName)) ∈ lw_all := lw_g (lw_at lw_m2 95 rfl) rfl
theorem q685 : (Jvm.Cond.instanceMethod ({ cls := "OneCoin", name := "debts", desc := "(I)I" } : Jvm.MethodName)) ∈ lw_all := lw_g (lw_at lw_m3 90 rfl) rfl
theorem q686 : (Jvm.Cond.selects "OneCoin" ({ cls := "OneCoin", name := "debts", desc := "(I)I" } : Jvm.MethodName) ({ cls := "OneCoin", name := "debts", desc := "(I)I" } : Jvm.MethodName)) ∈ lw_all := lw_g (lw_at lw_m3 91 rfl) rfl
theorem q687 : (Jvm.Cond.code ({ cls := "OneCoin", name := "debts", desc := "(I)I" } : Jvm.MethodName) prog_1_method_16_code (5 : Nat) (Option.some Jvm.ClassFile.FieldType.int)) ∈ lw_all := lw_g (lw_at lw_m3 92 rfl) rfl
theorem q688 : (Jvm.Cond.classLink "OneCoin" (162 : Nat) "OneCoin$Clerk") ∈ lw_all := lw_g (lw_at lw_m3 93 rfl) rfl
theorem q690 : (Jvm.Cond.methodLink "OneCoin" (164 : Nat) ({ cls := "OneCoin$Clerk", name := "<init>", desc := "(LOneCoin;I)V" } : Jvm.MethodName)) ∈ lw_all := lw_g (lw_at lw_m3 95 rfl) rfl
theorem q700 : (Jvm.Cond.fieldLinkNest "OneCoin" (166 : Nat) "OneCoin$Clerk" "debts" "LOneCoin$Debts;" "OneCoin") ∈ lw_tbl := lw_at lw_m3 105 rfl
theorem q725 : (Jvm.Cond.methodLink "OneCoin" (165 : Nat) ({ cls := "OneCoin$Clerk", name := "read", desc := "()I" } : Jvm.MethodName)) ∈ lw_all := lw_g (lw_at lw_m3 130 rfl) rfl
theorem q814 : (Jvm.Cond.methodLink "OneCoin" (167 : Nat) ({ cls := "OneCoin$Debts", name := "takes", desc := "(LOneCoin$Debts;)LOneCoin$Debts;" } : Jvm.MethodName)) ∈ lw_all := lw_g (lw_at lw_m3 219 rfl) rfl
theorem q819 : (Jvm.Cond.instanceMethod ({ cls := "OneCoin", name := "route", desc := "(II)I" } : Jvm.MethodName)) ∈ lw_all := lw_g (lw_at lw_m3 224 rfl) rfl
theorem q820 : (Jvm.Cond.selects "OneCoin" ({ cls := "OneCoin", name := "route", desc := "(II)I" } : Jvm.MethodName) ({ cls := "OneCoin", name := "route", desc := "(II)I" } : Jvm.MethodName)) ∈ lw_all := lw_g (lw_at lw_m3 225 rfl) rfl
theorem q821 : (Jvm.Cond.code ({ cls := "OneCoin", name := "route", desc := "(II)I" } : Jvm.MethodName) prog_1_method_18_code (6 : Nat) (Option.some Jvm.ClassFile.FieldType.int)) ∈ lw_all := lw_g (lw_at lw_m3 226 rfl) rfl
theorem q822 : (Jvm.Cond.classLink "OneCoin" (180 : Nat) "OneCoin$Guide") ∈ lw_all := lw_g (lw_at lw_m3 227 rfl) rfl
theorem q824 : (Jvm.Cond.methodLink "OneCoin" (182 : Nat) ({ cls := "OneCoin$Guide", name := "<init>", desc := "(LOneCoin;I)V" } : Jvm.MethodName)) ∈ lw_all := lw_g (lw_at lw_m3 229 rfl) rfl
theorem q829 : (Jvm.Cond.fieldLinkNest "OneCoin" (187 : Nat) "OneCoin$Guide" "row" "[I" "OneCoin") ∈ lw_tbl := lw_at lw_m3 234 rfl
theorem q847 : (Jvm.Cond.methodLink "OneCoin" (183 : Nat) ({ cls := "OneCoin$Guide", name := "read", desc := "()I" } : Jvm.MethodName)) ∈ lw_all := lw_g (lw_at lw_m4 12 rfl) rfl
theorem q890 : (Jvm.Cond.methodLink "OneCoin" (184 : Nat) ({ cls := "OneCoin$Duchy", name := "takes", desc := "(LOneCoin$Duchy;)LOneCoin$Duchy;" } : Jvm.MethodName)) ∈ lw_all := lw_g (lw_at lw_m4 55 rfl) rfl
theorem q895 : (Jvm.Cond.methodLink "OneCoin" (188 : Nat) ({ cls := "OneCoin", name := "walks", desc := "(LOneCoin$Duchy;[II)I" } : Jvm.MethodName)) ∈ lw_all := lw_g (lw_at lw_m4 60 rfl) rfl
theorem q896 : (Jvm.Cond.privateMethod ({ cls := "OneCoin", name := "walks", desc := "(LOneCoin$Duchy;[II)I" } : Jvm.MethodName)) ∈ lw_tbl := lw_at lw_m4 61 rfl
theorem q897 : (Jvm.Cond.instanceMethod ({ cls := "OneCoin", name := "walks", desc := "(LOneCoin$Duchy;[II)I" } : Jvm.MethodName)) ∈ lw_all := lw_g (lw_at lw_m4 62 rfl) rfl
theorem q898 : (Jvm.Cond.code ({ cls := "OneCoin", name := "walks", desc := "(LOneCoin$Duchy;[II)I" } : Jvm.MethodName) prog_1_method_17_code (6 : Nat) (Option.some Jvm.ClassFile.FieldType.int)) ∈ lw_all := lw_g (lw_at lw_m4 63 rfl) rfl
theorem q899 : (Jvm.Cond.methodLink "OneCoin" (174 : Nat) ({ cls := "OneCoin$Duchy", name := "pays", desc := "(I)Z" } : Jvm.MethodName)) ∈ lw_all := lw_g (lw_at lw_m4 64 rfl) rfl
theorem q908 : (Jvm.Cond.methodLink "OneCoin" (177 : Nat) ({ cls := "OneCoin", name := "way", desc := "(II)I" } : Jvm.MethodName)) ∈ lw_all := lw_g (lw_at lw_m4 73 rfl) rfl
theorem q909 : (Jvm.Cond.privateMethod ({ cls := "OneCoin", name := "way", desc := "(II)I" } : Jvm.MethodName)) ∈ lw_tbl := lw_at lw_m4 74 rfl
theorem q910 : (Jvm.Cond.instanceMethod ({ cls := "OneCoin", name := "way", desc := "(II)I" } : Jvm.MethodName)) ∈ lw_all := lw_g (lw_at lw_m4 75 rfl) rfl
theorem q911 : (Jvm.Cond.code ({ cls := "OneCoin", name := "way", desc := "(II)I" } : Jvm.MethodName) prog_1_method_7_code (3 : Nat) (Option.some Jvm.ClassFile.FieldType.int)) ∈ lw_all := lw_g (lw_at lw_m4 76 rfl) rfl
theorem q912 : (Jvm.Cond.methodLink "OneCoin" (30 : Nat) ({ cls := "java/lang/Math", name := "abs", desc := "(I)I" } : Jvm.MethodName)) ∈ lw_all := lw_g (lw_at lw_m4 77 rfl) rfl
theorem q915 : (Jvm.Cond.methodLink "OneCoin" (7 : Nat) ({ cls := "java/lang/Math", name := "max", desc := "(II)I" } : Jvm.MethodName)) ∈ lw_all := lw_g (lw_at lw_m4 80 rfl) rfl
theorem q917 : (Jvm.Cond.instanceMethod ({ cls := "OneCoin", name := "walk", desc := "(I)I" } : Jvm.MethodName)) ∈ lw_all := lw_g (lw_at lw_m4 82 rfl) rfl
theorem q918 : (Jvm.Cond.selects "OneCoin" ({ cls := "OneCoin", name := "walk", desc := "(I)I" } : Jvm.MethodName) ({ cls := "OneCoin", name := "walk", desc := "(I)I" } : Jvm.MethodName)) ∈ lw_all := lw_g (lw_at lw_m4 83 rfl) rfl
theorem q919 : (Jvm.Cond.code ({ cls := "OneCoin", name := "walk", desc := "(I)I" } : Jvm.MethodName) prog_1_method_19_code (4 : Nat) (Option.some Jvm.ClassFile.FieldType.int)) ∈ lw_all := lw_g (lw_at lw_m4 84 rfl) rfl
theorem q921 : (Jvm.Cond.instanceMethod ({ cls := "OneCoin", name := "hours", desc := "(I)I" } : Jvm.MethodName)) ∈ lw_all := lw_g (lw_at lw_m4 86 rfl) rfl
theorem q922 : (Jvm.Cond.selects "OneCoin" ({ cls := "OneCoin", name := "hours", desc := "(I)I" } : Jvm.MethodName) ({ cls := "OneCoin", name := "hours", desc := "(I)I" } : Jvm.MethodName)) ∈ lw_all := lw_g (lw_at lw_m4 87 rfl) rfl
theorem q923 : (Jvm.Cond.code ({ cls := "OneCoin", name := "hours", desc := "(I)I" } : Jvm.MethodName) prog_1_method_20_code (2 : Nat) (Option.some Jvm.ClassFile.FieldType.int)) ∈ lw_all := lw_g (lw_at lw_m4 88 rfl) rfl
theorem q924 : (Jvm.Cond.methodLink "OneCoin" (192 : Nat) ({ cls := "OneCoin$Duchy", name := "goes", desc := "(I)LOneCoin$Duchy;" } : Jvm.MethodName)) ∈ lw_all := lw_g (lw_at lw_m4 89 rfl) rfl
theorem q1006 : (Jvm.Cond.static ({ cls := "OneCoin", name := "held", desc := "(II)I" } : Jvm.MethodName)) ∈ lw_all := lw_g (lw_at lw_m4 171 rfl) rfl
theorem q1007 : (Jvm.Cond.code ({ cls := "OneCoin", name := "held", desc := "(II)I" } : Jvm.MethodName) prog_1_method_4_code (2 : Nat) (Option.some Jvm.ClassFile.FieldType.int)) ∈ lw_all := lw_g (lw_at lw_m4 172 rfl) rfl
theorem q1008 : (Jvm.Cond.methodLink "OneCoin" (1 : Nat) ({ cls := "java/lang/Math", name := "min", desc := "(II)I" } : Jvm.MethodName)) ∈ lw_all := lw_g (lw_at lw_m4 173 rfl) rfl
theorem q1040 : (Jvm.Cond.privateMethod ({ cls := "OneCoin", name := "likingOf", desc := "(LOneCoin$Duchy;II)I" } : Jvm.MethodName)) ∈ lw_tbl := lw_at lw_m4 205 rfl
theorem q1041 : (Jvm.Cond.instanceMethod ({ cls := "OneCoin", name := "likingOf", desc := "(LOneCoin$Duchy;II)I" } : Jvm.MethodName)) ∈ lw_all := lw_g (lw_at lw_m4 206 rfl) rfl
theorem q1042 : (Jvm.Cond.code ({ cls := "OneCoin", name := "likingOf", desc := "(LOneCoin$Duchy;II)I" } : Jvm.MethodName) prog_1_method_8_code (4 : Nat) (Option.some Jvm.ClassFile.FieldType.int)) ∈ lw_all := lw_g (lw_at lw_m4 207 rfl) rfl
theorem q1043 : (Jvm.Cond.methodLink "OneCoin" (41 : Nat) ({ cls := "OneCoin$Moment", name := "of", desc := "(LOneCoin$Duchy;II)LOneCoin$Moment;" } : Jvm.MethodName)) ∈ lw_all := lw_g (lw_at lw_m4 208 rfl) rfl
theorem q1044 : (Jvm.Cond.methodLink "OneCoin" (47 : Nat) ({ cls := "OneCoin$Moment", name := "willNot", desc := "()Z" } : Jvm.MethodName)) ∈ lw_all := lw_g (lw_at lw_m4 209 rfl) rfl
theorem q1052 : (Jvm.Cond.methodLink "OneCoin" (51 : Nat) ({ cls := "OneCoin$Moment", name := "tells", desc := "(II)I" } : Jvm.MethodName)) ∈ lw_all := lw_g (lw_at lw_m4 217 rfl) rfl
theorem q1055 : (Jvm.Cond.instanceMethod ({ cls := "OneCoin", name := "tried", desc := "(II)I" } : Jvm.MethodName)) ∈ lw_all := lw_g (lw_at lw_m4 220 rfl) rfl
theorem q1056 : (Jvm.Cond.selects "OneCoin" ({ cls := "OneCoin", name := "tried", desc := "(II)I" } : Jvm.MethodName) ({ cls := "OneCoin", name := "tried", desc := "(II)I" } : Jvm.MethodName)) ∈ lw_all := lw_g (lw_at lw_m4 221 rfl) rfl
theorem q1057 : (Jvm.Cond.code ({ cls := "OneCoin", name := "tried", desc := "(II)I" } : Jvm.MethodName) prog_1_method_21_code (3 : Nat) (Option.some Jvm.ClassFile.FieldType.int)) ∈ lw_all := lw_g (lw_at lw_m4 222 rfl) rfl
theorem q1058 : (Jvm.Cond.methodLink "OneCoin" (199 : Nat) ({ cls := "OneCoin$Debts", name := "all", desc := "()I" } : Jvm.MethodName)) ∈ lw_all := lw_g (lw_at lw_m4 223 rfl) rfl
theorem q1060 : (Jvm.Cond.instanceMethod ({ cls := "OneCoin", name := "personIs", desc := "(II)I" } : Jvm.MethodName)) ∈ lw_all := lw_g (lw_at lw_m4 225 rfl) rfl
theorem q1061 : (Jvm.Cond.selects "OneCoin" ({ cls := "OneCoin", name := "personIs", desc := "(II)I" } : Jvm.MethodName) ({ cls := "OneCoin", name := "personIs", desc := "(II)I" } : Jvm.MethodName)) ∈ lw_all := lw_g (lw_at lw_m4 226 rfl) rfl
theorem q1062 : (Jvm.Cond.code ({ cls := "OneCoin", name := "personIs", desc := "(II)I" } : Jvm.MethodName) prog_1_method_22_code (3 : Nat) (Option.some Jvm.ClassFile.FieldType.int)) ∈ lw_all := lw_g (lw_at lw_m4 227 rfl) rfl
theorem q1063 : (Jvm.Cond.methodLink "OneCoin" (214 : Nat) ({ cls := "OneCoin$Debts", name := "owes", desc := "(I)I" } : Jvm.MethodName)) ∈ lw_all := lw_g (lw_at lw_m4 228 rfl) rfl
theorem q1064 : (Jvm.Cond.methodLink "OneCoin" (217 : Nat) ({ cls := "OneCoin$Debts", name := "gets", desc := "(I)I" } : Jvm.MethodName)) ∈ lw_all := lw_g (lw_at lw_m4 229 rfl) rfl
theorem q1068 : (Jvm.Cond.methodLink "OneCoin" (220 : Nat) ({ cls := "OneCoin$Duchy", name := "chalked", desc := "(I)I" } : Jvm.MethodName)) ∈ lw_all := lw_g (lw_at lw_m4 233 rfl) rfl
theorem q1070 : (Jvm.Cond.instanceMethod ({ cls := "OneCoin", name := "owes", desc := "(II)I" } : Jvm.MethodName)) ∈ lw_all := lw_g (lw_at lw_m4 235 rfl) rfl
theorem q1071 : (Jvm.Cond.selects "OneCoin" ({ cls := "OneCoin", name := "owes", desc := "(II)I" } : Jvm.MethodName) ({ cls := "OneCoin", name := "owes", desc := "(II)I" } : Jvm.MethodName)) ∈ lw_all := lw_g (lw_at lw_m4 236 rfl) rfl
theorem q1072 : (Jvm.Cond.code ({ cls := "OneCoin", name := "owes", desc := "(II)I" } : Jvm.MethodName) prog_1_method_24_code (3 : Nat) (Option.some Jvm.ClassFile.FieldType.int)) ∈ lw_all := lw_g (lw_at lw_m4 237 rfl) rfl
theorem q1073 : (Jvm.Cond.methodLink "OneCoin" (223 : Nat) ({ cls := "OneCoin", name := "areTwo", desc := "(II)Z" } : Jvm.MethodName)) ∈ lw_all := lw_g (lw_at lw_m4 238 rfl) rfl
theorem q1074 : (Jvm.Cond.privateMethod ({ cls := "OneCoin", name := "areTwo", desc := "(II)Z" } : Jvm.MethodName)) ∈ lw_tbl := lw_at lw_m4 239 rfl
theorem q1075 : (Jvm.Cond.instanceMethod ({ cls := "OneCoin", name := "areTwo", desc := "(II)Z" } : Jvm.MethodName)) ∈ lw_all := lw_g (lw_at lw_m5 0 rfl) rfl
theorem q1076 : (Jvm.Cond.code ({ cls := "OneCoin", name := "areTwo", desc := "(II)Z" } : Jvm.MethodName) prog_1_method_23_code (3 : Nat) (Option.some Jvm.ClassFile.FieldType.boolean)) ∈ lw_all := lw_g (lw_at lw_m5 1 rfl) rfl
theorem q1078 : (Jvm.Cond.instanceMethod ({ cls := "OneCoin", name := "likes", desc := "(II)I" } : Jvm.MethodName)) ∈ lw_all := lw_g (lw_at lw_m5 3 rfl) rfl
theorem q1079 : (Jvm.Cond.selects "OneCoin" ({ cls := "OneCoin", name := "likes", desc := "(II)I" } : Jvm.MethodName) ({ cls := "OneCoin", name := "likes", desc := "(II)I" } : Jvm.MethodName)) ∈ lw_all := lw_g (lw_at lw_m5 4 rfl) rfl
theorem q1080 : (Jvm.Cond.code ({ cls := "OneCoin", name := "likes", desc := "(II)I" } : Jvm.MethodName) prog_1_method_25_code (3 : Nat) (Option.some Jvm.ClassFile.FieldType.int)) ∈ lw_all := lw_g (lw_at lw_m5 5 rfl) rfl
theorem q1081 : (Jvm.Cond.methodLink "OneCoin" (226 : Nat) ({ cls := "OneCoin", name := "likingOf", desc := "(LOneCoin$Duchy;II)I" } : Jvm.MethodName)) ∈ lw_all := lw_g (lw_at lw_m5 6 rfl) rfl
theorem q1083 : (Jvm.Cond.instanceMethod ({ cls := "OneCoin", name := "tour", desc := "(I)I" } : Jvm.MethodName)) ∈ lw_all := lw_g (lw_at lw_m5 8 rfl) rfl
theorem q1084 : (Jvm.Cond.selects "OneCoin" ({ cls := "OneCoin", name := "tour", desc := "(I)I" } : Jvm.MethodName) ({ cls := "OneCoin", name := "tour", desc := "(I)I" } : Jvm.MethodName)) ∈ lw_all := lw_g (lw_at lw_m5 9 rfl) rfl
theorem q1085 : (Jvm.Cond.code ({ cls := "OneCoin", name := "tour", desc := "(I)I" } : Jvm.MethodName) prog_1_method_28_code (5 : Nat) (Option.some Jvm.ClassFile.FieldType.int)) ∈ lw_all := lw_g (lw_at lw_m5 10 rfl) rfl
theorem q1086 : (Jvm.Cond.methodLink "OneCoin" (233 : Nat) ({ cls := "OneCoin$Debts", name := "areOneRow", desc := "(I)Z" } : Jvm.MethodName)) ∈ lw_all := lw_g (lw_at lw_m5 11 rfl) rfl
theorem q1101 : (Jvm.Cond.methodLink "OneCoin" (236 : Nat) ({ cls := "OneCoin", name := "laysTour", desc := "(II)I" } : Jvm.MethodName)) ∈ lw_all := lw_g (lw_at lw_m5 26 rfl) rfl
theorem q1102 : (Jvm.Cond.privateMethod ({ cls := "OneCoin", name := "laysTour", desc := "(II)I" } : Jvm.MethodName)) ∈ lw_tbl := lw_at lw_m5 27 rfl
theorem q1103 : (Jvm.Cond.instanceMethod ({ cls := "OneCoin", name := "laysTour", desc := "(II)I" } : Jvm.MethodName)) ∈ lw_all := lw_g (lw_at lw_m5 28 rfl) rfl
theorem q1104 : (Jvm.Cond.code ({ cls := "OneCoin", name := "laysTour", desc := "(II)I" } : Jvm.MethodName) prog_1_method_26_code (6 : Nat) (Option.some Jvm.ClassFile.FieldType.int)) ∈ lw_all := lw_g (lw_at lw_m5 29 rfl) rfl
theorem q1105 : (Jvm.Cond.methodLink "OneCoin" (230 : Nat) ({ cls := "OneCoin", name := "canPay", desc := "(II)Z" } : Jvm.MethodName)) ∈ lw_all := lw_g (lw_at lw_m5 30 rfl) rfl
theorem q1106 : (Jvm.Cond.privateMethod ({ cls := "OneCoin", name := "canPay", desc := "(II)Z" } : Jvm.MethodName)) ∈ lw_tbl := lw_at lw_m5 31 rfl
theorem q1107 : (Jvm.Cond.instanceMethod ({ cls := "OneCoin", name := "canPay", desc := "(II)Z" } : Jvm.MethodName)) ∈ lw_all := lw_g (lw_at lw_m5 32 rfl) rfl
theorem q1108 : (Jvm.Cond.code ({ cls := "OneCoin", name := "canPay", desc := "(II)Z" } : Jvm.MethodName) prog_1_method_27_code (3 : Nat) (Option.some Jvm.ClassFile.FieldType.boolean)) ∈ lw_all := lw_g (lw_at lw_m5 33 rfl) rfl
theorem q1110 : (Jvm.Cond.instanceMethod ({ cls := "OneCoin", name := "most", desc := "(I)I" } : Jvm.MethodName)) ∈ lw_all := lw_g (lw_at lw_m5 35 rfl) rfl
theorem q1111 : (Jvm.Cond.selects "OneCoin" ({ cls := "OneCoin", name := "most", desc := "(I)I" } : Jvm.MethodName) ({ cls := "OneCoin", name := "most", desc := "(I)I" } : Jvm.MethodName)) ∈ lw_all := lw_g (lw_at lw_m5 36 rfl) rfl
theorem q1112 : (Jvm.Cond.code ({ cls := "OneCoin", name := "most", desc := "(I)I" } : Jvm.MethodName) prog_1_method_30_code (2 : Nat) (Option.some Jvm.ClassFile.FieldType.int)) ∈ lw_all := lw_g (lw_at lw_m5 37 rfl) rfl
theorem q1113 : (Jvm.Cond.methodLink "OneCoin" (242 : Nat) ({ cls := "OneCoin", name := "longest", desc := "(II)V" } : Jvm.MethodName)) ∈ lw_all := lw_g (lw_at lw_m5 38 rfl) rfl
theorem q1114 : (Jvm.Cond.privateMethod ({ cls := "OneCoin", name := "longest", desc := "(II)V" } : Jvm.MethodName)) ∈ lw_tbl := lw_at lw_m5 39 rfl
theorem q1115 : (Jvm.Cond.instanceMethod ({ cls := "OneCoin", name := "longest", desc := "(II)V" } : Jvm.MethodName)) ∈ lw_all := lw_g (lw_at lw_m5 40 rfl) rfl
theorem q1116 : (Jvm.Cond.code ({ cls := "OneCoin", name := "longest", desc := "(II)V" } : Jvm.MethodName) prog_1_method_29_code (4 : Nat) (Option.none : Option Jvm.ClassFile.FieldType)) ∈ lw_all := lw_g (lw_at lw_m5 41 rfl) rfl
theorem q1118 : (Jvm.Cond.instanceMethod ({ cls := "OneCoin", name := "back", desc := "(II)I" } : Jvm.MethodName)) ∈ lw_all := lw_g (lw_at lw_m5 43 rfl) rfl
theorem q1119 : (Jvm.Cond.selects "OneCoin" ({ cls := "OneCoin", name := "back", desc := "(II)I" } : Jvm.MethodName) ({ cls := "OneCoin", name := "back", desc := "(II)I" } : Jvm.MethodName)) ∈ lw_all := lw_g (lw_at lw_m5 44 rfl) rfl
theorem q1120 : (Jvm.Cond.code ({ cls := "OneCoin", name := "back", desc := "(II)I" } : Jvm.MethodName) prog_1_method_32_code (3 : Nat) (Option.some Jvm.ClassFile.FieldType.int)) ∈ lw_all := lw_g (lw_at lw_m5 45 rfl) rfl
theorem q1121 : (Jvm.Cond.methodLink "OneCoin" (247 : Nat) ({ cls := "OneCoin", name := "laysWays", desc := "(Z)V" } : Jvm.MethodName)) ∈ lw_all := lw_g (lw_at lw_m5 46 rfl) rfl
theorem q1122 : (Jvm.Cond.privateMethod ({ cls := "OneCoin", name := "laysWays", desc := "(Z)V" } : Jvm.MethodName)) ∈ lw_tbl := lw_at lw_m5 47 rfl
theorem q1123 : (Jvm.Cond.instanceMethod ({ cls := "OneCoin", name := "laysWays", desc := "(Z)V" } : Jvm.MethodName)) ∈ lw_all := lw_g (lw_at lw_m5 48 rfl) rfl
theorem q1124 : (Jvm.Cond.code ({ cls := "OneCoin", name := "laysWays", desc := "(Z)V" } : Jvm.MethodName) prog_1_method_31_code (5 : Nat) (Option.none : Option Jvm.ClassFile.FieldType)) ∈ lw_all := lw_g (lw_at lw_m5 49 rfl) rfl
theorem q1125 : (Jvm.Cond.constant "OneCoin" (246 : Nat) (268435456 : Int32)) ∈ lw_all := lw_g (lw_at lw_m5 50 rfl) rfl
theorem q1127 : (Jvm.Cond.instanceMethod ({ cls := "OneCoin", name := "even", desc := "(I)I" } : Jvm.MethodName)) ∈ lw_all := lw_g (lw_at lw_m5 52 rfl) rfl
theorem q1128 : (Jvm.Cond.selects "OneCoin" ({ cls := "OneCoin", name := "even", desc := "(I)I" } : Jvm.MethodName) ({ cls := "OneCoin", name := "even", desc := "(I)I" } : Jvm.MethodName)) ∈ lw_all := lw_g (lw_at lw_m5 53 rfl) rfl
theorem q1129 : (Jvm.Cond.code ({ cls := "OneCoin", name := "even", desc := "(I)I" } : Jvm.MethodName) prog_1_method_37_code (3 : Nat) (Option.some Jvm.ClassFile.FieldType.int)) ∈ lw_all := lw_g (lw_at lw_m5 54 rfl) rfl
theorem q1130 : (Jvm.Cond.methodLink "OneCoin" (258 : Nat) ({ cls := "OneCoin", name := "lack", desc := "()I" } : Jvm.MethodName)) ∈ lw_all := lw_g (lw_at lw_m5 55 rfl) rfl
theorem q1131 : (Jvm.Cond.privateMethod ({ cls := "OneCoin", name := "lack", desc := "()I" } : Jvm.MethodName)) ∈ lw_tbl := lw_at lw_m5 56 rfl
theorem q1132 : (Jvm.Cond.instanceMethod ({ cls := "OneCoin", name := "lack", desc := "()I" } : Jvm.MethodName)) ∈ lw_all := lw_g (lw_at lw_m5 57 rfl) rfl
theorem q1133 : (Jvm.Cond.code ({ cls := "OneCoin", name := "lack", desc := "()I" } : Jvm.MethodName) prog_1_method_34_code (3 : Nat) (Option.some Jvm.ClassFile.FieldType.int)) ∈ lw_all := lw_g (lw_at lw_m5 58 rfl) rfl
theorem q1134 : (Jvm.Cond.methodLink "OneCoin" (251 : Nat) ({ cls := "OneCoin", name := "netOf", desc := "(I)I" } : Jvm.MethodName)) ∈ lw_all := lw_g (lw_at lw_m5 59 rfl) rfl
theorem q1135 : (Jvm.Cond.privateMethod ({ cls := "OneCoin", name := "netOf", desc := "(I)I" } : Jvm.MethodName)) ∈ lw_tbl := lw_at lw_m5 60 rfl
theorem q1136 : (Jvm.Cond.instanceMethod ({ cls := "OneCoin", name := "netOf", desc := "(I)I" } : Jvm.MethodName)) ∈ lw_all := lw_g (lw_at lw_m5 61 rfl) rfl
theorem q1137 : (Jvm.Cond.code ({ cls := "OneCoin", name := "netOf", desc := "(I)I" } : Jvm.MethodName) prog_1_method_33_code (2 : Nat) (Option.some Jvm.ClassFile.FieldType.int)) ∈ lw_all := lw_g (lw_at lw_m5 62 rfl) rfl
theorem q1138 : (Jvm.Cond.methodLink "OneCoin" (261 : Nat) ({ cls := "OneCoin", name := "takesLack", desc := "()V" } : Jvm.MethodName)) ∈ lw_all := lw_g (lw_at lw_m5 63 rfl) rfl
theorem q1139 : (Jvm.Cond.privateMethod ({ cls := "OneCoin", name := "takesLack", desc := "()V" } : Jvm.MethodName)) ∈ lw_tbl := lw_at lw_m5 64 rfl
theorem q1140 : (Jvm.Cond.instanceMethod ({ cls := "OneCoin", name := "takesLack", desc := "()V" } : Jvm.MethodName)) ∈ lw_all := lw_g (lw_at lw_m5 65 rfl) rfl
theorem q1141 : (Jvm.Cond.code ({ cls := "OneCoin", name := "takesLack", desc := "()V" } : Jvm.MethodName) prog_1_method_35_code (5 : Nat) (Option.none : Option Jvm.ClassFile.FieldType)) ∈ lw_all := lw_g (lw_at lw_m5 66 rfl) rfl
theorem q1142 : (Jvm.Cond.methodLink "OneCoin" (254 : Nat) ({ cls := "OneCoin", name := "evens", desc := "(IIII)V" } : Jvm.MethodName)) ∈ lw_all := lw_g (lw_at lw_m5 67 rfl) rfl
theorem q1143 : (Jvm.Cond.privateMethod ({ cls := "OneCoin", name := "evens", desc := "(IIII)V" } : Jvm.MethodName)) ∈ lw_tbl := lw_at lw_m5 68 rfl
theorem q1144 : (Jvm.Cond.instanceMethod ({ cls := "OneCoin", name := "evens", desc := "(IIII)V" } : Jvm.MethodName)) ∈ lw_all := lw_g (lw_at lw_m5 69 rfl) rfl
theorem q1145 : (Jvm.Cond.code ({ cls := "OneCoin", name := "evens", desc := "(IIII)V" } : Jvm.MethodName) prog_1_method_36_code (6 : Nat) (Option.none : Option Jvm.ClassFile.FieldType)) ∈ lw_all := lw_g (lw_at lw_m5 70 rfl) rfl
theorem q1147 : (Jvm.Cond.instanceMethod ({ cls := "OneCoin", name := "turned", desc := "(I)I" } : Jvm.MethodName)) ∈ lw_all := lw_g (lw_at lw_m5 72 rfl) rfl
theorem q1148 : (Jvm.Cond.selects "OneCoin" ({ cls := "OneCoin", name := "turned", desc := "(I)I" } : Jvm.MethodName) ({ cls := "OneCoin", name := "turned", desc := "(I)I" } : Jvm.MethodName)) ∈ lw_all := lw_g (lw_at lw_m5 73 rfl) rfl
theorem q1149 : (Jvm.Cond.code ({ cls := "OneCoin", name := "turned", desc := "(I)I" } : Jvm.MethodName) prog_1_method_40_code (5 : Nat) (Option.some Jvm.ClassFile.FieldType.int)) ∈ lw_all := lw_g (lw_at lw_m5 74 rfl) rfl
theorem q1150 : (Jvm.Cond.methodLink "OneCoin" (264 : Nat) ({ cls := "OneCoin", name := "takesDebts", desc := "()I" } : Jvm.MethodName)) ∈ lw_all := lw_g (lw_at lw_m5 75 rfl) rfl
theorem q1151 : (Jvm.Cond.privateMethod ({ cls := "OneCoin", name := "takesDebts", desc := "()I" } : Jvm.MethodName)) ∈ lw_tbl := lw_at lw_m5 76 rfl
theorem q1152 : (Jvm.Cond.instanceMethod ({ cls := "OneCoin", name := "takesDebts", desc := "()I" } : Jvm.MethodName)) ∈ lw_all := lw_g (lw_at lw_m5 77 rfl) rfl
theorem q1153 : (Jvm.Cond.code ({ cls := "OneCoin", name := "takesDebts", desc := "()I" } : Jvm.MethodName) prog_1_method_38_code (5 : Nat) (Option.some Jvm.ClassFile.FieldType.int)) ∈ lw_all := lw_g (lw_at lw_m5 78 rfl) rfl
theorem q1154 : (Jvm.Cond.methodLink "OneCoin" (267 : Nat) ({ cls := "java/lang/Integer", name := "bitCount", desc := "(I)I" } : Jvm.MethodName)) ∈ lw_all := lw_g (lw_at lw_m5 79 rfl) rfl
theorem q1160 : (Jvm.Cond.methodLink "OneCoin" (272 : Nat) ({ cls := "OneCoin", name := "isEvenBy", desc := "(II)Z" } : Jvm.MethodName)) ∈ lw_all := lw_g (lw_at lw_m5 85 rfl) rfl
theorem q1161 : (Jvm.Cond.privateMethod ({ cls := "OneCoin", name := "isEvenBy", desc := "(II)Z" } : Jvm.MethodName)) ∈ lw_tbl := lw_at lw_m5 86 rfl
theorem q1162 : (Jvm.Cond.instanceMethod ({ cls := "OneCoin", name := "isEvenBy", desc := "(II)Z" } : Jvm.MethodName)) ∈ lw_all := lw_g (lw_at lw_m5 87 rfl) rfl
theorem q1163 : (Jvm.Cond.code ({ cls := "OneCoin", name := "isEvenBy", desc := "(II)Z" } : Jvm.MethodName) prog_1_method_39_code (6 : Nat) (Option.some Jvm.ClassFile.FieldType.boolean)) ∈ lw_all := lw_g (lw_at lw_m5 88 rfl) rfl
theorem q1165 : (Jvm.Cond.instanceMethod ({ cls := "OneCoin", name := "setOff", desc := "(I)I" } : Jvm.MethodName)) ∈ lw_all := lw_g (lw_at lw_m5 90 rfl) rfl
theorem q1166 : (Jvm.Cond.selects "OneCoin" ({ cls := "OneCoin", name := "setOff", desc := "(I)I" } : Jvm.MethodName) ({ cls := "OneCoin", name := "setOff", desc := "(I)I" } : Jvm.MethodName)) ∈ lw_all := lw_g (lw_at lw_m5 91 rfl) rfl
theorem q1167 : (Jvm.Cond.code ({ cls := "OneCoin", name := "setOff", desc := "(I)I" } : Jvm.MethodName) prog_1_method_41_code (2 : Nat) (Option.some Jvm.ClassFile.FieldType.int)) ∈ lw_all := lw_g (lw_at lw_m5 92 rfl) rfl
theorem q1168 : (Jvm.Cond.constant "OneCoin" (275 : Nat) (-1000000 : Int32)) ∈ lw_all := lw_g (lw_at lw_m5 93 rfl) rfl
theorem q1170 : (Jvm.Cond.instanceMethod ({ cls := "OneCoin", name := "fewest", desc := "()I" } : Jvm.MethodName)) ∈ lw_all := lw_g (lw_at lw_m5 95 rfl) rfl
theorem q1171 : (Jvm.Cond.selects "OneCoin" ({ cls := "OneCoin", name := "fewest", desc := "()I" } : Jvm.MethodName) ({ cls := "OneCoin", name := "fewest", desc := "()I" } : Jvm.MethodName)) ∈ lw_all := lw_g (lw_at lw_m5 96 rfl) rfl
theorem q1172 : (Jvm.Cond.code ({ cls := "OneCoin", name := "fewest", desc := "()I" } : Jvm.MethodName) prog_1_method_43_code (5 : Nat) (Option.some Jvm.ClassFile.FieldType.int)) ∈ lw_all := lw_g (lw_at lw_m5 97 rfl) rfl
theorem q1173 : (Jvm.Cond.methodLink "OneCoin" (276 : Nat) ({ cls := "OneCoin", name := "netOfAll", desc := "(I)I" } : Jvm.MethodName)) ∈ lw_all := lw_g (lw_at lw_m5 98 rfl) rfl
theorem q1174 : (Jvm.Cond.privateMethod ({ cls := "OneCoin", name := "netOfAll", desc := "(I)I" } : Jvm.MethodName)) ∈ lw_tbl := lw_at lw_m5 99 rfl
theorem q1175 : (Jvm.Cond.instanceMethod ({ cls := "OneCoin", name := "netOfAll", desc := "(I)I" } : Jvm.MethodName)) ∈ lw_all := lw_g (lw_at lw_m5 100 rfl) rfl
theorem q1176 : (Jvm.Cond.code ({ cls := "OneCoin", name := "netOfAll", desc := "(I)I" } : Jvm.MethodName) prog_1_method_42_code (4 : Nat) (Option.some Jvm.ClassFile.FieldType.int)) ∈ lw_all := lw_g (lw_at lw_m5 101 rfl) rfl
theorem q1178 : (Jvm.Cond.instanceMethod ({ cls := "OneCoin", name := "rings", desc := "(I)I" } : Jvm.MethodName)) ∈ lw_all := lw_g (lw_at lw_m5 103 rfl) rfl
theorem q1179 : (Jvm.Cond.selects "OneCoin" ({ cls := "OneCoin", name := "rings", desc := "(I)I" } : Jvm.MethodName) ({ cls := "OneCoin", name := "rings", desc := "(I)I" } : Jvm.MethodName)) ∈ lw_all := lw_g (lw_at lw_m5 104 rfl) rfl
theorem q1180 : (Jvm.Cond.code ({ cls := "OneCoin", name := "rings", desc := "(I)I" } : Jvm.MethodName) prog_1_method_45_code (4 : Nat) (Option.some Jvm.ClassFile.FieldType.int)) ∈ lw_all := lw_g (lw_at lw_m5 105 rfl) rfl
theorem q1181 : (Jvm.Cond.methodLink "OneCoin" (282 : Nat) ({ cls := "OneCoin", name := "ringOf", desc := "(I)I" } : Jvm.MethodName)) ∈ lw_all := lw_g (lw_at lw_m5 106 rfl) rfl
theorem q1182 : (Jvm.Cond.privateMethod ({ cls := "OneCoin", name := "ringOf", desc := "(I)I" } : Jvm.MethodName)) ∈ lw_tbl := lw_at lw_m5 107 rfl
theorem q1183 : (Jvm.Cond.instanceMethod ({ cls := "OneCoin", name := "ringOf", desc := "(I)I" } : Jvm.MethodName)) ∈ lw_all := lw_g (lw_at lw_m5 108 rfl) rfl
theorem q1184 : (Jvm.Cond.code ({ cls := "OneCoin", name := "ringOf", desc := "(I)I" } : Jvm.MethodName) prog_1_method_44_code (5 : Nat) (Option.some Jvm.ClassFile.FieldType.int)) ∈ lw_all := lw_g (lw_at lw_m5 109 rfl) rfl
theorem q1185 : (Jvm.Cond.methodLink "OneCoin" (279 : Nat) ({ cls := "OneCoin$Debts", name := "reach", desc := "(I)I" } : Jvm.MethodName)) ∈ lw_all := lw_g (lw_at lw_m5 110 rfl) rfl
theorem q1186 : (Jvm.Cond.methodLink "OneCoin" (285 : Nat) ({ cls := "java/lang/Integer", name := "numberOfTrailingZeros", desc := "(I)I" } : Jvm.MethodName)) ∈ lw_all := lw_g (lw_at lw_m5 111 rfl) rfl
theorem q1191 : (Jvm.Cond.instanceMethod ({ cls := "OneCoin", name := "off", desc := "()I" } : Jvm.MethodName)) ∈ lw_all := lw_g (lw_at lw_m5 116 rfl) rfl
theorem q1192 : (Jvm.Cond.selects "OneCoin" ({ cls := "OneCoin", name := "off", desc := "()I" } : Jvm.MethodName) ({ cls := "OneCoin", name := "off", desc := "()I" } : Jvm.MethodName)) ∈ lw_all := lw_g (lw_at lw_m5 117 rfl) rfl
theorem q1193 : (Jvm.Cond.code ({ cls := "OneCoin", name := "off", desc := "()I" } : Jvm.MethodName) prog_1_method_46_code (1 : Nat) (Option.some Jvm.ClassFile.FieldType.int)) ∈ lw_all := lw_g (lw_at lw_m5 118 rfl) rfl
theorem q1195 : (Jvm.Cond.instanceMethod ({ cls := "OneCoin", name := "when", desc := "(II)I" } : Jvm.MethodName)) ∈ lw_all := lw_g (lw_at lw_m5 120 rfl) rfl
theorem q1196 : (Jvm.Cond.selects "OneCoin" ({ cls := "OneCoin", name := "when", desc := "(II)I" } : Jvm.MethodName) ({ cls := "OneCoin", name := "when", desc := "(II)I" } : Jvm.MethodName)) ∈ lw_all := lw_g (lw_at lw_m5 121 rfl) rfl
theorem q1197 : (Jvm.Cond.code ({ cls := "OneCoin", name := "when", desc := "(II)I" } : Jvm.MethodName) prog_1_method_47_code (4 : Nat) (Option.some Jvm.ClassFile.FieldType.int)) ∈ lw_all := lw_g (lw_at lw_m5 122 rfl) rfl
theorem q1198 : (Jvm.Cond.methodLink "OneCoin" (288 : Nat) ({ cls := "OneCoin$Duchy", name := "canGo", desc := "()Z" } : Jvm.MethodName)) ∈ lw_all := lw_g (lw_at lw_m5 123 rfl) rfl
theorem q1199 : (Jvm.Cond.methodLink "OneCoin" (291 : Nat) ({ cls := "OneCoin$Duchy", name := "hourGoes", desc := "()I" } : Jvm.MethodName)) ∈ lw_all := lw_g (lw_at lw_m5 124 rfl) rfl
theorem q1201 : (Jvm.Cond.instanceMethod ({ cls := "OneCoin", name := "wedding", desc := "(III)I" } : Jvm.MethodName)) ∈ lw_all := lw_g (lw_at lw_m5 126 rfl) rfl
theorem q1202 : (Jvm.Cond.selects "OneCoin" ({ cls := "OneCoin", name := "wedding", desc := "(III)I" } : Jvm.MethodName) ({ cls := "OneCoin", name := "wedding", desc := "(III)I" } : Jvm.MethodName)) ∈ lw_all := lw_g (lw_at lw_m5 127 rfl) rfl
theorem q1203 : (Jvm.Cond.code ({ cls := "OneCoin", name := "wedding", desc := "(III)I" } : Jvm.MethodName) prog_1_method_48_code (9 : Nat) (Option.some Jvm.ClassFile.FieldType.int)) ∈ lw_all := lw_g (lw_at lw_m5 128 rfl) rfl
theorem q1205 : (Jvm.Cond.instanceMethod ({ cls := "OneCoin", name := "longest", desc := "()I" } : Jvm.MethodName)) ∈ lw_all := lw_g (lw_at lw_m5 130 rfl) rfl
theorem q1206 : (Jvm.Cond.selects "OneCoin" ({ cls := "OneCoin", name := "longest", desc := "()I" } : Jvm.MethodName) ({ cls := "OneCoin", name := "longest", desc := "()I" } : Jvm.MethodName)) ∈ lw_all := lw_g (lw_at lw_m5 131 rfl) rfl
theorem q1207 : (Jvm.Cond.code ({ cls := "OneCoin", name := "longest", desc := "()I" } : Jvm.MethodName) prog_1_method_49_code (4 : Nat) (Option.some Jvm.ClassFile.FieldType.int)) ∈ lw_all := lw_g (lw_at lw_m5 132 rfl) rfl
theorem q1209 : (Jvm.Cond.instanceMethod ({ cls := "OneCoin", name := "chalk", desc := "(I)I" } : Jvm.MethodName)) ∈ lw_all := lw_g (lw_at lw_m5 134 rfl) rfl
theorem q1210 : (Jvm.Cond.selects "OneCoin" ({ cls := "OneCoin", name := "chalk", desc := "(I)I" } : Jvm.MethodName) ({ cls := "OneCoin", name := "chalk", desc := "(I)I" } : Jvm.MethodName)) ∈ lw_all := lw_g (lw_at lw_m5 135 rfl) rfl
theorem q1211 : (Jvm.Cond.code ({ cls := "OneCoin", name := "chalk", desc := "(I)I" } : Jvm.MethodName) prog_1_method_50_code (2 : Nat) (Option.some Jvm.ClassFile.FieldType.int)) ∈ lw_all := lw_g (lw_at lw_m5 136 rfl) rfl
theorem q1212 : (Jvm.Cond.methodLink "OneCoin" (297 : Nat) ({ cls := "OneCoin$Duchy", name := "rows", desc := "()I" } : Jvm.MethodName)) ∈ lw_all := lw_g (lw_at lw_m5 137 rfl) rfl
theorem q1213 : (Jvm.Cond.methodLink "OneCoin" (300 : Nat) ({ cls := "OneCoin$Duchy", name := "chalkAt", desc := "(I)I" } : Jvm.MethodName)) ∈ lw_all := lw_g (lw_at lw_m5 138 rfl) rfl
theorem q1218 : (Jvm.Cond.instanceMethod ({ cls := "OneCoin", name := "two", desc := "(I)I" } : Jvm.MethodName)) ∈ lw_all := lw_g (lw_at lw_m5 143 rfl) rfl
theorem q1219 : (Jvm.Cond.selects "OneCoin" ({ cls := "OneCoin", name := "two", desc := "(I)I" } : Jvm.MethodName) ({ cls := "OneCoin", name := "two", desc := "(I)I" } : Jvm.MethodName)) ∈ lw_all := lw_g (lw_at lw_m5 144 rfl) rfl
theorem q1220 : (Jvm.Cond.code ({ cls := "OneCoin", name := "two", desc := "(I)I" } : Jvm.MethodName) prog_1_method_52_code (6 : Nat) (Option.some Jvm.ClassFile.FieldType.int)) ∈ lw_all := lw_g (lw_at lw_m5 145 rfl) rfl
theorem q1221 : (Jvm.Cond.methodLink "OneCoin" (307 : Nat) ({ cls := "OneCoin", name := "hoursOf", desc := "(III)I" } : Jvm.MethodName)) ∈ lw_all := lw_g (lw_at lw_m5 146 rfl) rfl
theorem q1222 : (Jvm.Cond.privateMethod ({ cls := "OneCoin", name := "hoursOf", desc := "(III)I" } : Jvm.MethodName)) ∈ lw_tbl := lw_at lw_m5 147 rfl
theorem q1223 : (Jvm.Cond.instanceMethod ({ cls := "OneCoin", name := "hoursOf", desc := "(III)I" } : Jvm.MethodName)) ∈ lw_all := lw_g (lw_at lw_m5 148 rfl) rfl
theorem q1224 : (Jvm.Cond.code ({ cls := "OneCoin", name := "hoursOf", desc := "(III)I" } : Jvm.MethodName) prog_1_method_51_code (6 : Nat) (Option.some Jvm.ClassFile.FieldType.int)) ∈ lw_all := lw_g (lw_at lw_m5 149 rfl) rfl
theorem q1225 : (Jvm.Cond.methodLink "OneCoin" (303 : Nat) ({ cls := "OneCoin$Debts", name := "clear", desc := "()LOneCoin$Debts;" } : Jvm.MethodName)) ∈ lw_all := lw_g (lw_at lw_m5 150 rfl) rfl
theorem q1230 : (Jvm.Cond.instanceMethod ({ cls := "OneCoin", name := "dry", desc := "(II)I" } : Jvm.MethodName)) ∈ lw_all := lw_g (lw_at lw_m5 155 rfl) rfl
theorem q1231 : (Jvm.Cond.selects "OneCoin" ({ cls := "OneCoin", name := "dry", desc := "(II)I" } : Jvm.MethodName) ({ cls := "OneCoin", name := "dry", desc := "(II)I" } : Jvm.MethodName)) ∈ lw_all := lw_g (lw_at lw_m5 156 rfl) rfl
theorem q1232 : (Jvm.Cond.code ({ cls := "OneCoin", name := "dry", desc := "(II)I" } : Jvm.MethodName) prog_1_method_53_code (7 : Nat) (Option.some Jvm.ClassFile.FieldType.int)) ∈ lw_all := lw_g (lw_at lw_m5 157 rfl) rfl
theorem q1233 : (Jvm.Cond.methodLink "OneCoin" (311 : Nat) ({ cls := "OneCoin$Moment", name := "at", desc := "(II)LOneCoin$Moment;" } : Jvm.MethodName)) ∈ lw_all := lw_g (lw_at lw_m5 158 rfl) rfl
theorem q1234 : (Jvm.Cond.methodLink "OneCoin" (10 : Nat) ({ cls := "OneCoin", name := "divisor", desc := "(II)I" } : Jvm.MethodName)) ∈ lw_all := lw_g (lw_at lw_m5 159 rfl) rfl
theorem q1235 : (Jvm.Cond.static ({ cls := "OneCoin", name := "divisor", desc := "(II)I" } : Jvm.MethodName)) ∈ lw_all := lw_g (lw_at lw_m5 160 rfl) rfl
theorem q1236 : (Jvm.Cond.code ({ cls := "OneCoin", name := "divisor", desc := "(II)I" } : Jvm.MethodName) prog_1_method_5_code (2 : Nat) (Option.some Jvm.ClassFile.FieldType.int)) ∈ lw_all := lw_g (lw_at lw_m5 161 rfl) rfl
theorem q1238 : (Jvm.Cond.instanceMethod ({ cls := "OneCoin", name := "seed", desc := "(I)Z" } : Jvm.MethodName)) ∈ lw_all := lw_g (lw_at lw_m5 163 rfl) rfl
theorem q1239 : (Jvm.Cond.selects "OneCoin" ({ cls := "OneCoin", name := "seed", desc := "(I)Z" } : Jvm.MethodName) ({ cls := "OneCoin", name := "seed", desc := "(I)Z" } : Jvm.MethodName)) ∈ lw_all := lw_g (lw_at lw_m5 164 rfl) rfl
theorem q1240 : (Jvm.Cond.code ({ cls := "OneCoin", name := "seed", desc := "(I)Z" } : Jvm.MethodName) prog_1_method_54_code (2 : Nat) (Option.some Jvm.ClassFile.FieldType.boolean)) ∈ lw_all := lw_g (lw_at lw_m5 165 rfl) rfl
theorem q1241 : (Jvm.Cond.constant "OneCoin" (315 : Nat) (65536 : Int32)) ∈ lw_all := lw_g (lw_at lw_m5 166 rfl) rfl
theorem q1243 : (Jvm.Cond.instanceMethod ({ cls := "OneCoin", name := "keep", desc := "()I" } : Jvm.MethodName)) ∈ lw_all := lw_g (lw_at lw_m5 168 rfl) rfl
theorem q1244 : (Jvm.Cond.selects "OneCoin" ({ cls := "OneCoin", name := "keep", desc := "()I" } : Jvm.MethodName) ({ cls := "OneCoin", name := "keep", desc := "()I" } : Jvm.MethodName)) ∈ lw_all := lw_g (lw_at lw_m5 169 rfl) rfl
theorem q1245 : (Jvm.Cond.code ({ cls := "OneCoin", name := "keep", desc := "()I" } : Jvm.MethodName) prog_1_method_55_code (1 : Nat) (Option.some Jvm.ClassFile.FieldType.int)) ∈ lw_all := lw_g (lw_at lw_m5 170 rfl) rfl
theorem q1247 : (Jvm.Cond.instanceMethod ({ cls := "OneCoin", name := "undo", desc := "()Z" } : Jvm.MethodName)) ∈ lw_all := lw_g (lw_at lw_m5 172 rfl) rfl
theorem q1248 : (Jvm.Cond.selects "OneCoin" ({ cls := "OneCoin", name := "undo", desc := "()Z" } : Jvm.MethodName) ({ cls := "OneCoin", name := "undo", desc := "()Z" } : Jvm.MethodName)) ∈ lw_all := lw_g (lw_at lw_m5 173 rfl) rfl
theorem q1249 : (Jvm.Cond.code ({ cls := "OneCoin", name := "undo", desc := "()Z" } : Jvm.MethodName) prog_1_method_56_code (1 : Nat) (Option.some Jvm.ClassFile.FieldType.boolean)) ∈ lw_all := lw_g (lw_at lw_m5 174 rfl) rfl
theorem q1251 : (Jvm.Cond.instanceMethod ({ cls := "OneCoin", name := "check", desc := "(I)I" } : Jvm.MethodName)) ∈ lw_all := lw_g (lw_at lw_m5 176 rfl) rfl
theorem q1252 : (Jvm.Cond.selects "OneCoin" ({ cls := "OneCoin", name := "check", desc := "(I)I" } : Jvm.MethodName) ({ cls := "OneCoin", name := "check", desc := "(I)I" } : Jvm.MethodName)) ∈ lw_all := lw_g (lw_at lw_m5 177 rfl) rfl
theorem q1253 : (Jvm.Cond.code ({ cls := "OneCoin", name := "check", desc := "(I)I" } : Jvm.MethodName) prog_1_method_57_code (3 : Nat) (Option.some Jvm.ClassFile.FieldType.int)) ∈ lw_all := lw_g (lw_at lw_m5 178 rfl) rfl
theorem q1255 : (Jvm.Cond.instanceMethod ({ cls := "OneCoin", name := "count", desc := "(I)I" } : Jvm.MethodName)) ∈ lw_all := lw_g (lw_at lw_m5 180 rfl) rfl
theorem q1256 : (Jvm.Cond.selects "OneCoin" ({ cls := "OneCoin", name := "count", desc := "(I)I" } : Jvm.MethodName) ({ cls := "OneCoin", name := "count", desc := "(I)I" } : Jvm.MethodName)) ∈ lw_all := lw_g (lw_at lw_m5 181 rfl) rfl
theorem q1257 : (Jvm.Cond.code ({ cls := "OneCoin", name := "count", desc := "(I)I" } : Jvm.MethodName) prog_1_method_58_code (2 : Nat) (Option.some Jvm.ClassFile.FieldType.int)) ∈ lw_all := lw_g (lw_at lw_m5 182 rfl) rfl
theorem in_X0 : ∀ w ∈ wsX00, w ∈ lw_all := lw_in wsX00 [337, 339, 341, 343, 345, 347, 349, 351, 353, 355, 357, 359, 361, 363, 365, 367, 369, 371, 373, 375, 377, 379] (by decide +kernel) (by decide +kernel)
