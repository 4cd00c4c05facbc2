/-! OneCoin$Reader -/
set_option maxRecDepth 100000
def RX7 : String := "OneCoin$Reader"
def TX7 : u_T := fun k => match k with
  | 0 => ("OneCoin$Reader", "n", "I", true)
  | 1 => ("OneCoin$Reader", "text", "LOneCoin$Text;", true)
  | 2 => ("OneCoin$Reader", "at", "I", false)
  | 3 => ("OneCoin$Reader", "open", "I", false)
  | 4 => ("OneCoin$Reader", "fault", "I", false)
  | 5 => ("OneCoin$Reader", "place", "I", false)
  | _ => ("OneCoin$Reader", "this$0", "LOneCoin;", true)
def tyX7 : Nat → FieldType := fun k => match k with
  | 0 => .int
  | 1 => .object "OneCoin$Text"
  | 2 => .int
  | 3 => .int
  | 4 => .int
  | 5 => .int
  | _ => .object "OneCoin"
abbrev wsX70 : List Cond := u_ws RX7 TX7 7
theorem nmX7 : ∀ a, a < 7 → ∀ b, b < 7 → a ≠ b → (TX7 a).2.1 ≠ (TX7 b).2.1 := by decide +kernel
theorem tyX7_ok : ∀ k, k < 7 → parseFieldDescriptor (TX7 k).2.2.1 = some (tyX7 k) := by decide +kernel
abbrev cX7_init : ByteArray := prog_13_method_1_code
def yX7_init : MethodName := ⟨RX7, "<init>", "(LOneCoin;I)V"⟩
def dkwX7_init_1 : List UInt8 := [181, 0, 22, 177]
abbrev dktX7_init_1 : List UInt8 := dkwX7_init_1 ++ []
def dkwX7_init_0 : List UInt8 := [42, 43, 181, 0, 3, 42, 183, 0, 9, 42, 187, 0, 15, 89, 183, 0, 17, 181, 0, 18, 42, 28]
abbrev dktX7_init_0 : List UInt8 := dkwX7_init_0 ++ dktX7_init_1
theorem dksX7_init_0 : cX7_init.data.toList.drop 0 = dktX7_init_0 := by decide +kernel
theorem dksX7_init_1 : cX7_init.data.toList.drop 22 = dktX7_init_1 := dk_seg dksX7_init_0 22 rfl rfl
theorem dX7_init_0 : decode cX7_init 0 = .ok (.aload_n 0, 1) := dk_42 (dk_at dksX7_init_0 0 rfl rfl)
theorem dX7_init_1 : decode cX7_init 1 = .ok (.aload_n 1, 1) := dk_43 (dk_at dksX7_init_0 1 rfl rfl)
theorem dX7_init_2 : decode cX7_init 2 = .ok (.putfield 3, 3) := dk_181 0 3 (dk_at dksX7_init_0 2 rfl rfl)
theorem dX7_init_5 : decode cX7_init 5 = .ok (.aload_n 0, 1) := dk_42 (dk_at dksX7_init_0 5 rfl rfl)
theorem dX7_init_6 : decode cX7_init 6 = .ok (.invokespecial 9, 3) := dk_183 0 9 (dk_at dksX7_init_0 6 rfl rfl)
theorem dX7_init_9 : decode cX7_init 9 = .ok (.aload_n 0, 1) := dk_42 (dk_at dksX7_init_0 9 rfl rfl)
theorem dX7_init_10 : decode cX7_init 10 = .ok (.new 15, 3) := dk_187 0 15 (dk_at dksX7_init_0 10 rfl rfl)
theorem dX7_init_13 : decode cX7_init 13 = .ok (.dup, 1) := dk_89 (dk_at dksX7_init_0 13 rfl rfl)
theorem dX7_init_14 : decode cX7_init 14 = .ok (.invokespecial 17, 3) := dk_183 0 17 (dk_at dksX7_init_0 14 rfl rfl)
theorem dX7_init_17 : decode cX7_init 17 = .ok (.putfield 18, 3) := dk_181 0 18 (dk_at dksX7_init_0 17 rfl rfl)
theorem dX7_init_20 : decode cX7_init 20 = .ok (.aload_n 0, 1) := dk_42 (dk_at dksX7_init_0 20 rfl rfl)
theorem dX7_init_21 : decode cX7_init 21 = .ok (.iload_n 2, 1) := dk_28 (dk_at dksX7_init_0 21 rfl rfl)
theorem dX7_init_22 : decode cX7_init 22 = .ok (.putfield 22, 3) := dk_181 0 22 (dk_at dksX7_init_1 0 rfl rfl)
theorem dX7_init_25 : decode cX7_init 25 = .ok (.return_, 1) := dk_177 (dk_at dksX7_init_1 3 rfl rfl)
abbrev cX7_read : ByteArray := prog_13_method_16_code
def yX7_read : MethodName := ⟨RX7, "read", "()I"⟩
def dkwX7_read_3 : List UInt8 := [17, 252, 24, 42, 180, 0, 33, 104, 42, 180, 0, 36, 100, 172]
abbrev dktX7_read_3 : List UInt8 := dkwX7_read_3 ++ []
def dkwX7_read_2 : List UInt8 := [182, 0, 64, 167, 255, 207, 42, 182, 0, 43, 153, 0, 13, 42, 180, 0, 18, 180, 0, 131, 167, 0, 16]
abbrev dktX7_read_2 : List UInt8 := dkwX7_read_2 ++ dktX7_read_3
def dkwX7_read_1 : List UInt8 := [42, 180, 0, 26, 42, 180, 0, 22, 162, 0, 7, 4, 167, 0, 4, 3, 60, 27, 153, 255, 216, 42, 16, 59]
abbrev dktX7_read_1 : List UInt8 := dkwX7_read_1 ++ dktX7_read_2
def dkwX7_read_0 : List UInt8 := [4, 60, 27, 153, 0, 51, 42, 182, 0, 43, 153, 0, 44, 42, 182, 0, 146, 42, 182, 0, 43, 153, 0, 18]
abbrev dktX7_read_0 : List UInt8 := dkwX7_read_0 ++ dktX7_read_1
theorem dksX7_read_0 : cX7_read.data.toList.drop 0 = dktX7_read_0 := by decide +kernel
theorem dksX7_read_1 : cX7_read.data.toList.drop 24 = dktX7_read_1 := dk_seg dksX7_read_0 24 rfl rfl
theorem dksX7_read_2 : cX7_read.data.toList.drop 48 = dktX7_read_2 := dk_seg dksX7_read_1 24 rfl rfl
theorem dksX7_read_3 : cX7_read.data.toList.drop 71 = dktX7_read_3 := dk_seg dksX7_read_2 23 rfl rfl
theorem dX7_read_0 : decode cX7_read 0 = .ok (.iconst 1, 1) := dk_4 (dk_at dksX7_read_0 0 rfl rfl)
theorem dX7_read_1 : decode cX7_read 1 = .ok (.istore_n 1, 1) := dk_60 (dk_at dksX7_read_0 1 rfl rfl)
theorem dX7_read_2 : decode cX7_read 2 = .ok (.iload_n 1, 1) := dk_27 (dk_at dksX7_read_0 2 rfl rfl)
theorem dX7_read_3 : decode cX7_read 3 = .ok (.ifCond .eq 51, 3) := dk_153 0 51 (dk_at dksX7_read_0 3 rfl rfl)
theorem dX7_read_6 : decode cX7_read 6 = .ok (.aload_n 0, 1) := dk_42 (dk_at dksX7_read_0 6 rfl rfl)
theorem dX7_read_7 : decode cX7_read 7 = .ok (.invokevirtual 43, 3) := dk_182 0 43 (dk_at dksX7_read_0 7 rfl rfl)
theorem dX7_read_10 : decode cX7_read 10 = .ok (.ifCond .eq 44, 3) := dk_153 0 44 (dk_at dksX7_read_0 10 rfl rfl)
theorem dX7_read_13 : decode cX7_read 13 = .ok (.aload_n 0, 1) := dk_42 (dk_at dksX7_read_0 13 rfl rfl)
theorem dX7_read_14 : decode cX7_read 14 = .ok (.invokevirtual 146, 3) := dk_182 0 146 (dk_at dksX7_read_0 14 rfl rfl)
theorem dX7_read_17 : decode cX7_read 17 = .ok (.aload_n 0, 1) := dk_42 (dk_at dksX7_read_0 17 rfl rfl)
theorem dX7_read_18 : decode cX7_read 18 = .ok (.invokevirtual 43, 3) := dk_182 0 43 (dk_at dksX7_read_0 18 rfl rfl)
theorem dX7_read_21 : decode cX7_read 21 = .ok (.ifCond .eq 18, 3) := dk_153 0 18 (dk_at dksX7_read_0 21 rfl rfl)
theorem dX7_read_24 : decode cX7_read 24 = .ok (.aload_n 0, 1) := dk_42 (dk_at dksX7_read_1 0 rfl rfl)
theorem dX7_read_25 : decode cX7_read 25 = .ok (.getfield 26, 3) := dk_180 0 26 (dk_at dksX7_read_1 1 rfl rfl)
theorem dX7_read_28 : decode cX7_read 28 = .ok (.aload_n 0, 1) := dk_42 (dk_at dksX7_read_1 4 rfl rfl)
theorem dX7_read_29 : decode cX7_read 29 = .ok (.getfield 22, 3) := dk_180 0 22 (dk_at dksX7_read_1 5 rfl rfl)
theorem dX7_read_32 : decode cX7_read 32 = .ok (.if_icmp .ge 7, 3) := dk_162 0 7 (dk_at dksX7_read_1 8 rfl rfl)
theorem dX7_read_35 : decode cX7_read 35 = .ok (.iconst 1, 1) := dk_4 (dk_at dksX7_read_1 11 rfl rfl)
theorem dX7_read_36 : decode cX7_read 36 = .ok (.goto 4, 3) := dk_167 0 4 (dk_at dksX7_read_1 12 rfl rfl)
theorem dX7_read_39 : decode cX7_read 39 = .ok (.iconst 0, 1) := dk_3 (dk_at dksX7_read_1 15 rfl rfl)
theorem dX7_read_40 : decode cX7_read 40 = .ok (.istore_n 1, 1) := dk_60 (dk_at dksX7_read_1 16 rfl rfl)
theorem dX7_read_41 : decode cX7_read 41 = .ok (.iload_n 1, 1) := dk_27 (dk_at dksX7_read_1 17 rfl rfl)
theorem dX7_read_42 : decode cX7_read 42 = .ok (.ifCond .eq (-40), 3) := dk_153 255 216 (dk_at dksX7_read_1 18 rfl rfl)
theorem dX7_read_45 : decode cX7_read 45 = .ok (.aload_n 0, 1) := dk_42 (dk_at dksX7_read_1 21 rfl rfl)
theorem dX7_read_46 : decode cX7_read 46 = .ok (.bipush 59, 2) := dk_16 59 (dk_at dksX7_read_1 22 rfl rfl)
theorem dX7_read_48 : decode cX7_read 48 = .ok (.invokevirtual 64, 3) := dk_182 0 64 (dk_at dksX7_read_2 0 rfl rfl)
theorem dX7_read_51 : decode cX7_read 51 = .ok (.goto (-49), 3) := dk_167 255 207 (dk_at dksX7_read_2 3 rfl rfl)
theorem dX7_read_54 : decode cX7_read 54 = .ok (.aload_n 0, 1) := dk_42 (dk_at dksX7_read_2 6 rfl rfl)
theorem dX7_read_55 : decode cX7_read 55 = .ok (.invokevirtual 43, 3) := dk_182 0 43 (dk_at dksX7_read_2 7 rfl rfl)
theorem dX7_read_58 : decode cX7_read 58 = .ok (.ifCond .eq 13, 3) := dk_153 0 13 (dk_at dksX7_read_2 10 rfl rfl)
theorem dX7_read_61 : decode cX7_read 61 = .ok (.aload_n 0, 1) := dk_42 (dk_at dksX7_read_2 13 rfl rfl)
theorem dX7_read_62 : decode cX7_read 62 = .ok (.getfield 18, 3) := dk_180 0 18 (dk_at dksX7_read_2 14 rfl rfl)
theorem dX7_read_65 : decode cX7_read 65 = .ok (.getfield 131, 3) := dk_180 0 131 (dk_at dksX7_read_2 17 rfl rfl)
theorem dX7_read_68 : decode cX7_read 68 = .ok (.goto 16, 3) := dk_167 0 16 (dk_at dksX7_read_2 20 rfl rfl)
theorem dX7_read_71 : decode cX7_read 71 = .ok (.sipush (-1000), 3) := dk_17 252 24 (dk_at dksX7_read_3 0 rfl rfl)
theorem dX7_read_74 : decode cX7_read 74 = .ok (.aload_n 0, 1) := dk_42 (dk_at dksX7_read_3 3 rfl rfl)
theorem dX7_read_75 : decode cX7_read 75 = .ok (.getfield 33, 3) := dk_180 0 33 (dk_at dksX7_read_3 4 rfl rfl)
theorem dX7_read_78 : decode cX7_read 78 = .ok (.imul, 1) := dk_104 (dk_at dksX7_read_3 7 rfl rfl)
theorem dX7_read_79 : decode cX7_read 79 = .ok (.aload_n 0, 1) := dk_42 (dk_at dksX7_read_3 8 rfl rfl)
theorem dX7_read_80 : decode cX7_read 80 = .ok (.getfield 36, 3) := dk_180 0 36 (dk_at dksX7_read_3 9 rfl rfl)
theorem dX7_read_83 : decode cX7_read 83 = .ok (.isub, 1) := dk_100 (dk_at dksX7_read_3 12 rfl rfl)
theorem dX7_read_84 : decode cX7_read 84 = .ok (.ireturn, 1) := dk_172 (dk_at dksX7_read_3 13 rfl rfl)
abbrev cX7_isGood : ByteArray := prog_13_method_3_code
def yX7_isGood : MethodName := ⟨RX7, "isGood", "()Z"⟩
def dkwX7_isGood_0 : List UInt8 := [42, 180, 0, 33, 154, 0, 7, 4, 167, 0, 4, 3, 172]
abbrev dktX7_isGood_0 : List UInt8 := dkwX7_isGood_0 ++ []
theorem dksX7_isGood_0 : cX7_isGood.data.toList.drop 0 = dktX7_isGood_0 := by decide +kernel
theorem dX7_isGood_0 : decode cX7_isGood 0 = .ok (.aload_n 0, 1) := dk_42 (dk_at dksX7_isGood_0 0 rfl rfl)
theorem dX7_isGood_1 : decode cX7_isGood 1 = .ok (.getfield 33, 3) := dk_180 0 33 (dk_at dksX7_isGood_0 1 rfl rfl)
theorem dX7_isGood_4 : decode cX7_isGood 4 = .ok (.ifCond .ne 7, 3) := dk_154 0 7 (dk_at dksX7_isGood_0 4 rfl rfl)
theorem dX7_isGood_7 : decode cX7_isGood 7 = .ok (.iconst 1, 1) := dk_4 (dk_at dksX7_isGood_0 7 rfl rfl)
theorem dX7_isGood_8 : decode cX7_isGood 8 = .ok (.goto 4, 3) := dk_167 0 4 (dk_at dksX7_isGood_0 8 rfl rfl)
theorem dX7_isGood_11 : decode cX7_isGood 11 = .ok (.iconst 0, 1) := dk_3 (dk_at dksX7_isGood_0 11 rfl rfl)
theorem dX7_isGood_12 : decode cX7_isGood 12 = .ok (.ireturn, 1) := dk_172 (dk_at dksX7_isGood_0 12 rfl rfl)
abbrev cX7_clause : ByteArray := prog_13_method_15_code
def yX7_clause : MethodName := ⟨RX7, "clause", "()V"⟩
def dkwX7_clause_8 : List UInt8 := [4, 96, 181, 0, 131, 177]
abbrev dktX7_clause_8 : List UInt8 := dkwX7_clause_8 ++ []
def dkwX7_clause_7 : List UInt8 := [42, 180, 0, 18, 180, 0, 142, 42, 180, 0, 18, 180, 0, 131, 45, 83, 42, 180, 0, 18, 89, 180, 0, 131]
abbrev dktX7_clause_7 : List UInt8 := dkwX7_clause_7 ++ dktX7_clause_8
def dkwX7_clause_6 : List UInt8 := [180, 0, 18, 180, 0, 131, 27, 79, 42, 180, 0, 18, 180, 0, 138, 42, 180, 0, 18, 180, 0, 131, 44, 83]
abbrev dktX7_clause_6 : List UInt8 := dkwX7_clause_6 ++ dktX7_clause_7
def dkwX7_clause_5 : List UInt8 := [182, 0, 43, 153, 0, 10, 42, 182, 0, 110, 167, 0, 4, 1, 78, 42, 180, 0, 18, 180, 0, 134, 42]
abbrev dktX7_clause_5 : List UInt8 := dkwX7_clause_5 ++ dktX7_clause_6
def dkwX7_clause_4 : List UInt8 := [153, 0, 21, 42, 182, 0, 39, 16, 40, 159, 0, 12, 42, 4, 42, 180, 0, 26, 182, 0, 50, 42]
abbrev dktX7_clause_4 : List UInt8 := dkwX7_clause_4 ++ dktX7_clause_5
def dkwX7_clause_3 : List UInt8 := [181, 0, 54, 27, 16, 115, 160, 0, 7, 1, 167, 0, 7, 42, 182, 0, 60, 77, 42, 182, 0, 43]
abbrev dktX7_clause_3 : List UInt8 := dkwX7_clause_3 ++ dktX7_clause_4
def dkwX7_clause_2 : List UInt8 := [182, 0, 50, 42, 182, 0, 43, 154, 0, 4, 177, 42, 89, 180, 0, 26, 4, 96, 181, 0, 26, 42, 3]
abbrev dktX7_clause_2 : List UInt8 := dkwX7_clause_2 ++ dktX7_clause_3
def dkwX7_clause_1 : List UInt8 := [182, 0, 50, 167, 0, 24, 42, 180, 0, 18, 180, 0, 131, 16, 16, 160, 0, 12, 42, 7, 42, 180, 0, 26]
abbrev dktX7_clause_1 : List UInt8 := dkwX7_clause_1 ++ dktX7_clause_2
def dkwX7_clause_0 : List UInt8 := [42, 182, 0, 39, 60, 27, 153, 0, 12, 18, 129, 27, 182, 0, 77, 156, 0, 15, 42, 4, 42, 180, 0, 26]
abbrev dktX7_clause_0 : List UInt8 := dkwX7_clause_0 ++ dktX7_clause_1
theorem dksX7_clause_0 : cX7_clause.data.toList.drop 0 = dktX7_clause_0 := by decide +kernel
theorem dksX7_clause_1 : cX7_clause.data.toList.drop 24 = dktX7_clause_1 := dk_seg dksX7_clause_0 24 rfl rfl
theorem dksX7_clause_2 : cX7_clause.data.toList.drop 48 = dktX7_clause_2 := dk_seg dksX7_clause_1 24 rfl rfl
theorem dksX7_clause_3 : cX7_clause.data.toList.drop 71 = dktX7_clause_3 := dk_seg dksX7_clause_2 23 rfl rfl
theorem dksX7_clause_4 : cX7_clause.data.toList.drop 93 = dktX7_clause_4 := dk_seg dksX7_clause_3 22 rfl rfl
theorem dksX7_clause_5 : cX7_clause.data.toList.drop 115 = dktX7_clause_5 := dk_seg dksX7_clause_4 22 rfl rfl
theorem dksX7_clause_6 : cX7_clause.data.toList.drop 138 = dktX7_clause_6 := dk_seg dksX7_clause_5 23 rfl rfl
theorem dksX7_clause_7 : cX7_clause.data.toList.drop 162 = dktX7_clause_7 := dk_seg dksX7_clause_6 24 rfl rfl
theorem dksX7_clause_8 : cX7_clause.data.toList.drop 186 = dktX7_clause_8 := dk_seg dksX7_clause_7 24 rfl rfl
theorem dX7_clause_0 : decode cX7_clause 0 = .ok (.aload_n 0, 1) := dk_42 (dk_at dksX7_clause_0 0 rfl rfl)
theorem dX7_clause_1 : decode cX7_clause 1 = .ok (.invokevirtual 39, 3) := dk_182 0 39 (dk_at dksX7_clause_0 1 rfl rfl)
theorem dX7_clause_4 : decode cX7_clause 4 = .ok (.istore_n 1, 1) := dk_60 (dk_at dksX7_clause_0 4 rfl rfl)
theorem dX7_clause_5 : decode cX7_clause 5 = .ok (.iload_n 1, 1) := dk_27 (dk_at dksX7_clause_0 5 rfl rfl)
theorem dX7_clause_6 : decode cX7_clause 6 = .ok (.ifCond .eq 12, 3) := dk_153 0 12 (dk_at dksX7_clause_0 6 rfl rfl)
theorem dX7_clause_9 : decode cX7_clause 9 = .ok (.ldc 129, 2) := dk_18 129 (dk_at dksX7_clause_0 9 rfl rfl)
theorem dX7_clause_11 : decode cX7_clause 11 = .ok (.iload_n 1, 1) := dk_27 (dk_at dksX7_clause_0 11 rfl rfl)
theorem dX7_clause_12 : decode cX7_clause 12 = .ok (.invokevirtual 77, 3) := dk_182 0 77 (dk_at dksX7_clause_0 12 rfl rfl)
theorem dX7_clause_15 : decode cX7_clause 15 = .ok (.ifCond .ge 15, 3) := dk_156 0 15 (dk_at dksX7_clause_0 15 rfl rfl)
theorem dX7_clause_18 : decode cX7_clause 18 = .ok (.aload_n 0, 1) := dk_42 (dk_at dksX7_clause_0 18 rfl rfl)
theorem dX7_clause_19 : decode cX7_clause 19 = .ok (.iconst 1, 1) := dk_4 (dk_at dksX7_clause_0 19 rfl rfl)
theorem dX7_clause_20 : decode cX7_clause 20 = .ok (.aload_n 0, 1) := dk_42 (dk_at dksX7_clause_0 20 rfl rfl)
theorem dX7_clause_21 : decode cX7_clause 21 = .ok (.getfield 26, 3) := dk_180 0 26 (dk_at dksX7_clause_0 21 rfl rfl)
theorem dX7_clause_24 : decode cX7_clause 24 = .ok (.invokevirtual 50, 3) := dk_182 0 50 (dk_at dksX7_clause_1 0 rfl rfl)
theorem dX7_clause_27 : decode cX7_clause 27 = .ok (.goto 24, 3) := dk_167 0 24 (dk_at dksX7_clause_1 3 rfl rfl)
theorem dX7_clause_30 : decode cX7_clause 30 = .ok (.aload_n 0, 1) := dk_42 (dk_at dksX7_clause_1 6 rfl rfl)
theorem dX7_clause_31 : decode cX7_clause 31 = .ok (.getfield 18, 3) := dk_180 0 18 (dk_at dksX7_clause_1 7 rfl rfl)
theorem dX7_clause_34 : decode cX7_clause 34 = .ok (.getfield 131, 3) := dk_180 0 131 (dk_at dksX7_clause_1 10 rfl rfl)
theorem dX7_clause_37 : decode cX7_clause 37 = .ok (.bipush 16, 2) := dk_16 16 (dk_at dksX7_clause_1 13 rfl rfl)
theorem dX7_clause_39 : decode cX7_clause 39 = .ok (.if_icmp .ne 12, 3) := dk_160 0 12 (dk_at dksX7_clause_1 15 rfl rfl)
theorem dX7_clause_42 : decode cX7_clause 42 = .ok (.aload_n 0, 1) := dk_42 (dk_at dksX7_clause_1 18 rfl rfl)
theorem dX7_clause_43 : decode cX7_clause 43 = .ok (.iconst 4, 1) := dk_7 (dk_at dksX7_clause_1 19 rfl rfl)
theorem dX7_clause_44 : decode cX7_clause 44 = .ok (.aload_n 0, 1) := dk_42 (dk_at dksX7_clause_1 20 rfl rfl)
theorem dX7_clause_45 : decode cX7_clause 45 = .ok (.getfield 26, 3) := dk_180 0 26 (dk_at dksX7_clause_1 21 rfl rfl)
theorem dX7_clause_48 : decode cX7_clause 48 = .ok (.invokevirtual 50, 3) := dk_182 0 50 (dk_at dksX7_clause_2 0 rfl rfl)
theorem dX7_clause_51 : decode cX7_clause 51 = .ok (.aload_n 0, 1) := dk_42 (dk_at dksX7_clause_2 3 rfl rfl)
theorem dX7_clause_52 : decode cX7_clause 52 = .ok (.invokevirtual 43, 3) := dk_182 0 43 (dk_at dksX7_clause_2 4 rfl rfl)
theorem dX7_clause_55 : decode cX7_clause 55 = .ok (.ifCond .ne 4, 3) := dk_154 0 4 (dk_at dksX7_clause_2 7 rfl rfl)
theorem dX7_clause_58 : decode cX7_clause 58 = .ok (.return_, 1) := dk_177 (dk_at dksX7_clause_2 10 rfl rfl)
theorem dX7_clause_59 : decode cX7_clause 59 = .ok (.aload_n 0, 1) := dk_42 (dk_at dksX7_clause_2 11 rfl rfl)
theorem dX7_clause_60 : decode cX7_clause 60 = .ok (.dup, 1) := dk_89 (dk_at dksX7_clause_2 12 rfl rfl)
theorem dX7_clause_61 : decode cX7_clause 61 = .ok (.getfield 26, 3) := dk_180 0 26 (dk_at dksX7_clause_2 13 rfl rfl)
theorem dX7_clause_64 : decode cX7_clause 64 = .ok (.iconst 1, 1) := dk_4 (dk_at dksX7_clause_2 16 rfl rfl)
theorem dX7_clause_65 : decode cX7_clause 65 = .ok (.iadd, 1) := dk_96 (dk_at dksX7_clause_2 17 rfl rfl)
theorem dX7_clause_66 : decode cX7_clause 66 = .ok (.putfield 26, 3) := dk_181 0 26 (dk_at dksX7_clause_2 18 rfl rfl)
theorem dX7_clause_69 : decode cX7_clause 69 = .ok (.aload_n 0, 1) := dk_42 (dk_at dksX7_clause_2 21 rfl rfl)
theorem dX7_clause_70 : decode cX7_clause 70 = .ok (.iconst 0, 1) := dk_3 (dk_at dksX7_clause_2 22 rfl rfl)
theorem dX7_clause_71 : decode cX7_clause 71 = .ok (.putfield 54, 3) := dk_181 0 54 (dk_at dksX7_clause_3 0 rfl rfl)
theorem dX7_clause_74 : decode cX7_clause 74 = .ok (.iload_n 1, 1) := dk_27 (dk_at dksX7_clause_3 3 rfl rfl)
theorem dX7_clause_75 : decode cX7_clause 75 = .ok (.bipush 115, 2) := dk_16 115 (dk_at dksX7_clause_3 4 rfl rfl)
theorem dX7_clause_77 : decode cX7_clause 77 = .ok (.if_icmp .ne 7, 3) := dk_160 0 7 (dk_at dksX7_clause_3 6 rfl rfl)
theorem dX7_clause_80 : decode cX7_clause 80 = .ok (.aconst_null, 1) := dk_1 (dk_at dksX7_clause_3 9 rfl rfl)
theorem dX7_clause_81 : decode cX7_clause 81 = .ok (.goto 7, 3) := dk_167 0 7 (dk_at dksX7_clause_3 10 rfl rfl)
theorem dX7_clause_84 : decode cX7_clause 84 = .ok (.aload_n 0, 1) := dk_42 (dk_at dksX7_clause_3 13 rfl rfl)
theorem dX7_clause_85 : decode cX7_clause 85 = .ok (.invokevirtual 60, 3) := dk_182 0 60 (dk_at dksX7_clause_3 14 rfl rfl)
theorem dX7_clause_88 : decode cX7_clause 88 = .ok (.astore_n 2, 1) := dk_77 (dk_at dksX7_clause_3 17 rfl rfl)
theorem dX7_clause_89 : decode cX7_clause 89 = .ok (.aload_n 0, 1) := dk_42 (dk_at dksX7_clause_3 18 rfl rfl)
theorem dX7_clause_90 : decode cX7_clause 90 = .ok (.invokevirtual 43, 3) := dk_182 0 43 (dk_at dksX7_clause_3 19 rfl rfl)
theorem dX7_clause_93 : decode cX7_clause 93 = .ok (.ifCond .eq 21, 3) := dk_153 0 21 (dk_at dksX7_clause_4 0 rfl rfl)
theorem dX7_clause_96 : decode cX7_clause 96 = .ok (.aload_n 0, 1) := dk_42 (dk_at dksX7_clause_4 3 rfl rfl)
theorem dX7_clause_97 : decode cX7_clause 97 = .ok (.invokevirtual 39, 3) := dk_182 0 39 (dk_at dksX7_clause_4 4 rfl rfl)
theorem dX7_clause_100 : decode cX7_clause 100 = .ok (.bipush 40, 2) := dk_16 40 (dk_at dksX7_clause_4 7 rfl rfl)
theorem dX7_clause_102 : decode cX7_clause 102 = .ok (.if_icmp .eq 12, 3) := dk_159 0 12 (dk_at dksX7_clause_4 9 rfl rfl)
theorem dX7_clause_105 : decode cX7_clause 105 = .ok (.aload_n 0, 1) := dk_42 (dk_at dksX7_clause_4 12 rfl rfl)
theorem dX7_clause_106 : decode cX7_clause 106 = .ok (.iconst 1, 1) := dk_4 (dk_at dksX7_clause_4 13 rfl rfl)
theorem dX7_clause_107 : decode cX7_clause 107 = .ok (.aload_n 0, 1) := dk_42 (dk_at dksX7_clause_4 14 rfl rfl)
theorem dX7_clause_108 : decode cX7_clause 108 = .ok (.getfield 26, 3) := dk_180 0 26 (dk_at dksX7_clause_4 15 rfl rfl)
theorem dX7_clause_111 : decode cX7_clause 111 = .ok (.invokevirtual 50, 3) := dk_182 0 50 (dk_at dksX7_clause_4 18 rfl rfl)
theorem dX7_clause_114 : decode cX7_clause 114 = .ok (.aload_n 0, 1) := dk_42 (dk_at dksX7_clause_4 21 rfl rfl)
theorem dX7_clause_115 : decode cX7_clause 115 = .ok (.invokevirtual 43, 3) := dk_182 0 43 (dk_at dksX7_clause_5 0 rfl rfl)
theorem dX7_clause_118 : decode cX7_clause 118 = .ok (.ifCond .eq 10, 3) := dk_153 0 10 (dk_at dksX7_clause_5 3 rfl rfl)
theorem dX7_clause_121 : decode cX7_clause 121 = .ok (.aload_n 0, 1) := dk_42 (dk_at dksX7_clause_5 6 rfl rfl)
theorem dX7_clause_122 : decode cX7_clause 122 = .ok (.invokevirtual 110, 3) := dk_182 0 110 (dk_at dksX7_clause_5 7 rfl rfl)
theorem dX7_clause_125 : decode cX7_clause 125 = .ok (.goto 4, 3) := dk_167 0 4 (dk_at dksX7_clause_5 10 rfl rfl)
theorem dX7_clause_128 : decode cX7_clause 128 = .ok (.aconst_null, 1) := dk_1 (dk_at dksX7_clause_5 13 rfl rfl)
theorem dX7_clause_129 : decode cX7_clause 129 = .ok (.astore_n 3, 1) := dk_78 (dk_at dksX7_clause_5 14 rfl rfl)
theorem dX7_clause_130 : decode cX7_clause 130 = .ok (.aload_n 0, 1) := dk_42 (dk_at dksX7_clause_5 15 rfl rfl)
theorem dX7_clause_131 : decode cX7_clause 131 = .ok (.getfield 18, 3) := dk_180 0 18 (dk_at dksX7_clause_5 16 rfl rfl)
theorem dX7_clause_134 : decode cX7_clause 134 = .ok (.getfield 134, 3) := dk_180 0 134 (dk_at dksX7_clause_5 19 rfl rfl)
theorem dX7_clause_137 : decode cX7_clause 137 = .ok (.aload_n 0, 1) := dk_42 (dk_at dksX7_clause_5 22 rfl rfl)
theorem dX7_clause_138 : decode cX7_clause 138 = .ok (.getfield 18, 3) := dk_180 0 18 (dk_at dksX7_clause_6 0 rfl rfl)
theorem dX7_clause_141 : decode cX7_clause 141 = .ok (.getfield 131, 3) := dk_180 0 131 (dk_at dksX7_clause_6 3 rfl rfl)
theorem dX7_clause_144 : decode cX7_clause 144 = .ok (.iload_n 1, 1) := dk_27 (dk_at dksX7_clause_6 6 rfl rfl)
theorem dX7_clause_145 : decode cX7_clause 145 = .ok (.iastore, 1) := dk_79 (dk_at dksX7_clause_6 7 rfl rfl)
theorem dX7_clause_146 : decode cX7_clause 146 = .ok (.aload_n 0, 1) := dk_42 (dk_at dksX7_clause_6 8 rfl rfl)
theorem dX7_clause_147 : decode cX7_clause 147 = .ok (.getfield 18, 3) := dk_180 0 18 (dk_at dksX7_clause_6 9 rfl rfl)
theorem dX7_clause_150 : decode cX7_clause 150 = .ok (.getfield 138, 3) := dk_180 0 138 (dk_at dksX7_clause_6 12 rfl rfl)
theorem dX7_clause_153 : decode cX7_clause 153 = .ok (.aload_n 0, 1) := dk_42 (dk_at dksX7_clause_6 15 rfl rfl)
theorem dX7_clause_154 : decode cX7_clause 154 = .ok (.getfield 18, 3) := dk_180 0 18 (dk_at dksX7_clause_6 16 rfl rfl)
theorem dX7_clause_157 : decode cX7_clause 157 = .ok (.getfield 131, 3) := dk_180 0 131 (dk_at dksX7_clause_6 19 rfl rfl)
theorem dX7_clause_160 : decode cX7_clause 160 = .ok (.aload_n 2, 1) := dk_44 (dk_at dksX7_clause_6 22 rfl rfl)
theorem dX7_clause_161 : decode cX7_clause 161 = .ok (.aastore, 1) := dk_83 (dk_at dksX7_clause_6 23 rfl rfl)
theorem dX7_clause_162 : decode cX7_clause 162 = .ok (.aload_n 0, 1) := dk_42 (dk_at dksX7_clause_7 0 rfl rfl)
theorem dX7_clause_163 : decode cX7_clause 163 = .ok (.getfield 18, 3) := dk_180 0 18 (dk_at dksX7_clause_7 1 rfl rfl)
theorem dX7_clause_166 : decode cX7_clause 166 = .ok (.getfield 142, 3) := dk_180 0 142 (dk_at dksX7_clause_7 4 rfl rfl)
theorem dX7_clause_169 : decode cX7_clause 169 = .ok (.aload_n 0, 1) := dk_42 (dk_at dksX7_clause_7 7 rfl rfl)
theorem dX7_clause_170 : decode cX7_clause 170 = .ok (.getfield 18, 3) := dk_180 0 18 (dk_at dksX7_clause_7 8 rfl rfl)
theorem dX7_clause_173 : decode cX7_clause 173 = .ok (.getfield 131, 3) := dk_180 0 131 (dk_at dksX7_clause_7 11 rfl rfl)
theorem dX7_clause_176 : decode cX7_clause 176 = .ok (.aload_n 3, 1) := dk_45 (dk_at dksX7_clause_7 14 rfl rfl)
theorem dX7_clause_177 : decode cX7_clause 177 = .ok (.aastore, 1) := dk_83 (dk_at dksX7_clause_7 15 rfl rfl)
theorem dX7_clause_178 : decode cX7_clause 178 = .ok (.aload_n 0, 1) := dk_42 (dk_at dksX7_clause_7 16 rfl rfl)
theorem dX7_clause_179 : decode cX7_clause 179 = .ok (.getfield 18, 3) := dk_180 0 18 (dk_at dksX7_clause_7 17 rfl rfl)
theorem dX7_clause_182 : decode cX7_clause 182 = .ok (.dup, 1) := dk_89 (dk_at dksX7_clause_7 20 rfl rfl)
theorem dX7_clause_183 : decode cX7_clause 183 = .ok (.getfield 131, 3) := dk_180 0 131 (dk_at dksX7_clause_7 21 rfl rfl)
theorem dX7_clause_186 : decode cX7_clause 186 = .ok (.iconst 1, 1) := dk_4 (dk_at dksX7_clause_8 0 rfl rfl)
theorem dX7_clause_187 : decode cX7_clause 187 = .ok (.iadd, 1) := dk_96 (dk_at dksX7_clause_8 1 rfl rfl)
theorem dX7_clause_188 : decode cX7_clause 188 = .ok (.putfield 131, 3) := dk_181 0 131 (dk_at dksX7_clause_8 2 rfl rfl)
theorem dX7_clause_191 : decode cX7_clause 191 = .ok (.return_, 1) := dk_177 (dk_at dksX7_clause_8 5 rfl rfl)
abbrev cX7_here : ByteArray := prog_13_method_2_code
def yX7_here : MethodName := ⟨RX7, "here", "()I"⟩
def dkwX7_here_1 : List UInt8 := [17, 0, 255, 126, 167, 0, 4, 3, 172]
abbrev dktX7_here_1 : List UInt8 := dkwX7_here_1 ++ []
def dkwX7_here_0 : List UInt8 := [42, 180, 0, 26, 42, 180, 0, 22, 162, 0, 22, 42, 180, 0, 3, 180, 0, 29, 42, 180, 0, 26, 51]
abbrev dktX7_here_0 : List UInt8 := dkwX7_here_0 ++ dktX7_here_1
theorem dksX7_here_0 : cX7_here.data.toList.drop 0 = dktX7_here_0 := by decide +kernel
theorem dksX7_here_1 : cX7_here.data.toList.drop 23 = dktX7_here_1 := dk_seg dksX7_here_0 23 rfl rfl
theorem dX7_here_0 : decode cX7_here 0 = .ok (.aload_n 0, 1) := dk_42 (dk_at dksX7_here_0 0 rfl rfl)
theorem dX7_here_1 : decode cX7_here 1 = .ok (.getfield 26, 3) := dk_180 0 26 (dk_at dksX7_here_0 1 rfl rfl)
theorem dX7_here_4 : decode cX7_here 4 = .ok (.aload_n 0, 1) := dk_42 (dk_at dksX7_here_0 4 rfl rfl)
theorem dX7_here_5 : decode cX7_here 5 = .ok (.getfield 22, 3) := dk_180 0 22 (dk_at dksX7_here_0 5 rfl rfl)
theorem dX7_here_8 : decode cX7_here 8 = .ok (.if_icmp .ge 22, 3) := dk_162 0 22 (dk_at dksX7_here_0 8 rfl rfl)
theorem dX7_here_11 : decode cX7_here 11 = .ok (.aload_n 0, 1) := dk_42 (dk_at dksX7_here_0 11 rfl rfl)
theorem dX7_here_12 : decode cX7_here 12 = .ok (.getfield 3, 3) := dk_180 0 3 (dk_at dksX7_here_0 12 rfl rfl)
theorem dX7_here_15 : decode cX7_here 15 = .ok (.getfield 29, 3) := dk_180 0 29 (dk_at dksX7_here_0 15 rfl rfl)
theorem dX7_here_18 : decode cX7_here 18 = .ok (.aload_n 0, 1) := dk_42 (dk_at dksX7_here_0 18 rfl rfl)
theorem dX7_here_19 : decode cX7_here 19 = .ok (.getfield 26, 3) := dk_180 0 26 (dk_at dksX7_here_0 19 rfl rfl)
theorem dX7_here_22 : decode cX7_here 22 = .ok (.baload, 1) := dk_51 (dk_at dksX7_here_0 22 rfl rfl)
theorem dX7_here_23 : decode cX7_here 23 = .ok (.sipush 255, 3) := dk_17 0 255 (dk_at dksX7_here_1 0 rfl rfl)
theorem dX7_here_26 : decode cX7_here 26 = .ok (.iand, 1) := dk_126 (dk_at dksX7_here_1 3 rfl rfl)
theorem dX7_here_27 : decode cX7_here 27 = .ok (.goto 4, 3) := dk_167 0 4 (dk_at dksX7_here_1 4 rfl rfl)
theorem dX7_here_30 : decode cX7_here 30 = .ok (.iconst 0, 1) := dk_3 (dk_at dksX7_here_1 7 rfl rfl)
theorem dX7_here_31 : decode cX7_here 31 = .ok (.ireturn, 1) := dk_172 (dk_at dksX7_here_1 8 rfl rfl)
abbrev cX7_bad : ByteArray := prog_13_method_4_code
def yX7_bad : MethodName := ⟨RX7, "bad", "(II)V"⟩
def dkwX7_bad_0 : List UInt8 := [42, 180, 0, 33, 158, 0, 4, 177, 42, 27, 181, 0, 33, 42, 28, 181, 0, 36, 177]
abbrev dktX7_bad_0 : List UInt8 := dkwX7_bad_0 ++ []
theorem dksX7_bad_0 : cX7_bad.data.toList.drop 0 = dktX7_bad_0 := by decide +kernel
theorem dX7_bad_0 : decode cX7_bad 0 = .ok (.aload_n 0, 1) := dk_42 (dk_at dksX7_bad_0 0 rfl rfl)
theorem dX7_bad_1 : decode cX7_bad 1 = .ok (.getfield 33, 3) := dk_180 0 33 (dk_at dksX7_bad_0 1 rfl rfl)
theorem dX7_bad_4 : decode cX7_bad 4 = .ok (.ifCond .le 4, 3) := dk_158 0 4 (dk_at dksX7_bad_0 4 rfl rfl)
theorem dX7_bad_7 : decode cX7_bad 7 = .ok (.return_, 1) := dk_177 (dk_at dksX7_bad_0 7 rfl rfl)
theorem dX7_bad_8 : decode cX7_bad 8 = .ok (.aload_n 0, 1) := dk_42 (dk_at dksX7_bad_0 8 rfl rfl)
theorem dX7_bad_9 : decode cX7_bad 9 = .ok (.iload_n 1, 1) := dk_27 (dk_at dksX7_bad_0 9 rfl rfl)
theorem dX7_bad_10 : decode cX7_bad 10 = .ok (.putfield 33, 3) := dk_181 0 33 (dk_at dksX7_bad_0 10 rfl rfl)
theorem dX7_bad_13 : decode cX7_bad 13 = .ok (.aload_n 0, 1) := dk_42 (dk_at dksX7_bad_0 13 rfl rfl)
theorem dX7_bad_14 : decode cX7_bad 14 = .ok (.iload_n 2, 1) := dk_28 (dk_at dksX7_bad_0 14 rfl rfl)
theorem dX7_bad_15 : decode cX7_bad 15 = .ok (.putfield 36, 3) := dk_181 0 36 (dk_at dksX7_bad_0 15 rfl rfl)
theorem dX7_bad_18 : decode cX7_bad 18 = .ok (.return_, 1) := dk_177 (dk_at dksX7_bad_0 18 rfl rfl)
abbrev cX7_sum : ByteArray := prog_13_method_11_code
def yX7_sum : MethodName := ⟨RX7, "sum", "()LOneCoin$Sum;"⟩
def dkwX7_sum_3 : List UInt8 := [44, 180, 0, 94, 77, 167, 255, 195, 43, 176]
abbrev dktX7_sum_3 : List UInt8 := dkwX7_sum_3 ++ []
def dkwX7_sum_2 : List UInt8 := [180, 0, 26, 4, 96, 181, 0, 26, 44, 187, 0, 86, 89, 29, 42, 182, 0, 98, 183, 0, 91, 181, 0, 94]
abbrev dktX7_sum_2 : List UInt8 := dkwX7_sum_2 ++ dktX7_sum_3
def dkwX7_sum_1 : List UInt8 := [182, 0, 39, 16, 43, 159, 0, 12, 42, 182, 0, 39, 16, 45, 160, 0, 42, 42, 182, 0, 39, 62, 42, 89]
abbrev dktX7_sum_1 : List UInt8 := dkwX7_sum_1 ++ dktX7_sum_2
def dkwX7_sum_0 : List UInt8 := [187, 0, 86, 89, 3, 42, 182, 0, 98, 183, 0, 91, 76, 43, 77, 42, 182, 0, 43, 153, 0, 60, 42]
abbrev dktX7_sum_0 : List UInt8 := dkwX7_sum_0 ++ dktX7_sum_1
theorem dksX7_sum_0 : cX7_sum.data.toList.drop 0 = dktX7_sum_0 := by decide +kernel
theorem dksX7_sum_1 : cX7_sum.data.toList.drop 23 = dktX7_sum_1 := dk_seg dksX7_sum_0 23 rfl rfl
theorem dksX7_sum_2 : cX7_sum.data.toList.drop 47 = dktX7_sum_2 := dk_seg dksX7_sum_1 24 rfl rfl
theorem dksX7_sum_3 : cX7_sum.data.toList.drop 71 = dktX7_sum_3 := dk_seg dksX7_sum_2 24 rfl rfl
theorem dX7_sum_0 : decode cX7_sum 0 = .ok (.new 86, 3) := dk_187 0 86 (dk_at dksX7_sum_0 0 rfl rfl)
theorem dX7_sum_3 : decode cX7_sum 3 = .ok (.dup, 1) := dk_89 (dk_at dksX7_sum_0 3 rfl rfl)
theorem dX7_sum_4 : decode cX7_sum 4 = .ok (.iconst 0, 1) := dk_3 (dk_at dksX7_sum_0 4 rfl rfl)
theorem dX7_sum_5 : decode cX7_sum 5 = .ok (.aload_n 0, 1) := dk_42 (dk_at dksX7_sum_0 5 rfl rfl)
theorem dX7_sum_6 : decode cX7_sum 6 = .ok (.invokevirtual 98, 3) := dk_182 0 98 (dk_at dksX7_sum_0 6 rfl rfl)
theorem dX7_sum_9 : decode cX7_sum 9 = .ok (.invokespecial 91, 3) := dk_183 0 91 (dk_at dksX7_sum_0 9 rfl rfl)
theorem dX7_sum_12 : decode cX7_sum 12 = .ok (.astore_n 1, 1) := dk_76 (dk_at dksX7_sum_0 12 rfl rfl)
theorem dX7_sum_13 : decode cX7_sum 13 = .ok (.aload_n 1, 1) := dk_43 (dk_at dksX7_sum_0 13 rfl rfl)
theorem dX7_sum_14 : decode cX7_sum 14 = .ok (.astore_n 2, 1) := dk_77 (dk_at dksX7_sum_0 14 rfl rfl)
theorem dX7_sum_15 : decode cX7_sum 15 = .ok (.aload_n 0, 1) := dk_42 (dk_at dksX7_sum_0 15 rfl rfl)
theorem dX7_sum_16 : decode cX7_sum 16 = .ok (.invokevirtual 43, 3) := dk_182 0 43 (dk_at dksX7_sum_0 16 rfl rfl)
theorem dX7_sum_19 : decode cX7_sum 19 = .ok (.ifCond .eq 60, 3) := dk_153 0 60 (dk_at dksX7_sum_0 19 rfl rfl)
theorem dX7_sum_22 : decode cX7_sum 22 = .ok (.aload_n 0, 1) := dk_42 (dk_at dksX7_sum_0 22 rfl rfl)
theorem dX7_sum_23 : decode cX7_sum 23 = .ok (.invokevirtual 39, 3) := dk_182 0 39 (dk_at dksX7_sum_1 0 rfl rfl)
theorem dX7_sum_26 : decode cX7_sum 26 = .ok (.bipush 43, 2) := dk_16 43 (dk_at dksX7_sum_1 3 rfl rfl)
theorem dX7_sum_28 : decode cX7_sum 28 = .ok (.if_icmp .eq 12, 3) := dk_159 0 12 (dk_at dksX7_sum_1 5 rfl rfl)
theorem dX7_sum_31 : decode cX7_sum 31 = .ok (.aload_n 0, 1) := dk_42 (dk_at dksX7_sum_1 8 rfl rfl)
theorem dX7_sum_32 : decode cX7_sum 32 = .ok (.invokevirtual 39, 3) := dk_182 0 39 (dk_at dksX7_sum_1 9 rfl rfl)
theorem dX7_sum_35 : decode cX7_sum 35 = .ok (.bipush 45, 2) := dk_16 45 (dk_at dksX7_sum_1 12 rfl rfl)
theorem dX7_sum_37 : decode cX7_sum 37 = .ok (.if_icmp .ne 42, 3) := dk_160 0 42 (dk_at dksX7_sum_1 14 rfl rfl)
theorem dX7_sum_40 : decode cX7_sum 40 = .ok (.aload_n 0, 1) := dk_42 (dk_at dksX7_sum_1 17 rfl rfl)
theorem dX7_sum_41 : decode cX7_sum 41 = .ok (.invokevirtual 39, 3) := dk_182 0 39 (dk_at dksX7_sum_1 18 rfl rfl)
theorem dX7_sum_44 : decode cX7_sum 44 = .ok (.istore_n 3, 1) := dk_62 (dk_at dksX7_sum_1 21 rfl rfl)
theorem dX7_sum_45 : decode cX7_sum 45 = .ok (.aload_n 0, 1) := dk_42 (dk_at dksX7_sum_1 22 rfl rfl)
theorem dX7_sum_46 : decode cX7_sum 46 = .ok (.dup, 1) := dk_89 (dk_at dksX7_sum_1 23 rfl rfl)
theorem dX7_sum_47 : decode cX7_sum 47 = .ok (.getfield 26, 3) := dk_180 0 26 (dk_at dksX7_sum_2 0 rfl rfl)
theorem dX7_sum_50 : decode cX7_sum 50 = .ok (.iconst 1, 1) := dk_4 (dk_at dksX7_sum_2 3 rfl rfl)
theorem dX7_sum_51 : decode cX7_sum 51 = .ok (.iadd, 1) := dk_96 (dk_at dksX7_sum_2 4 rfl rfl)
theorem dX7_sum_52 : decode cX7_sum 52 = .ok (.putfield 26, 3) := dk_181 0 26 (dk_at dksX7_sum_2 5 rfl rfl)
theorem dX7_sum_55 : decode cX7_sum 55 = .ok (.aload_n 2, 1) := dk_44 (dk_at dksX7_sum_2 8 rfl rfl)
theorem dX7_sum_56 : decode cX7_sum 56 = .ok (.new 86, 3) := dk_187 0 86 (dk_at dksX7_sum_2 9 rfl rfl)
theorem dX7_sum_59 : decode cX7_sum 59 = .ok (.dup, 1) := dk_89 (dk_at dksX7_sum_2 12 rfl rfl)
theorem dX7_sum_60 : decode cX7_sum 60 = .ok (.iload_n 3, 1) := dk_29 (dk_at dksX7_sum_2 13 rfl rfl)
theorem dX7_sum_61 : decode cX7_sum 61 = .ok (.aload_n 0, 1) := dk_42 (dk_at dksX7_sum_2 14 rfl rfl)
theorem dX7_sum_62 : decode cX7_sum 62 = .ok (.invokevirtual 98, 3) := dk_182 0 98 (dk_at dksX7_sum_2 15 rfl rfl)
theorem dX7_sum_65 : decode cX7_sum 65 = .ok (.invokespecial 91, 3) := dk_183 0 91 (dk_at dksX7_sum_2 18 rfl rfl)
theorem dX7_sum_68 : decode cX7_sum 68 = .ok (.putfield 94, 3) := dk_181 0 94 (dk_at dksX7_sum_2 21 rfl rfl)
theorem dX7_sum_71 : decode cX7_sum 71 = .ok (.aload_n 2, 1) := dk_44 (dk_at dksX7_sum_3 0 rfl rfl)
theorem dX7_sum_72 : decode cX7_sum 72 = .ok (.getfield 94, 3) := dk_180 0 94 (dk_at dksX7_sum_3 1 rfl rfl)
theorem dX7_sum_75 : decode cX7_sum 75 = .ok (.astore_n 2, 1) := dk_77 (dk_at dksX7_sum_3 4 rfl rfl)
theorem dX7_sum_76 : decode cX7_sum 76 = .ok (.goto (-61), 3) := dk_167 255 195 (dk_at dksX7_sum_3 5 rfl rfl)
theorem dX7_sum_79 : decode cX7_sum 79 = .ok (.aload_n 1, 1) := dk_43 (dk_at dksX7_sum_3 8 rfl rfl)
theorem dX7_sum_80 : decode cX7_sum 80 = .ok (.areturn, 1) := dk_176 (dk_at dksX7_sum_3 9 rfl rfl)
abbrev cX7_product : ByteArray := prog_13_method_10_code
def yX7_product : MethodName := ⟨RX7, "product", "()LOneCoin$Sum;"⟩
def dkwX7_product_3 : List UInt8 := [42, 182, 0, 88, 183, 0, 91, 181, 0, 94, 44, 180, 0, 94, 77, 167, 255, 186, 43, 176]
abbrev dktX7_product_3 : List UInt8 := dkwX7_product_3 ++ []
def dkwX7_product_2 : List UInt8 := [160, 0, 42, 42, 182, 0, 39, 62, 42, 89, 180, 0, 26, 4, 96, 181, 0, 26, 44, 187, 0, 86, 89, 29]
abbrev dktX7_product_2 : List UInt8 := dkwX7_product_2 ++ dktX7_product_3
def dkwX7_product_1 : List UInt8 := [182, 0, 39, 16, 42, 159, 0, 21, 42, 182, 0, 39, 16, 47, 159, 0, 12, 42, 182, 0, 39, 16, 37]
abbrev dktX7_product_1 : List UInt8 := dkwX7_product_1 ++ dktX7_product_2
def dkwX7_product_0 : List UInt8 := [187, 0, 86, 89, 3, 42, 182, 0, 88, 183, 0, 91, 76, 43, 77, 42, 182, 0, 43, 153, 0, 69, 42]
abbrev dktX7_product_0 : List UInt8 := dkwX7_product_0 ++ dktX7_product_1
theorem dksX7_product_0 : cX7_product.data.toList.drop 0 = dktX7_product_0 := by decide +kernel
theorem dksX7_product_1 : cX7_product.data.toList.drop 23 = dktX7_product_1 := dk_seg dksX7_product_0 23 rfl rfl
theorem dksX7_product_2 : cX7_product.data.toList.drop 46 = dktX7_product_2 := dk_seg dksX7_product_1 23 rfl rfl
theorem dksX7_product_3 : cX7_product.data.toList.drop 70 = dktX7_product_3 := dk_seg dksX7_product_2 24 rfl rfl
theorem dX7_product_0 : decode cX7_product 0 = .ok (.new 86, 3) := dk_187 0 86 (dk_at dksX7_product_0 0 rfl rfl)
theorem dX7_product_3 : decode cX7_product 3 = .ok (.dup, 1) := dk_89 (dk_at dksX7_product_0 3 rfl rfl)
theorem dX7_product_4 : decode cX7_product 4 = .ok (.iconst 0, 1) := dk_3 (dk_at dksX7_product_0 4 rfl rfl)
theorem dX7_product_5 : decode cX7_product 5 = .ok (.aload_n 0, 1) := dk_42 (dk_at dksX7_product_0 5 rfl rfl)
theorem dX7_product_6 : decode cX7_product 6 = .ok (.invokevirtual 88, 3) := dk_182 0 88 (dk_at dksX7_product_0 6 rfl rfl)
theorem dX7_product_9 : decode cX7_product 9 = .ok (.invokespecial 91, 3) := dk_183 0 91 (dk_at dksX7_product_0 9 rfl rfl)
theorem dX7_product_12 : decode cX7_product 12 = .ok (.astore_n 1, 1) := dk_76 (dk_at dksX7_product_0 12 rfl rfl)
theorem dX7_product_13 : decode cX7_product 13 = .ok (.aload_n 1, 1) := dk_43 (dk_at dksX7_product_0 13 rfl rfl)
theorem dX7_product_14 : decode cX7_product 14 = .ok (.astore_n 2, 1) := dk_77 (dk_at dksX7_product_0 14 rfl rfl)
theorem dX7_product_15 : decode cX7_product 15 = .ok (.aload_n 0, 1) := dk_42 (dk_at dksX7_product_0 15 rfl rfl)
theorem dX7_product_16 : decode cX7_product 16 = .ok (.invokevirtual 43, 3) := dk_182 0 43 (dk_at dksX7_product_0 16 rfl rfl)
theorem dX7_product_19 : decode cX7_product 19 = .ok (.ifCond .eq 69, 3) := dk_153 0 69 (dk_at dksX7_product_0 19 rfl rfl)
theorem dX7_product_22 : decode cX7_product 22 = .ok (.aload_n 0, 1) := dk_42 (dk_at dksX7_product_0 22 rfl rfl)
theorem dX7_product_23 : decode cX7_product 23 = .ok (.invokevirtual 39, 3) := dk_182 0 39 (dk_at dksX7_product_1 0 rfl rfl)
theorem dX7_product_26 : decode cX7_product 26 = .ok (.bipush 42, 2) := dk_16 42 (dk_at dksX7_product_1 3 rfl rfl)
theorem dX7_product_28 : decode cX7_product 28 = .ok (.if_icmp .eq 21, 3) := dk_159 0 21 (dk_at dksX7_product_1 5 rfl rfl)
theorem dX7_product_31 : decode cX7_product 31 = .ok (.aload_n 0, 1) := dk_42 (dk_at dksX7_product_1 8 rfl rfl)
theorem dX7_product_32 : decode cX7_product 32 = .ok (.invokevirtual 39, 3) := dk_182 0 39 (dk_at dksX7_product_1 9 rfl rfl)
theorem dX7_product_35 : decode cX7_product 35 = .ok (.bipush 47, 2) := dk_16 47 (dk_at dksX7_product_1 12 rfl rfl)
theorem dX7_product_37 : decode cX7_product 37 = .ok (.if_icmp .eq 12, 3) := dk_159 0 12 (dk_at dksX7_product_1 14 rfl rfl)
theorem dX7_product_40 : decode cX7_product 40 = .ok (.aload_n 0, 1) := dk_42 (dk_at dksX7_product_1 17 rfl rfl)
theorem dX7_product_41 : decode cX7_product 41 = .ok (.invokevirtual 39, 3) := dk_182 0 39 (dk_at dksX7_product_1 18 rfl rfl)
theorem dX7_product_44 : decode cX7_product 44 = .ok (.bipush 37, 2) := dk_16 37 (dk_at dksX7_product_1 21 rfl rfl)
theorem dX7_product_46 : decode cX7_product 46 = .ok (.if_icmp .ne 42, 3) := dk_160 0 42 (dk_at dksX7_product_2 0 rfl rfl)
theorem dX7_product_49 : decode cX7_product 49 = .ok (.aload_n 0, 1) := dk_42 (dk_at dksX7_product_2 3 rfl rfl)
theorem dX7_product_50 : decode cX7_product 50 = .ok (.invokevirtual 39, 3) := dk_182 0 39 (dk_at dksX7_product_2 4 rfl rfl)
theorem dX7_product_53 : decode cX7_product 53 = .ok (.istore_n 3, 1) := dk_62 (dk_at dksX7_product_2 7 rfl rfl)
theorem dX7_product_54 : decode cX7_product 54 = .ok (.aload_n 0, 1) := dk_42 (dk_at dksX7_product_2 8 rfl rfl)
theorem dX7_product_55 : decode cX7_product 55 = .ok (.dup, 1) := dk_89 (dk_at dksX7_product_2 9 rfl rfl)
theorem dX7_product_56 : decode cX7_product 56 = .ok (.getfield 26, 3) := dk_180 0 26 (dk_at dksX7_product_2 10 rfl rfl)
theorem dX7_product_59 : decode cX7_product 59 = .ok (.iconst 1, 1) := dk_4 (dk_at dksX7_product_2 13 rfl rfl)
theorem dX7_product_60 : decode cX7_product 60 = .ok (.iadd, 1) := dk_96 (dk_at dksX7_product_2 14 rfl rfl)
theorem dX7_product_61 : decode cX7_product 61 = .ok (.putfield 26, 3) := dk_181 0 26 (dk_at dksX7_product_2 15 rfl rfl)
theorem dX7_product_64 : decode cX7_product 64 = .ok (.aload_n 2, 1) := dk_44 (dk_at dksX7_product_2 18 rfl rfl)
theorem dX7_product_65 : decode cX7_product 65 = .ok (.new 86, 3) := dk_187 0 86 (dk_at dksX7_product_2 19 rfl rfl)
theorem dX7_product_68 : decode cX7_product 68 = .ok (.dup, 1) := dk_89 (dk_at dksX7_product_2 22 rfl rfl)
theorem dX7_product_69 : decode cX7_product 69 = .ok (.iload_n 3, 1) := dk_29 (dk_at dksX7_product_2 23 rfl rfl)
theorem dX7_product_70 : decode cX7_product 70 = .ok (.aload_n 0, 1) := dk_42 (dk_at dksX7_product_3 0 rfl rfl)
theorem dX7_product_71 : decode cX7_product 71 = .ok (.invokevirtual 88, 3) := dk_182 0 88 (dk_at dksX7_product_3 1 rfl rfl)
theorem dX7_product_74 : decode cX7_product 74 = .ok (.invokespecial 91, 3) := dk_183 0 91 (dk_at dksX7_product_3 4 rfl rfl)
theorem dX7_product_77 : decode cX7_product 77 = .ok (.putfield 94, 3) := dk_181 0 94 (dk_at dksX7_product_3 7 rfl rfl)
theorem dX7_product_80 : decode cX7_product 80 = .ok (.aload_n 2, 1) := dk_44 (dk_at dksX7_product_3 10 rfl rfl)
theorem dX7_product_81 : decode cX7_product 81 = .ok (.getfield 94, 3) := dk_180 0 94 (dk_at dksX7_product_3 11 rfl rfl)
theorem dX7_product_84 : decode cX7_product 84 = .ok (.astore_n 2, 1) := dk_77 (dk_at dksX7_product_3 14 rfl rfl)
theorem dX7_product_85 : decode cX7_product 85 = .ok (.goto (-70), 3) := dk_167 255 186 (dk_at dksX7_product_3 15 rfl rfl)
theorem dX7_product_88 : decode cX7_product 88 = .ok (.aload_n 1, 1) := dk_43 (dk_at dksX7_product_3 18 rfl rfl)
theorem dX7_product_89 : decode cX7_product 89 = .ok (.areturn, 1) := dk_176 (dk_at dksX7_product_3 19 rfl rfl)
abbrev cX7_factor : ByteArray := prog_13_method_9_code
def yX7_factor : MethodName := ⟨RX7, "factor", "()LOneCoin$Sum;"⟩
def dkwX7_factor_5 : List UInt8 := [176]
abbrev dktX7_factor_5 : List UInt8 := dkwX7_factor_5 ++ []
def dkwX7_factor_4 : List UInt8 := [180, 0, 26, 182, 0, 50, 42, 89, 180, 0, 26, 4, 96, 181, 0, 26, 187, 0, 83, 89, 27, 183, 0, 85]
abbrev dktX7_factor_4 : List UInt8 := dkwX7_factor_4 ++ dktX7_factor_5
def dkwX7_factor_3 : List UInt8 := [182, 0, 70, 183, 0, 73, 176, 27, 153, 0, 12, 18, 75, 27, 182, 0, 77, 156, 0, 12, 42, 4, 42]
abbrev dktX7_factor_3 : List UInt8 := dkwX7_factor_3 ++ dktX7_factor_4
def dkwX7_factor_2 : List UInt8 := [180, 0, 54, 4, 100, 181, 0, 54, 44, 176, 42, 182, 0, 47, 153, 0, 15, 187, 0, 68, 89, 42]
abbrev dktX7_factor_2 : List UInt8 := dkwX7_factor_2 ++ dktX7_factor_3
def dkwX7_factor_1 : List UInt8 := [182, 0, 60, 167, 0, 4, 1, 77, 42, 182, 0, 43, 153, 0, 9, 42, 16, 93, 182, 0, 64, 42, 89]
abbrev dktX7_factor_1 : List UInt8 := dkwX7_factor_1 ++ dktX7_factor_2
def dkwX7_factor_0 : List UInt8 := [42, 182, 0, 39, 60, 27, 16, 91, 160, 0, 48, 42, 182, 0, 57, 42, 182, 0, 43, 153, 0, 10, 42]
abbrev dktX7_factor_0 : List UInt8 := dkwX7_factor_0 ++ dktX7_factor_1
theorem dksX7_factor_0 : cX7_factor.data.toList.drop 0 = dktX7_factor_0 := by decide +kernel
theorem dksX7_factor_1 : cX7_factor.data.toList.drop 23 = dktX7_factor_1 := dk_seg dksX7_factor_0 23 rfl rfl
theorem dksX7_factor_2 : cX7_factor.data.toList.drop 46 = dktX7_factor_2 := dk_seg dksX7_factor_1 23 rfl rfl
theorem dksX7_factor_3 : cX7_factor.data.toList.drop 68 = dktX7_factor_3 := dk_seg dksX7_factor_2 22 rfl rfl
theorem dksX7_factor_4 : cX7_factor.data.toList.drop 91 = dktX7_factor_4 := dk_seg dksX7_factor_3 23 rfl rfl
theorem dksX7_factor_5 : cX7_factor.data.toList.drop 115 = dktX7_factor_5 := dk_seg dksX7_factor_4 24 rfl rfl
theorem dX7_factor_0 : decode cX7_factor 0 = .ok (.aload_n 0, 1) := dk_42 (dk_at dksX7_factor_0 0 rfl rfl)
theorem dX7_factor_1 : decode cX7_factor 1 = .ok (.invokevirtual 39, 3) := dk_182 0 39 (dk_at dksX7_factor_0 1 rfl rfl)
theorem dX7_factor_4 : decode cX7_factor 4 = .ok (.istore_n 1, 1) := dk_60 (dk_at dksX7_factor_0 4 rfl rfl)
theorem dX7_factor_5 : decode cX7_factor 5 = .ok (.iload_n 1, 1) := dk_27 (dk_at dksX7_factor_0 5 rfl rfl)
theorem dX7_factor_6 : decode cX7_factor 6 = .ok (.bipush 91, 2) := dk_16 91 (dk_at dksX7_factor_0 6 rfl rfl)
theorem dX7_factor_8 : decode cX7_factor 8 = .ok (.if_icmp .ne 48, 3) := dk_160 0 48 (dk_at dksX7_factor_0 8 rfl rfl)
theorem dX7_factor_11 : decode cX7_factor 11 = .ok (.aload_n 0, 1) := dk_42 (dk_at dksX7_factor_0 11 rfl rfl)
theorem dX7_factor_12 : decode cX7_factor 12 = .ok (.invokevirtual 57, 3) := dk_182 0 57 (dk_at dksX7_factor_0 12 rfl rfl)
theorem dX7_factor_15 : decode cX7_factor 15 = .ok (.aload_n 0, 1) := dk_42 (dk_at dksX7_factor_0 15 rfl rfl)
theorem dX7_factor_16 : decode cX7_factor 16 = .ok (.invokevirtual 43, 3) := dk_182 0 43 (dk_at dksX7_factor_0 16 rfl rfl)
theorem dX7_factor_19 : decode cX7_factor 19 = .ok (.ifCond .eq 10, 3) := dk_153 0 10 (dk_at dksX7_factor_0 19 rfl rfl)
theorem dX7_factor_22 : decode cX7_factor 22 = .ok (.aload_n 0, 1) := dk_42 (dk_at dksX7_factor_0 22 rfl rfl)
theorem dX7_factor_23 : decode cX7_factor 23 = .ok (.invokevirtual 60, 3) := dk_182 0 60 (dk_at dksX7_factor_1 0 rfl rfl)
theorem dX7_factor_26 : decode cX7_factor 26 = .ok (.goto 4, 3) := dk_167 0 4 (dk_at dksX7_factor_1 3 rfl rfl)
theorem dX7_factor_29 : decode cX7_factor 29 = .ok (.aconst_null, 1) := dk_1 (dk_at dksX7_factor_1 6 rfl rfl)
theorem dX7_factor_30 : decode cX7_factor 30 = .ok (.astore_n 2, 1) := dk_77 (dk_at dksX7_factor_1 7 rfl rfl)
theorem dX7_factor_31 : decode cX7_factor 31 = .ok (.aload_n 0, 1) := dk_42 (dk_at dksX7_factor_1 8 rfl rfl)
theorem dX7_factor_32 : decode cX7_factor 32 = .ok (.invokevirtual 43, 3) := dk_182 0 43 (dk_at dksX7_factor_1 9 rfl rfl)
theorem dX7_factor_35 : decode cX7_factor 35 = .ok (.ifCond .eq 9, 3) := dk_153 0 9 (dk_at dksX7_factor_1 12 rfl rfl)
theorem dX7_factor_38 : decode cX7_factor 38 = .ok (.aload_n 0, 1) := dk_42 (dk_at dksX7_factor_1 15 rfl rfl)
theorem dX7_factor_39 : decode cX7_factor 39 = .ok (.bipush 93, 2) := dk_16 93 (dk_at dksX7_factor_1 16 rfl rfl)
theorem dX7_factor_41 : decode cX7_factor 41 = .ok (.invokevirtual 64, 3) := dk_182 0 64 (dk_at dksX7_factor_1 18 rfl rfl)
theorem dX7_factor_44 : decode cX7_factor 44 = .ok (.aload_n 0, 1) := dk_42 (dk_at dksX7_factor_1 21 rfl rfl)
theorem dX7_factor_45 : decode cX7_factor 45 = .ok (.dup, 1) := dk_89 (dk_at dksX7_factor_1 22 rfl rfl)
theorem dX7_factor_46 : decode cX7_factor 46 = .ok (.getfield 54, 3) := dk_180 0 54 (dk_at dksX7_factor_2 0 rfl rfl)
theorem dX7_factor_49 : decode cX7_factor 49 = .ok (.iconst 1, 1) := dk_4 (dk_at dksX7_factor_2 3 rfl rfl)
theorem dX7_factor_50 : decode cX7_factor 50 = .ok (.isub, 1) := dk_100 (dk_at dksX7_factor_2 4 rfl rfl)
theorem dX7_factor_51 : decode cX7_factor 51 = .ok (.putfield 54, 3) := dk_181 0 54 (dk_at dksX7_factor_2 5 rfl rfl)
theorem dX7_factor_54 : decode cX7_factor 54 = .ok (.aload_n 2, 1) := dk_44 (dk_at dksX7_factor_2 8 rfl rfl)
theorem dX7_factor_55 : decode cX7_factor 55 = .ok (.areturn, 1) := dk_176 (dk_at dksX7_factor_2 9 rfl rfl)
theorem dX7_factor_56 : decode cX7_factor 56 = .ok (.aload_n 0, 1) := dk_42 (dk_at dksX7_factor_2 10 rfl rfl)
theorem dX7_factor_57 : decode cX7_factor 57 = .ok (.invokevirtual 47, 3) := dk_182 0 47 (dk_at dksX7_factor_2 11 rfl rfl)
theorem dX7_factor_60 : decode cX7_factor 60 = .ok (.ifCond .eq 15, 3) := dk_153 0 15 (dk_at dksX7_factor_2 14 rfl rfl)
theorem dX7_factor_63 : decode cX7_factor 63 = .ok (.new 68, 3) := dk_187 0 68 (dk_at dksX7_factor_2 17 rfl rfl)
theorem dX7_factor_66 : decode cX7_factor 66 = .ok (.dup, 1) := dk_89 (dk_at dksX7_factor_2 20 rfl rfl)
theorem dX7_factor_67 : decode cX7_factor 67 = .ok (.aload_n 0, 1) := dk_42 (dk_at dksX7_factor_2 21 rfl rfl)
theorem dX7_factor_68 : decode cX7_factor 68 = .ok (.invokevirtual 70, 3) := dk_182 0 70 (dk_at dksX7_factor_3 0 rfl rfl)
theorem dX7_factor_71 : decode cX7_factor 71 = .ok (.invokespecial 73, 3) := dk_183 0 73 (dk_at dksX7_factor_3 3 rfl rfl)
theorem dX7_factor_74 : decode cX7_factor 74 = .ok (.areturn, 1) := dk_176 (dk_at dksX7_factor_3 6 rfl rfl)
theorem dX7_factor_75 : decode cX7_factor 75 = .ok (.iload_n 1, 1) := dk_27 (dk_at dksX7_factor_3 7 rfl rfl)
theorem dX7_factor_76 : decode cX7_factor 76 = .ok (.ifCond .eq 12, 3) := dk_153 0 12 (dk_at dksX7_factor_3 8 rfl rfl)
theorem dX7_factor_79 : decode cX7_factor 79 = .ok (.ldc 75, 2) := dk_18 75 (dk_at dksX7_factor_3 11 rfl rfl)
theorem dX7_factor_81 : decode cX7_factor 81 = .ok (.iload_n 1, 1) := dk_27 (dk_at dksX7_factor_3 13 rfl rfl)
theorem dX7_factor_82 : decode cX7_factor 82 = .ok (.invokevirtual 77, 3) := dk_182 0 77 (dk_at dksX7_factor_3 14 rfl rfl)
theorem dX7_factor_85 : decode cX7_factor 85 = .ok (.ifCond .ge 12, 3) := dk_156 0 12 (dk_at dksX7_factor_3 17 rfl rfl)
theorem dX7_factor_88 : decode cX7_factor 88 = .ok (.aload_n 0, 1) := dk_42 (dk_at dksX7_factor_3 20 rfl rfl)
theorem dX7_factor_89 : decode cX7_factor 89 = .ok (.iconst 1, 1) := dk_4 (dk_at dksX7_factor_3 21 rfl rfl)
theorem dX7_factor_90 : decode cX7_factor 90 = .ok (.aload_n 0, 1) := dk_42 (dk_at dksX7_factor_3 22 rfl rfl)
theorem dX7_factor_91 : decode cX7_factor 91 = .ok (.getfield 26, 3) := dk_180 0 26 (dk_at dksX7_factor_4 0 rfl rfl)
theorem dX7_factor_94 : decode cX7_factor 94 = .ok (.invokevirtual 50, 3) := dk_182 0 50 (dk_at dksX7_factor_4 3 rfl rfl)
theorem dX7_factor_97 : decode cX7_factor 97 = .ok (.aload_n 0, 1) := dk_42 (dk_at dksX7_factor_4 6 rfl rfl)
theorem dX7_factor_98 : decode cX7_factor 98 = .ok (.dup, 1) := dk_89 (dk_at dksX7_factor_4 7 rfl rfl)
theorem dX7_factor_99 : decode cX7_factor 99 = .ok (.getfield 26, 3) := dk_180 0 26 (dk_at dksX7_factor_4 8 rfl rfl)
theorem dX7_factor_102 : decode cX7_factor 102 = .ok (.iconst 1, 1) := dk_4 (dk_at dksX7_factor_4 11 rfl rfl)
theorem dX7_factor_103 : decode cX7_factor 103 = .ok (.iadd, 1) := dk_96 (dk_at dksX7_factor_4 12 rfl rfl)
theorem dX7_factor_104 : decode cX7_factor 104 = .ok (.putfield 26, 3) := dk_181 0 26 (dk_at dksX7_factor_4 13 rfl rfl)
theorem dX7_factor_107 : decode cX7_factor 107 = .ok (.new 83, 3) := dk_187 0 83 (dk_at dksX7_factor_4 16 rfl rfl)
theorem dX7_factor_110 : decode cX7_factor 110 = .ok (.dup, 1) := dk_89 (dk_at dksX7_factor_4 19 rfl rfl)
theorem dX7_factor_111 : decode cX7_factor 111 = .ok (.iload_n 1, 1) := dk_27 (dk_at dksX7_factor_4 20 rfl rfl)
theorem dX7_factor_112 : decode cX7_factor 112 = .ok (.invokespecial 85, 3) := dk_183 0 85 (dk_at dksX7_factor_4 21 rfl rfl)
theorem dX7_factor_115 : decode cX7_factor 115 = .ok (.areturn, 1) := dk_176 (dk_at dksX7_factor_5 0 rfl rfl)
abbrev cX7_opens : ByteArray := prog_13_method_8_code
def yX7_opens : MethodName := ⟨RX7, "opens", "()V"⟩
def dkwX7_opens_1 : List UInt8 := [96, 181, 0, 54, 42, 89, 180, 0, 26, 4, 96, 181, 0, 26, 177]
abbrev dktX7_opens_1 : List UInt8 := dkwX7_opens_1 ++ []
def dkwX7_opens_0 : List UInt8 := [42, 180, 0, 54, 16, 6, 160, 0, 12, 42, 8, 42, 180, 0, 26, 182, 0, 50, 42, 89, 180, 0, 54, 4]
abbrev dktX7_opens_0 : List UInt8 := dkwX7_opens_0 ++ dktX7_opens_1
theorem dksX7_opens_0 : cX7_opens.data.toList.drop 0 = dktX7_opens_0 := by decide +kernel
theorem dksX7_opens_1 : cX7_opens.data.toList.drop 24 = dktX7_opens_1 := dk_seg dksX7_opens_0 24 rfl rfl
theorem dX7_opens_0 : decode cX7_opens 0 = .ok (.aload_n 0, 1) := dk_42 (dk_at dksX7_opens_0 0 rfl rfl)
theorem dX7_opens_1 : decode cX7_opens 1 = .ok (.getfield 54, 3) := dk_180 0 54 (dk_at dksX7_opens_0 1 rfl rfl)
theorem dX7_opens_4 : decode cX7_opens 4 = .ok (.bipush 6, 2) := dk_16 6 (dk_at dksX7_opens_0 4 rfl rfl)
theorem dX7_opens_6 : decode cX7_opens 6 = .ok (.if_icmp .ne 12, 3) := dk_160 0 12 (dk_at dksX7_opens_0 6 rfl rfl)
theorem dX7_opens_9 : decode cX7_opens 9 = .ok (.aload_n 0, 1) := dk_42 (dk_at dksX7_opens_0 9 rfl rfl)
theorem dX7_opens_10 : decode cX7_opens 10 = .ok (.iconst 5, 1) := dk_8 (dk_at dksX7_opens_0 10 rfl rfl)
theorem dX7_opens_11 : decode cX7_opens 11 = .ok (.aload_n 0, 1) := dk_42 (dk_at dksX7_opens_0 11 rfl rfl)
theorem dX7_opens_12 : decode cX7_opens 12 = .ok (.getfield 26, 3) := dk_180 0 26 (dk_at dksX7_opens_0 12 rfl rfl)
theorem dX7_opens_15 : decode cX7_opens 15 = .ok (.invokevirtual 50, 3) := dk_182 0 50 (dk_at dksX7_opens_0 15 rfl rfl)
theorem dX7_opens_18 : decode cX7_opens 18 = .ok (.aload_n 0, 1) := dk_42 (dk_at dksX7_opens_0 18 rfl rfl)
theorem dX7_opens_19 : decode cX7_opens 19 = .ok (.dup, 1) := dk_89 (dk_at dksX7_opens_0 19 rfl rfl)
theorem dX7_opens_20 : decode cX7_opens 20 = .ok (.getfield 54, 3) := dk_180 0 54 (dk_at dksX7_opens_0 20 rfl rfl)
theorem dX7_opens_23 : decode cX7_opens 23 = .ok (.iconst 1, 1) := dk_4 (dk_at dksX7_opens_0 23 rfl rfl)
theorem dX7_opens_24 : decode cX7_opens 24 = .ok (.iadd, 1) := dk_96 (dk_at dksX7_opens_1 0 rfl rfl)
theorem dX7_opens_25 : decode cX7_opens 25 = .ok (.putfield 54, 3) := dk_181 0 54 (dk_at dksX7_opens_1 1 rfl rfl)
theorem dX7_opens_28 : decode cX7_opens 28 = .ok (.aload_n 0, 1) := dk_42 (dk_at dksX7_opens_1 4 rfl rfl)
theorem dX7_opens_29 : decode cX7_opens 29 = .ok (.dup, 1) := dk_89 (dk_at dksX7_opens_1 5 rfl rfl)
theorem dX7_opens_30 : decode cX7_opens 30 = .ok (.getfield 26, 3) := dk_180 0 26 (dk_at dksX7_opens_1 6 rfl rfl)
theorem dX7_opens_33 : decode cX7_opens 33 = .ok (.iconst 1, 1) := dk_4 (dk_at dksX7_opens_1 9 rfl rfl)
theorem dX7_opens_34 : decode cX7_opens 34 = .ok (.iadd, 1) := dk_96 (dk_at dksX7_opens_1 10 rfl rfl)
theorem dX7_opens_35 : decode cX7_opens 35 = .ok (.putfield 26, 3) := dk_181 0 26 (dk_at dksX7_opens_1 11 rfl rfl)
theorem dX7_opens_38 : decode cX7_opens 38 = .ok (.return_, 1) := dk_177 (dk_at dksX7_opens_1 14 rfl rfl)
abbrev cX7_must : ByteArray := prog_13_method_7_code
def yX7_must : MethodName := ⟨RX7, "must", "(I)V"⟩
def dkwX7_must_1 : List UInt8 := [181, 0, 26, 177]
abbrev dktX7_must_1 : List UInt8 := dkwX7_must_1 ++ []
def dkwX7_must_0 : List UInt8 := [42, 182, 0, 39, 27, 159, 0, 12, 42, 4, 42, 180, 0, 26, 182, 0, 50, 42, 89, 180, 0, 26, 4, 96]
abbrev dktX7_must_0 : List UInt8 := dkwX7_must_0 ++ dktX7_must_1
theorem dksX7_must_0 : cX7_must.data.toList.drop 0 = dktX7_must_0 := by decide +kernel
theorem dksX7_must_1 : cX7_must.data.toList.drop 24 = dktX7_must_1 := dk_seg dksX7_must_0 24 rfl rfl
theorem dX7_must_0 : decode cX7_must 0 = .ok (.aload_n 0, 1) := dk_42 (dk_at dksX7_must_0 0 rfl rfl)
theorem dX7_must_1 : decode cX7_must 1 = .ok (.invokevirtual 39, 3) := dk_182 0 39 (dk_at dksX7_must_0 1 rfl rfl)
theorem dX7_must_4 : decode cX7_must 4 = .ok (.iload_n 1, 1) := dk_27 (dk_at dksX7_must_0 4 rfl rfl)
theorem dX7_must_5 : decode cX7_must 5 = .ok (.if_icmp .eq 12, 3) := dk_159 0 12 (dk_at dksX7_must_0 5 rfl rfl)
theorem dX7_must_8 : decode cX7_must 8 = .ok (.aload_n 0, 1) := dk_42 (dk_at dksX7_must_0 8 rfl rfl)
theorem dX7_must_9 : decode cX7_must 9 = .ok (.iconst 1, 1) := dk_4 (dk_at dksX7_must_0 9 rfl rfl)
theorem dX7_must_10 : decode cX7_must 10 = .ok (.aload_n 0, 1) := dk_42 (dk_at dksX7_must_0 10 rfl rfl)
theorem dX7_must_11 : decode cX7_must 11 = .ok (.getfield 26, 3) := dk_180 0 26 (dk_at dksX7_must_0 11 rfl rfl)
theorem dX7_must_14 : decode cX7_must 14 = .ok (.invokevirtual 50, 3) := dk_182 0 50 (dk_at dksX7_must_0 14 rfl rfl)
theorem dX7_must_17 : decode cX7_must 17 = .ok (.aload_n 0, 1) := dk_42 (dk_at dksX7_must_0 17 rfl rfl)
theorem dX7_must_18 : decode cX7_must 18 = .ok (.dup, 1) := dk_89 (dk_at dksX7_must_0 18 rfl rfl)
theorem dX7_must_19 : decode cX7_must 19 = .ok (.getfield 26, 3) := dk_180 0 26 (dk_at dksX7_must_0 19 rfl rfl)
theorem dX7_must_22 : decode cX7_must 22 = .ok (.iconst 1, 1) := dk_4 (dk_at dksX7_must_0 22 rfl rfl)
theorem dX7_must_23 : decode cX7_must 23 = .ok (.iadd, 1) := dk_96 (dk_at dksX7_must_0 23 rfl rfl)
theorem dX7_must_24 : decode cX7_must 24 = .ok (.putfield 26, 3) := dk_181 0 26 (dk_at dksX7_must_1 0 rfl rfl)
theorem dX7_must_27 : decode cX7_must 27 = .ok (.return_, 1) := dk_177 (dk_at dksX7_must_1 3 rfl rfl)
abbrev cX7_seesDigit : ByteArray := prog_13_method_5_code
def yX7_seesDigit : MethodName := ⟨RX7, "seesDigit", "()Z"⟩
def dkwX7_seesDigit_0 : List UInt8 := [42, 182, 0, 39, 16, 48, 161, 0, 16, 42, 182, 0, 39, 16, 57, 163, 0, 7, 4, 167, 0, 4, 3, 172]
abbrev dktX7_seesDigit_0 : List UInt8 := dkwX7_seesDigit_0 ++ []
theorem dksX7_seesDigit_0 : cX7_seesDigit.data.toList.drop 0 = dktX7_seesDigit_0 := by decide +kernel
theorem dX7_seesDigit_0 : decode cX7_seesDigit 0 = .ok (.aload_n 0, 1) := dk_42 (dk_at dksX7_seesDigit_0 0 rfl rfl)
theorem dX7_seesDigit_1 : decode cX7_seesDigit 1 = .ok (.invokevirtual 39, 3) := dk_182 0 39 (dk_at dksX7_seesDigit_0 1 rfl rfl)
theorem dX7_seesDigit_4 : decode cX7_seesDigit 4 = .ok (.bipush 48, 2) := dk_16 48 (dk_at dksX7_seesDigit_0 4 rfl rfl)
theorem dX7_seesDigit_6 : decode cX7_seesDigit 6 = .ok (.if_icmp .lt 16, 3) := dk_161 0 16 (dk_at dksX7_seesDigit_0 6 rfl rfl)
theorem dX7_seesDigit_9 : decode cX7_seesDigit 9 = .ok (.aload_n 0, 1) := dk_42 (dk_at dksX7_seesDigit_0 9 rfl rfl)
theorem dX7_seesDigit_10 : decode cX7_seesDigit 10 = .ok (.invokevirtual 39, 3) := dk_182 0 39 (dk_at dksX7_seesDigit_0 10 rfl rfl)
theorem dX7_seesDigit_13 : decode cX7_seesDigit 13 = .ok (.bipush 57, 2) := dk_16 57 (dk_at dksX7_seesDigit_0 13 rfl rfl)
theorem dX7_seesDigit_15 : decode cX7_seesDigit 15 = .ok (.if_icmp .gt 7, 3) := dk_163 0 7 (dk_at dksX7_seesDigit_0 15 rfl rfl)
theorem dX7_seesDigit_18 : decode cX7_seesDigit 18 = .ok (.iconst 1, 1) := dk_4 (dk_at dksX7_seesDigit_0 18 rfl rfl)
theorem dX7_seesDigit_19 : decode cX7_seesDigit 19 = .ok (.goto 4, 3) := dk_167 0 4 (dk_at dksX7_seesDigit_0 19 rfl rfl)
theorem dX7_seesDigit_22 : decode cX7_seesDigit 22 = .ok (.iconst 0, 1) := dk_3 (dk_at dksX7_seesDigit_0 22 rfl rfl)
theorem dX7_seesDigit_23 : decode cX7_seesDigit 23 = .ok (.ireturn, 1) := dk_172 (dk_at dksX7_seesDigit_0 23 rfl rfl)
abbrev cX7_number : ByteArray := prog_13_method_6_code
def yX7_number : MethodName := ⟨RX7, "number", "()I"⟩
def dkwX7_number_2 : List UInt8 := [182, 0, 39, 96, 16, 48, 100, 61, 42, 89, 180, 0, 26, 4, 96, 181, 0, 26, 167, 255, 200, 28, 172]
abbrev dktX7_number_2 : List UInt8 := dkwX7_number_2 ++ []
def dkwX7_number_1 : List UInt8 := [180, 0, 26, 27, 8, 96, 160, 0, 12, 42, 5, 42, 180, 0, 26, 182, 0, 50, 16, 10, 28, 104, 42]
abbrev dktX7_number_1 : List UInt8 := dkwX7_number_1 ++ dktX7_number_2
def dkwX7_number_0 : List UInt8 := [42, 180, 0, 26, 60, 3, 61, 42, 182, 0, 43, 153, 0, 55, 42, 182, 0, 47, 153, 0, 48, 42]
abbrev dktX7_number_0 : List UInt8 := dkwX7_number_0 ++ dktX7_number_1
theorem dksX7_number_0 : cX7_number.data.toList.drop 0 = dktX7_number_0 := by decide +kernel
theorem dksX7_number_1 : cX7_number.data.toList.drop 22 = dktX7_number_1 := dk_seg dksX7_number_0 22 rfl rfl
theorem dksX7_number_2 : cX7_number.data.toList.drop 45 = dktX7_number_2 := dk_seg dksX7_number_1 23 rfl rfl
theorem dX7_number_0 : decode cX7_number 0 = .ok (.aload_n 0, 1) := dk_42 (dk_at dksX7_number_0 0 rfl rfl)
theorem dX7_number_1 : decode cX7_number 1 = .ok (.getfield 26, 3) := dk_180 0 26 (dk_at dksX7_number_0 1 rfl rfl)
theorem dX7_number_4 : decode cX7_number 4 = .ok (.istore_n 1, 1) := dk_60 (dk_at dksX7_number_0 4 rfl rfl)
theorem dX7_number_5 : decode cX7_number 5 = .ok (.iconst 0, 1) := dk_3 (dk_at dksX7_number_0 5 rfl rfl)
theorem dX7_number_6 : decode cX7_number 6 = .ok (.istore_n 2, 1) := dk_61 (dk_at dksX7_number_0 6 rfl rfl)
theorem dX7_number_7 : decode cX7_number 7 = .ok (.aload_n 0, 1) := dk_42 (dk_at dksX7_number_0 7 rfl rfl)
theorem dX7_number_8 : decode cX7_number 8 = .ok (.invokevirtual 43, 3) := dk_182 0 43 (dk_at dksX7_number_0 8 rfl rfl)
theorem dX7_number_11 : decode cX7_number 11 = .ok (.ifCond .eq 55, 3) := dk_153 0 55 (dk_at dksX7_number_0 11 rfl rfl)
theorem dX7_number_14 : decode cX7_number 14 = .ok (.aload_n 0, 1) := dk_42 (dk_at dksX7_number_0 14 rfl rfl)
theorem dX7_number_15 : decode cX7_number 15 = .ok (.invokevirtual 47, 3) := dk_182 0 47 (dk_at dksX7_number_0 15 rfl rfl)
theorem dX7_number_18 : decode cX7_number 18 = .ok (.ifCond .eq 48, 3) := dk_153 0 48 (dk_at dksX7_number_0 18 rfl rfl)
theorem dX7_number_21 : decode cX7_number 21 = .ok (.aload_n 0, 1) := dk_42 (dk_at dksX7_number_0 21 rfl rfl)
theorem dX7_number_22 : decode cX7_number 22 = .ok (.getfield 26, 3) := dk_180 0 26 (dk_at dksX7_number_1 0 rfl rfl)
theorem dX7_number_25 : decode cX7_number 25 = .ok (.iload_n 1, 1) := dk_27 (dk_at dksX7_number_1 3 rfl rfl)
theorem dX7_number_26 : decode cX7_number 26 = .ok (.iconst 5, 1) := dk_8 (dk_at dksX7_number_1 4 rfl rfl)
theorem dX7_number_27 : decode cX7_number 27 = .ok (.iadd, 1) := dk_96 (dk_at dksX7_number_1 5 rfl rfl)
theorem dX7_number_28 : decode cX7_number 28 = .ok (.if_icmp .ne 12, 3) := dk_160 0 12 (dk_at dksX7_number_1 6 rfl rfl)
theorem dX7_number_31 : decode cX7_number 31 = .ok (.aload_n 0, 1) := dk_42 (dk_at dksX7_number_1 9 rfl rfl)
theorem dX7_number_32 : decode cX7_number 32 = .ok (.iconst 2, 1) := dk_5 (dk_at dksX7_number_1 10 rfl rfl)
theorem dX7_number_33 : decode cX7_number 33 = .ok (.aload_n 0, 1) := dk_42 (dk_at dksX7_number_1 11 rfl rfl)
theorem dX7_number_34 : decode cX7_number 34 = .ok (.getfield 26, 3) := dk_180 0 26 (dk_at dksX7_number_1 12 rfl rfl)
theorem dX7_number_37 : decode cX7_number 37 = .ok (.invokevirtual 50, 3) := dk_182 0 50 (dk_at dksX7_number_1 15 rfl rfl)
theorem dX7_number_40 : decode cX7_number 40 = .ok (.bipush 10, 2) := dk_16 10 (dk_at dksX7_number_1 18 rfl rfl)
theorem dX7_number_42 : decode cX7_number 42 = .ok (.iload_n 2, 1) := dk_28 (dk_at dksX7_number_1 20 rfl rfl)
theorem dX7_number_43 : decode cX7_number 43 = .ok (.imul, 1) := dk_104 (dk_at dksX7_number_1 21 rfl rfl)
theorem dX7_number_44 : decode cX7_number 44 = .ok (.aload_n 0, 1) := dk_42 (dk_at dksX7_number_1 22 rfl rfl)
theorem dX7_number_45 : decode cX7_number 45 = .ok (.invokevirtual 39, 3) := dk_182 0 39 (dk_at dksX7_number_2 0 rfl rfl)
theorem dX7_number_48 : decode cX7_number 48 = .ok (.iadd, 1) := dk_96 (dk_at dksX7_number_2 3 rfl rfl)
theorem dX7_number_49 : decode cX7_number 49 = .ok (.bipush 48, 2) := dk_16 48 (dk_at dksX7_number_2 4 rfl rfl)
theorem dX7_number_51 : decode cX7_number 51 = .ok (.isub, 1) := dk_100 (dk_at dksX7_number_2 6 rfl rfl)
theorem dX7_number_52 : decode cX7_number 52 = .ok (.istore_n 2, 1) := dk_61 (dk_at dksX7_number_2 7 rfl rfl)
theorem dX7_number_53 : decode cX7_number 53 = .ok (.aload_n 0, 1) := dk_42 (dk_at dksX7_number_2 8 rfl rfl)
theorem dX7_number_54 : decode cX7_number 54 = .ok (.dup, 1) := dk_89 (dk_at dksX7_number_2 9 rfl rfl)
theorem dX7_number_55 : decode cX7_number 55 = .ok (.getfield 26, 3) := dk_180 0 26 (dk_at dksX7_number_2 10 rfl rfl)
theorem dX7_number_58 : decode cX7_number 58 = .ok (.iconst 1, 1) := dk_4 (dk_at dksX7_number_2 13 rfl rfl)
theorem dX7_number_59 : decode cX7_number 59 = .ok (.iadd, 1) := dk_96 (dk_at dksX7_number_2 14 rfl rfl)
theorem dX7_number_60 : decode cX7_number 60 = .ok (.putfield 26, 3) := dk_181 0 26 (dk_at dksX7_number_2 15 rfl rfl)
theorem dX7_number_63 : decode cX7_number 63 = .ok (.goto (-56), 3) := dk_167 255 200 (dk_at dksX7_number_2 18 rfl rfl)
theorem dX7_number_66 : decode cX7_number 66 = .ok (.iload_n 2, 1) := dk_28 (dk_at dksX7_number_2 21 rfl rfl)
theorem dX7_number_67 : decode cX7_number 67 = .ok (.ireturn, 1) := dk_172 (dk_at dksX7_number_2 22 rfl rfl)
abbrev cX7_condition : ByteArray := prog_13_method_14_code
def yX7_condition : MethodName := ⟨RX7, "condition", "()LOneCoin$Condition;"⟩
def dkwX7_condition_4 : List UInt8 := [42, 89, 180, 0, 54, 4, 100, 181, 0, 54, 43, 176]
abbrev dktX7_condition_4 : List UInt8 := dkwX7_condition_4 ++ []
def dkwX7_condition_3 : List UInt8 := [181, 0, 123, 44, 180, 0, 123, 77, 167, 255, 209, 42, 182, 0, 43, 153, 0, 9, 42, 16, 41, 182, 0, 64]
abbrev dktX7_condition_3 : List UInt8 := dkwX7_condition_3 ++ dktX7_condition_4
def dkwX7_condition_2 : List UInt8 := [89, 180, 0, 26, 4, 96, 181, 0, 26, 44, 187, 0, 118, 89, 42, 182, 0, 126, 4, 183, 0, 120]
abbrev dktX7_condition_2 : List UInt8 := dkwX7_condition_2 ++ dktX7_condition_3
def dkwX7_condition_1 : List UInt8 := [167, 0, 4, 1, 76, 43, 77, 42, 182, 0, 43, 153, 0, 46, 42, 182, 0, 39, 16, 124, 160, 0, 37, 42]
abbrev dktX7_condition_1 : List UInt8 := dkwX7_condition_1 ++ dktX7_condition_2
def dkwX7_condition_0 : List UInt8 := [42, 182, 0, 57, 42, 182, 0, 43, 153, 0, 18, 187, 0, 118, 89, 42, 182, 0, 126, 4, 183, 0, 120]
abbrev dktX7_condition_0 : List UInt8 := dkwX7_condition_0 ++ dktX7_condition_1
theorem dksX7_condition_0 : cX7_condition.data.toList.drop 0 = dktX7_condition_0 := by decide +kernel
theorem dksX7_condition_1 : cX7_condition.data.toList.drop 23 = dktX7_condition_1 := dk_seg dksX7_condition_0 23 rfl rfl
theorem dksX7_condition_2 : cX7_condition.data.toList.drop 47 = dktX7_condition_2 := dk_seg dksX7_condition_1 24 rfl rfl
theorem dksX7_condition_3 : cX7_condition.data.toList.drop 69 = dktX7_condition_3 := dk_seg dksX7_condition_2 22 rfl rfl
theorem dksX7_condition_4 : cX7_condition.data.toList.drop 93 = dktX7_condition_4 := dk_seg dksX7_condition_3 24 rfl rfl
theorem dX7_condition_0 : decode cX7_condition 0 = .ok (.aload_n 0, 1) := dk_42 (dk_at dksX7_condition_0 0 rfl rfl)
theorem dX7_condition_1 : decode cX7_condition 1 = .ok (.invokevirtual 57, 3) := dk_182 0 57 (dk_at dksX7_condition_0 1 rfl rfl)
theorem dX7_condition_4 : decode cX7_condition 4 = .ok (.aload_n 0, 1) := dk_42 (dk_at dksX7_condition_0 4 rfl rfl)
theorem dX7_condition_5 : decode cX7_condition 5 = .ok (.invokevirtual 43, 3) := dk_182 0 43 (dk_at dksX7_condition_0 5 rfl rfl)
theorem dX7_condition_8 : decode cX7_condition 8 = .ok (.ifCond .eq 18, 3) := dk_153 0 18 (dk_at dksX7_condition_0 8 rfl rfl)
theorem dX7_condition_11 : decode cX7_condition 11 = .ok (.new 118, 3) := dk_187 0 118 (dk_at dksX7_condition_0 11 rfl rfl)
theorem dX7_condition_14 : decode cX7_condition 14 = .ok (.dup, 1) := dk_89 (dk_at dksX7_condition_0 14 rfl rfl)
theorem dX7_condition_15 : decode cX7_condition 15 = .ok (.aload_n 0, 1) := dk_42 (dk_at dksX7_condition_0 15 rfl rfl)
theorem dX7_condition_16 : decode cX7_condition 16 = .ok (.invokevirtual 126, 3) := dk_182 0 126 (dk_at dksX7_condition_0 16 rfl rfl)
theorem dX7_condition_19 : decode cX7_condition 19 = .ok (.iconst 1, 1) := dk_4 (dk_at dksX7_condition_0 19 rfl rfl)
theorem dX7_condition_20 : decode cX7_condition 20 = .ok (.invokespecial 120, 3) := dk_183 0 120 (dk_at dksX7_condition_0 20 rfl rfl)
theorem dX7_condition_23 : decode cX7_condition 23 = .ok (.goto 4, 3) := dk_167 0 4 (dk_at dksX7_condition_1 0 rfl rfl)
theorem dX7_condition_26 : decode cX7_condition 26 = .ok (.aconst_null, 1) := dk_1 (dk_at dksX7_condition_1 3 rfl rfl)
theorem dX7_condition_27 : decode cX7_condition 27 = .ok (.astore_n 1, 1) := dk_76 (dk_at dksX7_condition_1 4 rfl rfl)
theorem dX7_condition_28 : decode cX7_condition 28 = .ok (.aload_n 1, 1) := dk_43 (dk_at dksX7_condition_1 5 rfl rfl)
theorem dX7_condition_29 : decode cX7_condition 29 = .ok (.astore_n 2, 1) := dk_77 (dk_at dksX7_condition_1 6 rfl rfl)
theorem dX7_condition_30 : decode cX7_condition 30 = .ok (.aload_n 0, 1) := dk_42 (dk_at dksX7_condition_1 7 rfl rfl)
theorem dX7_condition_31 : decode cX7_condition 31 = .ok (.invokevirtual 43, 3) := dk_182 0 43 (dk_at dksX7_condition_1 8 rfl rfl)
theorem dX7_condition_34 : decode cX7_condition 34 = .ok (.ifCond .eq 46, 3) := dk_153 0 46 (dk_at dksX7_condition_1 11 rfl rfl)
theorem dX7_condition_37 : decode cX7_condition 37 = .ok (.aload_n 0, 1) := dk_42 (dk_at dksX7_condition_1 14 rfl rfl)
theorem dX7_condition_38 : decode cX7_condition 38 = .ok (.invokevirtual 39, 3) := dk_182 0 39 (dk_at dksX7_condition_1 15 rfl rfl)
theorem dX7_condition_41 : decode cX7_condition 41 = .ok (.bipush 124, 2) := dk_16 124 (dk_at dksX7_condition_1 18 rfl rfl)
theorem dX7_condition_43 : decode cX7_condition 43 = .ok (.if_icmp .ne 37, 3) := dk_160 0 37 (dk_at dksX7_condition_1 20 rfl rfl)
theorem dX7_condition_46 : decode cX7_condition 46 = .ok (.aload_n 0, 1) := dk_42 (dk_at dksX7_condition_1 23 rfl rfl)
theorem dX7_condition_47 : decode cX7_condition 47 = .ok (.dup, 1) := dk_89 (dk_at dksX7_condition_2 0 rfl rfl)
theorem dX7_condition_48 : decode cX7_condition 48 = .ok (.getfield 26, 3) := dk_180 0 26 (dk_at dksX7_condition_2 1 rfl rfl)
theorem dX7_condition_51 : decode cX7_condition 51 = .ok (.iconst 1, 1) := dk_4 (dk_at dksX7_condition_2 4 rfl rfl)
theorem dX7_condition_52 : decode cX7_condition 52 = .ok (.iadd, 1) := dk_96 (dk_at dksX7_condition_2 5 rfl rfl)
theorem dX7_condition_53 : decode cX7_condition 53 = .ok (.putfield 26, 3) := dk_181 0 26 (dk_at dksX7_condition_2 6 rfl rfl)
theorem dX7_condition_56 : decode cX7_condition 56 = .ok (.aload_n 2, 1) := dk_44 (dk_at dksX7_condition_2 9 rfl rfl)
theorem dX7_condition_57 : decode cX7_condition 57 = .ok (.new 118, 3) := dk_187 0 118 (dk_at dksX7_condition_2 10 rfl rfl)
theorem dX7_condition_60 : decode cX7_condition 60 = .ok (.dup, 1) := dk_89 (dk_at dksX7_condition_2 13 rfl rfl)
theorem dX7_condition_61 : decode cX7_condition 61 = .ok (.aload_n 0, 1) := dk_42 (dk_at dksX7_condition_2 14 rfl rfl)
theorem dX7_condition_62 : decode cX7_condition 62 = .ok (.invokevirtual 126, 3) := dk_182 0 126 (dk_at dksX7_condition_2 15 rfl rfl)
theorem dX7_condition_65 : decode cX7_condition 65 = .ok (.iconst 1, 1) := dk_4 (dk_at dksX7_condition_2 18 rfl rfl)
theorem dX7_condition_66 : decode cX7_condition 66 = .ok (.invokespecial 120, 3) := dk_183 0 120 (dk_at dksX7_condition_2 19 rfl rfl)
theorem dX7_condition_69 : decode cX7_condition 69 = .ok (.putfield 123, 3) := dk_181 0 123 (dk_at dksX7_condition_3 0 rfl rfl)
theorem dX7_condition_72 : decode cX7_condition 72 = .ok (.aload_n 2, 1) := dk_44 (dk_at dksX7_condition_3 3 rfl rfl)
theorem dX7_condition_73 : decode cX7_condition 73 = .ok (.getfield 123, 3) := dk_180 0 123 (dk_at dksX7_condition_3 4 rfl rfl)
theorem dX7_condition_76 : decode cX7_condition 76 = .ok (.astore_n 2, 1) := dk_77 (dk_at dksX7_condition_3 7 rfl rfl)
theorem dX7_condition_77 : decode cX7_condition 77 = .ok (.goto (-47), 3) := dk_167 255 209 (dk_at dksX7_condition_3 8 rfl rfl)
theorem dX7_condition_80 : decode cX7_condition 80 = .ok (.aload_n 0, 1) := dk_42 (dk_at dksX7_condition_3 11 rfl rfl)
theorem dX7_condition_81 : decode cX7_condition 81 = .ok (.invokevirtual 43, 3) := dk_182 0 43 (dk_at dksX7_condition_3 12 rfl rfl)
theorem dX7_condition_84 : decode cX7_condition 84 = .ok (.ifCond .eq 9, 3) := dk_153 0 9 (dk_at dksX7_condition_3 15 rfl rfl)
theorem dX7_condition_87 : decode cX7_condition 87 = .ok (.aload_n 0, 1) := dk_42 (dk_at dksX7_condition_3 18 rfl rfl)
theorem dX7_condition_88 : decode cX7_condition 88 = .ok (.bipush 41, 2) := dk_16 41 (dk_at dksX7_condition_3 19 rfl rfl)
theorem dX7_condition_90 : decode cX7_condition 90 = .ok (.invokevirtual 64, 3) := dk_182 0 64 (dk_at dksX7_condition_3 21 rfl rfl)
theorem dX7_condition_93 : decode cX7_condition 93 = .ok (.aload_n 0, 1) := dk_42 (dk_at dksX7_condition_4 0 rfl rfl)
theorem dX7_condition_94 : decode cX7_condition 94 = .ok (.dup, 1) := dk_89 (dk_at dksX7_condition_4 1 rfl rfl)
theorem dX7_condition_95 : decode cX7_condition 95 = .ok (.getfield 54, 3) := dk_180 0 54 (dk_at dksX7_condition_4 2 rfl rfl)
theorem dX7_condition_98 : decode cX7_condition 98 = .ok (.iconst 1, 1) := dk_4 (dk_at dksX7_condition_4 5 rfl rfl)
theorem dX7_condition_99 : decode cX7_condition 99 = .ok (.isub, 1) := dk_100 (dk_at dksX7_condition_4 6 rfl rfl)
theorem dX7_condition_100 : decode cX7_condition 100 = .ok (.putfield 54, 3) := dk_181 0 54 (dk_at dksX7_condition_4 7 rfl rfl)
theorem dX7_condition_103 : decode cX7_condition 103 = .ok (.aload_n 1, 1) := dk_43 (dk_at dksX7_condition_4 10 rfl rfl)
theorem dX7_condition_104 : decode cX7_condition 104 = .ok (.areturn, 1) := dk_176 (dk_at dksX7_condition_4 11 rfl rfl)
abbrev cX7_pieces : ByteArray := prog_13_method_13_code
def yX7_pieces : MethodName := ⟨RX7, "pieces", "()LOneCoin$Condition;"⟩
def dkwX7_pieces_2 : List UInt8 := [182, 0, 101, 3, 183, 0, 120, 181, 0, 123, 44, 180, 0, 123, 77, 167, 255, 209, 43, 176]
abbrev dktX7_pieces_2 : List UInt8 := dkwX7_pieces_2 ++ []
def dkwX7_pieces_1 : List UInt8 := [182, 0, 39, 16, 38, 160, 0, 37, 42, 89, 180, 0, 26, 4, 96, 181, 0, 26, 44, 187, 0, 118, 89, 42]
abbrev dktX7_pieces_1 : List UInt8 := dkwX7_pieces_1 ++ dktX7_pieces_2
def dkwX7_pieces_0 : List UInt8 := [187, 0, 118, 89, 42, 182, 0, 101, 3, 183, 0, 120, 76, 43, 77, 42, 182, 0, 43, 153, 0, 46, 42]
abbrev dktX7_pieces_0 : List UInt8 := dkwX7_pieces_0 ++ dktX7_pieces_1
theorem dksX7_pieces_0 : cX7_pieces.data.toList.drop 0 = dktX7_pieces_0 := by decide +kernel
theorem dksX7_pieces_1 : cX7_pieces.data.toList.drop 23 = dktX7_pieces_1 := dk_seg dksX7_pieces_0 23 rfl rfl
theorem dksX7_pieces_2 : cX7_pieces.data.toList.drop 47 = dktX7_pieces_2 := dk_seg dksX7_pieces_1 24 rfl rfl
theorem dX7_pieces_0 : decode cX7_pieces 0 = .ok (.new 118, 3) := dk_187 0 118 (dk_at dksX7_pieces_0 0 rfl rfl)
theorem dX7_pieces_3 : decode cX7_pieces 3 = .ok (.dup, 1) := dk_89 (dk_at dksX7_pieces_0 3 rfl rfl)
theorem dX7_pieces_4 : decode cX7_pieces 4 = .ok (.aload_n 0, 1) := dk_42 (dk_at dksX7_pieces_0 4 rfl rfl)
theorem dX7_pieces_5 : decode cX7_pieces 5 = .ok (.invokevirtual 101, 3) := dk_182 0 101 (dk_at dksX7_pieces_0 5 rfl rfl)
theorem dX7_pieces_8 : decode cX7_pieces 8 = .ok (.iconst 0, 1) := dk_3 (dk_at dksX7_pieces_0 8 rfl rfl)
theorem dX7_pieces_9 : decode cX7_pieces 9 = .ok (.invokespecial 120, 3) := dk_183 0 120 (dk_at dksX7_pieces_0 9 rfl rfl)
theorem dX7_pieces_12 : decode cX7_pieces 12 = .ok (.astore_n 1, 1) := dk_76 (dk_at dksX7_pieces_0 12 rfl rfl)
theorem dX7_pieces_13 : decode cX7_pieces 13 = .ok (.aload_n 1, 1) := dk_43 (dk_at dksX7_pieces_0 13 rfl rfl)
theorem dX7_pieces_14 : decode cX7_pieces 14 = .ok (.astore_n 2, 1) := dk_77 (dk_at dksX7_pieces_0 14 rfl rfl)
theorem dX7_pieces_15 : decode cX7_pieces 15 = .ok (.aload_n 0, 1) := dk_42 (dk_at dksX7_pieces_0 15 rfl rfl)
theorem dX7_pieces_16 : decode cX7_pieces 16 = .ok (.invokevirtual 43, 3) := dk_182 0 43 (dk_at dksX7_pieces_0 16 rfl rfl)
theorem dX7_pieces_19 : decode cX7_pieces 19 = .ok (.ifCond .eq 46, 3) := dk_153 0 46 (dk_at dksX7_pieces_0 19 rfl rfl)
theorem dX7_pieces_22 : decode cX7_pieces 22 = .ok (.aload_n 0, 1) := dk_42 (dk_at dksX7_pieces_0 22 rfl rfl)
theorem dX7_pieces_23 : decode cX7_pieces 23 = .ok (.invokevirtual 39, 3) := dk_182 0 39 (dk_at dksX7_pieces_1 0 rfl rfl)
theorem dX7_pieces_26 : decode cX7_pieces 26 = .ok (.bipush 38, 2) := dk_16 38 (dk_at dksX7_pieces_1 3 rfl rfl)
theorem dX7_pieces_28 : decode cX7_pieces 28 = .ok (.if_icmp .ne 37, 3) := dk_160 0 37 (dk_at dksX7_pieces_1 5 rfl rfl)
theorem dX7_pieces_31 : decode cX7_pieces 31 = .ok (.aload_n 0, 1) := dk_42 (dk_at dksX7_pieces_1 8 rfl rfl)
theorem dX7_pieces_32 : decode cX7_pieces 32 = .ok (.dup, 1) := dk_89 (dk_at dksX7_pieces_1 9 rfl rfl)
theorem dX7_pieces_33 : decode cX7_pieces 33 = .ok (.getfield 26, 3) := dk_180 0 26 (dk_at dksX7_pieces_1 10 rfl rfl)
theorem dX7_pieces_36 : decode cX7_pieces 36 = .ok (.iconst 1, 1) := dk_4 (dk_at dksX7_pieces_1 13 rfl rfl)
theorem dX7_pieces_37 : decode cX7_pieces 37 = .ok (.iadd, 1) := dk_96 (dk_at dksX7_pieces_1 14 rfl rfl)
theorem dX7_pieces_38 : decode cX7_pieces 38 = .ok (.putfield 26, 3) := dk_181 0 26 (dk_at dksX7_pieces_1 15 rfl rfl)
theorem dX7_pieces_41 : decode cX7_pieces 41 = .ok (.aload_n 2, 1) := dk_44 (dk_at dksX7_pieces_1 18 rfl rfl)
theorem dX7_pieces_42 : decode cX7_pieces 42 = .ok (.new 118, 3) := dk_187 0 118 (dk_at dksX7_pieces_1 19 rfl rfl)
theorem dX7_pieces_45 : decode cX7_pieces 45 = .ok (.dup, 1) := dk_89 (dk_at dksX7_pieces_1 22 rfl rfl)
theorem dX7_pieces_46 : decode cX7_pieces 46 = .ok (.aload_n 0, 1) := dk_42 (dk_at dksX7_pieces_1 23 rfl rfl)
theorem dX7_pieces_47 : decode cX7_pieces 47 = .ok (.invokevirtual 101, 3) := dk_182 0 101 (dk_at dksX7_pieces_2 0 rfl rfl)
theorem dX7_pieces_50 : decode cX7_pieces 50 = .ok (.iconst 0, 1) := dk_3 (dk_at dksX7_pieces_2 3 rfl rfl)
theorem dX7_pieces_51 : decode cX7_pieces 51 = .ok (.invokespecial 120, 3) := dk_183 0 120 (dk_at dksX7_pieces_2 4 rfl rfl)
theorem dX7_pieces_54 : decode cX7_pieces 54 = .ok (.putfield 123, 3) := dk_181 0 123 (dk_at dksX7_pieces_2 7 rfl rfl)
theorem dX7_pieces_57 : decode cX7_pieces 57 = .ok (.aload_n 2, 1) := dk_44 (dk_at dksX7_pieces_2 10 rfl rfl)
theorem dX7_pieces_58 : decode cX7_pieces 58 = .ok (.getfield 123, 3) := dk_180 0 123 (dk_at dksX7_pieces_2 11 rfl rfl)
theorem dX7_pieces_61 : decode cX7_pieces 61 = .ok (.astore_n 2, 1) := dk_77 (dk_at dksX7_pieces_2 14 rfl rfl)
theorem dX7_pieces_62 : decode cX7_pieces 62 = .ok (.goto (-47), 3) := dk_167 255 209 (dk_at dksX7_pieces_2 15 rfl rfl)
theorem dX7_pieces_65 : decode cX7_pieces 65 = .ok (.aload_n 1, 1) := dk_43 (dk_at dksX7_pieces_2 18 rfl rfl)
theorem dX7_pieces_66 : decode cX7_pieces 66 = .ok (.areturn, 1) := dk_176 (dk_at dksX7_pieces_2 19 rfl rfl)
abbrev cX7_piece : ByteArray := prog_13_method_12_code
def yX7_piece : MethodName := ⟨RX7, "piece", "()LOneCoin$Condition;"⟩
def dkwX7_piece_5 : List UInt8 := [182, 0, 43, 153, 0, 10, 42, 182, 0, 60, 167, 0, 4, 1, 183, 0, 115, 176]
abbrev dktX7_piece_5 : List UInt8 := dkwX7_piece_5 ++ []
def dkwX7_piece_4 : List UInt8 := [180, 0, 26, 182, 0, 50, 42, 89, 180, 0, 26, 4, 96, 181, 0, 26, 187, 0, 113, 89, 44, 29, 42]
abbrev dktX7_piece_4 : List UInt8 := dkwX7_piece_4 ++ dktX7_piece_5
def dkwX7_piece_3 : List UInt8 := [62, 29, 16, 60, 159, 0, 24, 29, 16, 62, 159, 0, 18, 29, 16, 61, 159, 0, 12, 42, 4, 42]
abbrev dktX7_piece_3 : List UInt8 := dkwX7_piece_3 ++ dktX7_piece_4
def dkwX7_piece_2 : List UInt8 := [183, 0, 107, 176, 27, 16, 40, 160, 0, 8, 42, 182, 0, 110, 176, 42, 182, 0, 60, 77, 42, 182, 0, 39]
abbrev dktX7_piece_2 : List UInt8 := dkwX7_piece_2 ++ dktX7_piece_3
def dkwX7_piece_1 : List UInt8 := [182, 0, 101, 167, 0, 4, 1, 77, 42, 89, 180, 0, 54, 4, 100, 181, 0, 54, 187, 0, 105, 89, 44]
abbrev dktX7_piece_1 : List UInt8 := dkwX7_piece_1 ++ dktX7_piece_2
def dkwX7_piece_0 : List UInt8 := [42, 182, 0, 39, 60, 27, 16, 33, 160, 0, 42, 42, 182, 0, 57, 42, 182, 0, 43, 153, 0, 10, 42]
abbrev dktX7_piece_0 : List UInt8 := dkwX7_piece_0 ++ dktX7_piece_1
theorem dksX7_piece_0 : cX7_piece.data.toList.drop 0 = dktX7_piece_0 := by decide +kernel
theorem dksX7_piece_1 : cX7_piece.data.toList.drop 23 = dktX7_piece_1 := dk_seg dksX7_piece_0 23 rfl rfl
theorem dksX7_piece_2 : cX7_piece.data.toList.drop 46 = dktX7_piece_2 := dk_seg dksX7_piece_1 23 rfl rfl
theorem dksX7_piece_3 : cX7_piece.data.toList.drop 70 = dktX7_piece_3 := dk_seg dksX7_piece_2 24 rfl rfl
theorem dksX7_piece_4 : cX7_piece.data.toList.drop 92 = dktX7_piece_4 := dk_seg dksX7_piece_3 22 rfl rfl
theorem dksX7_piece_5 : cX7_piece.data.toList.drop 115 = dktX7_piece_5 := dk_seg dksX7_piece_4 23 rfl rfl
theorem dX7_piece_0 : decode cX7_piece 0 = .ok (.aload_n 0, 1) := dk_42 (dk_at dksX7_piece_0 0 rfl rfl)
theorem dX7_piece_1 : decode cX7_piece 1 = .ok (.invokevirtual 39, 3) := dk_182 0 39 (dk_at dksX7_piece_0 1 rfl rfl)
theorem dX7_piece_4 : decode cX7_piece 4 = .ok (.istore_n 1, 1) := dk_60 (dk_at dksX7_piece_0 4 rfl rfl)
theorem dX7_piece_5 : decode cX7_piece 5 = .ok (.iload_n 1, 1) := dk_27 (dk_at dksX7_piece_0 5 rfl rfl)
theorem dX7_piece_6 : decode cX7_piece 6 = .ok (.bipush 33, 2) := dk_16 33 (dk_at dksX7_piece_0 6 rfl rfl)
theorem dX7_piece_8 : decode cX7_piece 8 = .ok (.if_icmp .ne 42, 3) := dk_160 0 42 (dk_at dksX7_piece_0 8 rfl rfl)
theorem dX7_piece_11 : decode cX7_piece 11 = .ok (.aload_n 0, 1) := dk_42 (dk_at dksX7_piece_0 11 rfl rfl)
theorem dX7_piece_12 : decode cX7_piece 12 = .ok (.invokevirtual 57, 3) := dk_182 0 57 (dk_at dksX7_piece_0 12 rfl rfl)
theorem dX7_piece_15 : decode cX7_piece 15 = .ok (.aload_n 0, 1) := dk_42 (dk_at dksX7_piece_0 15 rfl rfl)
theorem dX7_piece_16 : decode cX7_piece 16 = .ok (.invokevirtual 43, 3) := dk_182 0 43 (dk_at dksX7_piece_0 16 rfl rfl)
theorem dX7_piece_19 : decode cX7_piece 19 = .ok (.ifCond .eq 10, 3) := dk_153 0 10 (dk_at dksX7_piece_0 19 rfl rfl)
theorem dX7_piece_22 : decode cX7_piece 22 = .ok (.aload_n 0, 1) := dk_42 (dk_at dksX7_piece_0 22 rfl rfl)
theorem dX7_piece_23 : decode cX7_piece 23 = .ok (.invokevirtual 101, 3) := dk_182 0 101 (dk_at dksX7_piece_1 0 rfl rfl)
theorem dX7_piece_26 : decode cX7_piece 26 = .ok (.goto 4, 3) := dk_167 0 4 (dk_at dksX7_piece_1 3 rfl rfl)
theorem dX7_piece_29 : decode cX7_piece 29 = .ok (.aconst_null, 1) := dk_1 (dk_at dksX7_piece_1 6 rfl rfl)
theorem dX7_piece_30 : decode cX7_piece 30 = .ok (.astore_n 2, 1) := dk_77 (dk_at dksX7_piece_1 7 rfl rfl)
theorem dX7_piece_31 : decode cX7_piece 31 = .ok (.aload_n 0, 1) := dk_42 (dk_at dksX7_piece_1 8 rfl rfl)
theorem dX7_piece_32 : decode cX7_piece 32 = .ok (.dup, 1) := dk_89 (dk_at dksX7_piece_1 9 rfl rfl)
theorem dX7_piece_33 : decode cX7_piece 33 = .ok (.getfield 54, 3) := dk_180 0 54 (dk_at dksX7_piece_1 10 rfl rfl)
theorem dX7_piece_36 : decode cX7_piece 36 = .ok (.iconst 1, 1) := dk_4 (dk_at dksX7_piece_1 13 rfl rfl)
theorem dX7_piece_37 : decode cX7_piece 37 = .ok (.isub, 1) := dk_100 (dk_at dksX7_piece_1 14 rfl rfl)
theorem dX7_piece_38 : decode cX7_piece 38 = .ok (.putfield 54, 3) := dk_181 0 54 (dk_at dksX7_piece_1 15 rfl rfl)
theorem dX7_piece_41 : decode cX7_piece 41 = .ok (.new 105, 3) := dk_187 0 105 (dk_at dksX7_piece_1 18 rfl rfl)
theorem dX7_piece_44 : decode cX7_piece 44 = .ok (.dup, 1) := dk_89 (dk_at dksX7_piece_1 21 rfl rfl)
theorem dX7_piece_45 : decode cX7_piece 45 = .ok (.aload_n 2, 1) := dk_44 (dk_at dksX7_piece_1 22 rfl rfl)
theorem dX7_piece_46 : decode cX7_piece 46 = .ok (.invokespecial 107, 3) := dk_183 0 107 (dk_at dksX7_piece_2 0 rfl rfl)
theorem dX7_piece_49 : decode cX7_piece 49 = .ok (.areturn, 1) := dk_176 (dk_at dksX7_piece_2 3 rfl rfl)
theorem dX7_piece_50 : decode cX7_piece 50 = .ok (.iload_n 1, 1) := dk_27 (dk_at dksX7_piece_2 4 rfl rfl)
theorem dX7_piece_51 : decode cX7_piece 51 = .ok (.bipush 40, 2) := dk_16 40 (dk_at dksX7_piece_2 5 rfl rfl)
theorem dX7_piece_53 : decode cX7_piece 53 = .ok (.if_icmp .ne 8, 3) := dk_160 0 8 (dk_at dksX7_piece_2 7 rfl rfl)
theorem dX7_piece_56 : decode cX7_piece 56 = .ok (.aload_n 0, 1) := dk_42 (dk_at dksX7_piece_2 10 rfl rfl)
theorem dX7_piece_57 : decode cX7_piece 57 = .ok (.invokevirtual 110, 3) := dk_182 0 110 (dk_at dksX7_piece_2 11 rfl rfl)
theorem dX7_piece_60 : decode cX7_piece 60 = .ok (.areturn, 1) := dk_176 (dk_at dksX7_piece_2 14 rfl rfl)
theorem dX7_piece_61 : decode cX7_piece 61 = .ok (.aload_n 0, 1) := dk_42 (dk_at dksX7_piece_2 15 rfl rfl)
theorem dX7_piece_62 : decode cX7_piece 62 = .ok (.invokevirtual 60, 3) := dk_182 0 60 (dk_at dksX7_piece_2 16 rfl rfl)
theorem dX7_piece_65 : decode cX7_piece 65 = .ok (.astore_n 2, 1) := dk_77 (dk_at dksX7_piece_2 19 rfl rfl)
theorem dX7_piece_66 : decode cX7_piece 66 = .ok (.aload_n 0, 1) := dk_42 (dk_at dksX7_piece_2 20 rfl rfl)
theorem dX7_piece_67 : decode cX7_piece 67 = .ok (.invokevirtual 39, 3) := dk_182 0 39 (dk_at dksX7_piece_2 21 rfl rfl)
theorem dX7_piece_70 : decode cX7_piece 70 = .ok (.istore_n 3, 1) := dk_62 (dk_at dksX7_piece_3 0 rfl rfl)
theorem dX7_piece_71 : decode cX7_piece 71 = .ok (.iload_n 3, 1) := dk_29 (dk_at dksX7_piece_3 1 rfl rfl)
theorem dX7_piece_72 : decode cX7_piece 72 = .ok (.bipush 60, 2) := dk_16 60 (dk_at dksX7_piece_3 2 rfl rfl)
theorem dX7_piece_74 : decode cX7_piece 74 = .ok (.if_icmp .eq 24, 3) := dk_159 0 24 (dk_at dksX7_piece_3 4 rfl rfl)
theorem dX7_piece_77 : decode cX7_piece 77 = .ok (.iload_n 3, 1) := dk_29 (dk_at dksX7_piece_3 7 rfl rfl)
theorem dX7_piece_78 : decode cX7_piece 78 = .ok (.bipush 62, 2) := dk_16 62 (dk_at dksX7_piece_3 8 rfl rfl)
theorem dX7_piece_80 : decode cX7_piece 80 = .ok (.if_icmp .eq 18, 3) := dk_159 0 18 (dk_at dksX7_piece_3 10 rfl rfl)
theorem dX7_piece_83 : decode cX7_piece 83 = .ok (.iload_n 3, 1) := dk_29 (dk_at dksX7_piece_3 13 rfl rfl)
theorem dX7_piece_84 : decode cX7_piece 84 = .ok (.bipush 61, 2) := dk_16 61 (dk_at dksX7_piece_3 14 rfl rfl)
theorem dX7_piece_86 : decode cX7_piece 86 = .ok (.if_icmp .eq 12, 3) := dk_159 0 12 (dk_at dksX7_piece_3 16 rfl rfl)
theorem dX7_piece_89 : decode cX7_piece 89 = .ok (.aload_n 0, 1) := dk_42 (dk_at dksX7_piece_3 19 rfl rfl)
theorem dX7_piece_90 : decode cX7_piece 90 = .ok (.iconst 1, 1) := dk_4 (dk_at dksX7_piece_3 20 rfl rfl)
theorem dX7_piece_91 : decode cX7_piece 91 = .ok (.aload_n 0, 1) := dk_42 (dk_at dksX7_piece_3 21 rfl rfl)
theorem dX7_piece_92 : decode cX7_piece 92 = .ok (.getfield 26, 3) := dk_180 0 26 (dk_at dksX7_piece_4 0 rfl rfl)
theorem dX7_piece_95 : decode cX7_piece 95 = .ok (.invokevirtual 50, 3) := dk_182 0 50 (dk_at dksX7_piece_4 3 rfl rfl)
theorem dX7_piece_98 : decode cX7_piece 98 = .ok (.aload_n 0, 1) := dk_42 (dk_at dksX7_piece_4 6 rfl rfl)
theorem dX7_piece_99 : decode cX7_piece 99 = .ok (.dup, 1) := dk_89 (dk_at dksX7_piece_4 7 rfl rfl)
theorem dX7_piece_100 : decode cX7_piece 100 = .ok (.getfield 26, 3) := dk_180 0 26 (dk_at dksX7_piece_4 8 rfl rfl)
theorem dX7_piece_103 : decode cX7_piece 103 = .ok (.iconst 1, 1) := dk_4 (dk_at dksX7_piece_4 11 rfl rfl)
theorem dX7_piece_104 : decode cX7_piece 104 = .ok (.iadd, 1) := dk_96 (dk_at dksX7_piece_4 12 rfl rfl)
theorem dX7_piece_105 : decode cX7_piece 105 = .ok (.putfield 26, 3) := dk_181 0 26 (dk_at dksX7_piece_4 13 rfl rfl)
theorem dX7_piece_108 : decode cX7_piece 108 = .ok (.new 113, 3) := dk_187 0 113 (dk_at dksX7_piece_4 16 rfl rfl)
theorem dX7_piece_111 : decode cX7_piece 111 = .ok (.dup, 1) := dk_89 (dk_at dksX7_piece_4 19 rfl rfl)
theorem dX7_piece_112 : decode cX7_piece 112 = .ok (.aload_n 2, 1) := dk_44 (dk_at dksX7_piece_4 20 rfl rfl)
theorem dX7_piece_113 : decode cX7_piece 113 = .ok (.iload_n 3, 1) := dk_29 (dk_at dksX7_piece_4 21 rfl rfl)
theorem dX7_piece_114 : decode cX7_piece 114 = .ok (.aload_n 0, 1) := dk_42 (dk_at dksX7_piece_4 22 rfl rfl)
theorem dX7_piece_115 : decode cX7_piece 115 = .ok (.invokevirtual 43, 3) := dk_182 0 43 (dk_at dksX7_piece_5 0 rfl rfl)
theorem dX7_piece_118 : decode cX7_piece 118 = .ok (.ifCond .eq 10, 3) := dk_153 0 10 (dk_at dksX7_piece_5 3 rfl rfl)
theorem dX7_piece_121 : decode cX7_piece 121 = .ok (.aload_n 0, 1) := dk_42 (dk_at dksX7_piece_5 6 rfl rfl)
theorem dX7_piece_122 : decode cX7_piece 122 = .ok (.invokevirtual 60, 3) := dk_182 0 60 (dk_at dksX7_piece_5 7 rfl rfl)
theorem dX7_piece_125 : decode cX7_piece 125 = .ok (.goto 4, 3) := dk_167 0 4 (dk_at dksX7_piece_5 10 rfl rfl)
theorem dX7_piece_128 : decode cX7_piece 128 = .ok (.aconst_null, 1) := dk_1 (dk_at dksX7_piece_5 13 rfl rfl)
theorem dX7_piece_129 : decode cX7_piece 129 = .ok (.invokespecial 115, 3) := dk_183 0 115 (dk_at dksX7_piece_5 14 rfl rfl)
theorem dX7_piece_132 : decode cX7_piece 132 = .ok (.areturn, 1) := dk_176 (dk_at dksX7_piece_5 17 rfl rfl)
theorem q123 : (Jvm.Cond.initialized "OneCoin$Reader") ∈ lw_all := lw_g (lw_at lw_m1 8 rfl) rfl
theorem q290 : (Jvm.Cond.fieldLinkNest "OneCoin$Reader" (134 : Nat) "OneCoin$Text" "letters" "[I" "OneCoin") ∈ lw_tbl := lw_at lw_m1 175 rfl
theorem q292 : (Jvm.Cond.fieldLinkNest "OneCoin$Reader" (138 : Nat) "OneCoin$Text" "sums" "[LOneCoin$Sum;" "OneCoin") ∈ lw_tbl := lw_at lw_m1 177 rfl
theorem q294 : (Jvm.Cond.fieldLinkNest "OneCoin$Reader" (142 : Nat) "OneCoin$Text" "conditions" "[LOneCoin$Condition;" "OneCoin") ∈ lw_tbl := lw_at lw_m1 179 rfl
theorem q296 : (Jvm.Cond.fieldLinkNest "OneCoin$Reader" (131 : Nat) "OneCoin$Text" "many" "I" "OneCoin") ∈ lw_tbl := lw_at lw_m1 181 rfl
theorem q319 : (Jvm.Cond.fieldLinkNest "OneCoin$Reader" (29 : Nat) "OneCoin" "tape" "[B" "OneCoin") ∈ lw_tbl := lw_at lw_m1 204 rfl
theorem q420 : (Jvm.Cond.instantiable "OneCoin$Reader" (7 : Nat)) ∈ lw_all := lw_g (lw_at lw_m2 65 rfl) rfl
theorem q422 : (Jvm.Cond.instanceMethod ({ cls := "OneCoin$Reader", name := "<init>", desc := "(LOneCoin;I)V" } : Jvm.MethodName)) ∈ lw_all := lw_g (lw_at lw_m2 67 rfl) rfl
theorem q423 : (Jvm.Cond.code ({ cls := "OneCoin$Reader", name := "<init>", desc := "(LOneCoin;I)V" } : Jvm.MethodName) prog_13_method_1_code (3 : Nat) (Option.none : Option Jvm.ClassFile.FieldType)) ∈ lw_all := lw_g (lw_at lw_m2 68 rfl) rfl
theorem q424 : (Jvm.Cond.methodLink "OneCoin$Reader" (9 : Nat) ({ cls := "java/lang/Object", name := "<init>", desc := "()V" } : Jvm.MethodName)) ∈ lw_all := lw_g (lw_at lw_m2 69 rfl) rfl
theorem q425 : (Jvm.Cond.classLink "OneCoin$Reader" (15 : Nat) "OneCoin$Text") ∈ lw_all := lw_g (lw_at lw_m2 70 rfl) rfl
theorem q426 : (Jvm.Cond.methodLinkNest "OneCoin$Reader" (17 : Nat) ({ cls := "OneCoin$Text", name := "<init>", desc := "()V" } : Jvm.MethodName) "OneCoin") ∈ lw_tbl := lw_at lw_m2 71 rfl
theorem q427 : (Jvm.Cond.fieldLink "OneCoin$Reader" (22 : Nat) "OneCoin$Reader" "n" "I") ∈ lw_all := lw_g (lw_at lw_m2 72 rfl) rfl
theorem q428 : (Jvm.Cond.fieldLink "OneCoin$Reader" (18 : Nat) "OneCoin$Reader" "text" "LOneCoin$Text;") ∈ lw_all := lw_g (lw_at lw_m2 73 rfl) rfl
theorem q430 : (Jvm.Cond.fieldLink "OneCoin$Reader" (26 : Nat) "OneCoin$Reader" "at" "I") ∈ lw_all := lw_g (lw_at lw_m2 75 rfl) rfl
theorem q431 : (Jvm.Cond.fieldLink "OneCoin$Reader" (54 : Nat) "OneCoin$Reader" "open" "I") ∈ lw_all := lw_g (lw_at lw_m2 76 rfl) rfl
theorem q432 : (Jvm.Cond.fieldLink "OneCoin$Reader" (33 : Nat) "OneCoin$Reader" "fault" "I") ∈ lw_all := lw_g (lw_at lw_m2 77 rfl) rfl
theorem q433 : (Jvm.Cond.fieldLink "OneCoin$Reader" (36 : Nat) "OneCoin$Reader" "place" "I") ∈ lw_all := lw_g (lw_at lw_m2 78 rfl) rfl
theorem q434 : (Jvm.Cond.fieldLink "OneCoin$Reader" (3 : Nat) "OneCoin$Reader" "this$0" "LOneCoin;") ∈ lw_all := lw_g (lw_at lw_m2 79 rfl) rfl
theorem q435 : (Jvm.Cond.laysFinal "OneCoin$Reader" "OneCoin$Reader" "n" "I") ∈ lw_all := lw_g (lw_at lw_m2 80 rfl) rfl
theorem q436 : (Jvm.Cond.soleField "OneCoin$Reader" "n") ∈ lw_all := lw_g (lw_at lw_m2 81 rfl) rfl
theorem q437 : (Jvm.Cond.laysFinal "OneCoin$Reader" "OneCoin$Reader" "text" "LOneCoin$Text;") ∈ lw_all := lw_g (lw_at lw_m2 82 rfl) rfl
theorem q438 : (Jvm.Cond.soleField "OneCoin$Reader" "text") ∈ lw_all := lw_g (lw_at lw_m2 83 rfl) rfl
theorem q439 : (Jvm.Cond.lays "OneCoin$Reader" "OneCoin$Reader" "at" "I") ∈ lw_all := lw_g (lw_at lw_m2 84 rfl) rfl
theorem q440 : (Jvm.Cond.soleField "OneCoin$Reader" "at") ∈ lw_all := lw_g (lw_at lw_m2 85 rfl) rfl
theorem q441 : (Jvm.Cond.lays "OneCoin$Reader" "OneCoin$Reader" "open" "I") ∈ lw_all := lw_g (lw_at lw_m2 86 rfl) rfl
theorem q442 : (Jvm.Cond.soleField "OneCoin$Reader" "open") ∈ lw_all := lw_g (lw_at lw_m2 87 rfl) rfl
theorem q443 : (Jvm.Cond.lays "OneCoin$Reader" "OneCoin$Reader" "fault" "I") ∈ lw_all := lw_g (lw_at lw_m2 88 rfl) rfl
theorem q444 : (Jvm.Cond.soleField "OneCoin$Reader" "fault") ∈ lw_all := lw_g (lw_at lw_m2 89 rfl) rfl
theorem q445 : (Jvm.Cond.lays "OneCoin$Reader" "OneCoin$Reader" "place" "I") ∈ lw_all := lw_g (lw_at lw_m2 90 rfl) rfl
theorem q446 : (Jvm.Cond.soleField "OneCoin$Reader" "place") ∈ lw_all := lw_g (lw_at lw_m2 91 rfl) rfl
theorem q447 : (Jvm.Cond.laysFinal "OneCoin$Reader" "OneCoin$Reader" "this$0" "LOneCoin;") ∈ lw_all := lw_g (lw_at lw_m2 92 rfl) rfl
theorem q448 : (Jvm.Cond.soleField "OneCoin$Reader" "this$0") ∈ lw_all := lw_g (lw_at lw_m2 93 rfl) rfl
theorem q449 : (Jvm.Cond.superclass "OneCoin$Reader" "java/lang/Object") ∈ lw_all := lw_g (lw_at lw_m2 94 rfl) rfl
theorem q451 : (Jvm.Cond.instanceMethod ({ cls := "OneCoin$Reader", name := "read", desc := "()I" } : Jvm.MethodName)) ∈ lw_all := lw_g (lw_at lw_m2 96 rfl) rfl
theorem q452 : (Jvm.Cond.selects "OneCoin$Reader" ({ cls := "OneCoin$Reader", name := "read", desc := "()I" } : Jvm.MethodName) ({ cls := "OneCoin$Reader", name := "read", desc := "()I" } : Jvm.MethodName)) ∈ lw_all := lw_g (lw_at lw_m2 97 rfl) rfl
theorem q453 : (Jvm.Cond.code ({ cls := "OneCoin$Reader", name := "read", desc := "()I" } : Jvm.MethodName) prog_13_method_16_code (2 : Nat) (Option.some Jvm.ClassFile.FieldType.int)) ∈ lw_all := lw_g (lw_at lw_m2 98 rfl) rfl
theorem q454 : (Jvm.Cond.methodLink "OneCoin$Reader" (43 : Nat) ({ cls := "OneCoin$Reader", name := "isGood", desc := "()Z" } : Jvm.MethodName)) ∈ lw_all := lw_g (lw_at lw_m2 99 rfl) rfl
theorem q455 : (Jvm.Cond.privateMethod ({ cls := "OneCoin$Reader", name := "isGood", desc := "()Z" } : Jvm.MethodName)) ∈ lw_tbl := lw_at lw_m2 100 rfl
theorem q456 : (Jvm.Cond.instanceMethod ({ cls := "OneCoin$Reader", name := "isGood", desc := "()Z" } : Jvm.MethodName)) ∈ lw_all := lw_g (lw_at lw_m2 101 rfl) rfl
theorem q457 : (Jvm.Cond.code ({ cls := "OneCoin$Reader", name := "isGood", desc := "()Z" } : Jvm.MethodName) prog_13_method_3_code (1 : Nat) (Option.some Jvm.ClassFile.FieldType.boolean)) ∈ lw_all := lw_g (lw_at lw_m2 102 rfl) rfl
theorem q458 : (Jvm.Cond.methodLink "OneCoin$Reader" (146 : Nat) ({ cls := "OneCoin$Reader", name := "clause", desc := "()V" } : Jvm.MethodName)) ∈ lw_all := lw_g (lw_at lw_m2 103 rfl) rfl
theorem q459 : (Jvm.Cond.privateMethod ({ cls := "OneCoin$Reader", name := "clause", desc := "()V" } : Jvm.MethodName)) ∈ lw_tbl := lw_at lw_m2 104 rfl
theorem q460 : (Jvm.Cond.instanceMethod ({ cls := "OneCoin$Reader", name := "clause", desc := "()V" } : Jvm.MethodName)) ∈ lw_all := lw_g (lw_at lw_m2 105 rfl) rfl
theorem q461 : (Jvm.Cond.code ({ cls := "OneCoin$Reader", name := "clause", desc := "()V" } : Jvm.MethodName) prog_13_method_15_code (4 : Nat) (Option.none : Option Jvm.ClassFile.FieldType)) ∈ lw_all := lw_g (lw_at lw_m2 106 rfl) rfl
theorem q462 : (Jvm.Cond.methodLink "OneCoin$Reader" (39 : Nat) ({ cls := "OneCoin$Reader", name := "here", desc := "()I" } : Jvm.MethodName)) ∈ lw_all := lw_g (lw_at lw_m2 107 rfl) rfl
theorem q463 : (Jvm.Cond.privateMethod ({ cls := "OneCoin$Reader", name := "here", desc := "()I" } : Jvm.MethodName)) ∈ lw_tbl := lw_at lw_m2 108 rfl
theorem q464 : (Jvm.Cond.instanceMethod ({ cls := "OneCoin$Reader", name := "here", desc := "()I" } : Jvm.MethodName)) ∈ lw_all := lw_g (lw_at lw_m2 109 rfl) rfl
theorem q465 : (Jvm.Cond.code ({ cls := "OneCoin$Reader", name := "here", desc := "()I" } : Jvm.MethodName) prog_13_method_2_code (1 : Nat) (Option.some Jvm.ClassFile.FieldType.int)) ∈ lw_all := lw_g (lw_at lw_m2 110 rfl) rfl
theorem q466 : (Jvm.Cond.stringRef "OneCoin$Reader" (129 : Nat) "eirs") ∈ lw_tbl := lw_at lw_m2 111 rfl
theorem q467 : (Jvm.Cond.methodLink "OneCoin$Reader" (77 : Nat) ({ cls := "java/lang/String", name := "indexOf", desc := "(I)I" } : Jvm.MethodName)) ∈ lw_all := lw_g (lw_at lw_m2 112 rfl) rfl
theorem q553 : (Jvm.Cond.methodLink "OneCoin$Reader" (50 : Nat) ({ cls := "OneCoin$Reader", name := "bad", desc := "(II)V" } : Jvm.MethodName)) ∈ lw_all := lw_g (lw_at lw_m2 198 rfl) rfl
theorem q554 : (Jvm.Cond.privateMethod ({ cls := "OneCoin$Reader", name := "bad", desc := "(II)V" } : Jvm.MethodName)) ∈ lw_tbl := lw_at lw_m2 199 rfl
theorem q555 : (Jvm.Cond.instanceMethod ({ cls := "OneCoin$Reader", name := "bad", desc := "(II)V" } : Jvm.MethodName)) ∈ lw_all := lw_g (lw_at lw_m2 200 rfl) rfl
theorem q556 : (Jvm.Cond.code ({ cls := "OneCoin$Reader", name := "bad", desc := "(II)V" } : Jvm.MethodName) prog_13_method_4_code (3 : Nat) (Option.none : Option Jvm.ClassFile.FieldType)) ∈ lw_all := lw_g (lw_at lw_m2 201 rfl) rfl
theorem q557 : (Jvm.Cond.methodLink "OneCoin$Reader" (60 : Nat) ({ cls := "OneCoin$Reader", name := "sum", desc := "()LOneCoin$Sum;" } : Jvm.MethodName)) ∈ lw_all := lw_g (lw_at lw_m2 202 rfl) rfl
theorem q558 : (Jvm.Cond.privateMethod ({ cls := "OneCoin$Reader", name := "sum", desc := "()LOneCoin$Sum;" } : Jvm.MethodName)) ∈ lw_tbl := lw_at lw_m2 203 rfl
theorem q559 : (Jvm.Cond.instanceMethod ({ cls := "OneCoin$Reader", name := "sum", desc := "()LOneCoin$Sum;" } : Jvm.MethodName)) ∈ lw_all := lw_g (lw_at lw_m2 204 rfl) rfl
theorem q560 : (Jvm.Cond.code ({ cls := "OneCoin$Reader", name := "sum", desc := "()LOneCoin$Sum;" } : Jvm.MethodName) prog_13_method_11_code (4 : Nat) (Option.some (Jvm.ClassFile.FieldType.object "OneCoin$Sum"))) ∈ lw_all := lw_g (lw_at lw_m2 205 rfl) rfl
theorem q561 : (Jvm.Cond.classLink "OneCoin$Reader" (86 : Nat) "OneCoin$Row") ∈ lw_all := lw_g (lw_at lw_m2 206 rfl) rfl
theorem q563 : (Jvm.Cond.methodLink "OneCoin$Reader" (98 : Nat) ({ cls := "OneCoin$Reader", name := "product", desc := "()LOneCoin$Sum;" } : Jvm.MethodName)) ∈ lw_all := lw_g (lw_at lw_m2 208 rfl) rfl
theorem q564 : (Jvm.Cond.privateMethod ({ cls := "OneCoin$Reader", name := "product", desc := "()LOneCoin$Sum;" } : Jvm.MethodName)) ∈ lw_tbl := lw_at lw_m2 209 rfl
theorem q565 : (Jvm.Cond.instanceMethod ({ cls := "OneCoin$Reader", name := "product", desc := "()LOneCoin$Sum;" } : Jvm.MethodName)) ∈ lw_all := lw_g (lw_at lw_m2 210 rfl) rfl
theorem q566 : (Jvm.Cond.code ({ cls := "OneCoin$Reader", name := "product", desc := "()LOneCoin$Sum;" } : Jvm.MethodName) prog_13_method_10_code (4 : Nat) (Option.some (Jvm.ClassFile.FieldType.object "OneCoin$Sum"))) ∈ lw_all := lw_g (lw_at lw_m2 211 rfl) rfl
theorem q567 : (Jvm.Cond.methodLink "OneCoin$Reader" (88 : Nat) ({ cls := "OneCoin$Reader", name := "factor", desc := "()LOneCoin$Sum;" } : Jvm.MethodName)) ∈ lw_all := lw_g (lw_at lw_m2 212 rfl) rfl
theorem q568 : (Jvm.Cond.privateMethod ({ cls := "OneCoin$Reader", name := "factor", desc := "()LOneCoin$Sum;" } : Jvm.MethodName)) ∈ lw_tbl := lw_at lw_m2 213 rfl
theorem q569 : (Jvm.Cond.instanceMethod ({ cls := "OneCoin$Reader", name := "factor", desc := "()LOneCoin$Sum;" } : Jvm.MethodName)) ∈ lw_all := lw_g (lw_at lw_m2 214 rfl) rfl
theorem q570 : (Jvm.Cond.code ({ cls := "OneCoin$Reader", name := "factor", desc := "()LOneCoin$Sum;" } : Jvm.MethodName) prog_13_method_9_code (3 : Nat) (Option.some (Jvm.ClassFile.FieldType.object "OneCoin$Sum"))) ∈ lw_all := lw_g (lw_at lw_m2 215 rfl) rfl
theorem q571 : (Jvm.Cond.methodLink "OneCoin$Reader" (57 : Nat) ({ cls := "OneCoin$Reader", name := "opens", desc := "()V" } : Jvm.MethodName)) ∈ lw_all := lw_g (lw_at lw_m2 216 rfl) rfl
theorem q572 : (Jvm.Cond.privateMethod ({ cls := "OneCoin$Reader", name := "opens", desc := "()V" } : Jvm.MethodName)) ∈ lw_tbl := lw_at lw_m2 217 rfl
theorem q573 : (Jvm.Cond.instanceMethod ({ cls := "OneCoin$Reader", name := "opens", desc := "()V" } : Jvm.MethodName)) ∈ lw_all := lw_g (lw_at lw_m2 218 rfl) rfl
theorem q574 : (Jvm.Cond.code ({ cls := "OneCoin$Reader", name := "opens", desc := "()V" } : Jvm.MethodName) prog_13_method_8_code (1 : Nat) (Option.none : Option Jvm.ClassFile.FieldType)) ∈ lw_all := lw_g (lw_at lw_m2 219 rfl) rfl
theorem q575 : (Jvm.Cond.methodLink "OneCoin$Reader" (64 : Nat) ({ cls := "OneCoin$Reader", name := "must", desc := "(I)V" } : Jvm.MethodName)) ∈ lw_all := lw_g (lw_at lw_m2 220 rfl) rfl
theorem q576 : (Jvm.Cond.privateMethod ({ cls := "OneCoin$Reader", name := "must", desc := "(I)V" } : Jvm.MethodName)) ∈ lw_tbl := lw_at lw_m2 221 rfl
theorem q577 : (Jvm.Cond.instanceMethod ({ cls := "OneCoin$Reader", name := "must", desc := "(I)V" } : Jvm.MethodName)) ∈ lw_all := lw_g (lw_at lw_m2 222 rfl) rfl
theorem q578 : (Jvm.Cond.code ({ cls := "OneCoin$Reader", name := "must", desc := "(I)V" } : Jvm.MethodName) prog_13_method_7_code (2 : Nat) (Option.none : Option Jvm.ClassFile.FieldType)) ∈ lw_all := lw_g (lw_at lw_m2 223 rfl) rfl
theorem q579 : (Jvm.Cond.methodLink "OneCoin$Reader" (47 : Nat) ({ cls := "OneCoin$Reader", name := "seesDigit", desc := "()Z" } : Jvm.MethodName)) ∈ lw_all := lw_g (lw_at lw_m2 224 rfl) rfl
theorem q580 : (Jvm.Cond.privateMethod ({ cls := "OneCoin$Reader", name := "seesDigit", desc := "()Z" } : Jvm.MethodName)) ∈ lw_tbl := lw_at lw_m2 225 rfl
theorem q581 : (Jvm.Cond.instanceMethod ({ cls := "OneCoin$Reader", name := "seesDigit", desc := "()Z" } : Jvm.MethodName)) ∈ lw_all := lw_g (lw_at lw_m2 226 rfl) rfl
theorem q582 : (Jvm.Cond.code ({ cls := "OneCoin$Reader", name := "seesDigit", desc := "()Z" } : Jvm.MethodName) prog_13_method_5_code (1 : Nat) (Option.some Jvm.ClassFile.FieldType.boolean)) ∈ lw_all := lw_g (lw_at lw_m2 227 rfl) rfl
theorem q583 : (Jvm.Cond.classLink "OneCoin$Reader" (68 : Nat) "OneCoin$Number") ∈ lw_all := lw_g (lw_at lw_m2 228 rfl) rfl
theorem q585 : (Jvm.Cond.methodLink "OneCoin$Reader" (70 : Nat) ({ cls := "OneCoin$Reader", name := "number", desc := "()I" } : Jvm.MethodName)) ∈ lw_all := lw_g (lw_at lw_m2 230 rfl) rfl
theorem q586 : (Jvm.Cond.privateMethod ({ cls := "OneCoin$Reader", name := "number", desc := "()I" } : Jvm.MethodName)) ∈ lw_tbl := lw_at lw_m2 231 rfl
theorem q587 : (Jvm.Cond.instanceMethod ({ cls := "OneCoin$Reader", name := "number", desc := "()I" } : Jvm.MethodName)) ∈ lw_all := lw_g (lw_at lw_m2 232 rfl) rfl
theorem q588 : (Jvm.Cond.code ({ cls := "OneCoin$Reader", name := "number", desc := "()I" } : Jvm.MethodName) prog_13_method_6_code (3 : Nat) (Option.some Jvm.ClassFile.FieldType.int)) ∈ lw_all := lw_g (lw_at lw_m2 233 rfl) rfl
theorem q589 : (Jvm.Cond.methodLink "OneCoin$Reader" (73 : Nat) ({ cls := "OneCoin$Number", name := "<init>", desc := "(I)V" } : Jvm.MethodName)) ∈ lw_all := lw_g (lw_at lw_m2 234 rfl) rfl
theorem q600 : (Jvm.Cond.stringRef "OneCoin$Reader" (75 : Nat) "hcnowgty") ∈ lw_tbl := lw_at lw_m3 5 rfl
theorem q601 : (Jvm.Cond.classLink "OneCoin$Reader" (83 : Nat) "OneCoin$Letter") ∈ lw_all := lw_g (lw_at lw_m3 6 rfl) rfl
theorem q603 : (Jvm.Cond.methodLink "OneCoin$Reader" (85 : Nat) ({ cls := "OneCoin$Letter", name := "<init>", desc := "(I)V" } : Jvm.MethodName)) ∈ lw_all := lw_g (lw_at lw_m3 8 rfl) rfl
theorem q611 : (Jvm.Cond.methodLink "OneCoin$Reader" (91 : Nat) ({ cls := "OneCoin$Row", name := "<init>", desc := "(ILOneCoin$Sum;)V" } : Jvm.MethodName)) ∈ lw_all := lw_g (lw_at lw_m3 16 rfl) rfl
theorem q618 : (Jvm.Cond.fieldLinkNest "OneCoin$Reader" (94 : Nat) "OneCoin$Row" "next" "LOneCoin$Row;" "OneCoin") ∈ lw_tbl := lw_at lw_m3 23 rfl
theorem q626 : (Jvm.Cond.methodLink "OneCoin$Reader" (110 : Nat) ({ cls := "OneCoin$Reader", name := "condition", desc := "()LOneCoin$Condition;" } : Jvm.MethodName)) ∈ lw_all := lw_g (lw_at lw_m3 31 rfl) rfl
theorem q627 : (Jvm.Cond.privateMethod ({ cls := "OneCoin$Reader", name := "condition", desc := "()LOneCoin$Condition;" } : Jvm.MethodName)) ∈ lw_tbl := lw_at lw_m3 32 rfl
theorem q628 : (Jvm.Cond.instanceMethod ({ cls := "OneCoin$Reader", name := "condition", desc := "()LOneCoin$Condition;" } : Jvm.MethodName)) ∈ lw_all := lw_g (lw_at lw_m3 33 rfl) rfl
theorem q629 : (Jvm.Cond.code ({ cls := "OneCoin$Reader", name := "condition", desc := "()LOneCoin$Condition;" } : Jvm.MethodName) prog_13_method_14_code (3 : Nat) (Option.some (Jvm.ClassFile.FieldType.object "OneCoin$Condition"))) ∈ lw_all := lw_g (lw_at lw_m3 34 rfl) rfl
theorem q630 : (Jvm.Cond.classLink "OneCoin$Reader" (118 : Nat) "OneCoin$Some") ∈ lw_all := lw_g (lw_at lw_m3 35 rfl) rfl
theorem q632 : (Jvm.Cond.methodLink "OneCoin$Reader" (126 : Nat) ({ cls := "OneCoin$Reader", name := "pieces", desc := "()LOneCoin$Condition;" } : Jvm.MethodName)) ∈ lw_all := lw_g (lw_at lw_m3 37 rfl) rfl
theorem q633 : (Jvm.Cond.privateMethod ({ cls := "OneCoin$Reader", name := "pieces", desc := "()LOneCoin$Condition;" } : Jvm.MethodName)) ∈ lw_tbl := lw_at lw_m3 38 rfl
theorem q634 : (Jvm.Cond.instanceMethod ({ cls := "OneCoin$Reader", name := "pieces", desc := "()LOneCoin$Condition;" } : Jvm.MethodName)) ∈ lw_all := lw_g (lw_at lw_m3 39 rfl) rfl
theorem q635 : (Jvm.Cond.code ({ cls := "OneCoin$Reader", name := "pieces", desc := "()LOneCoin$Condition;" } : Jvm.MethodName) prog_13_method_13_code (3 : Nat) (Option.some (Jvm.ClassFile.FieldType.object "OneCoin$Condition"))) ∈ lw_all := lw_g (lw_at lw_m3 40 rfl) rfl
theorem q636 : (Jvm.Cond.methodLink "OneCoin$Reader" (101 : Nat) ({ cls := "OneCoin$Reader", name := "piece", desc := "()LOneCoin$Condition;" } : Jvm.MethodName)) ∈ lw_all := lw_g (lw_at lw_m3 41 rfl) rfl
theorem q637 : (Jvm.Cond.privateMethod ({ cls := "OneCoin$Reader", name := "piece", desc := "()LOneCoin$Condition;" } : Jvm.MethodName)) ∈ lw_tbl := lw_at lw_m3 42 rfl
theorem q638 : (Jvm.Cond.instanceMethod ({ cls := "OneCoin$Reader", name := "piece", desc := "()LOneCoin$Condition;" } : Jvm.MethodName)) ∈ lw_all := lw_g (lw_at lw_m3 43 rfl) rfl
theorem q639 : (Jvm.Cond.code ({ cls := "OneCoin$Reader", name := "piece", desc := "()LOneCoin$Condition;" } : Jvm.MethodName) prog_13_method_12_code (4 : Nat) (Option.some (Jvm.ClassFile.FieldType.object "OneCoin$Condition"))) ∈ lw_all := lw_g (lw_at lw_m3 44 rfl) rfl
theorem q640 : (Jvm.Cond.classLink "OneCoin$Reader" (105 : Nat) "OneCoin$Not") ∈ lw_all := lw_g (lw_at lw_m3 45 rfl) rfl
theorem q642 : (Jvm.Cond.methodLink "OneCoin$Reader" (107 : Nat) ({ cls := "OneCoin$Not", name := "<init>", desc := "(LOneCoin$Condition;)V" } : Jvm.MethodName)) ∈ lw_all := lw_g (lw_at lw_m3 47 rfl) rfl
theorem q653 : (Jvm.Cond.classLink "OneCoin$Reader" (113 : Nat) "OneCoin$Compared") ∈ lw_all := lw_g (lw_at lw_m3 58 rfl) rfl
theorem q655 : (Jvm.Cond.methodLink "OneCoin$Reader" (115 : Nat) ({ cls := "OneCoin$Compared", name := "<init>", desc := "(LOneCoin$Sum;ILOneCoin$Sum;)V" } : Jvm.MethodName)) ∈ lw_all := lw_g (lw_at lw_m3 60 rfl) rfl
theorem q669 : (Jvm.Cond.methodLink "OneCoin$Reader" (120 : Nat) ({ cls := "OneCoin$Some", name := "<init>", desc := "(LOneCoin$Condition;I)V" } : Jvm.MethodName)) ∈ lw_all := lw_g (lw_at lw_m3 74 rfl) rfl
theorem q676 : (Jvm.Cond.fieldLinkNest "OneCoin$Reader" (123 : Nat) "OneCoin$Some" "next" "LOneCoin$Some;" "OneCoin") ∈ lw_tbl := lw_at lw_m3 81 rfl
theorem in_X7 : ∀ w ∈ wsX70, w ∈ lw_all := lw_in wsX70 [435, 437, 439, 441, 443, 445, 447] (by decide +kernel) (by decide +kernel)
/-! OneCoin$Scribe -/
set_option maxRecDepth 100000
def RX16 : String := "OneCoin$Scribe"
abbrev cX16_init : ByteArray := prog_15_method_1_code
def yX16_init : MethodName := ⟨RX16, "<init>", "(LOneCoin;I)V"⟩
def dkwX16_init_0 : List UInt8 := [42, 43, 181, 0, 3, 42, 183, 0, 9, 42, 28, 181, 0, 15, 177]
abbrev dktX16_init_0 : List UInt8 := dkwX16_init_0 ++ []
theorem dksX16_init_0 : cX16_init.data.toList.drop 0 = dktX16_init_0 := by decide +kernel
theorem dX16_init_0 : decode cX16_init 0 = .ok (.aload_n 0, 1) := dk_42 (dk_at dksX16_init_0 0 rfl rfl)
theorem dX16_init_1 : decode cX16_init 1 = .ok (.aload_n 1, 1) := dk_43 (dk_at dksX16_init_0 1 rfl rfl)
theorem dX16_init_2 : decode cX16_init 2 = .ok (.putfield 3, 3) := dk_181 0 3 (dk_at dksX16_init_0 2 rfl rfl)
theorem dX16_init_5 : decode cX16_init 5 = .ok (.aload_n 0, 1) := dk_42 (dk_at dksX16_init_0 5 rfl rfl)
theorem dX16_init_6 : decode cX16_init 6 = .ok (.invokespecial 9, 3) := dk_183 0 9 (dk_at dksX16_init_0 6 rfl rfl)
theorem dX16_init_9 : decode cX16_init 9 = .ok (.aload_n 0, 1) := dk_42 (dk_at dksX16_init_0 9 rfl rfl)
theorem dX16_init_10 : decode cX16_init 10 = .ok (.iload_n 2, 1) := dk_28 (dk_at dksX16_init_0 10 rfl rfl)
theorem dX16_init_11 : decode cX16_init 11 = .ok (.putfield 15, 3) := dk_181 0 15 (dk_at dksX16_init_0 11 rfl rfl)
theorem dX16_init_14 : decode cX16_init 14 = .ok (.return_, 1) := dk_177 (dk_at dksX16_init_0 14 rfl rfl)
abbrev cX16_seesPerson : ByteArray := prog_15_method_10_code
def yX16_seesPerson : MethodName := ⟨RX16, "seesPerson", "()Z"⟩
def dkwX16_seesPerson_0 : List UInt8 := [42, 16, 97, 16, 106, 182, 0, 40, 172]
abbrev dktX16_seesPerson_0 : List UInt8 := dkwX16_seesPerson_0 ++ []
theorem dksX16_seesPerson_0 : cX16_seesPerson.data.toList.drop 0 = dktX16_seesPerson_0 := by decide +kernel
theorem dX16_seesPerson_0 : decode cX16_seesPerson 0 = .ok (.aload_n 0, 1) := dk_42 (dk_at dksX16_seesPerson_0 0 rfl rfl)
theorem dX16_seesPerson_1 : decode cX16_seesPerson 1 = .ok (.bipush 97, 2) := dk_16 97 (dk_at dksX16_seesPerson_0 1 rfl rfl)
theorem dX16_seesPerson_3 : decode cX16_seesPerson 3 = .ok (.bipush 106, 2) := dk_16 106 (dk_at dksX16_seesPerson_0 3 rfl rfl)
theorem dX16_seesPerson_5 : decode cX16_seesPerson 5 = .ok (.invokevirtual 40, 3) := dk_182 0 40 (dk_at dksX16_seesPerson_0 5 rfl rfl)
theorem dX16_seesPerson_8 : decode cX16_seesPerson 8 = .ok (.ireturn, 1) := dk_172 (dk_at dksX16_seesPerson_0 8 rfl rfl)
abbrev cX16_sees : ByteArray := prog_15_method_9_code
def yX16_sees : MethodName := ⟨RX16, "sees", "(II)Z"⟩
def dkwX16_sees_0 : List UInt8 := [42, 182, 0, 36, 27, 161, 0, 15, 42, 182, 0, 36, 28, 163, 0, 7, 4, 167, 0, 4, 3, 172]
abbrev dktX16_sees_0 : List UInt8 := dkwX16_sees_0 ++ []
theorem dksX16_sees_0 : cX16_sees.data.toList.drop 0 = dktX16_sees_0 := by decide +kernel
theorem dX16_sees_0 : decode cX16_sees 0 = .ok (.aload_n 0, 1) := dk_42 (dk_at dksX16_sees_0 0 rfl rfl)
theorem dX16_sees_1 : decode cX16_sees 1 = .ok (.invokevirtual 36, 3) := dk_182 0 36 (dk_at dksX16_sees_0 1 rfl rfl)
theorem dX16_sees_4 : decode cX16_sees 4 = .ok (.iload_n 1, 1) := dk_27 (dk_at dksX16_sees_0 4 rfl rfl)
theorem dX16_sees_5 : decode cX16_sees 5 = .ok (.if_icmp .lt 15, 3) := dk_161 0 15 (dk_at dksX16_sees_0 5 rfl rfl)
theorem dX16_sees_8 : decode cX16_sees 8 = .ok (.aload_n 0, 1) := dk_42 (dk_at dksX16_sees_0 8 rfl rfl)
theorem dX16_sees_9 : decode cX16_sees 9 = .ok (.invokevirtual 36, 3) := dk_182 0 36 (dk_at dksX16_sees_0 9 rfl rfl)
theorem dX16_sees_12 : decode cX16_sees 12 = .ok (.iload_n 2, 1) := dk_28 (dk_at dksX16_sees_0 12 rfl rfl)
theorem dX16_sees_13 : decode cX16_sees 13 = .ok (.if_icmp .gt 7, 3) := dk_163 0 7 (dk_at dksX16_sees_0 13 rfl rfl)
theorem dX16_sees_16 : decode cX16_sees 16 = .ok (.iconst 1, 1) := dk_4 (dk_at dksX16_sees_0 16 rfl rfl)
theorem dX16_sees_17 : decode cX16_sees 17 = .ok (.goto 4, 3) := dk_167 0 4 (dk_at dksX16_sees_0 17 rfl rfl)
theorem dX16_sees_20 : decode cX16_sees 20 = .ok (.iconst 0, 1) := dk_3 (dk_at dksX16_sees_0 20 rfl rfl)
theorem dX16_sees_21 : decode cX16_sees 21 = .ok (.ireturn, 1) := dk_172 (dk_at dksX16_sees_0 21 rfl rfl)
abbrev cX16_here : ByteArray := prog_15_method_2_code
def yX16_here : MethodName := ⟨RX16, "here", "()I"⟩
def dkwX16_here_1 : List UInt8 := [17, 0, 255, 126, 167, 0, 4, 3, 172]
abbrev dktX16_here_1 : List UInt8 := dkwX16_here_1 ++ []
def dkwX16_here_0 : List UInt8 := [42, 180, 0, 19, 42, 180, 0, 15, 162, 0, 22, 42, 180, 0, 3, 180, 0, 22, 42, 180, 0, 19, 51]
abbrev dktX16_here_0 : List UInt8 := dkwX16_here_0 ++ dktX16_here_1
theorem dksX16_here_0 : cX16_here.data.toList.drop 0 = dktX16_here_0 := by decide +kernel
theorem dksX16_here_1 : cX16_here.data.toList.drop 23 = dktX16_here_1 := dk_seg dksX16_here_0 23 rfl rfl
theorem dX16_here_0 : decode cX16_here 0 = .ok (.aload_n 0, 1) := dk_42 (dk_at dksX16_here_0 0 rfl rfl)
theorem dX16_here_1 : decode cX16_here 1 = .ok (.getfield 19, 3) := dk_180 0 19 (dk_at dksX16_here_0 1 rfl rfl)
theorem dX16_here_4 : decode cX16_here 4 = .ok (.aload_n 0, 1) := dk_42 (dk_at dksX16_here_0 4 rfl rfl)
theorem dX16_here_5 : decode cX16_here 5 = .ok (.getfield 15, 3) := dk_180 0 15 (dk_at dksX16_here_0 5 rfl rfl)
theorem dX16_here_8 : decode cX16_here 8 = .ok (.if_icmp .ge 22, 3) := dk_162 0 22 (dk_at dksX16_here_0 8 rfl rfl)
theorem dX16_here_11 : decode cX16_here 11 = .ok (.aload_n 0, 1) := dk_42 (dk_at dksX16_here_0 11 rfl rfl)
theorem dX16_here_12 : decode cX16_here 12 = .ok (.getfield 3, 3) := dk_180 0 3 (dk_at dksX16_here_0 12 rfl rfl)
theorem dX16_here_15 : decode cX16_here 15 = .ok (.getfield 22, 3) := dk_180 0 22 (dk_at dksX16_here_0 15 rfl rfl)
theorem dX16_here_18 : decode cX16_here 18 = .ok (.aload_n 0, 1) := dk_42 (dk_at dksX16_here_0 18 rfl rfl)
theorem dX16_here_19 : decode cX16_here 19 = .ok (.getfield 19, 3) := dk_180 0 19 (dk_at dksX16_here_0 19 rfl rfl)
theorem dX16_here_22 : decode cX16_here 22 = .ok (.baload, 1) := dk_51 (dk_at dksX16_here_0 22 rfl rfl)
theorem dX16_here_23 : decode cX16_here 23 = .ok (.sipush 255, 3) := dk_17 0 255 (dk_at dksX16_here_1 0 rfl rfl)
theorem dX16_here_26 : decode cX16_here 26 = .ok (.iand, 1) := dk_126 (dk_at dksX16_here_1 3 rfl rfl)
theorem dX16_here_27 : decode cX16_here 27 = .ok (.goto 4, 3) := dk_167 0 4 (dk_at dksX16_here_1 4 rfl rfl)
theorem dX16_here_30 : decode cX16_here 30 = .ok (.iconst 0, 1) := dk_3 (dk_at dksX16_here_1 7 rfl rfl)
theorem dX16_here_31 : decode cX16_here 31 = .ok (.ireturn, 1) := dk_172 (dk_at dksX16_here_1 8 rfl rfl)
abbrev cX16_place : ByteArray := prog_15_method_3_code
def yX16_place : MethodName := ⟨RX16, "place", "()I"⟩
theorem dX16_place_0 : decode cX16_place 0 = .ok (.aload_n 0, 1) := by decide +kernel
theorem dX16_place_1 : decode cX16_place 1 = .ok (.getfield 19, 3) := by decide +kernel
theorem dX16_place_4 : decode cX16_place 4 = .ok (.ireturn, 1) := by decide +kernel
abbrev cX16_bad : ByteArray := prog_15_method_6_code
def yX16_bad : MethodName := ⟨RX16, "bad", "(II)V"⟩
def dkwX16_bad_0 : List UInt8 := [42, 180, 0, 26, 158, 0, 4, 177, 42, 27, 181, 0, 26, 42, 28, 181, 0, 29, 177]
abbrev dktX16_bad_0 : List UInt8 := dkwX16_bad_0 ++ []
theorem dksX16_bad_0 : cX16_bad.data.toList.drop 0 = dktX16_bad_0 := by decide +kernel
theorem dX16_bad_0 : decode cX16_bad 0 = .ok (.aload_n 0, 1) := dk_42 (dk_at dksX16_bad_0 0 rfl rfl)
theorem dX16_bad_1 : decode cX16_bad 1 = .ok (.getfield 26, 3) := dk_180 0 26 (dk_at dksX16_bad_0 1 rfl rfl)
theorem dX16_bad_4 : decode cX16_bad 4 = .ok (.ifCond .le 4, 3) := dk_158 0 4 (dk_at dksX16_bad_0 4 rfl rfl)
theorem dX16_bad_7 : decode cX16_bad 7 = .ok (.return_, 1) := dk_177 (dk_at dksX16_bad_0 7 rfl rfl)
theorem dX16_bad_8 : decode cX16_bad 8 = .ok (.aload_n 0, 1) := dk_42 (dk_at dksX16_bad_0 8 rfl rfl)
theorem dX16_bad_9 : decode cX16_bad 9 = .ok (.iload_n 1, 1) := dk_27 (dk_at dksX16_bad_0 9 rfl rfl)
theorem dX16_bad_10 : decode cX16_bad 10 = .ok (.putfield 26, 3) := dk_181 0 26 (dk_at dksX16_bad_0 10 rfl rfl)
theorem dX16_bad_13 : decode cX16_bad 13 = .ok (.aload_n 0, 1) := dk_42 (dk_at dksX16_bad_0 13 rfl rfl)
theorem dX16_bad_14 : decode cX16_bad 14 = .ok (.iload_n 2, 1) := dk_28 (dk_at dksX16_bad_0 14 rfl rfl)
theorem dX16_bad_15 : decode cX16_bad 15 = .ok (.putfield 29, 3) := dk_181 0 29 (dk_at dksX16_bad_0 15 rfl rfl)
theorem dX16_bad_18 : decode cX16_bad 18 = .ok (.return_, 1) := dk_177 (dk_at dksX16_bad_0 18 rfl rfl)
abbrev cX16_goes : ByteArray := prog_15_method_4_code
def yX16_goes : MethodName := ⟨RX16, "goes", "()V"⟩
def dkwX16_goes_0 : List UInt8 := [42, 89, 180, 0, 19, 4, 96, 181, 0, 19, 177]
abbrev dktX16_goes_0 : List UInt8 := dkwX16_goes_0 ++ []
theorem dksX16_goes_0 : cX16_goes.data.toList.drop 0 = dktX16_goes_0 := by decide +kernel
theorem dX16_goes_0 : decode cX16_goes 0 = .ok (.aload_n 0, 1) := dk_42 (dk_at dksX16_goes_0 0 rfl rfl)
theorem dX16_goes_1 : decode cX16_goes 1 = .ok (.dup, 1) := dk_89 (dk_at dksX16_goes_0 1 rfl rfl)
theorem dX16_goes_2 : decode cX16_goes 2 = .ok (.getfield 19, 3) := dk_180 0 19 (dk_at dksX16_goes_0 2 rfl rfl)
theorem dX16_goes_5 : decode cX16_goes 5 = .ok (.iconst 1, 1) := dk_4 (dk_at dksX16_goes_0 5 rfl rfl)
theorem dX16_goes_6 : decode cX16_goes 6 = .ok (.iadd, 1) := dk_96 (dk_at dksX16_goes_0 6 rfl rfl)
theorem dX16_goes_7 : decode cX16_goes 7 = .ok (.putfield 19, 3) := dk_181 0 19 (dk_at dksX16_goes_0 7 rfl rfl)
theorem dX16_goes_10 : decode cX16_goes 10 = .ok (.return_, 1) := dk_177 (dk_at dksX16_goes_0 10 rfl rfl)
abbrev cX16_isGood : ByteArray := prog_15_method_7_code
def yX16_isGood : MethodName := ⟨RX16, "isGood", "()Z"⟩
def dkwX16_isGood_0 : List UInt8 := [42, 180, 0, 26, 154, 0, 7, 4, 167, 0, 4, 3, 172]
abbrev dktX16_isGood_0 : List UInt8 := dkwX16_isGood_0 ++ []
theorem dksX16_isGood_0 : cX16_isGood.data.toList.drop 0 = dktX16_isGood_0 := by decide +kernel
theorem dX16_isGood_0 : decode cX16_isGood 0 = .ok (.aload_n 0, 1) := dk_42 (dk_at dksX16_isGood_0 0 rfl rfl)
theorem dX16_isGood_1 : decode cX16_isGood 1 = .ok (.getfield 26, 3) := dk_180 0 26 (dk_at dksX16_isGood_0 1 rfl rfl)
theorem dX16_isGood_4 : decode cX16_isGood 4 = .ok (.ifCond .ne 7, 3) := dk_154 0 7 (dk_at dksX16_isGood_0 4 rfl rfl)
theorem dX16_isGood_7 : decode cX16_isGood 7 = .ok (.iconst 1, 1) := dk_4 (dk_at dksX16_isGood_0 7 rfl rfl)
theorem dX16_isGood_8 : decode cX16_isGood 8 = .ok (.goto 4, 3) := dk_167 0 4 (dk_at dksX16_isGood_0 8 rfl rfl)
theorem dX16_isGood_11 : decode cX16_isGood 11 = .ok (.iconst 0, 1) := dk_3 (dk_at dksX16_isGood_0 11 rfl rfl)
theorem dX16_isGood_12 : decode cX16_isGood 12 = .ok (.ireturn, 1) := dk_172 (dk_at dksX16_isGood_0 12 rfl rfl)
abbrev cX16_isEnd : ByteArray := prog_15_method_5_code
def yX16_isEnd : MethodName := ⟨RX16, "isEnd", "()Z"⟩
def dkwX16_isEnd_0 : List UInt8 := [42, 180, 0, 19, 42, 180, 0, 15, 161, 0, 7, 4, 167, 0, 4, 3, 172]
abbrev dktX16_isEnd_0 : List UInt8 := dkwX16_isEnd_0 ++ []
theorem dksX16_isEnd_0 : cX16_isEnd.data.toList.drop 0 = dktX16_isEnd_0 := by decide +kernel
theorem dX16_isEnd_0 : decode cX16_isEnd 0 = .ok (.aload_n 0, 1) := dk_42 (dk_at dksX16_isEnd_0 0 rfl rfl)
theorem dX16_isEnd_1 : decode cX16_isEnd 1 = .ok (.getfield 19, 3) := dk_180 0 19 (dk_at dksX16_isEnd_0 1 rfl rfl)
theorem dX16_isEnd_4 : decode cX16_isEnd 4 = .ok (.aload_n 0, 1) := dk_42 (dk_at dksX16_isEnd_0 4 rfl rfl)
theorem dX16_isEnd_5 : decode cX16_isEnd 5 = .ok (.getfield 15, 3) := dk_180 0 15 (dk_at dksX16_isEnd_0 5 rfl rfl)
theorem dX16_isEnd_8 : decode cX16_isEnd 8 = .ok (.if_icmp .lt 7, 3) := dk_161 0 7 (dk_at dksX16_isEnd_0 8 rfl rfl)
theorem dX16_isEnd_11 : decode cX16_isEnd 11 = .ok (.iconst 1, 1) := dk_4 (dk_at dksX16_isEnd_0 11 rfl rfl)
theorem dX16_isEnd_12 : decode cX16_isEnd 12 = .ok (.goto 4, 3) := dk_167 0 4 (dk_at dksX16_isEnd_0 12 rfl rfl)
theorem dX16_isEnd_15 : decode cX16_isEnd 15 = .ok (.iconst 0, 1) := dk_3 (dk_at dksX16_isEnd_0 15 rfl rfl)
theorem dX16_isEnd_16 : decode cX16_isEnd 16 = .ok (.ireturn, 1) := dk_172 (dk_at dksX16_isEnd_0 16 rfl rfl)
abbrev cX16_answer : ByteArray := prog_15_method_8_code
def yX16_answer : MethodName := ⟨RX16, "answer", "(I)I"⟩
def dkwX16_answer_1 : List UInt8 := [172]
abbrev dktX16_answer_1 : List UInt8 := dkwX16_answer_1 ++ []
def dkwX16_answer_0 : List UInt8 := [42, 182, 0, 32, 153, 0, 7, 27, 167, 0, 16, 17, 252, 24, 42, 180, 0, 26, 104, 42, 180, 0, 29, 100]
abbrev dktX16_answer_0 : List UInt8 := dkwX16_answer_0 ++ dktX16_answer_1
theorem dksX16_answer_0 : cX16_answer.data.toList.drop 0 = dktX16_answer_0 := by decide +kernel
theorem dksX16_answer_1 : cX16_answer.data.toList.drop 24 = dktX16_answer_1 := dk_seg dksX16_answer_0 24 rfl rfl
theorem dX16_answer_0 : decode cX16_answer 0 = .ok (.aload_n 0, 1) := dk_42 (dk_at dksX16_answer_0 0 rfl rfl)
theorem dX16_answer_1 : decode cX16_answer 1 = .ok (.invokevirtual 32, 3) := dk_182 0 32 (dk_at dksX16_answer_0 1 rfl rfl)
theorem dX16_answer_4 : decode cX16_answer 4 = .ok (.ifCond .eq 7, 3) := dk_153 0 7 (dk_at dksX16_answer_0 4 rfl rfl)
theorem dX16_answer_7 : decode cX16_answer 7 = .ok (.iload_n 1, 1) := dk_27 (dk_at dksX16_answer_0 7 rfl rfl)
theorem dX16_answer_8 : decode cX16_answer 8 = .ok (.goto 16, 3) := dk_167 0 16 (dk_at dksX16_answer_0 8 rfl rfl)
theorem dX16_answer_11 : decode cX16_answer 11 = .ok (.sipush (-1000), 3) := dk_17 252 24 (dk_at dksX16_answer_0 11 rfl rfl)
theorem dX16_answer_14 : decode cX16_answer 14 = .ok (.aload_n 0, 1) := dk_42 (dk_at dksX16_answer_0 14 rfl rfl)
theorem dX16_answer_15 : decode cX16_answer 15 = .ok (.getfield 26, 3) := dk_180 0 26 (dk_at dksX16_answer_0 15 rfl rfl)
theorem dX16_answer_18 : decode cX16_answer 18 = .ok (.imul, 1) := dk_104 (dk_at dksX16_answer_0 18 rfl rfl)
theorem dX16_answer_19 : decode cX16_answer 19 = .ok (.aload_n 0, 1) := dk_42 (dk_at dksX16_answer_0 19 rfl rfl)
theorem dX16_answer_20 : decode cX16_answer 20 = .ok (.getfield 29, 3) := dk_180 0 29 (dk_at dksX16_answer_0 20 rfl rfl)
theorem dX16_answer_23 : decode cX16_answer 23 = .ok (.isub, 1) := dk_100 (dk_at dksX16_answer_0 23 rfl rfl)
theorem dX16_answer_24 : decode cX16_answer 24 = .ok (.ireturn, 1) := dk_172 (dk_at dksX16_answer_1 0 rfl rfl)
theorem q138 : (Jvm.Cond.initialized "OneCoin$Scribe") ∈ lw_all := lw_g (lw_at lw_m1 23 rfl) rfl
theorem q320 : (Jvm.Cond.fieldLinkNest "OneCoin$Scribe" (22 : Nat) "OneCoin" "tape" "[B" "OneCoin") ∈ lw_tbl := lw_at lw_m1 205 rfl
theorem q694 : (Jvm.Cond.instanceMethod ({ cls := "OneCoin$Scribe", name := "<init>", desc := "(LOneCoin;I)V" } : Jvm.MethodName)) ∈ lw_all := lw_g (lw_at lw_m3 99 rfl) rfl
theorem q695 : (Jvm.Cond.code ({ cls := "OneCoin$Scribe", name := "<init>", desc := "(LOneCoin;I)V" } : Jvm.MethodName) prog_15_method_1_code (3 : Nat) (Option.none : Option Jvm.ClassFile.FieldType)) ∈ lw_all := lw_g (lw_at lw_m3 100 rfl) rfl
theorem q696 : (Jvm.Cond.methodLink "OneCoin$Scribe" (9 : Nat) ({ cls := "java/lang/Object", name := "<init>", desc := "()V" } : Jvm.MethodName)) ∈ lw_all := lw_g (lw_at lw_m3 101 rfl) rfl
theorem q703 : (Jvm.Cond.fieldLink "OneCoin$Scribe" (15 : Nat) "OneCoin$Scribe" "n" "I") ∈ lw_all := lw_g (lw_at lw_m3 108 rfl) rfl
theorem q704 : (Jvm.Cond.fieldLink "OneCoin$Scribe" (19 : Nat) "OneCoin$Scribe" "at" "I") ∈ lw_all := lw_g (lw_at lw_m3 109 rfl) rfl
theorem q705 : (Jvm.Cond.fieldLink "OneCoin$Scribe" (26 : Nat) "OneCoin$Scribe" "fault" "I") ∈ lw_all := lw_g (lw_at lw_m3 110 rfl) rfl
theorem q706 : (Jvm.Cond.fieldLink "OneCoin$Scribe" (29 : Nat) "OneCoin$Scribe" "place" "I") ∈ lw_all := lw_g (lw_at lw_m3 111 rfl) rfl
theorem q707 : (Jvm.Cond.fieldLink "OneCoin$Scribe" (3 : Nat) "OneCoin$Scribe" "this$0" "LOneCoin;") ∈ lw_all := lw_g (lw_at lw_m3 112 rfl) rfl
theorem q715 : (Jvm.Cond.soleField "OneCoin$Scribe" "n") ∈ lw_all := lw_g (lw_at lw_m3 120 rfl) rfl
theorem q717 : (Jvm.Cond.soleField "OneCoin$Scribe" "at") ∈ lw_all := lw_g (lw_at lw_m3 122 rfl) rfl
theorem q719 : (Jvm.Cond.soleField "OneCoin$Scribe" "fault") ∈ lw_all := lw_g (lw_at lw_m3 124 rfl) rfl
theorem q721 : (Jvm.Cond.soleField "OneCoin$Scribe" "place") ∈ lw_all := lw_g (lw_at lw_m3 126 rfl) rfl
theorem q723 : (Jvm.Cond.soleField "OneCoin$Scribe" "this$0") ∈ lw_all := lw_g (lw_at lw_m3 128 rfl) rfl
theorem q735 : (Jvm.Cond.declares ({ cls := "OneCoin$Scribe", name := "seesPerson", desc := "()Z" } : Jvm.MethodName)) ∈ lw_tbl := lw_at lw_m3 140 rfl
theorem q737 : (Jvm.Cond.instanceMethod ({ cls := "OneCoin$Scribe", name := "seesPerson", desc := "()Z" } : Jvm.MethodName)) ∈ lw_all := lw_g (lw_at lw_m3 142 rfl) rfl
theorem q738 : (Jvm.Cond.code ({ cls := "OneCoin$Scribe", name := "seesPerson", desc := "()Z" } : Jvm.MethodName) prog_15_method_10_code (1 : Nat) (Option.some Jvm.ClassFile.FieldType.boolean)) ∈ lw_all := lw_g (lw_at lw_m3 143 rfl) rfl
theorem q739 : (Jvm.Cond.methodLink "OneCoin$Scribe" (40 : Nat) ({ cls := "OneCoin$Scribe", name := "sees", desc := "(II)Z" } : Jvm.MethodName)) ∈ lw_all := lw_g (lw_at lw_m3 144 rfl) rfl
theorem q740 : (Jvm.Cond.instanceMethod ({ cls := "OneCoin$Scribe", name := "sees", desc := "(II)Z" } : Jvm.MethodName)) ∈ lw_all := lw_g (lw_at lw_m3 145 rfl) rfl
theorem q741 : (Jvm.Cond.sameMethod "OneCoin$Scribe" "OneCoin$Scribe" "sees" "(II)Z") ∈ lw_all := lw_g (lw_at lw_m3 146 rfl) rfl
theorem q744 : (Jvm.Cond.code ({ cls := "OneCoin$Scribe", name := "sees", desc := "(II)Z" } : Jvm.MethodName) prog_15_method_9_code (3 : Nat) (Option.some Jvm.ClassFile.FieldType.boolean)) ∈ lw_all := lw_g (lw_at lw_m3 149 rfl) rfl
theorem q745 : (Jvm.Cond.methodLink "OneCoin$Scribe" (36 : Nat) ({ cls := "OneCoin$Scribe", name := "here", desc := "()I" } : Jvm.MethodName)) ∈ lw_all := lw_g (lw_at lw_m3 150 rfl) rfl
theorem q746 : (Jvm.Cond.instanceMethod ({ cls := "OneCoin$Scribe", name := "here", desc := "()I" } : Jvm.MethodName)) ∈ lw_all := lw_g (lw_at lw_m3 151 rfl) rfl
theorem q747 : (Jvm.Cond.sameMethod "OneCoin$Scribe" "OneCoin$Scribe" "here" "()I") ∈ lw_all := lw_g (lw_at lw_m3 152 rfl) rfl
theorem q750 : (Jvm.Cond.code ({ cls := "OneCoin$Scribe", name := "here", desc := "()I" } : Jvm.MethodName) prog_15_method_2_code (1 : Nat) (Option.some Jvm.ClassFile.FieldType.int)) ∈ lw_all := lw_g (lw_at lw_m3 155 rfl) rfl
theorem q753 : (Jvm.Cond.declares ({ cls := "OneCoin$Scribe", name := "place", desc := "()I" } : Jvm.MethodName)) ∈ lw_tbl := lw_at lw_m3 158 rfl
theorem q755 : (Jvm.Cond.instanceMethod ({ cls := "OneCoin$Scribe", name := "place", desc := "()I" } : Jvm.MethodName)) ∈ lw_all := lw_g (lw_at lw_m3 160 rfl) rfl
theorem q756 : (Jvm.Cond.code ({ cls := "OneCoin$Scribe", name := "place", desc := "()I" } : Jvm.MethodName) prog_15_method_3_code (1 : Nat) (Option.some Jvm.ClassFile.FieldType.int)) ∈ lw_all := lw_g (lw_at lw_m3 161 rfl) rfl
theorem q759 : (Jvm.Cond.declares ({ cls := "OneCoin$Scribe", name := "bad", desc := "(II)V" } : Jvm.MethodName)) ∈ lw_tbl := lw_at lw_m3 164 rfl
theorem q761 : (Jvm.Cond.instanceMethod ({ cls := "OneCoin$Scribe", name := "bad", desc := "(II)V" } : Jvm.MethodName)) ∈ lw_all := lw_g (lw_at lw_m3 166 rfl) rfl
theorem q762 : (Jvm.Cond.code ({ cls := "OneCoin$Scribe", name := "bad", desc := "(II)V" } : Jvm.MethodName) prog_15_method_6_code (3 : Nat) (Option.none : Option Jvm.ClassFile.FieldType)) ∈ lw_all := lw_g (lw_at lw_m3 167 rfl) rfl
theorem q769 : (Jvm.Cond.declares ({ cls := "OneCoin$Scribe", name := "here", desc := "()I" } : Jvm.MethodName)) ∈ lw_tbl := lw_at lw_m3 174 rfl
theorem q774 : (Jvm.Cond.declares ({ cls := "OneCoin$Scribe", name := "goes", desc := "()V" } : Jvm.MethodName)) ∈ lw_tbl := lw_at lw_m3 179 rfl
theorem q776 : (Jvm.Cond.instanceMethod ({ cls := "OneCoin$Scribe", name := "goes", desc := "()V" } : Jvm.MethodName)) ∈ lw_all := lw_g (lw_at lw_m3 181 rfl) rfl
theorem q777 : (Jvm.Cond.code ({ cls := "OneCoin$Scribe", name := "goes", desc := "()V" } : Jvm.MethodName) prog_15_method_4_code (1 : Nat) (Option.none : Option Jvm.ClassFile.FieldType)) ∈ lw_all := lw_g (lw_at lw_m3 182 rfl) rfl
theorem q780 : (Jvm.Cond.declares ({ cls := "OneCoin$Scribe", name := "isGood", desc := "()Z" } : Jvm.MethodName)) ∈ lw_tbl := lw_at lw_m3 185 rfl
theorem q782 : (Jvm.Cond.instanceMethod ({ cls := "OneCoin$Scribe", name := "isGood", desc := "()Z" } : Jvm.MethodName)) ∈ lw_all := lw_g (lw_at lw_m3 187 rfl) rfl
theorem q783 : (Jvm.Cond.code ({ cls := "OneCoin$Scribe", name := "isGood", desc := "()Z" } : Jvm.MethodName) prog_15_method_7_code (1 : Nat) (Option.some Jvm.ClassFile.FieldType.boolean)) ∈ lw_all := lw_g (lw_at lw_m3 188 rfl) rfl
theorem q790 : (Jvm.Cond.declares ({ cls := "OneCoin$Scribe", name := "sees", desc := "(II)Z" } : Jvm.MethodName)) ∈ lw_tbl := lw_at lw_m3 195 rfl
theorem q795 : (Jvm.Cond.declares ({ cls := "OneCoin$Scribe", name := "isEnd", desc := "()Z" } : Jvm.MethodName)) ∈ lw_tbl := lw_at lw_m3 200 rfl
theorem q797 : (Jvm.Cond.instanceMethod ({ cls := "OneCoin$Scribe", name := "isEnd", desc := "()Z" } : Jvm.MethodName)) ∈ lw_all := lw_g (lw_at lw_m3 202 rfl) rfl
theorem q798 : (Jvm.Cond.code ({ cls := "OneCoin$Scribe", name := "isEnd", desc := "()Z" } : Jvm.MethodName) prog_15_method_5_code (1 : Nat) (Option.some Jvm.ClassFile.FieldType.boolean)) ∈ lw_all := lw_g (lw_at lw_m3 203 rfl) rfl
theorem q809 : (Jvm.Cond.declares ({ cls := "OneCoin$Scribe", name := "answer", desc := "(I)I" } : Jvm.MethodName)) ∈ lw_tbl := lw_at lw_m3 214 rfl
theorem q811 : (Jvm.Cond.instanceMethod ({ cls := "OneCoin$Scribe", name := "answer", desc := "(I)I" } : Jvm.MethodName)) ∈ lw_all := lw_g (lw_at lw_m3 216 rfl) rfl
theorem q812 : (Jvm.Cond.code ({ cls := "OneCoin$Scribe", name := "answer", desc := "(I)I" } : Jvm.MethodName) prog_15_method_8_code (2 : Nat) (Option.some Jvm.ClassFile.FieldType.int)) ∈ lw_all := lw_g (lw_at lw_m3 217 rfl) rfl
theorem q813 : (Jvm.Cond.methodLink "OneCoin$Scribe" (32 : Nat) ({ cls := "OneCoin$Scribe", name := "isGood", desc := "()Z" } : Jvm.MethodName)) ∈ lw_all := lw_g (lw_at lw_m3 218 rfl) rfl
theorem q1902 : (Jvm.Cond.sameMethod "OneCoin$Scribe" "OneCoin$Scribe" "isGood" "()Z") ∈ lw_all := lw_g (lw_at lw_m8 107 rfl) rfl
/-! OneCoin$Clerk -/
set_option maxRecDepth 100000
def RX17 : String := "OneCoin$Clerk"
def TX17 : u_T := fun k => match k with
  | 0 => ("OneCoin$Scribe", "n", "I", true)
  | 1 => ("OneCoin$Scribe", "at", "I", false)
  | 2 => ("OneCoin$Scribe", "fault", "I", false)
  | 3 => ("OneCoin$Scribe", "place", "I", false)
  | 4 => ("OneCoin$Scribe", "this$0", "LOneCoin;", true)
  | 5 => ("OneCoin$Clerk", "debts", "LOneCoin$Debts;", true)
  | 6 => ("OneCoin$Clerk", "lines", "I", false)
  | _ => ("OneCoin$Clerk", "this$0", "LOneCoin;", true)
def tyX17 : Nat → FieldType := fun k => match k with
  | 0 => .int
  | 1 => .int
  | 2 => .int
  | 3 => .int
  | 4 => .object "OneCoin"
  | 5 => .object "OneCoin$Debts"
  | 6 => .int
  | _ => .object "OneCoin"
abbrev wsX170 : List Cond := u_ws RX17 TX17 8
-- two fields of one name: no nmX17
theorem tyX17_ok : ∀ k, k < 8 → parseFieldDescriptor (TX17 k).2.2.1 = some (tyX17 k) := by decide +kernel
abbrev cX17_init : ByteArray := prog_3_method_1_code
def yX17_init : MethodName := ⟨RX17, "<init>", "(LOneCoin;I)V"⟩
def dkwX17_init_0 : List UInt8 := [42, 43, 181, 0, 3, 42, 43, 28, 183, 0, 9, 42, 187, 0, 15, 89, 183, 0, 17, 181, 0, 20, 177]
abbrev dktX17_init_0 : List UInt8 := dkwX17_init_0 ++ []
theorem dksX17_init_0 : cX17_init.data.toList.drop 0 = dktX17_init_0 := by decide +kernel
theorem dX17_init_0 : decode cX17_init 0 = .ok (.aload_n 0, 1) := dk_42 (dk_at dksX17_init_0 0 rfl rfl)
theorem dX17_init_1 : decode cX17_init 1 = .ok (.aload_n 1, 1) := dk_43 (dk_at dksX17_init_0 1 rfl rfl)
theorem dX17_init_2 : decode cX17_init 2 = .ok (.putfield 3, 3) := dk_181 0 3 (dk_at dksX17_init_0 2 rfl rfl)
theorem dX17_init_5 : decode cX17_init 5 = .ok (.aload_n 0, 1) := dk_42 (dk_at dksX17_init_0 5 rfl rfl)
theorem dX17_init_6 : decode cX17_init 6 = .ok (.aload_n 1, 1) := dk_43 (dk_at dksX17_init_0 6 rfl rfl)
theorem dX17_init_7 : decode cX17_init 7 = .ok (.iload_n 2, 1) := dk_28 (dk_at dksX17_init_0 7 rfl rfl)
theorem dX17_init_8 : decode cX17_init 8 = .ok (.invokespecial 9, 3) := dk_183 0 9 (dk_at dksX17_init_0 8 rfl rfl)
theorem dX17_init_11 : decode cX17_init 11 = .ok (.aload_n 0, 1) := dk_42 (dk_at dksX17_init_0 11 rfl rfl)
theorem dX17_init_12 : decode cX17_init 12 = .ok (.new 15, 3) := dk_187 0 15 (dk_at dksX17_init_0 12 rfl rfl)
theorem dX17_init_15 : decode cX17_init 15 = .ok (.dup, 1) := dk_89 (dk_at dksX17_init_0 15 rfl rfl)
theorem dX17_init_16 : decode cX17_init 16 = .ok (.invokespecial 17, 3) := dk_183 0 17 (dk_at dksX17_init_0 16 rfl rfl)
theorem dX17_init_19 : decode cX17_init 19 = .ok (.putfield 20, 3) := dk_181 0 20 (dk_at dksX17_init_0 19 rfl rfl)
theorem dX17_init_22 : decode cX17_init 22 = .ok (.return_, 1) := dk_177 (dk_at dksX17_init_0 22 rfl rfl)
abbrev cX17_read : ByteArray := prog_3_method_5_code
def yX17_read : MethodName := ⟨RX17, "read", "()I"⟩
def dkwX17_read_2 : List UInt8 := [182, 0, 73, 167, 255, 209, 42, 42, 180, 0, 20, 182, 0, 79, 182, 0, 82, 172]
abbrev dktX17_read_2 : List UInt8 := dkwX17_read_2 ++ []
def dkwX17_read_1 : List UInt8 := [159, 0, 12, 42, 4, 42, 182, 0, 32, 182, 0, 35, 42, 182, 0, 47, 42, 182, 0, 57, 153, 255, 216, 42]
abbrev dktX17_read_1 : List UInt8 := dkwX17_read_1 ++ dktX17_read_2
def dkwX17_read_0 : List UInt8 := [42, 182, 0, 73, 42, 182, 0, 57, 153, 0, 46, 42, 182, 0, 76, 154, 0, 39, 42, 182, 0, 24, 16, 59]
abbrev dktX17_read_0 : List UInt8 := dkwX17_read_0 ++ dktX17_read_1
theorem dksX17_read_0 : cX17_read.data.toList.drop 0 = dktX17_read_0 := by decide +kernel
theorem dksX17_read_1 : cX17_read.data.toList.drop 24 = dktX17_read_1 := dk_seg dksX17_read_0 24 rfl rfl
theorem dksX17_read_2 : cX17_read.data.toList.drop 48 = dktX17_read_2 := dk_seg dksX17_read_1 24 rfl rfl
theorem dX17_read_0 : decode cX17_read 0 = .ok (.aload_n 0, 1) := dk_42 (dk_at dksX17_read_0 0 rfl rfl)
theorem dX17_read_1 : decode cX17_read 1 = .ok (.invokevirtual 73, 3) := dk_182 0 73 (dk_at dksX17_read_0 1 rfl rfl)
theorem dX17_read_4 : decode cX17_read 4 = .ok (.aload_n 0, 1) := dk_42 (dk_at dksX17_read_0 4 rfl rfl)
theorem dX17_read_5 : decode cX17_read 5 = .ok (.invokevirtual 57, 3) := dk_182 0 57 (dk_at dksX17_read_0 5 rfl rfl)
theorem dX17_read_8 : decode cX17_read 8 = .ok (.ifCond .eq 46, 3) := dk_153 0 46 (dk_at dksX17_read_0 8 rfl rfl)
theorem dX17_read_11 : decode cX17_read 11 = .ok (.aload_n 0, 1) := dk_42 (dk_at dksX17_read_0 11 rfl rfl)
theorem dX17_read_12 : decode cX17_read 12 = .ok (.invokevirtual 76, 3) := dk_182 0 76 (dk_at dksX17_read_0 12 rfl rfl)
theorem dX17_read_15 : decode cX17_read 15 = .ok (.ifCond .ne 39, 3) := dk_154 0 39 (dk_at dksX17_read_0 15 rfl rfl)
theorem dX17_read_18 : decode cX17_read 18 = .ok (.aload_n 0, 1) := dk_42 (dk_at dksX17_read_0 18 rfl rfl)
theorem dX17_read_19 : decode cX17_read 19 = .ok (.invokevirtual 24, 3) := dk_182 0 24 (dk_at dksX17_read_0 19 rfl rfl)
theorem dX17_read_22 : decode cX17_read 22 = .ok (.bipush 59, 2) := dk_16 59 (dk_at dksX17_read_0 22 rfl rfl)
theorem dX17_read_24 : decode cX17_read 24 = .ok (.if_icmp .eq 12, 3) := dk_159 0 12 (dk_at dksX17_read_1 0 rfl rfl)
theorem dX17_read_27 : decode cX17_read 27 = .ok (.aload_n 0, 1) := dk_42 (dk_at dksX17_read_1 3 rfl rfl)
theorem dX17_read_28 : decode cX17_read 28 = .ok (.iconst 1, 1) := dk_4 (dk_at dksX17_read_1 4 rfl rfl)
theorem dX17_read_29 : decode cX17_read 29 = .ok (.aload_n 0, 1) := dk_42 (dk_at dksX17_read_1 5 rfl rfl)
theorem dX17_read_30 : decode cX17_read 30 = .ok (.invokevirtual 32, 3) := dk_182 0 32 (dk_at dksX17_read_1 6 rfl rfl)
theorem dX17_read_33 : decode cX17_read 33 = .ok (.invokevirtual 35, 3) := dk_182 0 35 (dk_at dksX17_read_1 9 rfl rfl)
theorem dX17_read_36 : decode cX17_read 36 = .ok (.aload_n 0, 1) := dk_42 (dk_at dksX17_read_1 12 rfl rfl)
theorem dX17_read_37 : decode cX17_read 37 = .ok (.invokevirtual 47, 3) := dk_182 0 47 (dk_at dksX17_read_1 13 rfl rfl)
theorem dX17_read_40 : decode cX17_read 40 = .ok (.aload_n 0, 1) := dk_42 (dk_at dksX17_read_1 16 rfl rfl)
theorem dX17_read_41 : decode cX17_read 41 = .ok (.invokevirtual 57, 3) := dk_182 0 57 (dk_at dksX17_read_1 17 rfl rfl)
theorem dX17_read_44 : decode cX17_read 44 = .ok (.ifCond .eq (-40), 3) := dk_153 255 216 (dk_at dksX17_read_1 20 rfl rfl)
theorem dX17_read_47 : decode cX17_read 47 = .ok (.aload_n 0, 1) := dk_42 (dk_at dksX17_read_1 23 rfl rfl)
theorem dX17_read_48 : decode cX17_read 48 = .ok (.invokevirtual 73, 3) := dk_182 0 73 (dk_at dksX17_read_2 0 rfl rfl)
theorem dX17_read_51 : decode cX17_read 51 = .ok (.goto (-47), 3) := dk_167 255 209 (dk_at dksX17_read_2 3 rfl rfl)
theorem dX17_read_54 : decode cX17_read 54 = .ok (.aload_n 0, 1) := dk_42 (dk_at dksX17_read_2 6 rfl rfl)
theorem dX17_read_55 : decode cX17_read 55 = .ok (.aload_n 0, 1) := dk_42 (dk_at dksX17_read_2 7 rfl rfl)
theorem dX17_read_56 : decode cX17_read 56 = .ok (.getfield 20, 3) := dk_180 0 20 (dk_at dksX17_read_2 8 rfl rfl)
theorem dX17_read_59 : decode cX17_read 59 = .ok (.invokevirtual 79, 3) := dk_182 0 79 (dk_at dksX17_read_2 11 rfl rfl)
theorem dX17_read_62 : decode cX17_read 62 = .ok (.invokevirtual 82, 3) := dk_182 0 82 (dk_at dksX17_read_2 14 rfl rfl)
theorem dX17_read_65 : decode cX17_read 65 = .ok (.ireturn, 1) := dk_172 (dk_at dksX17_read_2 17 rfl rfl)
abbrev cX17_line : ByteArray := prog_3_method_4_code
def yX17_line : MethodName := ⟨RX17, "line", "()V"⟩
def dkwX17_line_7 : List UInt8 := [180, 0, 50, 4, 96, 181, 0, 50, 177]
abbrev dktX17_line_7 : List UInt8 := dkwX17_line_7 ++ []
def dkwX17_line_6 : List UInt8 := [50, 28, 16, 99, 42, 180, 0, 20, 180, 0, 63, 27, 50, 28, 46, 29, 96, 184, 0, 67, 79, 42, 89]
abbrev dktX17_line_6 : List UInt8 := dkwX17_line_6 ++ dktX17_line_7
def dkwX17_line_5 : List UInt8 := [182, 0, 60, 167, 0, 4, 3, 62, 42, 182, 0, 57, 154, 0, 4, 177, 42, 180, 0, 20, 180, 0, 63, 27]
abbrev dktX17_line_5 : List UInt8 := dkwX17_line_5 ++ dktX17_line_6
def dkwX17_line_4 : List UInt8 := [42, 16, 6, 42, 182, 0, 32, 182, 0, 35, 42, 182, 0, 47, 42, 182, 0, 57, 153, 0, 10, 42]
abbrev dktX17_line_4 : List UInt8 := dkwX17_line_4 ++ dktX17_line_5
def dkwX17_line_3 : List UInt8 := [153, 0, 10, 42, 182, 0, 54, 167, 0, 4, 2, 61, 42, 182, 0, 57, 153, 0, 18, 27, 28, 160, 0, 13]
abbrev dktX17_line_3 : List UInt8 := dkwX17_line_3 ++ dktX17_line_4
def dkwX17_line_2 : List UInt8 := [16, 62, 159, 0, 12, 42, 4, 42, 182, 0, 32, 182, 0, 35, 42, 182, 0, 47, 42, 182, 0, 57]
abbrev dktX17_line_2 : List UInt8 := dkwX17_line_2 ++ dktX17_line_3
def dkwX17_line_1 : List UInt8 := [182, 0, 35, 42, 182, 0, 54, 60, 42, 182, 0, 47, 42, 182, 0, 57, 153, 0, 21, 42, 182, 0, 24]
abbrev dktX17_line_1 : List UInt8 := dkwX17_line_1 ++ dktX17_line_2
def dkwX17_line_0 : List UInt8 := [42, 182, 0, 28, 153, 0, 21, 42, 180, 0, 50, 16, 30, 160, 0, 12, 42, 7, 42, 182, 0, 32]
abbrev dktX17_line_0 : List UInt8 := dkwX17_line_0 ++ dktX17_line_1
theorem dksX17_line_0 : cX17_line.data.toList.drop 0 = dktX17_line_0 := by decide +kernel
theorem dksX17_line_1 : cX17_line.data.toList.drop 22 = dktX17_line_1 := dk_seg dksX17_line_0 22 rfl rfl
theorem dksX17_line_2 : cX17_line.data.toList.drop 45 = dktX17_line_2 := dk_seg dksX17_line_1 23 rfl rfl
theorem dksX17_line_3 : cX17_line.data.toList.drop 67 = dktX17_line_3 := dk_seg dksX17_line_2 22 rfl rfl
theorem dksX17_line_4 : cX17_line.data.toList.drop 91 = dktX17_line_4 := dk_seg dksX17_line_3 24 rfl rfl
theorem dksX17_line_5 : cX17_line.data.toList.drop 113 = dktX17_line_5 := dk_seg dksX17_line_4 22 rfl rfl
theorem dksX17_line_6 : cX17_line.data.toList.drop 137 = dktX17_line_6 := dk_seg dksX17_line_5 24 rfl rfl
theorem dksX17_line_7 : cX17_line.data.toList.drop 160 = dktX17_line_7 := dk_seg dksX17_line_6 23 rfl rfl
theorem dX17_line_0 : decode cX17_line 0 = .ok (.aload_n 0, 1) := dk_42 (dk_at dksX17_line_0 0 rfl rfl)
theorem dX17_line_1 : decode cX17_line 1 = .ok (.invokevirtual 28, 3) := dk_182 0 28 (dk_at dksX17_line_0 1 rfl rfl)
theorem dX17_line_4 : decode cX17_line 4 = .ok (.ifCond .eq 21, 3) := dk_153 0 21 (dk_at dksX17_line_0 4 rfl rfl)
theorem dX17_line_7 : decode cX17_line 7 = .ok (.aload_n 0, 1) := dk_42 (dk_at dksX17_line_0 7 rfl rfl)
theorem dX17_line_8 : decode cX17_line 8 = .ok (.getfield 50, 3) := dk_180 0 50 (dk_at dksX17_line_0 8 rfl rfl)
theorem dX17_line_11 : decode cX17_line 11 = .ok (.bipush 30, 2) := dk_16 30 (dk_at dksX17_line_0 11 rfl rfl)
theorem dX17_line_13 : decode cX17_line 13 = .ok (.if_icmp .ne 12, 3) := dk_160 0 12 (dk_at dksX17_line_0 13 rfl rfl)
theorem dX17_line_16 : decode cX17_line 16 = .ok (.aload_n 0, 1) := dk_42 (dk_at dksX17_line_0 16 rfl rfl)
theorem dX17_line_17 : decode cX17_line 17 = .ok (.iconst 4, 1) := dk_7 (dk_at dksX17_line_0 17 rfl rfl)
theorem dX17_line_18 : decode cX17_line 18 = .ok (.aload_n 0, 1) := dk_42 (dk_at dksX17_line_0 18 rfl rfl)
theorem dX17_line_19 : decode cX17_line 19 = .ok (.invokevirtual 32, 3) := dk_182 0 32 (dk_at dksX17_line_0 19 rfl rfl)
theorem dX17_line_22 : decode cX17_line 22 = .ok (.invokevirtual 35, 3) := dk_182 0 35 (dk_at dksX17_line_1 0 rfl rfl)
theorem dX17_line_25 : decode cX17_line 25 = .ok (.aload_n 0, 1) := dk_42 (dk_at dksX17_line_1 3 rfl rfl)
theorem dX17_line_26 : decode cX17_line 26 = .ok (.invokevirtual 54, 3) := dk_182 0 54 (dk_at dksX17_line_1 4 rfl rfl)
theorem dX17_line_29 : decode cX17_line 29 = .ok (.istore_n 1, 1) := dk_60 (dk_at dksX17_line_1 7 rfl rfl)
theorem dX17_line_30 : decode cX17_line 30 = .ok (.aload_n 0, 1) := dk_42 (dk_at dksX17_line_1 8 rfl rfl)
theorem dX17_line_31 : decode cX17_line 31 = .ok (.invokevirtual 47, 3) := dk_182 0 47 (dk_at dksX17_line_1 9 rfl rfl)
theorem dX17_line_34 : decode cX17_line 34 = .ok (.aload_n 0, 1) := dk_42 (dk_at dksX17_line_1 12 rfl rfl)
theorem dX17_line_35 : decode cX17_line 35 = .ok (.invokevirtual 57, 3) := dk_182 0 57 (dk_at dksX17_line_1 13 rfl rfl)
theorem dX17_line_38 : decode cX17_line 38 = .ok (.ifCond .eq 21, 3) := dk_153 0 21 (dk_at dksX17_line_1 16 rfl rfl)
theorem dX17_line_41 : decode cX17_line 41 = .ok (.aload_n 0, 1) := dk_42 (dk_at dksX17_line_1 19 rfl rfl)
theorem dX17_line_42 : decode cX17_line 42 = .ok (.invokevirtual 24, 3) := dk_182 0 24 (dk_at dksX17_line_1 20 rfl rfl)
theorem dX17_line_45 : decode cX17_line 45 = .ok (.bipush 62, 2) := dk_16 62 (dk_at dksX17_line_2 0 rfl rfl)
theorem dX17_line_47 : decode cX17_line 47 = .ok (.if_icmp .eq 12, 3) := dk_159 0 12 (dk_at dksX17_line_2 2 rfl rfl)
theorem dX17_line_50 : decode cX17_line 50 = .ok (.aload_n 0, 1) := dk_42 (dk_at dksX17_line_2 5 rfl rfl)
theorem dX17_line_51 : decode cX17_line 51 = .ok (.iconst 1, 1) := dk_4 (dk_at dksX17_line_2 6 rfl rfl)
theorem dX17_line_52 : decode cX17_line 52 = .ok (.aload_n 0, 1) := dk_42 (dk_at dksX17_line_2 7 rfl rfl)
theorem dX17_line_53 : decode cX17_line 53 = .ok (.invokevirtual 32, 3) := dk_182 0 32 (dk_at dksX17_line_2 8 rfl rfl)
theorem dX17_line_56 : decode cX17_line 56 = .ok (.invokevirtual 35, 3) := dk_182 0 35 (dk_at dksX17_line_2 11 rfl rfl)
theorem dX17_line_59 : decode cX17_line 59 = .ok (.aload_n 0, 1) := dk_42 (dk_at dksX17_line_2 14 rfl rfl)
theorem dX17_line_60 : decode cX17_line 60 = .ok (.invokevirtual 47, 3) := dk_182 0 47 (dk_at dksX17_line_2 15 rfl rfl)
theorem dX17_line_63 : decode cX17_line 63 = .ok (.aload_n 0, 1) := dk_42 (dk_at dksX17_line_2 18 rfl rfl)
theorem dX17_line_64 : decode cX17_line 64 = .ok (.invokevirtual 57, 3) := dk_182 0 57 (dk_at dksX17_line_2 19 rfl rfl)
theorem dX17_line_67 : decode cX17_line 67 = .ok (.ifCond .eq 10, 3) := dk_153 0 10 (dk_at dksX17_line_3 0 rfl rfl)
theorem dX17_line_70 : decode cX17_line 70 = .ok (.aload_n 0, 1) := dk_42 (dk_at dksX17_line_3 3 rfl rfl)
theorem dX17_line_71 : decode cX17_line 71 = .ok (.invokevirtual 54, 3) := dk_182 0 54 (dk_at dksX17_line_3 4 rfl rfl)
theorem dX17_line_74 : decode cX17_line 74 = .ok (.goto 4, 3) := dk_167 0 4 (dk_at dksX17_line_3 7 rfl rfl)
theorem dX17_line_77 : decode cX17_line 77 = .ok (.iconst (-1), 1) := dk_2 (dk_at dksX17_line_3 10 rfl rfl)
theorem dX17_line_78 : decode cX17_line 78 = .ok (.istore_n 2, 1) := dk_61 (dk_at dksX17_line_3 11 rfl rfl)
theorem dX17_line_79 : decode cX17_line 79 = .ok (.aload_n 0, 1) := dk_42 (dk_at dksX17_line_3 12 rfl rfl)
theorem dX17_line_80 : decode cX17_line 80 = .ok (.invokevirtual 57, 3) := dk_182 0 57 (dk_at dksX17_line_3 13 rfl rfl)
theorem dX17_line_83 : decode cX17_line 83 = .ok (.ifCond .eq 18, 3) := dk_153 0 18 (dk_at dksX17_line_3 16 rfl rfl)
theorem dX17_line_86 : decode cX17_line 86 = .ok (.iload_n 1, 1) := dk_27 (dk_at dksX17_line_3 19 rfl rfl)
theorem dX17_line_87 : decode cX17_line 87 = .ok (.iload_n 2, 1) := dk_28 (dk_at dksX17_line_3 20 rfl rfl)
theorem dX17_line_88 : decode cX17_line 88 = .ok (.if_icmp .ne 13, 3) := dk_160 0 13 (dk_at dksX17_line_3 21 rfl rfl)
theorem dX17_line_91 : decode cX17_line 91 = .ok (.aload_n 0, 1) := dk_42 (dk_at dksX17_line_4 0 rfl rfl)
theorem dX17_line_92 : decode cX17_line 92 = .ok (.bipush 6, 2) := dk_16 6 (dk_at dksX17_line_4 1 rfl rfl)
theorem dX17_line_94 : decode cX17_line 94 = .ok (.aload_n 0, 1) := dk_42 (dk_at dksX17_line_4 3 rfl rfl)
theorem dX17_line_95 : decode cX17_line 95 = .ok (.invokevirtual 32, 3) := dk_182 0 32 (dk_at dksX17_line_4 4 rfl rfl)
theorem dX17_line_98 : decode cX17_line 98 = .ok (.invokevirtual 35, 3) := dk_182 0 35 (dk_at dksX17_line_4 7 rfl rfl)
theorem dX17_line_101 : decode cX17_line 101 = .ok (.aload_n 0, 1) := dk_42 (dk_at dksX17_line_4 10 rfl rfl)
theorem dX17_line_102 : decode cX17_line 102 = .ok (.invokevirtual 47, 3) := dk_182 0 47 (dk_at dksX17_line_4 11 rfl rfl)
theorem dX17_line_105 : decode cX17_line 105 = .ok (.aload_n 0, 1) := dk_42 (dk_at dksX17_line_4 14 rfl rfl)
theorem dX17_line_106 : decode cX17_line 106 = .ok (.invokevirtual 57, 3) := dk_182 0 57 (dk_at dksX17_line_4 15 rfl rfl)
theorem dX17_line_109 : decode cX17_line 109 = .ok (.ifCond .eq 10, 3) := dk_153 0 10 (dk_at dksX17_line_4 18 rfl rfl)
theorem dX17_line_112 : decode cX17_line 112 = .ok (.aload_n 0, 1) := dk_42 (dk_at dksX17_line_4 21 rfl rfl)
theorem dX17_line_113 : decode cX17_line 113 = .ok (.invokevirtual 60, 3) := dk_182 0 60 (dk_at dksX17_line_5 0 rfl rfl)
theorem dX17_line_116 : decode cX17_line 116 = .ok (.goto 4, 3) := dk_167 0 4 (dk_at dksX17_line_5 3 rfl rfl)
theorem dX17_line_119 : decode cX17_line 119 = .ok (.iconst 0, 1) := dk_3 (dk_at dksX17_line_5 6 rfl rfl)
theorem dX17_line_120 : decode cX17_line 120 = .ok (.istore_n 3, 1) := dk_62 (dk_at dksX17_line_5 7 rfl rfl)
theorem dX17_line_121 : decode cX17_line 121 = .ok (.aload_n 0, 1) := dk_42 (dk_at dksX17_line_5 8 rfl rfl)
theorem dX17_line_122 : decode cX17_line 122 = .ok (.invokevirtual 57, 3) := dk_182 0 57 (dk_at dksX17_line_5 9 rfl rfl)
theorem dX17_line_125 : decode cX17_line 125 = .ok (.ifCond .ne 4, 3) := dk_154 0 4 (dk_at dksX17_line_5 12 rfl rfl)
theorem dX17_line_128 : decode cX17_line 128 = .ok (.return_, 1) := dk_177 (dk_at dksX17_line_5 15 rfl rfl)
theorem dX17_line_129 : decode cX17_line 129 = .ok (.aload_n 0, 1) := dk_42 (dk_at dksX17_line_5 16 rfl rfl)
theorem dX17_line_130 : decode cX17_line 130 = .ok (.getfield 20, 3) := dk_180 0 20 (dk_at dksX17_line_5 17 rfl rfl)
theorem dX17_line_133 : decode cX17_line 133 = .ok (.getfield 63, 3) := dk_180 0 63 (dk_at dksX17_line_5 20 rfl rfl)
theorem dX17_line_136 : decode cX17_line 136 = .ok (.iload_n 1, 1) := dk_27 (dk_at dksX17_line_5 23 rfl rfl)
theorem dX17_line_137 : decode cX17_line 137 = .ok (.aaload, 1) := dk_50 (dk_at dksX17_line_6 0 rfl rfl)
theorem dX17_line_138 : decode cX17_line 138 = .ok (.iload_n 2, 1) := dk_28 (dk_at dksX17_line_6 1 rfl rfl)
theorem dX17_line_139 : decode cX17_line 139 = .ok (.bipush 99, 2) := dk_16 99 (dk_at dksX17_line_6 2 rfl rfl)
theorem dX17_line_141 : decode cX17_line 141 = .ok (.aload_n 0, 1) := dk_42 (dk_at dksX17_line_6 4 rfl rfl)
theorem dX17_line_142 : decode cX17_line 142 = .ok (.getfield 20, 3) := dk_180 0 20 (dk_at dksX17_line_6 5 rfl rfl)
theorem dX17_line_145 : decode cX17_line 145 = .ok (.getfield 63, 3) := dk_180 0 63 (dk_at dksX17_line_6 8 rfl rfl)
theorem dX17_line_148 : decode cX17_line 148 = .ok (.iload_n 1, 1) := dk_27 (dk_at dksX17_line_6 11 rfl rfl)
theorem dX17_line_149 : decode cX17_line 149 = .ok (.aaload, 1) := dk_50 (dk_at dksX17_line_6 12 rfl rfl)
theorem dX17_line_150 : decode cX17_line 150 = .ok (.iload_n 2, 1) := dk_28 (dk_at dksX17_line_6 13 rfl rfl)
theorem dX17_line_151 : decode cX17_line 151 = .ok (.iaload, 1) := dk_46 (dk_at dksX17_line_6 14 rfl rfl)
theorem dX17_line_152 : decode cX17_line 152 = .ok (.iload_n 3, 1) := dk_29 (dk_at dksX17_line_6 15 rfl rfl)
theorem dX17_line_153 : decode cX17_line 153 = .ok (.iadd, 1) := dk_96 (dk_at dksX17_line_6 16 rfl rfl)
theorem dX17_line_154 : decode cX17_line 154 = .ok (.invokestatic 67, 3) := dk_184 0 67 (dk_at dksX17_line_6 17 rfl rfl)
theorem dX17_line_157 : decode cX17_line 157 = .ok (.iastore, 1) := dk_79 (dk_at dksX17_line_6 20 rfl rfl)
theorem dX17_line_158 : decode cX17_line 158 = .ok (.aload_n 0, 1) := dk_42 (dk_at dksX17_line_6 21 rfl rfl)
theorem dX17_line_159 : decode cX17_line 159 = .ok (.dup, 1) := dk_89 (dk_at dksX17_line_6 22 rfl rfl)
theorem dX17_line_160 : decode cX17_line 160 = .ok (.getfield 50, 3) := dk_180 0 50 (dk_at dksX17_line_7 0 rfl rfl)
theorem dX17_line_163 : decode cX17_line 163 = .ok (.iconst 1, 1) := dk_4 (dk_at dksX17_line_7 3 rfl rfl)
theorem dX17_line_164 : decode cX17_line 164 = .ok (.iadd, 1) := dk_96 (dk_at dksX17_line_7 4 rfl rfl)
theorem dX17_line_165 : decode cX17_line 165 = .ok (.putfield 50, 3) := dk_181 0 50 (dk_at dksX17_line_7 5 rfl rfl)
theorem dX17_line_168 : decode cX17_line 168 = .ok (.return_, 1) := dk_177 (dk_at dksX17_line_7 8 rfl rfl)
abbrev cX17_person : ByteArray := prog_3_method_2_code
def yX17_person : MethodName := ⟨RX17, "person", "()I"⟩
def dkwX17_person_2 : List UInt8 := [27, 172]
abbrev dktX17_person_2 : List UInt8 := dkwX17_person_2 ++ []
def dkwX17_person_1 : List UInt8 := [167, 0, 24, 42, 180, 0, 3, 27, 182, 0, 39, 154, 0, 13, 42, 16, 7, 42, 182, 0, 32, 182, 0, 35]
abbrev dktX17_person_1 : List UInt8 := dkwX17_person_1 ++ dktX17_person_2
def dkwX17_person_0 : List UInt8 := [42, 182, 0, 24, 16, 97, 100, 60, 42, 182, 0, 28, 154, 0, 15, 42, 4, 42, 182, 0, 32, 182, 0, 35]
abbrev dktX17_person_0 : List UInt8 := dkwX17_person_0 ++ dktX17_person_1
theorem dksX17_person_0 : cX17_person.data.toList.drop 0 = dktX17_person_0 := by decide +kernel
theorem dksX17_person_1 : cX17_person.data.toList.drop 24 = dktX17_person_1 := dk_seg dksX17_person_0 24 rfl rfl
theorem dksX17_person_2 : cX17_person.data.toList.drop 48 = dktX17_person_2 := dk_seg dksX17_person_1 24 rfl rfl
theorem dX17_person_0 : decode cX17_person 0 = .ok (.aload_n 0, 1) := dk_42 (dk_at dksX17_person_0 0 rfl rfl)
theorem dX17_person_1 : decode cX17_person 1 = .ok (.invokevirtual 24, 3) := dk_182 0 24 (dk_at dksX17_person_0 1 rfl rfl)
theorem dX17_person_4 : decode cX17_person 4 = .ok (.bipush 97, 2) := dk_16 97 (dk_at dksX17_person_0 4 rfl rfl)
theorem dX17_person_6 : decode cX17_person 6 = .ok (.isub, 1) := dk_100 (dk_at dksX17_person_0 6 rfl rfl)
theorem dX17_person_7 : decode cX17_person 7 = .ok (.istore_n 1, 1) := dk_60 (dk_at dksX17_person_0 7 rfl rfl)
theorem dX17_person_8 : decode cX17_person 8 = .ok (.aload_n 0, 1) := dk_42 (dk_at dksX17_person_0 8 rfl rfl)
theorem dX17_person_9 : decode cX17_person 9 = .ok (.invokevirtual 28, 3) := dk_182 0 28 (dk_at dksX17_person_0 9 rfl rfl)
theorem dX17_person_12 : decode cX17_person 12 = .ok (.ifCond .ne 15, 3) := dk_154 0 15 (dk_at dksX17_person_0 12 rfl rfl)
theorem dX17_person_15 : decode cX17_person 15 = .ok (.aload_n 0, 1) := dk_42 (dk_at dksX17_person_0 15 rfl rfl)
theorem dX17_person_16 : decode cX17_person 16 = .ok (.iconst 1, 1) := dk_4 (dk_at dksX17_person_0 16 rfl rfl)
theorem dX17_person_17 : decode cX17_person 17 = .ok (.aload_n 0, 1) := dk_42 (dk_at dksX17_person_0 17 rfl rfl)
theorem dX17_person_18 : decode cX17_person 18 = .ok (.invokevirtual 32, 3) := dk_182 0 32 (dk_at dksX17_person_0 18 rfl rfl)
theorem dX17_person_21 : decode cX17_person 21 = .ok (.invokevirtual 35, 3) := dk_182 0 35 (dk_at dksX17_person_0 21 rfl rfl)
theorem dX17_person_24 : decode cX17_person 24 = .ok (.goto 24, 3) := dk_167 0 24 (dk_at dksX17_person_1 0 rfl rfl)
theorem dX17_person_27 : decode cX17_person 27 = .ok (.aload_n 0, 1) := dk_42 (dk_at dksX17_person_1 3 rfl rfl)
theorem dX17_person_28 : decode cX17_person 28 = .ok (.getfield 3, 3) := dk_180 0 3 (dk_at dksX17_person_1 4 rfl rfl)
theorem dX17_person_31 : decode cX17_person 31 = .ok (.iload_n 1, 1) := dk_27 (dk_at dksX17_person_1 7 rfl rfl)
theorem dX17_person_32 : decode cX17_person 32 = .ok (.invokevirtual 39, 3) := dk_182 0 39 (dk_at dksX17_person_1 8 rfl rfl)
theorem dX17_person_35 : decode cX17_person 35 = .ok (.ifCond .ne 13, 3) := dk_154 0 13 (dk_at dksX17_person_1 11 rfl rfl)
theorem dX17_person_38 : decode cX17_person 38 = .ok (.aload_n 0, 1) := dk_42 (dk_at dksX17_person_1 14 rfl rfl)
theorem dX17_person_39 : decode cX17_person 39 = .ok (.bipush 7, 2) := dk_16 7 (dk_at dksX17_person_1 15 rfl rfl)
theorem dX17_person_41 : decode cX17_person 41 = .ok (.aload_n 0, 1) := dk_42 (dk_at dksX17_person_1 17 rfl rfl)
theorem dX17_person_42 : decode cX17_person 42 = .ok (.invokevirtual 32, 3) := dk_182 0 32 (dk_at dksX17_person_1 18 rfl rfl)
theorem dX17_person_45 : decode cX17_person 45 = .ok (.invokevirtual 35, 3) := dk_182 0 35 (dk_at dksX17_person_1 21 rfl rfl)
theorem dX17_person_48 : decode cX17_person 48 = .ok (.iload_n 1, 1) := dk_27 (dk_at dksX17_person_2 0 rfl rfl)
theorem dX17_person_49 : decode cX17_person 49 = .ok (.ireturn, 1) := dk_172 (dk_at dksX17_person_2 1 rfl rfl)
abbrev cX17_many : ByteArray := prog_3_method_3_code
def yX17_many : MethodName := ⟨RX17, "many", "()I"⟩
def dkwX17_many_3 : List UInt8 := [28, 172]
abbrev dktX17_many_3 : List UInt8 := dkwX17_many_3 ++ []
def dkwX17_many_2 : List UInt8 := [16, 48, 100, 61, 42, 182, 0, 47, 132, 3, 1, 167, 255, 220, 28, 154, 0, 9, 42, 6, 27, 182, 0, 35]
abbrev dktX17_many_2 : List UInt8 := dkwX17_many_2 ++ dktX17_many_3
def dkwX17_many_1 : List UInt8 := [162, 0, 37, 42, 16, 48, 16, 57, 182, 0, 43, 153, 0, 26, 16, 10, 28, 104, 42, 182, 0, 24, 96]
abbrev dktX17_many_1 : List UInt8 := dkwX17_many_1 ++ dktX17_many_2
def dkwX17_many_0 : List UInt8 := [42, 16, 48, 16, 57, 182, 0, 43, 154, 0, 5, 4, 172, 42, 182, 0, 32, 60, 3, 61, 3, 62, 29, 5]
abbrev dktX17_many_0 : List UInt8 := dkwX17_many_0 ++ dktX17_many_1
theorem dksX17_many_0 : cX17_many.data.toList.drop 0 = dktX17_many_0 := by decide +kernel
theorem dksX17_many_1 : cX17_many.data.toList.drop 24 = dktX17_many_1 := dk_seg dksX17_many_0 24 rfl rfl
theorem dksX17_many_2 : cX17_many.data.toList.drop 47 = dktX17_many_2 := dk_seg dksX17_many_1 23 rfl rfl
theorem dksX17_many_3 : cX17_many.data.toList.drop 71 = dktX17_many_3 := dk_seg dksX17_many_2 24 rfl rfl
theorem dX17_many_0 : decode cX17_many 0 = .ok (.aload_n 0, 1) := dk_42 (dk_at dksX17_many_0 0 rfl rfl)
theorem dX17_many_1 : decode cX17_many 1 = .ok (.bipush 48, 2) := dk_16 48 (dk_at dksX17_many_0 1 rfl rfl)
theorem dX17_many_3 : decode cX17_many 3 = .ok (.bipush 57, 2) := dk_16 57 (dk_at dksX17_many_0 3 rfl rfl)
theorem dX17_many_5 : decode cX17_many 5 = .ok (.invokevirtual 43, 3) := dk_182 0 43 (dk_at dksX17_many_0 5 rfl rfl)
theorem dX17_many_8 : decode cX17_many 8 = .ok (.ifCond .ne 5, 3) := dk_154 0 5 (dk_at dksX17_many_0 8 rfl rfl)
theorem dX17_many_11 : decode cX17_many 11 = .ok (.iconst 1, 1) := dk_4 (dk_at dksX17_many_0 11 rfl rfl)
theorem dX17_many_12 : decode cX17_many 12 = .ok (.ireturn, 1) := dk_172 (dk_at dksX17_many_0 12 rfl rfl)
theorem dX17_many_13 : decode cX17_many 13 = .ok (.aload_n 0, 1) := dk_42 (dk_at dksX17_many_0 13 rfl rfl)
theorem dX17_many_14 : decode cX17_many 14 = .ok (.invokevirtual 32, 3) := dk_182 0 32 (dk_at dksX17_many_0 14 rfl rfl)
theorem dX17_many_17 : decode cX17_many 17 = .ok (.istore_n 1, 1) := dk_60 (dk_at dksX17_many_0 17 rfl rfl)
theorem dX17_many_18 : decode cX17_many 18 = .ok (.iconst 0, 1) := dk_3 (dk_at dksX17_many_0 18 rfl rfl)
theorem dX17_many_19 : decode cX17_many 19 = .ok (.istore_n 2, 1) := dk_61 (dk_at dksX17_many_0 19 rfl rfl)
theorem dX17_many_20 : decode cX17_many 20 = .ok (.iconst 0, 1) := dk_3 (dk_at dksX17_many_0 20 rfl rfl)
theorem dX17_many_21 : decode cX17_many 21 = .ok (.istore_n 3, 1) := dk_62 (dk_at dksX17_many_0 21 rfl rfl)
theorem dX17_many_22 : decode cX17_many 22 = .ok (.iload_n 3, 1) := dk_29 (dk_at dksX17_many_0 22 rfl rfl)
theorem dX17_many_23 : decode cX17_many 23 = .ok (.iconst 2, 1) := dk_5 (dk_at dksX17_many_0 23 rfl rfl)
theorem dX17_many_24 : decode cX17_many 24 = .ok (.if_icmp .ge 37, 3) := dk_162 0 37 (dk_at dksX17_many_1 0 rfl rfl)
theorem dX17_many_27 : decode cX17_many 27 = .ok (.aload_n 0, 1) := dk_42 (dk_at dksX17_many_1 3 rfl rfl)
theorem dX17_many_28 : decode cX17_many 28 = .ok (.bipush 48, 2) := dk_16 48 (dk_at dksX17_many_1 4 rfl rfl)
theorem dX17_many_30 : decode cX17_many 30 = .ok (.bipush 57, 2) := dk_16 57 (dk_at dksX17_many_1 6 rfl rfl)
theorem dX17_many_32 : decode cX17_many 32 = .ok (.invokevirtual 43, 3) := dk_182 0 43 (dk_at dksX17_many_1 8 rfl rfl)
theorem dX17_many_35 : decode cX17_many 35 = .ok (.ifCond .eq 26, 3) := dk_153 0 26 (dk_at dksX17_many_1 11 rfl rfl)
theorem dX17_many_38 : decode cX17_many 38 = .ok (.bipush 10, 2) := dk_16 10 (dk_at dksX17_many_1 14 rfl rfl)
theorem dX17_many_40 : decode cX17_many 40 = .ok (.iload_n 2, 1) := dk_28 (dk_at dksX17_many_1 16 rfl rfl)
theorem dX17_many_41 : decode cX17_many 41 = .ok (.imul, 1) := dk_104 (dk_at dksX17_many_1 17 rfl rfl)
theorem dX17_many_42 : decode cX17_many 42 = .ok (.aload_n 0, 1) := dk_42 (dk_at dksX17_many_1 18 rfl rfl)
theorem dX17_many_43 : decode cX17_many 43 = .ok (.invokevirtual 24, 3) := dk_182 0 24 (dk_at dksX17_many_1 19 rfl rfl)
theorem dX17_many_46 : decode cX17_many 46 = .ok (.iadd, 1) := dk_96 (dk_at dksX17_many_1 22 rfl rfl)
theorem dX17_many_47 : decode cX17_many 47 = .ok (.bipush 48, 2) := dk_16 48 (dk_at dksX17_many_2 0 rfl rfl)
theorem dX17_many_49 : decode cX17_many 49 = .ok (.isub, 1) := dk_100 (dk_at dksX17_many_2 2 rfl rfl)
theorem dX17_many_50 : decode cX17_many 50 = .ok (.istore_n 2, 1) := dk_61 (dk_at dksX17_many_2 3 rfl rfl)
theorem dX17_many_51 : decode cX17_many 51 = .ok (.aload_n 0, 1) := dk_42 (dk_at dksX17_many_2 4 rfl rfl)
theorem dX17_many_52 : decode cX17_many 52 = .ok (.invokevirtual 47, 3) := dk_182 0 47 (dk_at dksX17_many_2 5 rfl rfl)
theorem dX17_many_55 : decode cX17_many 55 = .ok (.iinc 3 1, 3) := dk_132 3 1 (dk_at dksX17_many_2 8 rfl rfl)
theorem dX17_many_58 : decode cX17_many 58 = .ok (.goto (-36), 3) := dk_167 255 220 (dk_at dksX17_many_2 11 rfl rfl)
theorem dX17_many_61 : decode cX17_many 61 = .ok (.iload_n 2, 1) := dk_28 (dk_at dksX17_many_2 14 rfl rfl)
theorem dX17_many_62 : decode cX17_many 62 = .ok (.ifCond .ne 9, 3) := dk_154 0 9 (dk_at dksX17_many_2 15 rfl rfl)
theorem dX17_many_65 : decode cX17_many 65 = .ok (.aload_n 0, 1) := dk_42 (dk_at dksX17_many_2 18 rfl rfl)
theorem dX17_many_66 : decode cX17_many 66 = .ok (.iconst 3, 1) := dk_6 (dk_at dksX17_many_2 19 rfl rfl)
theorem dX17_many_67 : decode cX17_many 67 = .ok (.iload_n 1, 1) := dk_27 (dk_at dksX17_many_2 20 rfl rfl)
theorem dX17_many_68 : decode cX17_many 68 = .ok (.invokevirtual 35, 3) := dk_182 0 35 (dk_at dksX17_many_2 21 rfl rfl)
theorem dX17_many_71 : decode cX17_many 71 = .ok (.iload_n 2, 1) := dk_28 (dk_at dksX17_many_3 0 rfl rfl)
theorem dX17_many_72 : decode cX17_many 72 = .ok (.ireturn, 1) := dk_172 (dk_at dksX17_many_3 1 rfl rfl)
theorem q139 : (Jvm.Cond.initialized "OneCoin$Clerk") ∈ lw_all := lw_g (lw_at lw_m1 24 rfl) rfl
theorem q209 : (Jvm.Cond.fieldLinkNest "OneCoin$Clerk" (63 : Nat) "OneCoin$Debts" "owed" "[[I" "OneCoin") ∈ lw_tbl := lw_at lw_m1 94 rfl
theorem q689 : (Jvm.Cond.instantiable "OneCoin$Clerk" (8 : Nat)) ∈ lw_all := lw_g (lw_at lw_m3 94 rfl) rfl
theorem q691 : (Jvm.Cond.instanceMethod ({ cls := "OneCoin$Clerk", name := "<init>", desc := "(LOneCoin;I)V" } : Jvm.MethodName)) ∈ lw_all := lw_g (lw_at lw_m3 96 rfl) rfl
theorem q692 : (Jvm.Cond.code ({ cls := "OneCoin$Clerk", name := "<init>", desc := "(LOneCoin;I)V" } : Jvm.MethodName) prog_3_method_1_code (3 : Nat) (Option.none : Option Jvm.ClassFile.FieldType)) ∈ lw_all := lw_g (lw_at lw_m3 97 rfl) rfl
theorem q693 : (Jvm.Cond.methodLink "OneCoin$Clerk" (9 : Nat) ({ cls := "OneCoin$Scribe", name := "<init>", desc := "(LOneCoin;I)V" } : Jvm.MethodName)) ∈ lw_all := lw_g (lw_at lw_m3 98 rfl) rfl
theorem q697 : (Jvm.Cond.classLink "OneCoin$Clerk" (15 : Nat) "OneCoin$Debts") ∈ lw_all := lw_g (lw_at lw_m3 102 rfl) rfl
theorem q698 : (Jvm.Cond.methodLinkNest "OneCoin$Clerk" (17 : Nat) ({ cls := "OneCoin$Debts", name := "<init>", desc := "()V" } : Jvm.MethodName) "OneCoin") ∈ lw_tbl := lw_at lw_m3 103 rfl
theorem q699 : (Jvm.Cond.fieldLink "OneCoin$Clerk" (20 : Nat) "OneCoin$Clerk" "debts" "LOneCoin$Debts;") ∈ lw_all := lw_g (lw_at lw_m3 104 rfl) rfl
theorem q701 : (Jvm.Cond.fieldLink "OneCoin$Clerk" (50 : Nat) "OneCoin$Clerk" "lines" "I") ∈ lw_all := lw_g (lw_at lw_m3 106 rfl) rfl
theorem q702 : (Jvm.Cond.fieldLink "OneCoin$Clerk" (3 : Nat) "OneCoin$Clerk" "this$0" "LOneCoin;") ∈ lw_all := lw_g (lw_at lw_m3 107 rfl) rfl
theorem q708 : (Jvm.Cond.laysFinal "OneCoin$Clerk" "OneCoin$Clerk" "debts" "LOneCoin$Debts;") ∈ lw_all := lw_g (lw_at lw_m3 113 rfl) rfl
theorem q709 : (Jvm.Cond.soleField "OneCoin$Clerk" "debts") ∈ lw_all := lw_g (lw_at lw_m3 114 rfl) rfl
theorem q710 : (Jvm.Cond.lays "OneCoin$Clerk" "OneCoin$Clerk" "lines" "I") ∈ lw_all := lw_g (lw_at lw_m3 115 rfl) rfl
theorem q711 : (Jvm.Cond.soleField "OneCoin$Clerk" "lines") ∈ lw_all := lw_g (lw_at lw_m3 116 rfl) rfl
theorem q712 : (Jvm.Cond.laysFinal "OneCoin$Clerk" "OneCoin$Clerk" "this$0" "LOneCoin;") ∈ lw_all := lw_g (lw_at lw_m3 117 rfl) rfl
theorem q713 : (Jvm.Cond.soleField "OneCoin$Clerk" "this$0") ∈ lw_all := lw_g (lw_at lw_m3 118 rfl) rfl
theorem q714 : (Jvm.Cond.laysFinal "OneCoin$Clerk" "OneCoin$Scribe" "n" "I") ∈ lw_all := lw_g (lw_at lw_m3 119 rfl) rfl
theorem q716 : (Jvm.Cond.lays "OneCoin$Clerk" "OneCoin$Scribe" "at" "I") ∈ lw_all := lw_g (lw_at lw_m3 121 rfl) rfl
theorem q718 : (Jvm.Cond.lays "OneCoin$Clerk" "OneCoin$Scribe" "fault" "I") ∈ lw_all := lw_g (lw_at lw_m3 123 rfl) rfl
theorem q720 : (Jvm.Cond.lays "OneCoin$Clerk" "OneCoin$Scribe" "place" "I") ∈ lw_all := lw_g (lw_at lw_m3 125 rfl) rfl
theorem q722 : (Jvm.Cond.laysFinal "OneCoin$Clerk" "OneCoin$Scribe" "this$0" "LOneCoin;") ∈ lw_all := lw_g (lw_at lw_m3 127 rfl) rfl
theorem q724 : (Jvm.Cond.superclass "OneCoin$Clerk" "OneCoin$Scribe") ∈ lw_all := lw_g (lw_at lw_m3 129 rfl) rfl
theorem q726 : (Jvm.Cond.instanceMethod ({ cls := "OneCoin$Clerk", name := "read", desc := "()I" } : Jvm.MethodName)) ∈ lw_all := lw_g (lw_at lw_m3 131 rfl) rfl
theorem q727 : (Jvm.Cond.selects "OneCoin$Clerk" ({ cls := "OneCoin$Clerk", name := "read", desc := "()I" } : Jvm.MethodName) ({ cls := "OneCoin$Clerk", name := "read", desc := "()I" } : Jvm.MethodName)) ∈ lw_all := lw_g (lw_at lw_m3 132 rfl) rfl
theorem q728 : (Jvm.Cond.code ({ cls := "OneCoin$Clerk", name := "read", desc := "()I" } : Jvm.MethodName) prog_3_method_5_code (1 : Nat) (Option.some Jvm.ClassFile.FieldType.int)) ∈ lw_all := lw_g (lw_at lw_m3 133 rfl) rfl
theorem q729 : (Jvm.Cond.methodLink "OneCoin$Clerk" (73 : Nat) ({ cls := "OneCoin$Clerk", name := "line", desc := "()V" } : Jvm.MethodName)) ∈ lw_all := lw_g (lw_at lw_m3 134 rfl) rfl
theorem q730 : (Jvm.Cond.privateMethod ({ cls := "OneCoin$Clerk", name := "line", desc := "()V" } : Jvm.MethodName)) ∈ lw_tbl := lw_at lw_m3 135 rfl
theorem q731 : (Jvm.Cond.instanceMethod ({ cls := "OneCoin$Clerk", name := "line", desc := "()V" } : Jvm.MethodName)) ∈ lw_all := lw_g (lw_at lw_m3 136 rfl) rfl
theorem q732 : (Jvm.Cond.code ({ cls := "OneCoin$Clerk", name := "line", desc := "()V" } : Jvm.MethodName) prog_3_method_4_code (4 : Nat) (Option.none : Option Jvm.ClassFile.FieldType)) ∈ lw_all := lw_g (lw_at lw_m3 137 rfl) rfl
theorem q733 : (Jvm.Cond.methodLink "OneCoin$Clerk" (28 : Nat) ({ cls := "OneCoin$Clerk", name := "seesPerson", desc := "()Z" } : Jvm.MethodName)) ∈ lw_all := lw_g (lw_at lw_m3 138 rfl) rfl
theorem q734 : (Jvm.Cond.sameMethod "OneCoin$Clerk" "OneCoin$Scribe" "seesPerson" "()Z") ∈ lw_all := lw_g (lw_at lw_m3 139 rfl) rfl
theorem q736 : (Jvm.Cond.selects "OneCoin$Clerk" ({ cls := "OneCoin$Clerk", name := "seesPerson", desc := "()Z" } : Jvm.MethodName) ({ cls := "OneCoin$Scribe", name := "seesPerson", desc := "()Z" } : Jvm.MethodName)) ∈ lw_all := lw_g (lw_at lw_m3 141 rfl) rfl
theorem q742 : (Jvm.Cond.selects "OneCoin$Clerk" ({ cls := "OneCoin$Scribe", name := "sees", desc := "(II)Z" } : Jvm.MethodName) ({ cls := "OneCoin$Scribe", name := "sees", desc := "(II)Z" } : Jvm.MethodName)) ∈ lw_all := lw_g (lw_at lw_m3 147 rfl) rfl
theorem q748 : (Jvm.Cond.selects "OneCoin$Clerk" ({ cls := "OneCoin$Scribe", name := "here", desc := "()I" } : Jvm.MethodName) ({ cls := "OneCoin$Scribe", name := "here", desc := "()I" } : Jvm.MethodName)) ∈ lw_all := lw_g (lw_at lw_m3 153 rfl) rfl
theorem q751 : (Jvm.Cond.methodLink "OneCoin$Clerk" (32 : Nat) ({ cls := "OneCoin$Clerk", name := "place", desc := "()I" } : Jvm.MethodName)) ∈ lw_all := lw_g (lw_at lw_m3 156 rfl) rfl
theorem q752 : (Jvm.Cond.sameMethod "OneCoin$Clerk" "OneCoin$Scribe" "place" "()I") ∈ lw_all := lw_g (lw_at lw_m3 157 rfl) rfl
theorem q754 : (Jvm.Cond.selects "OneCoin$Clerk" ({ cls := "OneCoin$Clerk", name := "place", desc := "()I" } : Jvm.MethodName) ({ cls := "OneCoin$Scribe", name := "place", desc := "()I" } : Jvm.MethodName)) ∈ lw_all := lw_g (lw_at lw_m3 159 rfl) rfl
theorem q757 : (Jvm.Cond.methodLink "OneCoin$Clerk" (35 : Nat) ({ cls := "OneCoin$Clerk", name := "bad", desc := "(II)V" } : Jvm.MethodName)) ∈ lw_all := lw_g (lw_at lw_m3 162 rfl) rfl
theorem q758 : (Jvm.Cond.sameMethod "OneCoin$Clerk" "OneCoin$Scribe" "bad" "(II)V") ∈ lw_all := lw_g (lw_at lw_m3 163 rfl) rfl
theorem q760 : (Jvm.Cond.selects "OneCoin$Clerk" ({ cls := "OneCoin$Clerk", name := "bad", desc := "(II)V" } : Jvm.MethodName) ({ cls := "OneCoin$Scribe", name := "bad", desc := "(II)V" } : Jvm.MethodName)) ∈ lw_all := lw_g (lw_at lw_m3 165 rfl) rfl
theorem q763 : (Jvm.Cond.methodLink "OneCoin$Clerk" (54 : Nat) ({ cls := "OneCoin$Clerk", name := "person", desc := "()I" } : Jvm.MethodName)) ∈ lw_all := lw_g (lw_at lw_m3 168 rfl) rfl
theorem q764 : (Jvm.Cond.privateMethod ({ cls := "OneCoin$Clerk", name := "person", desc := "()I" } : Jvm.MethodName)) ∈ lw_tbl := lw_at lw_m3 169 rfl
theorem q765 : (Jvm.Cond.instanceMethod ({ cls := "OneCoin$Clerk", name := "person", desc := "()I" } : Jvm.MethodName)) ∈ lw_all := lw_g (lw_at lw_m3 170 rfl) rfl
theorem q766 : (Jvm.Cond.code ({ cls := "OneCoin$Clerk", name := "person", desc := "()I" } : Jvm.MethodName) prog_3_method_2_code (2 : Nat) (Option.some Jvm.ClassFile.FieldType.int)) ∈ lw_all := lw_g (lw_at lw_m3 171 rfl) rfl
theorem q767 : (Jvm.Cond.methodLink "OneCoin$Clerk" (24 : Nat) ({ cls := "OneCoin$Clerk", name := "here", desc := "()I" } : Jvm.MethodName)) ∈ lw_all := lw_g (lw_at lw_m3 172 rfl) rfl
theorem q768 : (Jvm.Cond.sameMethod "OneCoin$Clerk" "OneCoin$Scribe" "here" "()I") ∈ lw_all := lw_g (lw_at lw_m3 173 rfl) rfl
theorem q770 : (Jvm.Cond.selects "OneCoin$Clerk" ({ cls := "OneCoin$Clerk", name := "here", desc := "()I" } : Jvm.MethodName) ({ cls := "OneCoin$Scribe", name := "here", desc := "()I" } : Jvm.MethodName)) ∈ lw_all := lw_g (lw_at lw_m3 175 rfl) rfl
theorem q771 : (Jvm.Cond.methodLinkNest "OneCoin$Clerk" (39 : Nat) ({ cls := "OneCoin", name := "isTold", desc := "(I)Z" } : Jvm.MethodName) "OneCoin") ∈ lw_tbl := lw_at lw_m3 176 rfl
theorem q772 : (Jvm.Cond.methodLink "OneCoin$Clerk" (47 : Nat) ({ cls := "OneCoin$Clerk", name := "goes", desc := "()V" } : Jvm.MethodName)) ∈ lw_all := lw_g (lw_at lw_m3 177 rfl) rfl
theorem q773 : (Jvm.Cond.sameMethod "OneCoin$Clerk" "OneCoin$Scribe" "goes" "()V") ∈ lw_all := lw_g (lw_at lw_m3 178 rfl) rfl
theorem q775 : (Jvm.Cond.selects "OneCoin$Clerk" ({ cls := "OneCoin$Clerk", name := "goes", desc := "()V" } : Jvm.MethodName) ({ cls := "OneCoin$Scribe", name := "goes", desc := "()V" } : Jvm.MethodName)) ∈ lw_all := lw_g (lw_at lw_m3 180 rfl) rfl
theorem q778 : (Jvm.Cond.methodLink "OneCoin$Clerk" (57 : Nat) ({ cls := "OneCoin$Clerk", name := "isGood", desc := "()Z" } : Jvm.MethodName)) ∈ lw_all := lw_g (lw_at lw_m3 183 rfl) rfl
theorem q779 : (Jvm.Cond.sameMethod "OneCoin$Clerk" "OneCoin$Scribe" "isGood" "()Z") ∈ lw_all := lw_g (lw_at lw_m3 184 rfl) rfl
theorem q781 : (Jvm.Cond.selects "OneCoin$Clerk" ({ cls := "OneCoin$Clerk", name := "isGood", desc := "()Z" } : Jvm.MethodName) ({ cls := "OneCoin$Scribe", name := "isGood", desc := "()Z" } : Jvm.MethodName)) ∈ lw_all := lw_g (lw_at lw_m3 186 rfl) rfl
theorem q784 : (Jvm.Cond.methodLink "OneCoin$Clerk" (60 : Nat) ({ cls := "OneCoin$Clerk", name := "many", desc := "()I" } : Jvm.MethodName)) ∈ lw_all := lw_g (lw_at lw_m3 189 rfl) rfl
theorem q785 : (Jvm.Cond.privateMethod ({ cls := "OneCoin$Clerk", name := "many", desc := "()I" } : Jvm.MethodName)) ∈ lw_tbl := lw_at lw_m3 190 rfl
theorem q786 : (Jvm.Cond.instanceMethod ({ cls := "OneCoin$Clerk", name := "many", desc := "()I" } : Jvm.MethodName)) ∈ lw_all := lw_g (lw_at lw_m3 191 rfl) rfl
theorem q787 : (Jvm.Cond.code ({ cls := "OneCoin$Clerk", name := "many", desc := "()I" } : Jvm.MethodName) prog_3_method_3_code (4 : Nat) (Option.some Jvm.ClassFile.FieldType.int)) ∈ lw_all := lw_g (lw_at lw_m3 192 rfl) rfl
theorem q788 : (Jvm.Cond.methodLink "OneCoin$Clerk" (43 : Nat) ({ cls := "OneCoin$Clerk", name := "sees", desc := "(II)Z" } : Jvm.MethodName)) ∈ lw_all := lw_g (lw_at lw_m3 193 rfl) rfl
theorem q789 : (Jvm.Cond.sameMethod "OneCoin$Clerk" "OneCoin$Scribe" "sees" "(II)Z") ∈ lw_all := lw_g (lw_at lw_m3 194 rfl) rfl
theorem q791 : (Jvm.Cond.selects "OneCoin$Clerk" ({ cls := "OneCoin$Clerk", name := "sees", desc := "(II)Z" } : Jvm.MethodName) ({ cls := "OneCoin$Scribe", name := "sees", desc := "(II)Z" } : Jvm.MethodName)) ∈ lw_all := lw_g (lw_at lw_m3 196 rfl) rfl
theorem q792 : (Jvm.Cond.methodLink "OneCoin$Clerk" (67 : Nat) ({ cls := "java/lang/Math", name := "min", desc := "(II)I" } : Jvm.MethodName)) ∈ lw_all := lw_g (lw_at lw_m3 197 rfl) rfl
theorem q793 : (Jvm.Cond.methodLink "OneCoin$Clerk" (76 : Nat) ({ cls := "OneCoin$Clerk", name := "isEnd", desc := "()Z" } : Jvm.MethodName)) ∈ lw_all := lw_g (lw_at lw_m3 198 rfl) rfl
theorem q794 : (Jvm.Cond.sameMethod "OneCoin$Clerk" "OneCoin$Scribe" "isEnd" "()Z") ∈ lw_all := lw_g (lw_at lw_m3 199 rfl) rfl
theorem q796 : (Jvm.Cond.selects "OneCoin$Clerk" ({ cls := "OneCoin$Clerk", name := "isEnd", desc := "()Z" } : Jvm.MethodName) ({ cls := "OneCoin$Scribe", name := "isEnd", desc := "()Z" } : Jvm.MethodName)) ∈ lw_all := lw_g (lw_at lw_m3 201 rfl) rfl
theorem q799 : (Jvm.Cond.methodLink "OneCoin$Clerk" (79 : Nat) ({ cls := "OneCoin$Debts", name := "all", desc := "()I" } : Jvm.MethodName)) ∈ lw_all := lw_g (lw_at lw_m3 204 rfl) rfl
theorem q807 : (Jvm.Cond.methodLink "OneCoin$Clerk" (82 : Nat) ({ cls := "OneCoin$Clerk", name := "answer", desc := "(I)I" } : Jvm.MethodName)) ∈ lw_all := lw_g (lw_at lw_m3 212 rfl) rfl
theorem q808 : (Jvm.Cond.sameMethod "OneCoin$Clerk" "OneCoin$Scribe" "answer" "(I)I") ∈ lw_all := lw_g (lw_at lw_m3 213 rfl) rfl
theorem q810 : (Jvm.Cond.selects "OneCoin$Clerk" ({ cls := "OneCoin$Clerk", name := "answer", desc := "(I)I" } : Jvm.MethodName) ({ cls := "OneCoin$Scribe", name := "answer", desc := "(I)I" } : Jvm.MethodName)) ∈ lw_all := lw_g (lw_at lw_m3 215 rfl) rfl
theorem q1903 : (Jvm.Cond.selects "OneCoin$Clerk" ({ cls := "OneCoin$Scribe", name := "isGood", desc := "()Z" } : Jvm.MethodName) ({ cls := "OneCoin$Scribe", name := "isGood", desc := "()Z" } : Jvm.MethodName)) ∈ lw_all := lw_g (lw_at lw_m8 108 rfl) rfl
theorem in_X17 : ∀ w ∈ wsX170, w ∈ lw_all := lw_in wsX170 [714, 716, 718, 720, 722, 708, 710, 712] (by decide +kernel) (by decide +kernel)
/-! OneCoin$Guide -/
set_option maxRecDepth 100000
def RX18 : String := "OneCoin$Guide"
def TX18 : u_T := fun k => match k with
  | 0 => ("OneCoin$Scribe", "n", "I", true)
  | 1 => ("OneCoin$Scribe", "at", "I", false)
  | 2 => ("OneCoin$Scribe", "fault", "I", false)
  | 3 => ("OneCoin$Scribe", "place", "I", false)
  | 4 => ("OneCoin$Scribe", "this$0", "LOneCoin;", true)
  | 5 => ("OneCoin$Guide", "row", "[I", true)
  | 6 => ("OneCoin$Guide", "many", "I", false)
  | 7 => ("OneCoin$Guide", "depth", "I", false)
  | _ => ("OneCoin$Guide", "this$0", "LOneCoin;", true)
def tyX18 : Nat → FieldType := fun k => match k with
  | 0 => .int
  | 1 => .int
  | 2 => .int
  | 3 => .int
  | 4 => .object "OneCoin"
  | 5 => .array .int
  | 6 => .int
  | 7 => .int
  | _ => .object "OneCoin"
abbrev wsX180 : List Cond := u_ws RX18 TX18 9
-- two fields of one name: no nmX18
theorem tyX18_ok : ∀ k, k < 9 → parseFieldDescriptor (TX18 k).2.2.1 = some (tyX18 k) := by decide +kernel
abbrev cX18_init : ByteArray := prog_8_method_1_code
def yX18_init : MethodName := ⟨RX18, "<init>", "(LOneCoin;I)V"⟩
def dkwX18_init_0 : List UInt8 := [42, 43, 181, 0, 3, 42, 43, 28, 183, 0, 9, 42, 16, 60, 188, 10, 181, 0, 15, 177]
abbrev dktX18_init_0 : List UInt8 := dkwX18_init_0 ++ []
theorem dksX18_init_0 : cX18_init.data.toList.drop 0 = dktX18_init_0 := by decide +kernel
theorem dX18_init_0 : decode cX18_init 0 = .ok (.aload_n 0, 1) := dk_42 (dk_at dksX18_init_0 0 rfl rfl)
theorem dX18_init_1 : decode cX18_init 1 = .ok (.aload_n 1, 1) := dk_43 (dk_at dksX18_init_0 1 rfl rfl)
theorem dX18_init_2 : decode cX18_init 2 = .ok (.putfield 3, 3) := dk_181 0 3 (dk_at dksX18_init_0 2 rfl rfl)
theorem dX18_init_5 : decode cX18_init 5 = .ok (.aload_n 0, 1) := dk_42 (dk_at dksX18_init_0 5 rfl rfl)
theorem dX18_init_6 : decode cX18_init 6 = .ok (.aload_n 1, 1) := dk_43 (dk_at dksX18_init_0 6 rfl rfl)
theorem dX18_init_7 : decode cX18_init 7 = .ok (.iload_n 2, 1) := dk_28 (dk_at dksX18_init_0 7 rfl rfl)
theorem dX18_init_8 : decode cX18_init 8 = .ok (.invokespecial 9, 3) := dk_183 0 9 (dk_at dksX18_init_0 8 rfl rfl)
theorem dX18_init_11 : decode cX18_init 11 = .ok (.aload_n 0, 1) := dk_42 (dk_at dksX18_init_0 11 rfl rfl)
theorem dX18_init_12 : decode cX18_init 12 = .ok (.bipush 60, 2) := dk_16 60 (dk_at dksX18_init_0 12 rfl rfl)
theorem dX18_init_14 : decode cX18_init 14 = .ok (.newarray .int, 2) := dk_188_10 (dk_at dksX18_init_0 14 rfl rfl)
theorem dX18_init_16 : decode cX18_init 16 = .ok (.putfield 15, 3) := dk_181 0 15 (dk_at dksX18_init_0 16 rfl rfl)
theorem dX18_init_19 : decode cX18_init 19 = .ok (.return_, 1) := dk_177 (dk_at dksX18_init_0 19 rfl rfl)
abbrev cX18_read : ByteArray := prog_8_method_5_code
def yX18_read : MethodName := ⟨RX18, "read", "()I"⟩
def dkwX18_read_1 : List UInt8 := [182, 0, 27, 42, 42, 180, 0, 49, 182, 0, 64, 172]
abbrev dktX18_read_1 : List UInt8 := dkwX18_read_1 ++ []
def dkwX18_read_0 : List UInt8 := [42, 182, 0, 35, 42, 182, 0, 38, 153, 0, 19, 42, 182, 0, 61, 154, 0, 12, 42, 4, 42, 182, 0, 23]
abbrev dktX18_read_0 : List UInt8 := dkwX18_read_0 ++ dktX18_read_1
theorem dksX18_read_0 : cX18_read.data.toList.drop 0 = dktX18_read_0 := by decide +kernel
theorem dksX18_read_1 : cX18_read.data.toList.drop 24 = dktX18_read_1 := dk_seg dksX18_read_0 24 rfl rfl
theorem dX18_read_0 : decode cX18_read 0 = .ok (.aload_n 0, 1) := dk_42 (dk_at dksX18_read_0 0 rfl rfl)
theorem dX18_read_1 : decode cX18_read 1 = .ok (.invokevirtual 35, 3) := dk_182 0 35 (dk_at dksX18_read_0 1 rfl rfl)
theorem dX18_read_4 : decode cX18_read 4 = .ok (.aload_n 0, 1) := dk_42 (dk_at dksX18_read_0 4 rfl rfl)
theorem dX18_read_5 : decode cX18_read 5 = .ok (.invokevirtual 38, 3) := dk_182 0 38 (dk_at dksX18_read_0 5 rfl rfl)
theorem dX18_read_8 : decode cX18_read 8 = .ok (.ifCond .eq 19, 3) := dk_153 0 19 (dk_at dksX18_read_0 8 rfl rfl)
theorem dX18_read_11 : decode cX18_read 11 = .ok (.aload_n 0, 1) := dk_42 (dk_at dksX18_read_0 11 rfl rfl)
theorem dX18_read_12 : decode cX18_read 12 = .ok (.invokevirtual 61, 3) := dk_182 0 61 (dk_at dksX18_read_0 12 rfl rfl)
theorem dX18_read_15 : decode cX18_read 15 = .ok (.ifCond .ne 12, 3) := dk_154 0 12 (dk_at dksX18_read_0 15 rfl rfl)
theorem dX18_read_18 : decode cX18_read 18 = .ok (.aload_n 0, 1) := dk_42 (dk_at dksX18_read_0 18 rfl rfl)
theorem dX18_read_19 : decode cX18_read 19 = .ok (.iconst 1, 1) := dk_4 (dk_at dksX18_read_0 19 rfl rfl)
theorem dX18_read_20 : decode cX18_read 20 = .ok (.aload_n 0, 1) := dk_42 (dk_at dksX18_read_0 20 rfl rfl)
theorem dX18_read_21 : decode cX18_read 21 = .ok (.invokevirtual 23, 3) := dk_182 0 23 (dk_at dksX18_read_0 21 rfl rfl)
theorem dX18_read_24 : decode cX18_read 24 = .ok (.invokevirtual 27, 3) := dk_182 0 27 (dk_at dksX18_read_1 0 rfl rfl)
theorem dX18_read_27 : decode cX18_read 27 = .ok (.aload_n 0, 1) := dk_42 (dk_at dksX18_read_1 3 rfl rfl)
theorem dX18_read_28 : decode cX18_read 28 = .ok (.aload_n 0, 1) := dk_42 (dk_at dksX18_read_1 4 rfl rfl)
theorem dX18_read_29 : decode cX18_read 29 = .ok (.getfield 49, 3) := dk_180 0 49 (dk_at dksX18_read_1 5 rfl rfl)
theorem dX18_read_32 : decode cX18_read 32 = .ok (.invokevirtual 64, 3) := dk_182 0 64 (dk_at dksX18_read_1 8 rfl rfl)
theorem dX18_read_35 : decode cX18_read 35 = .ok (.ireturn, 1) := dk_172 (dk_at dksX18_read_1 11 rfl rfl)
abbrev cX18_all : ByteArray := prog_8_method_4_code
def yX18_all : MethodName := ⟨RX18, "all", "()V"⟩
def dkwX18_all_1 : List UInt8 := [154, 0, 16, 42, 182, 0, 42, 16, 41, 159, 0, 7, 4, 167, 0, 4, 3, 60, 167, 255, 219, 177]
abbrev dktX18_all_1 : List UInt8 := dkwX18_all_1 ++ []
def dkwX18_all_0 : List UInt8 := [42, 182, 0, 38, 60, 27, 153, 0, 39, 42, 182, 0, 58, 42, 182, 0, 38, 153, 0, 23, 42, 182, 0, 61]
abbrev dktX18_all_0 : List UInt8 := dkwX18_all_0 ++ dktX18_all_1
theorem dksX18_all_0 : cX18_all.data.toList.drop 0 = dktX18_all_0 := by decide +kernel
theorem dksX18_all_1 : cX18_all.data.toList.drop 24 = dktX18_all_1 := dk_seg dksX18_all_0 24 rfl rfl
theorem dX18_all_0 : decode cX18_all 0 = .ok (.aload_n 0, 1) := dk_42 (dk_at dksX18_all_0 0 rfl rfl)
theorem dX18_all_1 : decode cX18_all 1 = .ok (.invokevirtual 38, 3) := dk_182 0 38 (dk_at dksX18_all_0 1 rfl rfl)
theorem dX18_all_4 : decode cX18_all 4 = .ok (.istore_n 1, 1) := dk_60 (dk_at dksX18_all_0 4 rfl rfl)
theorem dX18_all_5 : decode cX18_all 5 = .ok (.iload_n 1, 1) := dk_27 (dk_at dksX18_all_0 5 rfl rfl)
theorem dX18_all_6 : decode cX18_all 6 = .ok (.ifCond .eq 39, 3) := dk_153 0 39 (dk_at dksX18_all_0 6 rfl rfl)
theorem dX18_all_9 : decode cX18_all 9 = .ok (.aload_n 0, 1) := dk_42 (dk_at dksX18_all_0 9 rfl rfl)
theorem dX18_all_10 : decode cX18_all 10 = .ok (.invokevirtual 58, 3) := dk_182 0 58 (dk_at dksX18_all_0 10 rfl rfl)
theorem dX18_all_13 : decode cX18_all 13 = .ok (.aload_n 0, 1) := dk_42 (dk_at dksX18_all_0 13 rfl rfl)
theorem dX18_all_14 : decode cX18_all 14 = .ok (.invokevirtual 38, 3) := dk_182 0 38 (dk_at dksX18_all_0 14 rfl rfl)
theorem dX18_all_17 : decode cX18_all 17 = .ok (.ifCond .eq 23, 3) := dk_153 0 23 (dk_at dksX18_all_0 17 rfl rfl)
theorem dX18_all_20 : decode cX18_all 20 = .ok (.aload_n 0, 1) := dk_42 (dk_at dksX18_all_0 20 rfl rfl)
theorem dX18_all_21 : decode cX18_all 21 = .ok (.invokevirtual 61, 3) := dk_182 0 61 (dk_at dksX18_all_0 21 rfl rfl)
theorem dX18_all_24 : decode cX18_all 24 = .ok (.ifCond .ne 16, 3) := dk_154 0 16 (dk_at dksX18_all_1 0 rfl rfl)
theorem dX18_all_27 : decode cX18_all 27 = .ok (.aload_n 0, 1) := dk_42 (dk_at dksX18_all_1 3 rfl rfl)
theorem dX18_all_28 : decode cX18_all 28 = .ok (.invokevirtual 42, 3) := dk_182 0 42 (dk_at dksX18_all_1 4 rfl rfl)
theorem dX18_all_31 : decode cX18_all 31 = .ok (.bipush 41, 2) := dk_16 41 (dk_at dksX18_all_1 7 rfl rfl)
theorem dX18_all_33 : decode cX18_all 33 = .ok (.if_icmp .eq 7, 3) := dk_159 0 7 (dk_at dksX18_all_1 9 rfl rfl)
theorem dX18_all_36 : decode cX18_all 36 = .ok (.iconst 1, 1) := dk_4 (dk_at dksX18_all_1 12 rfl rfl)
theorem dX18_all_37 : decode cX18_all 37 = .ok (.goto 4, 3) := dk_167 0 4 (dk_at dksX18_all_1 13 rfl rfl)
theorem dX18_all_40 : decode cX18_all 40 = .ok (.iconst 0, 1) := dk_3 (dk_at dksX18_all_1 16 rfl rfl)
theorem dX18_all_41 : decode cX18_all 41 = .ok (.istore_n 1, 1) := dk_60 (dk_at dksX18_all_1 17 rfl rfl)
theorem dX18_all_42 : decode cX18_all 42 = .ok (.goto (-37), 3) := dk_167 255 219 (dk_at dksX18_all_1 18 rfl rfl)
theorem dX18_all_45 : decode cX18_all 45 = .ok (.return_, 1) := dk_177 (dk_at dksX18_all_1 21 rfl rfl)
abbrev cX18_one : ByteArray := prog_8_method_3_code
def yX18_one : MethodName := ⟨RX18, "one", "()V"⟩
def dkwX18_one_9 : List UInt8 := [181, 0, 49, 132, 5, 1, 167, 255, 206, 177]
abbrev dktX18_one_9 : List UInt8 := dkwX18_one_9 ++ []
def dkwX18_one_8 : List UInt8 := [180, 0, 49, 42, 180, 0, 15, 29, 21, 5, 21, 4, 112, 96, 46, 79, 42, 89, 180, 0, 49, 4, 96]
abbrev dktX18_one_8 : List UInt8 := dkwX18_one_8 ++ dktX18_one_9
def dkwX18_one_7 : List UInt8 := [54, 5, 42, 182, 0, 38, 153, 0, 49, 21, 5, 21, 4, 28, 104, 162, 0, 40, 42, 180, 0, 15, 42]
abbrev dktX18_one_7 : List UInt8 := dkwX18_one_7 ++ dktX18_one_8
def dkwX18_one_6 : List UInt8 := [153, 0, 21, 29, 21, 4, 28, 104, 96, 16, 60, 164, 0, 10, 42, 16, 6, 27, 182, 0, 27, 21, 4]
abbrev dktX18_one_6 : List UInt8 := dkwX18_one_6 ++ dktX18_one_7
def dkwX18_one_5 : List UInt8 := [180, 0, 49, 4, 96, 181, 0, 49, 42, 182, 0, 31, 42, 180, 0, 49, 29, 100, 54, 4, 42, 182, 0, 38]
abbrev dktX18_one_5 : List UInt8 := dkwX18_one_5 ++ dktX18_one_6
def dkwX18_one_4 : List UInt8 := [182, 0, 27, 167, 0, 33, 42, 180, 0, 15, 42, 180, 0, 49, 42, 182, 0, 42, 16, 97, 100, 79, 42, 89]
abbrev dktX18_one_4 : List UInt8 := dkwX18_one_4 ++ dktX18_one_5
def dkwX18_one_3 : List UInt8 := [182, 0, 23, 182, 0, 27, 167, 0, 54, 42, 180, 0, 49, 28, 96, 16, 60, 164, 0, 13, 42, 16, 6, 27]
abbrev dktX18_one_3 : List UInt8 := dkwX18_one_3 ++ dktX18_one_4
def dkwX18_one_2 : List UInt8 := [16, 40, 160, 0, 10, 42, 182, 0, 52, 167, 0, 73, 42, 182, 0, 55, 154, 0, 15, 42, 4, 42]
abbrev dktX18_one_2 : List UInt8 := dkwX18_one_2 ++ dktX18_one_3
def dkwX18_one_1 : List UInt8 := [167, 0, 4, 4, 61, 28, 4, 164, 0, 7, 42, 182, 0, 31, 42, 180, 0, 49, 62, 42, 182, 0, 42]
abbrev dktX18_one_1 : List UInt8 := dkwX18_one_1 ++ dktX18_one_2
def dkwX18_one_0 : List UInt8 := [42, 182, 0, 23, 60, 42, 16, 50, 16, 57, 182, 0, 45, 153, 0, 13, 42, 182, 0, 42, 16, 48, 100]
abbrev dktX18_one_0 : List UInt8 := dkwX18_one_0 ++ dktX18_one_1
theorem dksX18_one_0 : cX18_one.data.toList.drop 0 = dktX18_one_0 := by decide +kernel
theorem dksX18_one_1 : cX18_one.data.toList.drop 23 = dktX18_one_1 := dk_seg dksX18_one_0 23 rfl rfl
theorem dksX18_one_2 : cX18_one.data.toList.drop 46 = dktX18_one_2 := dk_seg dksX18_one_1 23 rfl rfl
theorem dksX18_one_3 : cX18_one.data.toList.drop 68 = dktX18_one_3 := dk_seg dksX18_one_2 22 rfl rfl
theorem dksX18_one_4 : cX18_one.data.toList.drop 92 = dktX18_one_4 := dk_seg dksX18_one_3 24 rfl rfl
theorem dksX18_one_5 : cX18_one.data.toList.drop 116 = dktX18_one_5 := dk_seg dksX18_one_4 24 rfl rfl
theorem dksX18_one_6 : cX18_one.data.toList.drop 140 = dktX18_one_6 := dk_seg dksX18_one_5 24 rfl rfl
theorem dksX18_one_7 : cX18_one.data.toList.drop 163 = dktX18_one_7 := dk_seg dksX18_one_6 23 rfl rfl
theorem dksX18_one_8 : cX18_one.data.toList.drop 186 = dktX18_one_8 := dk_seg dksX18_one_7 23 rfl rfl
theorem dksX18_one_9 : cX18_one.data.toList.drop 209 = dktX18_one_9 := dk_seg dksX18_one_8 23 rfl rfl
theorem dX18_one_0 : decode cX18_one 0 = .ok (.aload_n 0, 1) := dk_42 (dk_at dksX18_one_0 0 rfl rfl)
theorem dX18_one_1 : decode cX18_one 1 = .ok (.invokevirtual 23, 3) := dk_182 0 23 (dk_at dksX18_one_0 1 rfl rfl)
theorem dX18_one_4 : decode cX18_one 4 = .ok (.istore_n 1, 1) := dk_60 (dk_at dksX18_one_0 4 rfl rfl)
theorem dX18_one_5 : decode cX18_one 5 = .ok (.aload_n 0, 1) := dk_42 (dk_at dksX18_one_0 5 rfl rfl)
theorem dX18_one_6 : decode cX18_one 6 = .ok (.bipush 50, 2) := dk_16 50 (dk_at dksX18_one_0 6 rfl rfl)
theorem dX18_one_8 : decode cX18_one 8 = .ok (.bipush 57, 2) := dk_16 57 (dk_at dksX18_one_0 8 rfl rfl)
theorem dX18_one_10 : decode cX18_one 10 = .ok (.invokevirtual 45, 3) := dk_182 0 45 (dk_at dksX18_one_0 10 rfl rfl)
theorem dX18_one_13 : decode cX18_one 13 = .ok (.ifCond .eq 13, 3) := dk_153 0 13 (dk_at dksX18_one_0 13 rfl rfl)
theorem dX18_one_16 : decode cX18_one 16 = .ok (.aload_n 0, 1) := dk_42 (dk_at dksX18_one_0 16 rfl rfl)
theorem dX18_one_17 : decode cX18_one 17 = .ok (.invokevirtual 42, 3) := dk_182 0 42 (dk_at dksX18_one_0 17 rfl rfl)
theorem dX18_one_20 : decode cX18_one 20 = .ok (.bipush 48, 2) := dk_16 48 (dk_at dksX18_one_0 20 rfl rfl)
theorem dX18_one_22 : decode cX18_one 22 = .ok (.isub, 1) := dk_100 (dk_at dksX18_one_0 22 rfl rfl)
theorem dX18_one_23 : decode cX18_one 23 = .ok (.goto 4, 3) := dk_167 0 4 (dk_at dksX18_one_1 0 rfl rfl)
theorem dX18_one_26 : decode cX18_one 26 = .ok (.iconst 1, 1) := dk_4 (dk_at dksX18_one_1 3 rfl rfl)
theorem dX18_one_27 : decode cX18_one 27 = .ok (.istore_n 2, 1) := dk_61 (dk_at dksX18_one_1 4 rfl rfl)
theorem dX18_one_28 : decode cX18_one 28 = .ok (.iload_n 2, 1) := dk_28 (dk_at dksX18_one_1 5 rfl rfl)
theorem dX18_one_29 : decode cX18_one 29 = .ok (.iconst 1, 1) := dk_4 (dk_at dksX18_one_1 6 rfl rfl)
theorem dX18_one_30 : decode cX18_one 30 = .ok (.if_icmp .le 7, 3) := dk_164 0 7 (dk_at dksX18_one_1 7 rfl rfl)
theorem dX18_one_33 : decode cX18_one 33 = .ok (.aload_n 0, 1) := dk_42 (dk_at dksX18_one_1 10 rfl rfl)
theorem dX18_one_34 : decode cX18_one 34 = .ok (.invokevirtual 31, 3) := dk_182 0 31 (dk_at dksX18_one_1 11 rfl rfl)
theorem dX18_one_37 : decode cX18_one 37 = .ok (.aload_n 0, 1) := dk_42 (dk_at dksX18_one_1 14 rfl rfl)
theorem dX18_one_38 : decode cX18_one 38 = .ok (.getfield 49, 3) := dk_180 0 49 (dk_at dksX18_one_1 15 rfl rfl)
theorem dX18_one_41 : decode cX18_one 41 = .ok (.istore_n 3, 1) := dk_62 (dk_at dksX18_one_1 18 rfl rfl)
theorem dX18_one_42 : decode cX18_one 42 = .ok (.aload_n 0, 1) := dk_42 (dk_at dksX18_one_1 19 rfl rfl)
theorem dX18_one_43 : decode cX18_one 43 = .ok (.invokevirtual 42, 3) := dk_182 0 42 (dk_at dksX18_one_1 20 rfl rfl)
theorem dX18_one_46 : decode cX18_one 46 = .ok (.bipush 40, 2) := dk_16 40 (dk_at dksX18_one_2 0 rfl rfl)
theorem dX18_one_48 : decode cX18_one 48 = .ok (.if_icmp .ne 10, 3) := dk_160 0 10 (dk_at dksX18_one_2 2 rfl rfl)
theorem dX18_one_51 : decode cX18_one 51 = .ok (.aload_n 0, 1) := dk_42 (dk_at dksX18_one_2 5 rfl rfl)
theorem dX18_one_52 : decode cX18_one 52 = .ok (.invokevirtual 52, 3) := dk_182 0 52 (dk_at dksX18_one_2 6 rfl rfl)
theorem dX18_one_55 : decode cX18_one 55 = .ok (.goto 73, 3) := dk_167 0 73 (dk_at dksX18_one_2 9 rfl rfl)
theorem dX18_one_58 : decode cX18_one 58 = .ok (.aload_n 0, 1) := dk_42 (dk_at dksX18_one_2 12 rfl rfl)
theorem dX18_one_59 : decode cX18_one 59 = .ok (.invokevirtual 55, 3) := dk_182 0 55 (dk_at dksX18_one_2 13 rfl rfl)
theorem dX18_one_62 : decode cX18_one 62 = .ok (.ifCond .ne 15, 3) := dk_154 0 15 (dk_at dksX18_one_2 16 rfl rfl)
theorem dX18_one_65 : decode cX18_one 65 = .ok (.aload_n 0, 1) := dk_42 (dk_at dksX18_one_2 19 rfl rfl)
theorem dX18_one_66 : decode cX18_one 66 = .ok (.iconst 1, 1) := dk_4 (dk_at dksX18_one_2 20 rfl rfl)
theorem dX18_one_67 : decode cX18_one 67 = .ok (.aload_n 0, 1) := dk_42 (dk_at dksX18_one_2 21 rfl rfl)
theorem dX18_one_68 : decode cX18_one 68 = .ok (.invokevirtual 23, 3) := dk_182 0 23 (dk_at dksX18_one_3 0 rfl rfl)
theorem dX18_one_71 : decode cX18_one 71 = .ok (.invokevirtual 27, 3) := dk_182 0 27 (dk_at dksX18_one_3 3 rfl rfl)
theorem dX18_one_74 : decode cX18_one 74 = .ok (.goto 54, 3) := dk_167 0 54 (dk_at dksX18_one_3 6 rfl rfl)
theorem dX18_one_77 : decode cX18_one 77 = .ok (.aload_n 0, 1) := dk_42 (dk_at dksX18_one_3 9 rfl rfl)
theorem dX18_one_78 : decode cX18_one 78 = .ok (.getfield 49, 3) := dk_180 0 49 (dk_at dksX18_one_3 10 rfl rfl)
theorem dX18_one_81 : decode cX18_one 81 = .ok (.iload_n 2, 1) := dk_28 (dk_at dksX18_one_3 13 rfl rfl)
theorem dX18_one_82 : decode cX18_one 82 = .ok (.iadd, 1) := dk_96 (dk_at dksX18_one_3 14 rfl rfl)
theorem dX18_one_83 : decode cX18_one 83 = .ok (.bipush 60, 2) := dk_16 60 (dk_at dksX18_one_3 15 rfl rfl)
theorem dX18_one_85 : decode cX18_one 85 = .ok (.if_icmp .le 13, 3) := dk_164 0 13 (dk_at dksX18_one_3 17 rfl rfl)
theorem dX18_one_88 : decode cX18_one 88 = .ok (.aload_n 0, 1) := dk_42 (dk_at dksX18_one_3 20 rfl rfl)
theorem dX18_one_89 : decode cX18_one 89 = .ok (.bipush 6, 2) := dk_16 6 (dk_at dksX18_one_3 21 rfl rfl)
theorem dX18_one_91 : decode cX18_one 91 = .ok (.iload_n 1, 1) := dk_27 (dk_at dksX18_one_3 23 rfl rfl)
theorem dX18_one_92 : decode cX18_one 92 = .ok (.invokevirtual 27, 3) := dk_182 0 27 (dk_at dksX18_one_4 0 rfl rfl)
theorem dX18_one_95 : decode cX18_one 95 = .ok (.goto 33, 3) := dk_167 0 33 (dk_at dksX18_one_4 3 rfl rfl)
theorem dX18_one_98 : decode cX18_one 98 = .ok (.aload_n 0, 1) := dk_42 (dk_at dksX18_one_4 6 rfl rfl)
theorem dX18_one_99 : decode cX18_one 99 = .ok (.getfield 15, 3) := dk_180 0 15 (dk_at dksX18_one_4 7 rfl rfl)
theorem dX18_one_102 : decode cX18_one 102 = .ok (.aload_n 0, 1) := dk_42 (dk_at dksX18_one_4 10 rfl rfl)
theorem dX18_one_103 : decode cX18_one 103 = .ok (.getfield 49, 3) := dk_180 0 49 (dk_at dksX18_one_4 11 rfl rfl)
theorem dX18_one_106 : decode cX18_one 106 = .ok (.aload_n 0, 1) := dk_42 (dk_at dksX18_one_4 14 rfl rfl)
theorem dX18_one_107 : decode cX18_one 107 = .ok (.invokevirtual 42, 3) := dk_182 0 42 (dk_at dksX18_one_4 15 rfl rfl)
theorem dX18_one_110 : decode cX18_one 110 = .ok (.bipush 97, 2) := dk_16 97 (dk_at dksX18_one_4 18 rfl rfl)
theorem dX18_one_112 : decode cX18_one 112 = .ok (.isub, 1) := dk_100 (dk_at dksX18_one_4 20 rfl rfl)
theorem dX18_one_113 : decode cX18_one 113 = .ok (.iastore, 1) := dk_79 (dk_at dksX18_one_4 21 rfl rfl)
theorem dX18_one_114 : decode cX18_one 114 = .ok (.aload_n 0, 1) := dk_42 (dk_at dksX18_one_4 22 rfl rfl)
theorem dX18_one_115 : decode cX18_one 115 = .ok (.dup, 1) := dk_89 (dk_at dksX18_one_4 23 rfl rfl)
theorem dX18_one_116 : decode cX18_one 116 = .ok (.getfield 49, 3) := dk_180 0 49 (dk_at dksX18_one_5 0 rfl rfl)
theorem dX18_one_119 : decode cX18_one 119 = .ok (.iconst 1, 1) := dk_4 (dk_at dksX18_one_5 3 rfl rfl)
theorem dX18_one_120 : decode cX18_one 120 = .ok (.iadd, 1) := dk_96 (dk_at dksX18_one_5 4 rfl rfl)
theorem dX18_one_121 : decode cX18_one 121 = .ok (.putfield 49, 3) := dk_181 0 49 (dk_at dksX18_one_5 5 rfl rfl)
theorem dX18_one_124 : decode cX18_one 124 = .ok (.aload_n 0, 1) := dk_42 (dk_at dksX18_one_5 8 rfl rfl)
theorem dX18_one_125 : decode cX18_one 125 = .ok (.invokevirtual 31, 3) := dk_182 0 31 (dk_at dksX18_one_5 9 rfl rfl)
theorem dX18_one_128 : decode cX18_one 128 = .ok (.aload_n 0, 1) := dk_42 (dk_at dksX18_one_5 12 rfl rfl)
theorem dX18_one_129 : decode cX18_one 129 = .ok (.getfield 49, 3) := dk_180 0 49 (dk_at dksX18_one_5 13 rfl rfl)
theorem dX18_one_132 : decode cX18_one 132 = .ok (.iload_n 3, 1) := dk_29 (dk_at dksX18_one_5 16 rfl rfl)
theorem dX18_one_133 : decode cX18_one 133 = .ok (.isub, 1) := dk_100 (dk_at dksX18_one_5 17 rfl rfl)
theorem dX18_one_134 : decode cX18_one 134 = .ok (.istore 4, 2) := dk_54 4 (dk_at dksX18_one_5 18 rfl rfl)
theorem dX18_one_136 : decode cX18_one 136 = .ok (.aload_n 0, 1) := dk_42 (dk_at dksX18_one_5 20 rfl rfl)
theorem dX18_one_137 : decode cX18_one 137 = .ok (.invokevirtual 38, 3) := dk_182 0 38 (dk_at dksX18_one_5 21 rfl rfl)
theorem dX18_one_140 : decode cX18_one 140 = .ok (.ifCond .eq 21, 3) := dk_153 0 21 (dk_at dksX18_one_6 0 rfl rfl)
theorem dX18_one_143 : decode cX18_one 143 = .ok (.iload_n 3, 1) := dk_29 (dk_at dksX18_one_6 3 rfl rfl)
theorem dX18_one_144 : decode cX18_one 144 = .ok (.iload 4, 2) := dk_21 4 (dk_at dksX18_one_6 4 rfl rfl)
theorem dX18_one_146 : decode cX18_one 146 = .ok (.iload_n 2, 1) := dk_28 (dk_at dksX18_one_6 6 rfl rfl)
theorem dX18_one_147 : decode cX18_one 147 = .ok (.imul, 1) := dk_104 (dk_at dksX18_one_6 7 rfl rfl)
theorem dX18_one_148 : decode cX18_one 148 = .ok (.iadd, 1) := dk_96 (dk_at dksX18_one_6 8 rfl rfl)
theorem dX18_one_149 : decode cX18_one 149 = .ok (.bipush 60, 2) := dk_16 60 (dk_at dksX18_one_6 9 rfl rfl)
theorem dX18_one_151 : decode cX18_one 151 = .ok (.if_icmp .le 10, 3) := dk_164 0 10 (dk_at dksX18_one_6 11 rfl rfl)
theorem dX18_one_154 : decode cX18_one 154 = .ok (.aload_n 0, 1) := dk_42 (dk_at dksX18_one_6 14 rfl rfl)
theorem dX18_one_155 : decode cX18_one 155 = .ok (.bipush 6, 2) := dk_16 6 (dk_at dksX18_one_6 15 rfl rfl)
theorem dX18_one_157 : decode cX18_one 157 = .ok (.iload_n 1, 1) := dk_27 (dk_at dksX18_one_6 17 rfl rfl)
theorem dX18_one_158 : decode cX18_one 158 = .ok (.invokevirtual 27, 3) := dk_182 0 27 (dk_at dksX18_one_6 18 rfl rfl)
theorem dX18_one_161 : decode cX18_one 161 = .ok (.iload 4, 2) := dk_21 4 (dk_at dksX18_one_6 21 rfl rfl)
theorem dX18_one_163 : decode cX18_one 163 = .ok (.istore 5, 2) := dk_54 5 (dk_at dksX18_one_7 0 rfl rfl)
theorem dX18_one_165 : decode cX18_one 165 = .ok (.aload_n 0, 1) := dk_42 (dk_at dksX18_one_7 2 rfl rfl)
theorem dX18_one_166 : decode cX18_one 166 = .ok (.invokevirtual 38, 3) := dk_182 0 38 (dk_at dksX18_one_7 3 rfl rfl)
theorem dX18_one_169 : decode cX18_one 169 = .ok (.ifCond .eq 49, 3) := dk_153 0 49 (dk_at dksX18_one_7 6 rfl rfl)
theorem dX18_one_172 : decode cX18_one 172 = .ok (.iload 5, 2) := dk_21 5 (dk_at dksX18_one_7 9 rfl rfl)
theorem dX18_one_174 : decode cX18_one 174 = .ok (.iload 4, 2) := dk_21 4 (dk_at dksX18_one_7 11 rfl rfl)
theorem dX18_one_176 : decode cX18_one 176 = .ok (.iload_n 2, 1) := dk_28 (dk_at dksX18_one_7 13 rfl rfl)
theorem dX18_one_177 : decode cX18_one 177 = .ok (.imul, 1) := dk_104 (dk_at dksX18_one_7 14 rfl rfl)
theorem dX18_one_178 : decode cX18_one 178 = .ok (.if_icmp .ge 40, 3) := dk_162 0 40 (dk_at dksX18_one_7 15 rfl rfl)
theorem dX18_one_181 : decode cX18_one 181 = .ok (.aload_n 0, 1) := dk_42 (dk_at dksX18_one_7 18 rfl rfl)
theorem dX18_one_182 : decode cX18_one 182 = .ok (.getfield 15, 3) := dk_180 0 15 (dk_at dksX18_one_7 19 rfl rfl)
theorem dX18_one_185 : decode cX18_one 185 = .ok (.aload_n 0, 1) := dk_42 (dk_at dksX18_one_7 22 rfl rfl)
theorem dX18_one_186 : decode cX18_one 186 = .ok (.getfield 49, 3) := dk_180 0 49 (dk_at dksX18_one_8 0 rfl rfl)
theorem dX18_one_189 : decode cX18_one 189 = .ok (.aload_n 0, 1) := dk_42 (dk_at dksX18_one_8 3 rfl rfl)
theorem dX18_one_190 : decode cX18_one 190 = .ok (.getfield 15, 3) := dk_180 0 15 (dk_at dksX18_one_8 4 rfl rfl)
theorem dX18_one_193 : decode cX18_one 193 = .ok (.iload_n 3, 1) := dk_29 (dk_at dksX18_one_8 7 rfl rfl)
theorem dX18_one_194 : decode cX18_one 194 = .ok (.iload 5, 2) := dk_21 5 (dk_at dksX18_one_8 8 rfl rfl)
theorem dX18_one_196 : decode cX18_one 196 = .ok (.iload 4, 2) := dk_21 4 (dk_at dksX18_one_8 10 rfl rfl)
theorem dX18_one_198 : decode cX18_one 198 = .ok (.irem, 1) := dk_112 (dk_at dksX18_one_8 12 rfl rfl)
theorem dX18_one_199 : decode cX18_one 199 = .ok (.iadd, 1) := dk_96 (dk_at dksX18_one_8 13 rfl rfl)
theorem dX18_one_200 : decode cX18_one 200 = .ok (.iaload, 1) := dk_46 (dk_at dksX18_one_8 14 rfl rfl)
theorem dX18_one_201 : decode cX18_one 201 = .ok (.iastore, 1) := dk_79 (dk_at dksX18_one_8 15 rfl rfl)
theorem dX18_one_202 : decode cX18_one 202 = .ok (.aload_n 0, 1) := dk_42 (dk_at dksX18_one_8 16 rfl rfl)
theorem dX18_one_203 : decode cX18_one 203 = .ok (.dup, 1) := dk_89 (dk_at dksX18_one_8 17 rfl rfl)
theorem dX18_one_204 : decode cX18_one 204 = .ok (.getfield 49, 3) := dk_180 0 49 (dk_at dksX18_one_8 18 rfl rfl)
theorem dX18_one_207 : decode cX18_one 207 = .ok (.iconst 1, 1) := dk_4 (dk_at dksX18_one_8 21 rfl rfl)
theorem dX18_one_208 : decode cX18_one 208 = .ok (.iadd, 1) := dk_96 (dk_at dksX18_one_8 22 rfl rfl)
theorem dX18_one_209 : decode cX18_one 209 = .ok (.putfield 49, 3) := dk_181 0 49 (dk_at dksX18_one_9 0 rfl rfl)
theorem dX18_one_212 : decode cX18_one 212 = .ok (.iinc 5 1, 3) := dk_132 5 1 (dk_at dksX18_one_9 3 rfl rfl)
theorem dX18_one_215 : decode cX18_one 215 = .ok (.goto (-50), 3) := dk_167 255 206 (dk_at dksX18_one_9 6 rfl rfl)
theorem dX18_one_218 : decode cX18_one 218 = .ok (.return_, 1) := dk_177 (dk_at dksX18_one_9 9 rfl rfl)
abbrev cX18_rounds : ByteArray := prog_8_method_2_code
def yX18_rounds : MethodName := ⟨RX18, "rounds", "()V"⟩
def dkwX18_rounds_3 : List UInt8 := [100, 181, 0, 19, 177]
abbrev dktX18_rounds_3 : List UInt8 := dkwX18_rounds_3 ++ []
def dkwX18_rounds_2 : List UInt8 := [16, 41, 159, 0, 12, 42, 4, 42, 182, 0, 23, 182, 0, 27, 42, 182, 0, 31, 42, 89, 180, 0, 19, 4]
abbrev dktX18_rounds_2 : List UInt8 := dkwX18_rounds_2 ++ dktX18_rounds_3
def dkwX18_rounds_1 : List UInt8 := [180, 0, 19, 4, 96, 181, 0, 19, 42, 182, 0, 35, 42, 182, 0, 38, 153, 0, 21, 42, 182, 0, 42]
abbrev dktX18_rounds_1 : List UInt8 := dkwX18_rounds_1 ++ dktX18_rounds_2
def dkwX18_rounds_0 : List UInt8 := [42, 180, 0, 19, 5, 160, 0, 12, 42, 8, 42, 182, 0, 23, 182, 0, 27, 42, 182, 0, 31, 42, 89]
abbrev dktX18_rounds_0 : List UInt8 := dkwX18_rounds_0 ++ dktX18_rounds_1
theorem dksX18_rounds_0 : cX18_rounds.data.toList.drop 0 = dktX18_rounds_0 := by decide +kernel
theorem dksX18_rounds_1 : cX18_rounds.data.toList.drop 23 = dktX18_rounds_1 := dk_seg dksX18_rounds_0 23 rfl rfl
theorem dksX18_rounds_2 : cX18_rounds.data.toList.drop 46 = dktX18_rounds_2 := dk_seg dksX18_rounds_1 23 rfl rfl
theorem dksX18_rounds_3 : cX18_rounds.data.toList.drop 70 = dktX18_rounds_3 := dk_seg dksX18_rounds_2 24 rfl rfl
theorem dX18_rounds_0 : decode cX18_rounds 0 = .ok (.aload_n 0, 1) := dk_42 (dk_at dksX18_rounds_0 0 rfl rfl)
theorem dX18_rounds_1 : decode cX18_rounds 1 = .ok (.getfield 19, 3) := dk_180 0 19 (dk_at dksX18_rounds_0 1 rfl rfl)
theorem dX18_rounds_4 : decode cX18_rounds 4 = .ok (.iconst 2, 1) := dk_5 (dk_at dksX18_rounds_0 4 rfl rfl)
theorem dX18_rounds_5 : decode cX18_rounds 5 = .ok (.if_icmp .ne 12, 3) := dk_160 0 12 (dk_at dksX18_rounds_0 5 rfl rfl)
theorem dX18_rounds_8 : decode cX18_rounds 8 = .ok (.aload_n 0, 1) := dk_42 (dk_at dksX18_rounds_0 8 rfl rfl)
theorem dX18_rounds_9 : decode cX18_rounds 9 = .ok (.iconst 5, 1) := dk_8 (dk_at dksX18_rounds_0 9 rfl rfl)
theorem dX18_rounds_10 : decode cX18_rounds 10 = .ok (.aload_n 0, 1) := dk_42 (dk_at dksX18_rounds_0 10 rfl rfl)
theorem dX18_rounds_11 : decode cX18_rounds 11 = .ok (.invokevirtual 23, 3) := dk_182 0 23 (dk_at dksX18_rounds_0 11 rfl rfl)
theorem dX18_rounds_14 : decode cX18_rounds 14 = .ok (.invokevirtual 27, 3) := dk_182 0 27 (dk_at dksX18_rounds_0 14 rfl rfl)
theorem dX18_rounds_17 : decode cX18_rounds 17 = .ok (.aload_n 0, 1) := dk_42 (dk_at dksX18_rounds_0 17 rfl rfl)
theorem dX18_rounds_18 : decode cX18_rounds 18 = .ok (.invokevirtual 31, 3) := dk_182 0 31 (dk_at dksX18_rounds_0 18 rfl rfl)
theorem dX18_rounds_21 : decode cX18_rounds 21 = .ok (.aload_n 0, 1) := dk_42 (dk_at dksX18_rounds_0 21 rfl rfl)
theorem dX18_rounds_22 : decode cX18_rounds 22 = .ok (.dup, 1) := dk_89 (dk_at dksX18_rounds_0 22 rfl rfl)
theorem dX18_rounds_23 : decode cX18_rounds 23 = .ok (.getfield 19, 3) := dk_180 0 19 (dk_at dksX18_rounds_1 0 rfl rfl)
theorem dX18_rounds_26 : decode cX18_rounds 26 = .ok (.iconst 1, 1) := dk_4 (dk_at dksX18_rounds_1 3 rfl rfl)
theorem dX18_rounds_27 : decode cX18_rounds 27 = .ok (.iadd, 1) := dk_96 (dk_at dksX18_rounds_1 4 rfl rfl)
theorem dX18_rounds_28 : decode cX18_rounds 28 = .ok (.putfield 19, 3) := dk_181 0 19 (dk_at dksX18_rounds_1 5 rfl rfl)
theorem dX18_rounds_31 : decode cX18_rounds 31 = .ok (.aload_n 0, 1) := dk_42 (dk_at dksX18_rounds_1 8 rfl rfl)
theorem dX18_rounds_32 : decode cX18_rounds 32 = .ok (.invokevirtual 35, 3) := dk_182 0 35 (dk_at dksX18_rounds_1 9 rfl rfl)
theorem dX18_rounds_35 : decode cX18_rounds 35 = .ok (.aload_n 0, 1) := dk_42 (dk_at dksX18_rounds_1 12 rfl rfl)
theorem dX18_rounds_36 : decode cX18_rounds 36 = .ok (.invokevirtual 38, 3) := dk_182 0 38 (dk_at dksX18_rounds_1 13 rfl rfl)
theorem dX18_rounds_39 : decode cX18_rounds 39 = .ok (.ifCond .eq 21, 3) := dk_153 0 21 (dk_at dksX18_rounds_1 16 rfl rfl)
theorem dX18_rounds_42 : decode cX18_rounds 42 = .ok (.aload_n 0, 1) := dk_42 (dk_at dksX18_rounds_1 19 rfl rfl)
theorem dX18_rounds_43 : decode cX18_rounds 43 = .ok (.invokevirtual 42, 3) := dk_182 0 42 (dk_at dksX18_rounds_1 20 rfl rfl)
theorem dX18_rounds_46 : decode cX18_rounds 46 = .ok (.bipush 41, 2) := dk_16 41 (dk_at dksX18_rounds_2 0 rfl rfl)
theorem dX18_rounds_48 : decode cX18_rounds 48 = .ok (.if_icmp .eq 12, 3) := dk_159 0 12 (dk_at dksX18_rounds_2 2 rfl rfl)
theorem dX18_rounds_51 : decode cX18_rounds 51 = .ok (.aload_n 0, 1) := dk_42 (dk_at dksX18_rounds_2 5 rfl rfl)
theorem dX18_rounds_52 : decode cX18_rounds 52 = .ok (.iconst 1, 1) := dk_4 (dk_at dksX18_rounds_2 6 rfl rfl)
theorem dX18_rounds_53 : decode cX18_rounds 53 = .ok (.aload_n 0, 1) := dk_42 (dk_at dksX18_rounds_2 7 rfl rfl)
theorem dX18_rounds_54 : decode cX18_rounds 54 = .ok (.invokevirtual 23, 3) := dk_182 0 23 (dk_at dksX18_rounds_2 8 rfl rfl)
theorem dX18_rounds_57 : decode cX18_rounds 57 = .ok (.invokevirtual 27, 3) := dk_182 0 27 (dk_at dksX18_rounds_2 11 rfl rfl)
theorem dX18_rounds_60 : decode cX18_rounds 60 = .ok (.aload_n 0, 1) := dk_42 (dk_at dksX18_rounds_2 14 rfl rfl)
theorem dX18_rounds_61 : decode cX18_rounds 61 = .ok (.invokevirtual 31, 3) := dk_182 0 31 (dk_at dksX18_rounds_2 15 rfl rfl)
theorem dX18_rounds_64 : decode cX18_rounds 64 = .ok (.aload_n 0, 1) := dk_42 (dk_at dksX18_rounds_2 18 rfl rfl)
theorem dX18_rounds_65 : decode cX18_rounds 65 = .ok (.dup, 1) := dk_89 (dk_at dksX18_rounds_2 19 rfl rfl)
theorem dX18_rounds_66 : decode cX18_rounds 66 = .ok (.getfield 19, 3) := dk_180 0 19 (dk_at dksX18_rounds_2 20 rfl rfl)
theorem dX18_rounds_69 : decode cX18_rounds 69 = .ok (.iconst 1, 1) := dk_4 (dk_at dksX18_rounds_2 23 rfl rfl)
theorem dX18_rounds_70 : decode cX18_rounds 70 = .ok (.isub, 1) := dk_100 (dk_at dksX18_rounds_3 0 rfl rfl)
theorem dX18_rounds_71 : decode cX18_rounds 71 = .ok (.putfield 19, 3) := dk_181 0 19 (dk_at dksX18_rounds_3 1 rfl rfl)
theorem dX18_rounds_74 : decode cX18_rounds 74 = .ok (.return_, 1) := dk_177 (dk_at dksX18_rounds_3 4 rfl rfl)
theorem q140 : (Jvm.Cond.initialized "OneCoin$Guide") ∈ lw_all := lw_g (lw_at lw_m1 25 rfl) rfl
theorem q743 : (Jvm.Cond.selects "OneCoin$Guide" ({ cls := "OneCoin$Scribe", name := "sees", desc := "(II)Z" } : Jvm.MethodName) ({ cls := "OneCoin$Scribe", name := "sees", desc := "(II)Z" } : Jvm.MethodName)) ∈ lw_all := lw_g (lw_at lw_m3 148 rfl) rfl
theorem q749 : (Jvm.Cond.selects "OneCoin$Guide" ({ cls := "OneCoin$Scribe", name := "here", desc := "()I" } : Jvm.MethodName) ({ cls := "OneCoin$Scribe", name := "here", desc := "()I" } : Jvm.MethodName)) ∈ lw_all := lw_g (lw_at lw_m3 154 rfl) rfl
theorem q823 : (Jvm.Cond.instantiable "OneCoin$Guide" (9 : Nat)) ∈ lw_all := lw_g (lw_at lw_m3 228 rfl) rfl
theorem q825 : (Jvm.Cond.instanceMethod ({ cls := "OneCoin$Guide", name := "<init>", desc := "(LOneCoin;I)V" } : Jvm.MethodName)) ∈ lw_all := lw_g (lw_at lw_m3 230 rfl) rfl
theorem q826 : (Jvm.Cond.code ({ cls := "OneCoin$Guide", name := "<init>", desc := "(LOneCoin;I)V" } : Jvm.MethodName) prog_8_method_1_code (3 : Nat) (Option.none : Option Jvm.ClassFile.FieldType)) ∈ lw_all := lw_g (lw_at lw_m3 231 rfl) rfl
theorem q827 : (Jvm.Cond.methodLink "OneCoin$Guide" (9 : Nat) ({ cls := "OneCoin$Scribe", name := "<init>", desc := "(LOneCoin;I)V" } : Jvm.MethodName)) ∈ lw_all := lw_g (lw_at lw_m3 232 rfl) rfl
theorem q828 : (Jvm.Cond.fieldLink "OneCoin$Guide" (15 : Nat) "OneCoin$Guide" "row" "[I") ∈ lw_all := lw_g (lw_at lw_m3 233 rfl) rfl
theorem q830 : (Jvm.Cond.fieldLink "OneCoin$Guide" (49 : Nat) "OneCoin$Guide" "many" "I") ∈ lw_all := lw_g (lw_at lw_m3 235 rfl) rfl
theorem q831 : (Jvm.Cond.fieldLink "OneCoin$Guide" (19 : Nat) "OneCoin$Guide" "depth" "I") ∈ lw_all := lw_g (lw_at lw_m3 236 rfl) rfl
theorem q832 : (Jvm.Cond.fieldLink "OneCoin$Guide" (3 : Nat) "OneCoin$Guide" "this$0" "LOneCoin;") ∈ lw_all := lw_g (lw_at lw_m3 237 rfl) rfl
theorem q833 : (Jvm.Cond.laysFinal "OneCoin$Guide" "OneCoin$Guide" "row" "[I") ∈ lw_all := lw_g (lw_at lw_m3 238 rfl) rfl
theorem q834 : (Jvm.Cond.soleField "OneCoin$Guide" "row") ∈ lw_all := lw_g (lw_at lw_m3 239 rfl) rfl
theorem q835 : (Jvm.Cond.lays "OneCoin$Guide" "OneCoin$Guide" "many" "I") ∈ lw_all := lw_g (lw_at lw_m4 0 rfl) rfl
theorem q836 : (Jvm.Cond.soleField "OneCoin$Guide" "many") ∈ lw_all := lw_g (lw_at lw_m4 1 rfl) rfl
theorem q837 : (Jvm.Cond.lays "OneCoin$Guide" "OneCoin$Guide" "depth" "I") ∈ lw_all := lw_g (lw_at lw_m4 2 rfl) rfl
theorem q838 : (Jvm.Cond.soleField "OneCoin$Guide" "depth") ∈ lw_all := lw_g (lw_at lw_m4 3 rfl) rfl
theorem q839 : (Jvm.Cond.laysFinal "OneCoin$Guide" "OneCoin$Guide" "this$0" "LOneCoin;") ∈ lw_all := lw_g (lw_at lw_m4 4 rfl) rfl
theorem q840 : (Jvm.Cond.soleField "OneCoin$Guide" "this$0") ∈ lw_all := lw_g (lw_at lw_m4 5 rfl) rfl
theorem q841 : (Jvm.Cond.laysFinal "OneCoin$Guide" "OneCoin$Scribe" "n" "I") ∈ lw_all := lw_g (lw_at lw_m4 6 rfl) rfl
theorem q842 : (Jvm.Cond.lays "OneCoin$Guide" "OneCoin$Scribe" "at" "I") ∈ lw_all := lw_g (lw_at lw_m4 7 rfl) rfl
theorem q843 : (Jvm.Cond.lays "OneCoin$Guide" "OneCoin$Scribe" "fault" "I") ∈ lw_all := lw_g (lw_at lw_m4 8 rfl) rfl
theorem q844 : (Jvm.Cond.lays "OneCoin$Guide" "OneCoin$Scribe" "place" "I") ∈ lw_all := lw_g (lw_at lw_m4 9 rfl) rfl
theorem q845 : (Jvm.Cond.laysFinal "OneCoin$Guide" "OneCoin$Scribe" "this$0" "LOneCoin;") ∈ lw_all := lw_g (lw_at lw_m4 10 rfl) rfl
theorem q846 : (Jvm.Cond.superclass "OneCoin$Guide" "OneCoin$Scribe") ∈ lw_all := lw_g (lw_at lw_m4 11 rfl) rfl
theorem q848 : (Jvm.Cond.instanceMethod ({ cls := "OneCoin$Guide", name := "read", desc := "()I" } : Jvm.MethodName)) ∈ lw_all := lw_g (lw_at lw_m4 13 rfl) rfl
theorem q849 : (Jvm.Cond.selects "OneCoin$Guide" ({ cls := "OneCoin$Guide", name := "read", desc := "()I" } : Jvm.MethodName) ({ cls := "OneCoin$Guide", name := "read", desc := "()I" } : Jvm.MethodName)) ∈ lw_all := lw_g (lw_at lw_m4 14 rfl) rfl
theorem q850 : (Jvm.Cond.code ({ cls := "OneCoin$Guide", name := "read", desc := "()I" } : Jvm.MethodName) prog_8_method_5_code (1 : Nat) (Option.some Jvm.ClassFile.FieldType.int)) ∈ lw_all := lw_g (lw_at lw_m4 15 rfl) rfl
theorem q851 : (Jvm.Cond.methodLink "OneCoin$Guide" (35 : Nat) ({ cls := "OneCoin$Guide", name := "all", desc := "()V" } : Jvm.MethodName)) ∈ lw_all := lw_g (lw_at lw_m4 16 rfl) rfl
theorem q852 : (Jvm.Cond.privateMethod ({ cls := "OneCoin$Guide", name := "all", desc := "()V" } : Jvm.MethodName)) ∈ lw_tbl := lw_at lw_m4 17 rfl
theorem q853 : (Jvm.Cond.instanceMethod ({ cls := "OneCoin$Guide", name := "all", desc := "()V" } : Jvm.MethodName)) ∈ lw_all := lw_g (lw_at lw_m4 18 rfl) rfl
theorem q854 : (Jvm.Cond.code ({ cls := "OneCoin$Guide", name := "all", desc := "()V" } : Jvm.MethodName) prog_8_method_4_code (2 : Nat) (Option.none : Option Jvm.ClassFile.FieldType)) ∈ lw_all := lw_g (lw_at lw_m4 19 rfl) rfl
theorem q855 : (Jvm.Cond.methodLink "OneCoin$Guide" (38 : Nat) ({ cls := "OneCoin$Guide", name := "isGood", desc := "()Z" } : Jvm.MethodName)) ∈ lw_all := lw_g (lw_at lw_m4 20 rfl) rfl
theorem q856 : (Jvm.Cond.sameMethod "OneCoin$Guide" "OneCoin$Scribe" "isGood" "()Z") ∈ lw_all := lw_g (lw_at lw_m4 21 rfl) rfl
theorem q857 : (Jvm.Cond.selects "OneCoin$Guide" ({ cls := "OneCoin$Guide", name := "isGood", desc := "()Z" } : Jvm.MethodName) ({ cls := "OneCoin$Scribe", name := "isGood", desc := "()Z" } : Jvm.MethodName)) ∈ lw_all := lw_g (lw_at lw_m4 22 rfl) rfl
theorem q858 : (Jvm.Cond.methodLink "OneCoin$Guide" (58 : Nat) ({ cls := "OneCoin$Guide", name := "one", desc := "()V" } : Jvm.MethodName)) ∈ lw_all := lw_g (lw_at lw_m4 23 rfl) rfl
theorem q859 : (Jvm.Cond.privateMethod ({ cls := "OneCoin$Guide", name := "one", desc := "()V" } : Jvm.MethodName)) ∈ lw_tbl := lw_at lw_m4 24 rfl
theorem q860 : (Jvm.Cond.instanceMethod ({ cls := "OneCoin$Guide", name := "one", desc := "()V" } : Jvm.MethodName)) ∈ lw_all := lw_g (lw_at lw_m4 25 rfl) rfl
theorem q861 : (Jvm.Cond.code ({ cls := "OneCoin$Guide", name := "one", desc := "()V" } : Jvm.MethodName) prog_8_method_3_code (6 : Nat) (Option.none : Option Jvm.ClassFile.FieldType)) ∈ lw_all := lw_g (lw_at lw_m4 26 rfl) rfl
theorem q862 : (Jvm.Cond.methodLink "OneCoin$Guide" (23 : Nat) ({ cls := "OneCoin$Guide", name := "place", desc := "()I" } : Jvm.MethodName)) ∈ lw_all := lw_g (lw_at lw_m4 27 rfl) rfl
theorem q863 : (Jvm.Cond.sameMethod "OneCoin$Guide" "OneCoin$Scribe" "place" "()I") ∈ lw_all := lw_g (lw_at lw_m4 28 rfl) rfl
theorem q864 : (Jvm.Cond.selects "OneCoin$Guide" ({ cls := "OneCoin$Guide", name := "place", desc := "()I" } : Jvm.MethodName) ({ cls := "OneCoin$Scribe", name := "place", desc := "()I" } : Jvm.MethodName)) ∈ lw_all := lw_g (lw_at lw_m4 29 rfl) rfl
theorem q865 : (Jvm.Cond.methodLink "OneCoin$Guide" (45 : Nat) ({ cls := "OneCoin$Guide", name := "sees", desc := "(II)Z" } : Jvm.MethodName)) ∈ lw_all := lw_g (lw_at lw_m4 30 rfl) rfl
theorem q866 : (Jvm.Cond.sameMethod "OneCoin$Guide" "OneCoin$Scribe" "sees" "(II)Z") ∈ lw_all := lw_g (lw_at lw_m4 31 rfl) rfl
theorem q867 : (Jvm.Cond.selects "OneCoin$Guide" ({ cls := "OneCoin$Guide", name := "sees", desc := "(II)Z" } : Jvm.MethodName) ({ cls := "OneCoin$Scribe", name := "sees", desc := "(II)Z" } : Jvm.MethodName)) ∈ lw_all := lw_g (lw_at lw_m4 32 rfl) rfl
theorem q868 : (Jvm.Cond.methodLink "OneCoin$Guide" (42 : Nat) ({ cls := "OneCoin$Guide", name := "here", desc := "()I" } : Jvm.MethodName)) ∈ lw_all := lw_g (lw_at lw_m4 33 rfl) rfl
theorem q869 : (Jvm.Cond.sameMethod "OneCoin$Guide" "OneCoin$Scribe" "here" "()I") ∈ lw_all := lw_g (lw_at lw_m4 34 rfl) rfl
theorem q870 : (Jvm.Cond.selects "OneCoin$Guide" ({ cls := "OneCoin$Guide", name := "here", desc := "()I" } : Jvm.MethodName) ({ cls := "OneCoin$Scribe", name := "here", desc := "()I" } : Jvm.MethodName)) ∈ lw_all := lw_g (lw_at lw_m4 35 rfl) rfl
theorem q871 : (Jvm.Cond.methodLink "OneCoin$Guide" (31 : Nat) ({ cls := "OneCoin$Guide", name := "goes", desc := "()V" } : Jvm.MethodName)) ∈ lw_all := lw_g (lw_at lw_m4 36 rfl) rfl
theorem q872 : (Jvm.Cond.sameMethod "OneCoin$Guide" "OneCoin$Scribe" "goes" "()V") ∈ lw_all := lw_g (lw_at lw_m4 37 rfl) rfl
theorem q873 : (Jvm.Cond.selects "OneCoin$Guide" ({ cls := "OneCoin$Guide", name := "goes", desc := "()V" } : Jvm.MethodName) ({ cls := "OneCoin$Scribe", name := "goes", desc := "()V" } : Jvm.MethodName)) ∈ lw_all := lw_g (lw_at lw_m4 38 rfl) rfl
theorem q874 : (Jvm.Cond.methodLink "OneCoin$Guide" (52 : Nat) ({ cls := "OneCoin$Guide", name := "rounds", desc := "()V" } : Jvm.MethodName)) ∈ lw_all := lw_g (lw_at lw_m4 39 rfl) rfl
theorem q875 : (Jvm.Cond.privateMethod ({ cls := "OneCoin$Guide", name := "rounds", desc := "()V" } : Jvm.MethodName)) ∈ lw_tbl := lw_at lw_m4 40 rfl
theorem q876 : (Jvm.Cond.instanceMethod ({ cls := "OneCoin$Guide", name := "rounds", desc := "()V" } : Jvm.MethodName)) ∈ lw_all := lw_g (lw_at lw_m4 41 rfl) rfl
theorem q877 : (Jvm.Cond.code ({ cls := "OneCoin$Guide", name := "rounds", desc := "()V" } : Jvm.MethodName) prog_8_method_2_code (1 : Nat) (Option.none : Option Jvm.ClassFile.FieldType)) ∈ lw_all := lw_g (lw_at lw_m4 42 rfl) rfl
theorem q878 : (Jvm.Cond.methodLink "OneCoin$Guide" (27 : Nat) ({ cls := "OneCoin$Guide", name := "bad", desc := "(II)V" } : Jvm.MethodName)) ∈ lw_all := lw_g (lw_at lw_m4 43 rfl) rfl
theorem q879 : (Jvm.Cond.sameMethod "OneCoin$Guide" "OneCoin$Scribe" "bad" "(II)V") ∈ lw_all := lw_g (lw_at lw_m4 44 rfl) rfl
theorem q880 : (Jvm.Cond.selects "OneCoin$Guide" ({ cls := "OneCoin$Guide", name := "bad", desc := "(II)V" } : Jvm.MethodName) ({ cls := "OneCoin$Scribe", name := "bad", desc := "(II)V" } : Jvm.MethodName)) ∈ lw_all := lw_g (lw_at lw_m4 45 rfl) rfl
theorem q881 : (Jvm.Cond.methodLink "OneCoin$Guide" (55 : Nat) ({ cls := "OneCoin$Guide", name := "seesPerson", desc := "()Z" } : Jvm.MethodName)) ∈ lw_all := lw_g (lw_at lw_m4 46 rfl) rfl
theorem q882 : (Jvm.Cond.sameMethod "OneCoin$Guide" "OneCoin$Scribe" "seesPerson" "()Z") ∈ lw_all := lw_g (lw_at lw_m4 47 rfl) rfl
theorem q883 : (Jvm.Cond.selects "OneCoin$Guide" ({ cls := "OneCoin$Guide", name := "seesPerson", desc := "()Z" } : Jvm.MethodName) ({ cls := "OneCoin$Scribe", name := "seesPerson", desc := "()Z" } : Jvm.MethodName)) ∈ lw_all := lw_g (lw_at lw_m4 48 rfl) rfl
theorem q884 : (Jvm.Cond.methodLink "OneCoin$Guide" (61 : Nat) ({ cls := "OneCoin$Guide", name := "isEnd", desc := "()Z" } : Jvm.MethodName)) ∈ lw_all := lw_g (lw_at lw_m4 49 rfl) rfl
theorem q885 : (Jvm.Cond.sameMethod "OneCoin$Guide" "OneCoin$Scribe" "isEnd" "()Z") ∈ lw_all := lw_g (lw_at lw_m4 50 rfl) rfl
theorem q886 : (Jvm.Cond.selects "OneCoin$Guide" ({ cls := "OneCoin$Guide", name := "isEnd", desc := "()Z" } : Jvm.MethodName) ({ cls := "OneCoin$Scribe", name := "isEnd", desc := "()Z" } : Jvm.MethodName)) ∈ lw_all := lw_g (lw_at lw_m4 51 rfl) rfl
theorem q887 : (Jvm.Cond.methodLink "OneCoin$Guide" (64 : Nat) ({ cls := "OneCoin$Guide", name := "answer", desc := "(I)I" } : Jvm.MethodName)) ∈ lw_all := lw_g (lw_at lw_m4 52 rfl) rfl
theorem q888 : (Jvm.Cond.sameMethod "OneCoin$Guide" "OneCoin$Scribe" "answer" "(I)I") ∈ lw_all := lw_g (lw_at lw_m4 53 rfl) rfl
theorem q889 : (Jvm.Cond.selects "OneCoin$Guide" ({ cls := "OneCoin$Guide", name := "answer", desc := "(I)I" } : Jvm.MethodName) ({ cls := "OneCoin$Scribe", name := "answer", desc := "(I)I" } : Jvm.MethodName)) ∈ lw_all := lw_g (lw_at lw_m4 54 rfl) rfl
theorem q1904 : (Jvm.Cond.selects "OneCoin$Guide" ({ cls := "OneCoin$Scribe", name := "isGood", desc := "()Z" } : Jvm.MethodName) ({ cls := "OneCoin$Scribe", name := "isGood", desc := "()Z" } : Jvm.MethodName)) ∈ lw_all := lw_g (lw_at lw_m8 109 rfl) rfl
theorem in_X18 : ∀ w ∈ wsX180, w ∈ lw_all := lw_in wsX180 [841, 842, 843, 844, 845, 833, 835, 837, 839] (by decide +kernel) (by decide +kernel)
