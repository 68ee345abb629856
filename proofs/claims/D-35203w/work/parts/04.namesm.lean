/-! FairBattenModel -/
set_option maxRecDepth 100000
def RX5 : String := "FairBattenModel"
def TX5 : u_T := fun k => match k with
  | 0 => ("FairBattenModel", "thrown", "I", false)
  | 1 => ("FairBattenModel", "half", "[I", true)
  | 2 => ("FairBattenModel", "weights", "I", false)
  | 3 => ("FairBattenModel", "at", "[I", true)
  | 4 => ("FairBattenModel", "weight", "[I", true)
  | 5 => ("FairBattenModel", "length", "I", false)
  | 6 => ("FairBattenModel", "left", "[I", true)
  | 7 => ("FairBattenModel", "cutFrom", "[I", true)
  | 8 => ("FairBattenModel", "tides", "I", false)
  | 9 => ("FairBattenModel", "tideDay", "[I", true)
  | 10 => ("FairBattenModel", "tide", "[I", true)
  | 11 => ("FairBattenModel", "sill", "I", false)
  | 12 => ("FairBattenModel", "today", "I", false)
  | 13 => ("FairBattenModel", "isLaunched", "Z", false)
  | 14 => ("FairBattenModel", "behind", "[I", true)
  | _ => ("FairBattenModel", "line", "[I", true)
def tyX5 : Nat → FieldType := fun k => match k with
  | 0 => .int
  | 1 => .array .int
  | 2 => .int
  | 3 => .array .int
  | 4 => .array .int
  | 5 => .int
  | 6 => .array .int
  | 7 => .array .int
  | 8 => .int
  | 9 => .array .int
  | 10 => .array .int
  | 11 => .int
  | 12 => .int
  | 13 => .boolean
  | 14 => .array .int
  | _ => .array .int
abbrev wsX50 : List Cond := u_ws RX5 TX5 16
set_option maxRecDepth 100000 in
theorem nmX5 : ∀ a, a < 16 → ∀ b, b < 16 → a ≠ b → (TX5 a).2.1 ≠ (TX5 b).2.1 := by decide +kernel
set_option maxRecDepth 100000 in
theorem tyX5_ok : ∀ k, k < 16 → parseFieldDescriptor (TX5 k).2.2.1 = some (tyX5 k) := by decide +kernel
abbrev cX5_init : ByteArray := prog_13_method_1_code
def yX5_init : MethodName := ⟨RX5, "<init>", "()V"⟩
def dkwX5_init_4 : List UInt8 := [177]
abbrev dktX5_init_4 : List UInt8 := dkwX5_init_4 ++ []
def dkwX5_init_3 : List UInt8 := [17, 0, 250, 188, 10, 181, 0, 35, 42, 16, 9, 188, 10, 181, 0, 38, 42, 180, 0, 13, 16, 16, 7, 79]
abbrev dktX5_init_3 : List UInt8 := dkwX5_init_3 ++ dktX5_init_4
def dkwX5_init_2 : List UInt8 := [188, 10, 181, 0, 26, 42, 16, 40, 188, 10, 181, 0, 29, 42, 16, 40, 188, 10, 181, 0, 32, 42]
abbrev dktX5_init_2 : List UInt8 := dkwX5_init_2 ++ dktX5_init_3
def dkwX5_init_1 : List UInt8 := [188, 10, 181, 0, 16, 42, 17, 3, 232, 181, 0, 19, 42, 17, 0, 180, 188, 10, 181, 0, 23, 42, 16, 10]
abbrev dktX5_init_1 : List UInt8 := dkwX5_init_1 ++ dktX5_init_2
def dkwX5_init_0 : List UInt8 := [42, 183, 0, 1, 42, 16, 54, 188, 10, 181, 0, 7, 42, 16, 17, 188, 10, 181, 0, 13, 42, 16, 17]
abbrev dktX5_init_0 : List UInt8 := dkwX5_init_0 ++ dktX5_init_1
theorem dksX5_init_0 : cX5_init.data.toList.drop 0 = dktX5_init_0 := by decide +kernel
theorem dksX5_init_1 : cX5_init.data.toList.drop 23 = dktX5_init_1 := dk_seg dksX5_init_0 23 rfl rfl
theorem dksX5_init_2 : cX5_init.data.toList.drop 47 = dktX5_init_2 := dk_seg dksX5_init_1 24 rfl rfl
theorem dksX5_init_3 : cX5_init.data.toList.drop 69 = dktX5_init_3 := dk_seg dksX5_init_2 22 rfl rfl
theorem dksX5_init_4 : cX5_init.data.toList.drop 93 = dktX5_init_4 := dk_seg dksX5_init_3 24 rfl rfl
theorem dX5_init_0 : decode cX5_init 0 = .ok (.aload_n 0, 1) := dk_42 (dk_at dksX5_init_0 0 rfl rfl)
theorem dX5_init_1 : decode cX5_init 1 = .ok (.invokespecial 1, 3) := dk_183 0 1 (dk_at dksX5_init_0 1 rfl rfl)
theorem dX5_init_4 : decode cX5_init 4 = .ok (.aload_n 0, 1) := dk_42 (dk_at dksX5_init_0 4 rfl rfl)
theorem dX5_init_5 : decode cX5_init 5 = .ok (.bipush 54, 2) := dk_16 54 (dk_at dksX5_init_0 5 rfl rfl)
theorem dX5_init_7 : decode cX5_init 7 = .ok (.newarray .int, 2) := dk_188_10 (dk_at dksX5_init_0 7 rfl rfl)
theorem dX5_init_9 : decode cX5_init 9 = .ok (.putfield 7, 3) := dk_181 0 7 (dk_at dksX5_init_0 9 rfl rfl)
theorem dX5_init_12 : decode cX5_init 12 = .ok (.aload_n 0, 1) := dk_42 (dk_at dksX5_init_0 12 rfl rfl)
theorem dX5_init_13 : decode cX5_init 13 = .ok (.bipush 17, 2) := dk_16 17 (dk_at dksX5_init_0 13 rfl rfl)
theorem dX5_init_15 : decode cX5_init 15 = .ok (.newarray .int, 2) := dk_188_10 (dk_at dksX5_init_0 15 rfl rfl)
theorem dX5_init_17 : decode cX5_init 17 = .ok (.putfield 13, 3) := dk_181 0 13 (dk_at dksX5_init_0 17 rfl rfl)
theorem dX5_init_20 : decode cX5_init 20 = .ok (.aload_n 0, 1) := dk_42 (dk_at dksX5_init_0 20 rfl rfl)
theorem dX5_init_21 : decode cX5_init 21 = .ok (.bipush 17, 2) := dk_16 17 (dk_at dksX5_init_0 21 rfl rfl)
theorem dX5_init_23 : decode cX5_init 23 = .ok (.newarray .int, 2) := dk_188_10 (dk_at dksX5_init_1 0 rfl rfl)
theorem dX5_init_25 : decode cX5_init 25 = .ok (.putfield 16, 3) := dk_181 0 16 (dk_at dksX5_init_1 2 rfl rfl)
theorem dX5_init_28 : decode cX5_init 28 = .ok (.aload_n 0, 1) := dk_42 (dk_at dksX5_init_1 5 rfl rfl)
theorem dX5_init_29 : decode cX5_init 29 = .ok (.sipush 1000, 3) := dk_17 3 232 (dk_at dksX5_init_1 6 rfl rfl)
theorem dX5_init_32 : decode cX5_init 32 = .ok (.putfield 19, 3) := dk_181 0 19 (dk_at dksX5_init_1 9 rfl rfl)
theorem dX5_init_35 : decode cX5_init 35 = .ok (.aload_n 0, 1) := dk_42 (dk_at dksX5_init_1 12 rfl rfl)
theorem dX5_init_36 : decode cX5_init 36 = .ok (.sipush 180, 3) := dk_17 0 180 (dk_at dksX5_init_1 13 rfl rfl)
theorem dX5_init_39 : decode cX5_init 39 = .ok (.newarray .int, 2) := dk_188_10 (dk_at dksX5_init_1 16 rfl rfl)
theorem dX5_init_41 : decode cX5_init 41 = .ok (.putfield 23, 3) := dk_181 0 23 (dk_at dksX5_init_1 18 rfl rfl)
theorem dX5_init_44 : decode cX5_init 44 = .ok (.aload_n 0, 1) := dk_42 (dk_at dksX5_init_1 21 rfl rfl)
theorem dX5_init_45 : decode cX5_init 45 = .ok (.bipush 10, 2) := dk_16 10 (dk_at dksX5_init_1 22 rfl rfl)
theorem dX5_init_47 : decode cX5_init 47 = .ok (.newarray .int, 2) := dk_188_10 (dk_at dksX5_init_2 0 rfl rfl)
theorem dX5_init_49 : decode cX5_init 49 = .ok (.putfield 26, 3) := dk_181 0 26 (dk_at dksX5_init_2 2 rfl rfl)
theorem dX5_init_52 : decode cX5_init 52 = .ok (.aload_n 0, 1) := dk_42 (dk_at dksX5_init_2 5 rfl rfl)
theorem dX5_init_53 : decode cX5_init 53 = .ok (.bipush 40, 2) := dk_16 40 (dk_at dksX5_init_2 6 rfl rfl)
theorem dX5_init_55 : decode cX5_init 55 = .ok (.newarray .int, 2) := dk_188_10 (dk_at dksX5_init_2 8 rfl rfl)
theorem dX5_init_57 : decode cX5_init 57 = .ok (.putfield 29, 3) := dk_181 0 29 (dk_at dksX5_init_2 10 rfl rfl)
theorem dX5_init_60 : decode cX5_init 60 = .ok (.aload_n 0, 1) := dk_42 (dk_at dksX5_init_2 13 rfl rfl)
theorem dX5_init_61 : decode cX5_init 61 = .ok (.bipush 40, 2) := dk_16 40 (dk_at dksX5_init_2 14 rfl rfl)
theorem dX5_init_63 : decode cX5_init 63 = .ok (.newarray .int, 2) := dk_188_10 (dk_at dksX5_init_2 16 rfl rfl)
theorem dX5_init_65 : decode cX5_init 65 = .ok (.putfield 32, 3) := dk_181 0 32 (dk_at dksX5_init_2 18 rfl rfl)
theorem dX5_init_68 : decode cX5_init 68 = .ok (.aload_n 0, 1) := dk_42 (dk_at dksX5_init_2 21 rfl rfl)
theorem dX5_init_69 : decode cX5_init 69 = .ok (.sipush 250, 3) := dk_17 0 250 (dk_at dksX5_init_3 0 rfl rfl)
theorem dX5_init_72 : decode cX5_init 72 = .ok (.newarray .int, 2) := dk_188_10 (dk_at dksX5_init_3 3 rfl rfl)
theorem dX5_init_74 : decode cX5_init 74 = .ok (.putfield 35, 3) := dk_181 0 35 (dk_at dksX5_init_3 5 rfl rfl)
theorem dX5_init_77 : decode cX5_init 77 = .ok (.aload_n 0, 1) := dk_42 (dk_at dksX5_init_3 8 rfl rfl)
theorem dX5_init_78 : decode cX5_init 78 = .ok (.bipush 9, 2) := dk_16 9 (dk_at dksX5_init_3 9 rfl rfl)
theorem dX5_init_80 : decode cX5_init 80 = .ok (.newarray .int, 2) := dk_188_10 (dk_at dksX5_init_3 11 rfl rfl)
theorem dX5_init_82 : decode cX5_init 82 = .ok (.putfield 38, 3) := dk_181 0 38 (dk_at dksX5_init_3 13 rfl rfl)
theorem dX5_init_85 : decode cX5_init 85 = .ok (.aload_n 0, 1) := dk_42 (dk_at dksX5_init_3 16 rfl rfl)
theorem dX5_init_86 : decode cX5_init 86 = .ok (.getfield 13, 3) := dk_180 0 13 (dk_at dksX5_init_3 17 rfl rfl)
theorem dX5_init_89 : decode cX5_init 89 = .ok (.bipush 16, 2) := dk_16 16 (dk_at dksX5_init_3 20 rfl rfl)
theorem dX5_init_91 : decode cX5_init 91 = .ok (.iconst 4, 1) := dk_7 (dk_at dksX5_init_3 22 rfl rfl)
theorem dX5_init_92 : decode cX5_init 92 = .ok (.iastore, 1) := dk_79 (dk_at dksX5_init_3 23 rfl rfl)
theorem dX5_init_93 : decode cX5_init 93 = .ok (.return_, 1) := dk_177 (dk_at dksX5_init_4 0 rfl rfl)
abbrev cX5_thrown : ByteArray := prog_13_method_2_code
def yX5_thrown : MethodName := ⟨RX5, "thrown", "()I"⟩
theorem dX5_thrown_0 : decode cX5_thrown 0 = .ok (.aload_n 0, 1) := by decide +kernel
theorem dX5_thrown_1 : decode cX5_thrown 1 = .ok (.getfield 41, 3) := by decide +kernel
theorem dX5_thrown_4 : decode cX5_thrown 4 = .ok (.ireturn, 1) := by decide +kernel
abbrev cX5_offset : ByteArray := prog_13_method_8_code
def yX5_offset : MethodName := ⟨RX5, "offset", "(III)I"⟩
def dkwX5_offset_3 : List UInt8 := [16, 9, 28, 104, 27, 96, 29, 79, 21, 4, 172]
abbrev dktX5_offset_3 : List UInt8 := dkwX5_offset_3 ++ []
def dkwX5_offset_2 : List UInt8 := [181, 0, 41, 42, 180, 0, 41, 158, 0, 5, 3, 172, 42, 27, 28, 182, 0, 59, 54, 4, 42, 180, 0, 7]
abbrev dktX5_offset_2 : List UInt8 := dkwX5_offset_2 ++ dktX5_offset_3
def dkwX5_offset_1 : List UInt8 := [184, 0, 44, 154, 0, 7, 5, 167, 0, 15, 42, 180, 0, 55, 153, 0, 7, 6, 167, 0, 4, 3]
abbrev dktX5_offset_1 : List UInt8 := dkwX5_offset_1 ++ dktX5_offset_2
def dkwX5_offset_0 : List UInt8 := [42, 27, 184, 0, 48, 153, 0, 10, 28, 184, 0, 52, 154, 0, 7, 4, 167, 0, 30, 29, 3, 17, 0, 200]
abbrev dktX5_offset_0 : List UInt8 := dkwX5_offset_0 ++ dktX5_offset_1
theorem dksX5_offset_0 : cX5_offset.data.toList.drop 0 = dktX5_offset_0 := by decide +kernel
theorem dksX5_offset_1 : cX5_offset.data.toList.drop 24 = dktX5_offset_1 := dk_seg dksX5_offset_0 24 rfl rfl
theorem dksX5_offset_2 : cX5_offset.data.toList.drop 46 = dktX5_offset_2 := dk_seg dksX5_offset_1 22 rfl rfl
theorem dksX5_offset_3 : cX5_offset.data.toList.drop 70 = dktX5_offset_3 := dk_seg dksX5_offset_2 24 rfl rfl
theorem dX5_offset_0 : decode cX5_offset 0 = .ok (.aload_n 0, 1) := dk_42 (dk_at dksX5_offset_0 0 rfl rfl)
theorem dX5_offset_1 : decode cX5_offset 1 = .ok (.iload_n 1, 1) := dk_27 (dk_at dksX5_offset_0 1 rfl rfl)
theorem dX5_offset_2 : decode cX5_offset 2 = .ok (.invokestatic 48, 3) := dk_184 0 48 (dk_at dksX5_offset_0 2 rfl rfl)
theorem dX5_offset_5 : decode cX5_offset 5 = .ok (.ifCond .eq 10, 3) := dk_153 0 10 (dk_at dksX5_offset_0 5 rfl rfl)
theorem dX5_offset_8 : decode cX5_offset 8 = .ok (.iload_n 2, 1) := dk_28 (dk_at dksX5_offset_0 8 rfl rfl)
theorem dX5_offset_9 : decode cX5_offset 9 = .ok (.invokestatic 52, 3) := dk_184 0 52 (dk_at dksX5_offset_0 9 rfl rfl)
theorem dX5_offset_12 : decode cX5_offset 12 = .ok (.ifCond .ne 7, 3) := dk_154 0 7 (dk_at dksX5_offset_0 12 rfl rfl)
theorem dX5_offset_15 : decode cX5_offset 15 = .ok (.iconst 1, 1) := dk_4 (dk_at dksX5_offset_0 15 rfl rfl)
theorem dX5_offset_16 : decode cX5_offset 16 = .ok (.goto 30, 3) := dk_167 0 30 (dk_at dksX5_offset_0 16 rfl rfl)
theorem dX5_offset_19 : decode cX5_offset 19 = .ok (.iload_n 3, 1) := dk_29 (dk_at dksX5_offset_0 19 rfl rfl)
theorem dX5_offset_20 : decode cX5_offset 20 = .ok (.iconst 0, 1) := dk_3 (dk_at dksX5_offset_0 20 rfl rfl)
theorem dX5_offset_21 : decode cX5_offset 21 = .ok (.sipush 200, 3) := dk_17 0 200 (dk_at dksX5_offset_0 21 rfl rfl)
theorem dX5_offset_24 : decode cX5_offset 24 = .ok (.invokestatic 44, 3) := dk_184 0 44 (dk_at dksX5_offset_1 0 rfl rfl)
theorem dX5_offset_27 : decode cX5_offset 27 = .ok (.ifCond .ne 7, 3) := dk_154 0 7 (dk_at dksX5_offset_1 3 rfl rfl)
theorem dX5_offset_30 : decode cX5_offset 30 = .ok (.iconst 2, 1) := dk_5 (dk_at dksX5_offset_1 6 rfl rfl)
theorem dX5_offset_31 : decode cX5_offset 31 = .ok (.goto 15, 3) := dk_167 0 15 (dk_at dksX5_offset_1 7 rfl rfl)
theorem dX5_offset_34 : decode cX5_offset 34 = .ok (.aload_n 0, 1) := dk_42 (dk_at dksX5_offset_1 10 rfl rfl)
theorem dX5_offset_35 : decode cX5_offset 35 = .ok (.getfield 55, 3) := dk_180 0 55 (dk_at dksX5_offset_1 11 rfl rfl)
theorem dX5_offset_38 : decode cX5_offset 38 = .ok (.ifCond .eq 7, 3) := dk_153 0 7 (dk_at dksX5_offset_1 14 rfl rfl)
theorem dX5_offset_41 : decode cX5_offset 41 = .ok (.iconst 3, 1) := dk_6 (dk_at dksX5_offset_1 17 rfl rfl)
theorem dX5_offset_42 : decode cX5_offset 42 = .ok (.goto 4, 3) := dk_167 0 4 (dk_at dksX5_offset_1 18 rfl rfl)
theorem dX5_offset_45 : decode cX5_offset 45 = .ok (.iconst 0, 1) := dk_3 (dk_at dksX5_offset_1 21 rfl rfl)
theorem dX5_offset_46 : decode cX5_offset 46 = .ok (.putfield 41, 3) := dk_181 0 41 (dk_at dksX5_offset_2 0 rfl rfl)
theorem dX5_offset_49 : decode cX5_offset 49 = .ok (.aload_n 0, 1) := dk_42 (dk_at dksX5_offset_2 3 rfl rfl)
theorem dX5_offset_50 : decode cX5_offset 50 = .ok (.getfield 41, 3) := dk_180 0 41 (dk_at dksX5_offset_2 4 rfl rfl)
theorem dX5_offset_53 : decode cX5_offset 53 = .ok (.ifCond .le 5, 3) := dk_158 0 5 (dk_at dksX5_offset_2 7 rfl rfl)
theorem dX5_offset_56 : decode cX5_offset 56 = .ok (.iconst 0, 1) := dk_3 (dk_at dksX5_offset_2 10 rfl rfl)
theorem dX5_offset_57 : decode cX5_offset 57 = .ok (.ireturn, 1) := dk_172 (dk_at dksX5_offset_2 11 rfl rfl)
theorem dX5_offset_58 : decode cX5_offset 58 = .ok (.aload_n 0, 1) := dk_42 (dk_at dksX5_offset_2 12 rfl rfl)
theorem dX5_offset_59 : decode cX5_offset 59 = .ok (.iload_n 1, 1) := dk_27 (dk_at dksX5_offset_2 13 rfl rfl)
theorem dX5_offset_60 : decode cX5_offset 60 = .ok (.iload_n 2, 1) := dk_28 (dk_at dksX5_offset_2 14 rfl rfl)
theorem dX5_offset_61 : decode cX5_offset 61 = .ok (.invokevirtual 59, 3) := dk_182 0 59 (dk_at dksX5_offset_2 15 rfl rfl)
theorem dX5_offset_64 : decode cX5_offset 64 = .ok (.istore 4, 2) := dk_54 4 (dk_at dksX5_offset_2 18 rfl rfl)
theorem dX5_offset_66 : decode cX5_offset 66 = .ok (.aload_n 0, 1) := dk_42 (dk_at dksX5_offset_2 20 rfl rfl)
theorem dX5_offset_67 : decode cX5_offset 67 = .ok (.getfield 7, 3) := dk_180 0 7 (dk_at dksX5_offset_2 21 rfl rfl)
theorem dX5_offset_70 : decode cX5_offset 70 = .ok (.bipush 9, 2) := dk_16 9 (dk_at dksX5_offset_3 0 rfl rfl)
theorem dX5_offset_72 : decode cX5_offset 72 = .ok (.iload_n 2, 1) := dk_28 (dk_at dksX5_offset_3 2 rfl rfl)
theorem dX5_offset_73 : decode cX5_offset 73 = .ok (.imul, 1) := dk_104 (dk_at dksX5_offset_3 3 rfl rfl)
theorem dX5_offset_74 : decode cX5_offset 74 = .ok (.iload_n 1, 1) := dk_27 (dk_at dksX5_offset_3 4 rfl rfl)
theorem dX5_offset_75 : decode cX5_offset 75 = .ok (.iadd, 1) := dk_96 (dk_at dksX5_offset_3 5 rfl rfl)
theorem dX5_offset_76 : decode cX5_offset 76 = .ok (.iload_n 3, 1) := dk_29 (dk_at dksX5_offset_3 6 rfl rfl)
theorem dX5_offset_77 : decode cX5_offset 77 = .ok (.iastore, 1) := dk_79 (dk_at dksX5_offset_3 7 rfl rfl)
theorem dX5_offset_78 : decode cX5_offset 78 = .ok (.iload 4, 2) := dk_21 4 (dk_at dksX5_offset_3 8 rfl rfl)
theorem dX5_offset_80 : decode cX5_offset 80 = .ok (.ireturn, 1) := dk_172 (dk_at dksX5_offset_3 10 rfl rfl)
abbrev cX5_isStation : ByteArray := prog_13_method_4_code
def yX5_isStation : MethodName := ⟨RX5, "isStation", "(I)Z"⟩
def dkwX5_isStation_0 : List UInt8 := [26, 3, 16, 8, 184, 0, 44, 172]
abbrev dktX5_isStation_0 : List UInt8 := dkwX5_isStation_0 ++ []
theorem dksX5_isStation_0 : cX5_isStation.data.toList.drop 0 = dktX5_isStation_0 := by decide +kernel
theorem dX5_isStation_0 : decode cX5_isStation 0 = .ok (.iload_n 0, 1) := dk_26 (dk_at dksX5_isStation_0 0 rfl rfl)
theorem dX5_isStation_1 : decode cX5_isStation 1 = .ok (.iconst 0, 1) := dk_3 (dk_at dksX5_isStation_0 1 rfl rfl)
theorem dX5_isStation_2 : decode cX5_isStation 2 = .ok (.bipush 8, 2) := dk_16 8 (dk_at dksX5_isStation_0 2 rfl rfl)
theorem dX5_isStation_4 : decode cX5_isStation 4 = .ok (.invokestatic 44, 3) := dk_184 0 44 (dk_at dksX5_isStation_0 4 rfl rfl)
theorem dX5_isStation_7 : decode cX5_isStation 7 = .ok (.ireturn, 1) := dk_172 (dk_at dksX5_isStation_0 7 rfl rfl)
abbrev cX5_in : ByteArray := prog_13_method_3_code
def yX5_in : MethodName := ⟨RX5, "in", "(III)Z"⟩
def dkwX5_in_0 : List UInt8 := [26, 27, 161, 0, 12, 26, 28, 163, 0, 7, 4, 167, 0, 4, 3, 172]
abbrev dktX5_in_0 : List UInt8 := dkwX5_in_0 ++ []
theorem dksX5_in_0 : cX5_in.data.toList.drop 0 = dktX5_in_0 := by decide +kernel
theorem dX5_in_0 : decode cX5_in 0 = .ok (.iload_n 0, 1) := dk_26 (dk_at dksX5_in_0 0 rfl rfl)
theorem dX5_in_1 : decode cX5_in 1 = .ok (.iload_n 1, 1) := dk_27 (dk_at dksX5_in_0 1 rfl rfl)
theorem dX5_in_2 : decode cX5_in 2 = .ok (.if_icmp .lt 12, 3) := dk_161 0 12 (dk_at dksX5_in_0 2 rfl rfl)
theorem dX5_in_5 : decode cX5_in 5 = .ok (.iload_n 0, 1) := dk_26 (dk_at dksX5_in_0 5 rfl rfl)
theorem dX5_in_6 : decode cX5_in 6 = .ok (.iload_n 2, 1) := dk_28 (dk_at dksX5_in_0 6 rfl rfl)
theorem dX5_in_7 : decode cX5_in 7 = .ok (.if_icmp .gt 7, 3) := dk_163 0 7 (dk_at dksX5_in_0 7 rfl rfl)
theorem dX5_in_10 : decode cX5_in 10 = .ok (.iconst 1, 1) := dk_4 (dk_at dksX5_in_0 10 rfl rfl)
theorem dX5_in_11 : decode cX5_in 11 = .ok (.goto 4, 3) := dk_167 0 4 (dk_at dksX5_in_0 11 rfl rfl)
theorem dX5_in_14 : decode cX5_in 14 = .ok (.iconst 0, 1) := dk_3 (dk_at dksX5_in_0 14 rfl rfl)
theorem dX5_in_15 : decode cX5_in 15 = .ok (.ireturn, 1) := dk_172 (dk_at dksX5_in_0 15 rfl rfl)
abbrev cX5_isWaterline : ByteArray := prog_13_method_5_code
def yX5_isWaterline : MethodName := ⟨RX5, "isWaterline", "(I)Z"⟩
def dkwX5_isWaterline_0 : List UInt8 := [26, 3, 8, 184, 0, 44, 172]
abbrev dktX5_isWaterline_0 : List UInt8 := dkwX5_isWaterline_0 ++ []
theorem dksX5_isWaterline_0 : cX5_isWaterline.data.toList.drop 0 = dktX5_isWaterline_0 := by decide +kernel
theorem dX5_isWaterline_0 : decode cX5_isWaterline 0 = .ok (.iload_n 0, 1) := dk_26 (dk_at dksX5_isWaterline_0 0 rfl rfl)
theorem dX5_isWaterline_1 : decode cX5_isWaterline 1 = .ok (.iconst 0, 1) := dk_3 (dk_at dksX5_isWaterline_0 1 rfl rfl)
theorem dX5_isWaterline_2 : decode cX5_isWaterline 2 = .ok (.iconst 5, 1) := dk_8 (dk_at dksX5_isWaterline_0 2 rfl rfl)
theorem dX5_isWaterline_3 : decode cX5_isWaterline 3 = .ok (.invokestatic 44, 3) := dk_184 0 44 (dk_at dksX5_isWaterline_0 3 rfl rfl)
theorem dX5_isWaterline_6 : decode cX5_isWaterline 6 = .ok (.ireturn, 1) := dk_172 (dk_at dksX5_isWaterline_0 6 rfl rfl)
abbrev cX5_halfAt : ByteArray := prog_13_method_7_code
def yX5_halfAt : MethodName := ⟨RX5, "halfAt", "(II)I"⟩
def dkwX5_halfAt_0 : List UInt8 := [42, 180, 0, 7, 16, 9, 28, 104, 27, 96, 46, 172]
abbrev dktX5_halfAt_0 : List UInt8 := dkwX5_halfAt_0 ++ []
theorem dksX5_halfAt_0 : cX5_halfAt.data.toList.drop 0 = dktX5_halfAt_0 := by decide +kernel
theorem dX5_halfAt_0 : decode cX5_halfAt 0 = .ok (.aload_n 0, 1) := dk_42 (dk_at dksX5_halfAt_0 0 rfl rfl)
theorem dX5_halfAt_1 : decode cX5_halfAt 1 = .ok (.getfield 7, 3) := dk_180 0 7 (dk_at dksX5_halfAt_0 1 rfl rfl)
theorem dX5_halfAt_4 : decode cX5_halfAt 4 = .ok (.bipush 9, 2) := dk_16 9 (dk_at dksX5_halfAt_0 4 rfl rfl)
theorem dX5_halfAt_6 : decode cX5_halfAt 6 = .ok (.iload_n 2, 1) := dk_28 (dk_at dksX5_halfAt_0 6 rfl rfl)
theorem dX5_halfAt_7 : decode cX5_halfAt 7 = .ok (.imul, 1) := dk_104 (dk_at dksX5_halfAt_0 7 rfl rfl)
theorem dX5_halfAt_8 : decode cX5_halfAt 8 = .ok (.iload_n 1, 1) := dk_27 (dk_at dksX5_halfAt_0 8 rfl rfl)
theorem dX5_halfAt_9 : decode cX5_halfAt 9 = .ok (.iadd, 1) := dk_96 (dk_at dksX5_halfAt_0 9 rfl rfl)
theorem dX5_halfAt_10 : decode cX5_halfAt 10 = .ok (.iaload, 1) := dk_46 (dk_at dksX5_halfAt_0 10 rfl rfl)
theorem dX5_halfAt_11 : decode cX5_halfAt 11 = .ok (.ireturn, 1) := dk_172 (dk_at dksX5_halfAt_0 11 rfl rfl)
abbrev cX5_half : ByteArray := prog_13_method_9_code
def yX5_half : MethodName := ⟨RX5, "half", "(II)I"⟩
def dkwX5_half_1 : List UInt8 := [180, 0, 41, 158, 0, 7, 3, 167, 0, 9, 42, 27, 28, 182, 0, 59, 172]
abbrev dktX5_half_1 : List UInt8 := dkwX5_half_1 ++ []
def dkwX5_half_0 : List UInt8 := [42, 27, 184, 0, 48, 153, 0, 14, 28, 184, 0, 52, 153, 0, 7, 3, 167, 0, 4, 4, 181, 0, 41, 42]
abbrev dktX5_half_0 : List UInt8 := dkwX5_half_0 ++ dktX5_half_1
theorem dksX5_half_0 : cX5_half.data.toList.drop 0 = dktX5_half_0 := by decide +kernel
theorem dksX5_half_1 : cX5_half.data.toList.drop 24 = dktX5_half_1 := dk_seg dksX5_half_0 24 rfl rfl
theorem dX5_half_0 : decode cX5_half 0 = .ok (.aload_n 0, 1) := dk_42 (dk_at dksX5_half_0 0 rfl rfl)
theorem dX5_half_1 : decode cX5_half 1 = .ok (.iload_n 1, 1) := dk_27 (dk_at dksX5_half_0 1 rfl rfl)
theorem dX5_half_2 : decode cX5_half 2 = .ok (.invokestatic 48, 3) := dk_184 0 48 (dk_at dksX5_half_0 2 rfl rfl)
theorem dX5_half_5 : decode cX5_half 5 = .ok (.ifCond .eq 14, 3) := dk_153 0 14 (dk_at dksX5_half_0 5 rfl rfl)
theorem dX5_half_8 : decode cX5_half 8 = .ok (.iload_n 2, 1) := dk_28 (dk_at dksX5_half_0 8 rfl rfl)
theorem dX5_half_9 : decode cX5_half 9 = .ok (.invokestatic 52, 3) := dk_184 0 52 (dk_at dksX5_half_0 9 rfl rfl)
theorem dX5_half_12 : decode cX5_half 12 = .ok (.ifCond .eq 7, 3) := dk_153 0 7 (dk_at dksX5_half_0 12 rfl rfl)
theorem dX5_half_15 : decode cX5_half 15 = .ok (.iconst 0, 1) := dk_3 (dk_at dksX5_half_0 15 rfl rfl)
theorem dX5_half_16 : decode cX5_half 16 = .ok (.goto 4, 3) := dk_167 0 4 (dk_at dksX5_half_0 16 rfl rfl)
theorem dX5_half_19 : decode cX5_half 19 = .ok (.iconst 1, 1) := dk_4 (dk_at dksX5_half_0 19 rfl rfl)
theorem dX5_half_20 : decode cX5_half 20 = .ok (.putfield 41, 3) := dk_181 0 41 (dk_at dksX5_half_0 20 rfl rfl)
theorem dX5_half_23 : decode cX5_half 23 = .ok (.aload_n 0, 1) := dk_42 (dk_at dksX5_half_0 23 rfl rfl)
theorem dX5_half_24 : decode cX5_half 24 = .ok (.getfield 41, 3) := dk_180 0 41 (dk_at dksX5_half_1 0 rfl rfl)
theorem dX5_half_27 : decode cX5_half 27 = .ok (.ifCond .le 7, 3) := dk_158 0 7 (dk_at dksX5_half_1 3 rfl rfl)
theorem dX5_half_30 : decode cX5_half 30 = .ok (.iconst 0, 1) := dk_3 (dk_at dksX5_half_1 6 rfl rfl)
theorem dX5_half_31 : decode cX5_half 31 = .ok (.goto 9, 3) := dk_167 0 9 (dk_at dksX5_half_1 7 rfl rfl)
theorem dX5_half_34 : decode cX5_half 34 = .ok (.aload_n 0, 1) := dk_42 (dk_at dksX5_half_1 10 rfl rfl)
theorem dX5_half_35 : decode cX5_half 35 = .ok (.iload_n 1, 1) := dk_27 (dk_at dksX5_half_1 11 rfl rfl)
theorem dX5_half_36 : decode cX5_half 36 = .ok (.iload_n 2, 1) := dk_28 (dk_at dksX5_half_1 12 rfl rfl)
theorem dX5_half_37 : decode cX5_half 37 = .ok (.invokevirtual 59, 3) := dk_182 0 59 (dk_at dksX5_half_1 13 rfl rfl)
theorem dX5_half_40 : decode cX5_half 40 = .ok (.ireturn, 1) := dk_172 (dk_at dksX5_half_1 16 rfl rfl)
abbrev cX5_bend : ByteArray := prog_13_method_12_code
def yX5_bend : MethodName := ⟨RX5, "bend", "(I)I"⟩
def dkwX5_bend_1 : List UInt8 := [167, 0, 8, 42, 27, 182, 0, 67, 172]
abbrev dktX5_bend_1 : List UInt8 := dkwX5_bend_1 ++ []
def dkwX5_bend_0 : List UInt8 := [42, 27, 184, 0, 52, 153, 0, 7, 3, 167, 0, 4, 4, 181, 0, 41, 42, 180, 0, 41, 158, 0, 7, 3]
abbrev dktX5_bend_0 : List UInt8 := dkwX5_bend_0 ++ dktX5_bend_1
theorem dksX5_bend_0 : cX5_bend.data.toList.drop 0 = dktX5_bend_0 := by decide +kernel
theorem dksX5_bend_1 : cX5_bend.data.toList.drop 24 = dktX5_bend_1 := dk_seg dksX5_bend_0 24 rfl rfl
theorem dX5_bend_0 : decode cX5_bend 0 = .ok (.aload_n 0, 1) := dk_42 (dk_at dksX5_bend_0 0 rfl rfl)
theorem dX5_bend_1 : decode cX5_bend 1 = .ok (.iload_n 1, 1) := dk_27 (dk_at dksX5_bend_0 1 rfl rfl)
theorem dX5_bend_2 : decode cX5_bend 2 = .ok (.invokestatic 52, 3) := dk_184 0 52 (dk_at dksX5_bend_0 2 rfl rfl)
theorem dX5_bend_5 : decode cX5_bend 5 = .ok (.ifCond .eq 7, 3) := dk_153 0 7 (dk_at dksX5_bend_0 5 rfl rfl)
theorem dX5_bend_8 : decode cX5_bend 8 = .ok (.iconst 0, 1) := dk_3 (dk_at dksX5_bend_0 8 rfl rfl)
theorem dX5_bend_9 : decode cX5_bend 9 = .ok (.goto 4, 3) := dk_167 0 4 (dk_at dksX5_bend_0 9 rfl rfl)
theorem dX5_bend_12 : decode cX5_bend 12 = .ok (.iconst 1, 1) := dk_4 (dk_at dksX5_bend_0 12 rfl rfl)
theorem dX5_bend_13 : decode cX5_bend 13 = .ok (.putfield 41, 3) := dk_181 0 41 (dk_at dksX5_bend_0 13 rfl rfl)
theorem dX5_bend_16 : decode cX5_bend 16 = .ok (.aload_n 0, 1) := dk_42 (dk_at dksX5_bend_0 16 rfl rfl)
theorem dX5_bend_17 : decode cX5_bend 17 = .ok (.getfield 41, 3) := dk_180 0 41 (dk_at dksX5_bend_0 17 rfl rfl)
theorem dX5_bend_20 : decode cX5_bend 20 = .ok (.ifCond .le 7, 3) := dk_158 0 7 (dk_at dksX5_bend_0 20 rfl rfl)
theorem dX5_bend_23 : decode cX5_bend 23 = .ok (.iconst 0, 1) := dk_3 (dk_at dksX5_bend_0 23 rfl rfl)
theorem dX5_bend_24 : decode cX5_bend 24 = .ok (.goto 8, 3) := dk_167 0 8 (dk_at dksX5_bend_1 0 rfl rfl)
theorem dX5_bend_27 : decode cX5_bend 27 = .ok (.aload_n 0, 1) := dk_42 (dk_at dksX5_bend_1 3 rfl rfl)
theorem dX5_bend_28 : decode cX5_bend 28 = .ok (.iload_n 1, 1) := dk_27 (dk_at dksX5_bend_1 4 rfl rfl)
theorem dX5_bend_29 : decode cX5_bend 29 = .ok (.invokevirtual 67, 3) := dk_182 0 67 (dk_at dksX5_bend_1 5 rfl rfl)
theorem dX5_bend_32 : decode cX5_bend 32 = .ok (.ireturn, 1) := dk_172 (dk_at dksX5_bend_1 8 rfl rfl)
abbrev cX5_bendOf : ByteArray := prog_13_method_11_code
def yX5_bendOf : MethodName := ⟨RX5, "bendOf", "(I)I"⟩
def dkwX5_bendOf_2 : List UInt8 := [167, 255, 213, 28, 172]
abbrev dktX5_bendOf_2 : List UInt8 := dkwX5_bendOf_2 ++ []
def dkwX5_bendOf_1 : List UInt8 := [96, 27, 182, 0, 59, 96, 5, 42, 29, 27, 182, 0, 59, 104, 100, 184, 0, 63, 96, 61, 132, 3, 1]
abbrev dktX5_bendOf_1 : List UInt8 := dkwX5_bendOf_1 ++ dktX5_bendOf_2
def dkwX5_bendOf_0 : List UInt8 := [3, 61, 4, 62, 29, 4, 96, 16, 9, 162, 0, 41, 28, 42, 29, 4, 100, 27, 182, 0, 59, 42, 29, 4]
abbrev dktX5_bendOf_0 : List UInt8 := dkwX5_bendOf_0 ++ dktX5_bendOf_1
theorem dksX5_bendOf_0 : cX5_bendOf.data.toList.drop 0 = dktX5_bendOf_0 := by decide +kernel
theorem dksX5_bendOf_1 : cX5_bendOf.data.toList.drop 24 = dktX5_bendOf_1 := dk_seg dksX5_bendOf_0 24 rfl rfl
theorem dksX5_bendOf_2 : cX5_bendOf.data.toList.drop 47 = dktX5_bendOf_2 := dk_seg dksX5_bendOf_1 23 rfl rfl
theorem dX5_bendOf_0 : decode cX5_bendOf 0 = .ok (.iconst 0, 1) := dk_3 (dk_at dksX5_bendOf_0 0 rfl rfl)
theorem dX5_bendOf_1 : decode cX5_bendOf 1 = .ok (.istore_n 2, 1) := dk_61 (dk_at dksX5_bendOf_0 1 rfl rfl)
theorem dX5_bendOf_2 : decode cX5_bendOf 2 = .ok (.iconst 1, 1) := dk_4 (dk_at dksX5_bendOf_0 2 rfl rfl)
theorem dX5_bendOf_3 : decode cX5_bendOf 3 = .ok (.istore_n 3, 1) := dk_62 (dk_at dksX5_bendOf_0 3 rfl rfl)
theorem dX5_bendOf_4 : decode cX5_bendOf 4 = .ok (.iload_n 3, 1) := dk_29 (dk_at dksX5_bendOf_0 4 rfl rfl)
theorem dX5_bendOf_5 : decode cX5_bendOf 5 = .ok (.iconst 1, 1) := dk_4 (dk_at dksX5_bendOf_0 5 rfl rfl)
theorem dX5_bendOf_6 : decode cX5_bendOf 6 = .ok (.iadd, 1) := dk_96 (dk_at dksX5_bendOf_0 6 rfl rfl)
theorem dX5_bendOf_7 : decode cX5_bendOf 7 = .ok (.bipush 9, 2) := dk_16 9 (dk_at dksX5_bendOf_0 7 rfl rfl)
theorem dX5_bendOf_9 : decode cX5_bendOf 9 = .ok (.if_icmp .ge 41, 3) := dk_162 0 41 (dk_at dksX5_bendOf_0 9 rfl rfl)
theorem dX5_bendOf_12 : decode cX5_bendOf 12 = .ok (.iload_n 2, 1) := dk_28 (dk_at dksX5_bendOf_0 12 rfl rfl)
theorem dX5_bendOf_13 : decode cX5_bendOf 13 = .ok (.aload_n 0, 1) := dk_42 (dk_at dksX5_bendOf_0 13 rfl rfl)
theorem dX5_bendOf_14 : decode cX5_bendOf 14 = .ok (.iload_n 3, 1) := dk_29 (dk_at dksX5_bendOf_0 14 rfl rfl)
theorem dX5_bendOf_15 : decode cX5_bendOf 15 = .ok (.iconst 1, 1) := dk_4 (dk_at dksX5_bendOf_0 15 rfl rfl)
theorem dX5_bendOf_16 : decode cX5_bendOf 16 = .ok (.isub, 1) := dk_100 (dk_at dksX5_bendOf_0 16 rfl rfl)
theorem dX5_bendOf_17 : decode cX5_bendOf 17 = .ok (.iload_n 1, 1) := dk_27 (dk_at dksX5_bendOf_0 17 rfl rfl)
theorem dX5_bendOf_18 : decode cX5_bendOf 18 = .ok (.invokevirtual 59, 3) := dk_182 0 59 (dk_at dksX5_bendOf_0 18 rfl rfl)
theorem dX5_bendOf_21 : decode cX5_bendOf 21 = .ok (.aload_n 0, 1) := dk_42 (dk_at dksX5_bendOf_0 21 rfl rfl)
theorem dX5_bendOf_22 : decode cX5_bendOf 22 = .ok (.iload_n 3, 1) := dk_29 (dk_at dksX5_bendOf_0 22 rfl rfl)
theorem dX5_bendOf_23 : decode cX5_bendOf 23 = .ok (.iconst 1, 1) := dk_4 (dk_at dksX5_bendOf_0 23 rfl rfl)
theorem dX5_bendOf_24 : decode cX5_bendOf 24 = .ok (.iadd, 1) := dk_96 (dk_at dksX5_bendOf_1 0 rfl rfl)
theorem dX5_bendOf_25 : decode cX5_bendOf 25 = .ok (.iload_n 1, 1) := dk_27 (dk_at dksX5_bendOf_1 1 rfl rfl)
theorem dX5_bendOf_26 : decode cX5_bendOf 26 = .ok (.invokevirtual 59, 3) := dk_182 0 59 (dk_at dksX5_bendOf_1 2 rfl rfl)
theorem dX5_bendOf_29 : decode cX5_bendOf 29 = .ok (.iadd, 1) := dk_96 (dk_at dksX5_bendOf_1 5 rfl rfl)
theorem dX5_bendOf_30 : decode cX5_bendOf 30 = .ok (.iconst 2, 1) := dk_5 (dk_at dksX5_bendOf_1 6 rfl rfl)
theorem dX5_bendOf_31 : decode cX5_bendOf 31 = .ok (.aload_n 0, 1) := dk_42 (dk_at dksX5_bendOf_1 7 rfl rfl)
theorem dX5_bendOf_32 : decode cX5_bendOf 32 = .ok (.iload_n 3, 1) := dk_29 (dk_at dksX5_bendOf_1 8 rfl rfl)
theorem dX5_bendOf_33 : decode cX5_bendOf 33 = .ok (.iload_n 1, 1) := dk_27 (dk_at dksX5_bendOf_1 9 rfl rfl)
theorem dX5_bendOf_34 : decode cX5_bendOf 34 = .ok (.invokevirtual 59, 3) := dk_182 0 59 (dk_at dksX5_bendOf_1 10 rfl rfl)
theorem dX5_bendOf_37 : decode cX5_bendOf 37 = .ok (.imul, 1) := dk_104 (dk_at dksX5_bendOf_1 13 rfl rfl)
theorem dX5_bendOf_38 : decode cX5_bendOf 38 = .ok (.isub, 1) := dk_100 (dk_at dksX5_bendOf_1 14 rfl rfl)
theorem dX5_bendOf_39 : decode cX5_bendOf 39 = .ok (.invokestatic 63, 3) := dk_184 0 63 (dk_at dksX5_bendOf_1 15 rfl rfl)
theorem dX5_bendOf_42 : decode cX5_bendOf 42 = .ok (.iadd, 1) := dk_96 (dk_at dksX5_bendOf_1 18 rfl rfl)
theorem dX5_bendOf_43 : decode cX5_bendOf 43 = .ok (.istore_n 2, 1) := dk_61 (dk_at dksX5_bendOf_1 19 rfl rfl)
theorem dX5_bendOf_44 : decode cX5_bendOf 44 = .ok (.iinc 3 1, 3) := dk_132 3 1 (dk_at dksX5_bendOf_1 20 rfl rfl)
theorem dX5_bendOf_47 : decode cX5_bendOf 47 = .ok (.goto (-43), 3) := dk_167 255 213 (dk_at dksX5_bendOf_2 0 rfl rfl)
theorem dX5_bendOf_50 : decode cX5_bendOf 50 = .ok (.iload_n 2, 1) := dk_28 (dk_at dksX5_bendOf_2 3 rfl rfl)
theorem dX5_bendOf_51 : decode cX5_bendOf 51 = .ok (.ireturn, 1) := dk_172 (dk_at dksX5_bendOf_2 4 rfl rfl)
abbrev cX5_square : ByteArray := prog_13_method_10_code
def yX5_square : MethodName := ⟨RX5, "square", "(I)I"⟩
def dkwX5_square_0 : List UInt8 := [26, 26, 104, 172]
abbrev dktX5_square_0 : List UInt8 := dkwX5_square_0 ++ []
theorem dksX5_square_0 : cX5_square.data.toList.drop 0 = dktX5_square_0 := by decide +kernel
theorem dX5_square_0 : decode cX5_square 0 = .ok (.iload_n 0, 1) := dk_26 (dk_at dksX5_square_0 0 rfl rfl)
theorem dX5_square_1 : decode cX5_square 1 = .ok (.iload_n 0, 1) := dk_26 (dk_at dksX5_square_0 1 rfl rfl)
theorem dX5_square_2 : decode cX5_square 2 = .ok (.imul, 1) := dk_104 (dk_at dksX5_square_0 2 rfl rfl)
theorem dX5_square_3 : decode cX5_square 3 = .ok (.ireturn, 1) := dk_172 (dk_at dksX5_square_0 3 rfl rfl)
abbrev cX5_fair : ByteArray := prog_13_method_19_code
def yX5_fair : MethodName := ⟨RX5, "fair", "(II)I"⟩
def dkwX5_fair_4 : List UInt8 := [180, 0, 38, 21, 4, 46, 5, 100, 96, 79, 132, 4, 1, 167, 255, 222, 29, 42, 27, 182, 0, 67, 100, 172]
abbrev dktX5_fair_4 : List UInt8 := dkwX5_fair_4 ++ []
def dkwX5_fair_3 : List UInt8 := [54, 4, 21, 4, 16, 9, 162, 0, 33, 42, 180, 0, 7, 16, 9, 27, 104, 21, 4, 96, 92, 46, 42]
abbrev dktX5_fair_3 : List UInt8 := dkwX5_fair_3 ++ dktX5_fair_4
def dkwX5_fair_2 : List UInt8 := [158, 0, 5, 3, 172, 42, 27, 182, 0, 67, 62, 42, 27, 28, 182, 0, 89, 42, 27, 28, 182, 0, 93, 3]
abbrev dktX5_fair_2 : List UInt8 := dkwX5_fair_2 ++ dktX5_fair_3
def dkwX5_fair_1 : List UInt8 := [167, 0, 15, 42, 180, 0, 55, 153, 0, 7, 6, 167, 0, 4, 3, 181, 0, 41, 42, 180, 0, 41]
abbrev dktX5_fair_1 : List UInt8 := dkwX5_fair_1 ++ dktX5_fair_2
def dkwX5_fair_0 : List UInt8 := [42, 27, 184, 0, 52, 154, 0, 7, 4, 167, 0, 28, 28, 3, 5, 184, 0, 44, 154, 0, 7, 5]
abbrev dktX5_fair_0 : List UInt8 := dkwX5_fair_0 ++ dktX5_fair_1
theorem dksX5_fair_0 : cX5_fair.data.toList.drop 0 = dktX5_fair_0 := by decide +kernel
theorem dksX5_fair_1 : cX5_fair.data.toList.drop 22 = dktX5_fair_1 := dk_seg dksX5_fair_0 22 rfl rfl
theorem dksX5_fair_2 : cX5_fair.data.toList.drop 44 = dktX5_fair_2 := dk_seg dksX5_fair_1 22 rfl rfl
theorem dksX5_fair_3 : cX5_fair.data.toList.drop 68 = dktX5_fair_3 := dk_seg dksX5_fair_2 24 rfl rfl
theorem dksX5_fair_4 : cX5_fair.data.toList.drop 91 = dktX5_fair_4 := dk_seg dksX5_fair_3 23 rfl rfl
theorem dX5_fair_0 : decode cX5_fair 0 = .ok (.aload_n 0, 1) := dk_42 (dk_at dksX5_fair_0 0 rfl rfl)
theorem dX5_fair_1 : decode cX5_fair 1 = .ok (.iload_n 1, 1) := dk_27 (dk_at dksX5_fair_0 1 rfl rfl)
theorem dX5_fair_2 : decode cX5_fair 2 = .ok (.invokestatic 52, 3) := dk_184 0 52 (dk_at dksX5_fair_0 2 rfl rfl)
theorem dX5_fair_5 : decode cX5_fair 5 = .ok (.ifCond .ne 7, 3) := dk_154 0 7 (dk_at dksX5_fair_0 5 rfl rfl)
theorem dX5_fair_8 : decode cX5_fair 8 = .ok (.iconst 1, 1) := dk_4 (dk_at dksX5_fair_0 8 rfl rfl)
theorem dX5_fair_9 : decode cX5_fair 9 = .ok (.goto 28, 3) := dk_167 0 28 (dk_at dksX5_fair_0 9 rfl rfl)
theorem dX5_fair_12 : decode cX5_fair 12 = .ok (.iload_n 2, 1) := dk_28 (dk_at dksX5_fair_0 12 rfl rfl)
theorem dX5_fair_13 : decode cX5_fair 13 = .ok (.iconst 0, 1) := dk_3 (dk_at dksX5_fair_0 13 rfl rfl)
theorem dX5_fair_14 : decode cX5_fair 14 = .ok (.iconst 2, 1) := dk_5 (dk_at dksX5_fair_0 14 rfl rfl)
theorem dX5_fair_15 : decode cX5_fair 15 = .ok (.invokestatic 44, 3) := dk_184 0 44 (dk_at dksX5_fair_0 15 rfl rfl)
theorem dX5_fair_18 : decode cX5_fair 18 = .ok (.ifCond .ne 7, 3) := dk_154 0 7 (dk_at dksX5_fair_0 18 rfl rfl)
theorem dX5_fair_21 : decode cX5_fair 21 = .ok (.iconst 2, 1) := dk_5 (dk_at dksX5_fair_0 21 rfl rfl)
theorem dX5_fair_22 : decode cX5_fair 22 = .ok (.goto 15, 3) := dk_167 0 15 (dk_at dksX5_fair_1 0 rfl rfl)
theorem dX5_fair_25 : decode cX5_fair 25 = .ok (.aload_n 0, 1) := dk_42 (dk_at dksX5_fair_1 3 rfl rfl)
theorem dX5_fair_26 : decode cX5_fair 26 = .ok (.getfield 55, 3) := dk_180 0 55 (dk_at dksX5_fair_1 4 rfl rfl)
theorem dX5_fair_29 : decode cX5_fair 29 = .ok (.ifCond .eq 7, 3) := dk_153 0 7 (dk_at dksX5_fair_1 7 rfl rfl)
theorem dX5_fair_32 : decode cX5_fair 32 = .ok (.iconst 3, 1) := dk_6 (dk_at dksX5_fair_1 10 rfl rfl)
theorem dX5_fair_33 : decode cX5_fair 33 = .ok (.goto 4, 3) := dk_167 0 4 (dk_at dksX5_fair_1 11 rfl rfl)
theorem dX5_fair_36 : decode cX5_fair 36 = .ok (.iconst 0, 1) := dk_3 (dk_at dksX5_fair_1 14 rfl rfl)
theorem dX5_fair_37 : decode cX5_fair 37 = .ok (.putfield 41, 3) := dk_181 0 41 (dk_at dksX5_fair_1 15 rfl rfl)
theorem dX5_fair_40 : decode cX5_fair 40 = .ok (.aload_n 0, 1) := dk_42 (dk_at dksX5_fair_1 18 rfl rfl)
theorem dX5_fair_41 : decode cX5_fair 41 = .ok (.getfield 41, 3) := dk_180 0 41 (dk_at dksX5_fair_1 19 rfl rfl)
theorem dX5_fair_44 : decode cX5_fair 44 = .ok (.ifCond .le 5, 3) := dk_158 0 5 (dk_at dksX5_fair_2 0 rfl rfl)
theorem dX5_fair_47 : decode cX5_fair 47 = .ok (.iconst 0, 1) := dk_3 (dk_at dksX5_fair_2 3 rfl rfl)
theorem dX5_fair_48 : decode cX5_fair 48 = .ok (.ireturn, 1) := dk_172 (dk_at dksX5_fair_2 4 rfl rfl)
theorem dX5_fair_49 : decode cX5_fair 49 = .ok (.aload_n 0, 1) := dk_42 (dk_at dksX5_fair_2 5 rfl rfl)
theorem dX5_fair_50 : decode cX5_fair 50 = .ok (.iload_n 1, 1) := dk_27 (dk_at dksX5_fair_2 6 rfl rfl)
theorem dX5_fair_51 : decode cX5_fair 51 = .ok (.invokevirtual 67, 3) := dk_182 0 67 (dk_at dksX5_fair_2 7 rfl rfl)
theorem dX5_fair_54 : decode cX5_fair 54 = .ok (.istore_n 3, 1) := dk_62 (dk_at dksX5_fair_2 10 rfl rfl)
theorem dX5_fair_55 : decode cX5_fair 55 = .ok (.aload_n 0, 1) := dk_42 (dk_at dksX5_fair_2 11 rfl rfl)
theorem dX5_fair_56 : decode cX5_fair 56 = .ok (.iload_n 1, 1) := dk_27 (dk_at dksX5_fair_2 12 rfl rfl)
theorem dX5_fair_57 : decode cX5_fair 57 = .ok (.iload_n 2, 1) := dk_28 (dk_at dksX5_fair_2 13 rfl rfl)
theorem dX5_fair_58 : decode cX5_fair 58 = .ok (.invokevirtual 89, 3) := dk_182 0 89 (dk_at dksX5_fair_2 14 rfl rfl)
theorem dX5_fair_61 : decode cX5_fair 61 = .ok (.aload_n 0, 1) := dk_42 (dk_at dksX5_fair_2 17 rfl rfl)
theorem dX5_fair_62 : decode cX5_fair 62 = .ok (.iload_n 1, 1) := dk_27 (dk_at dksX5_fair_2 18 rfl rfl)
theorem dX5_fair_63 : decode cX5_fair 63 = .ok (.iload_n 2, 1) := dk_28 (dk_at dksX5_fair_2 19 rfl rfl)
theorem dX5_fair_64 : decode cX5_fair 64 = .ok (.invokevirtual 93, 3) := dk_182 0 93 (dk_at dksX5_fair_2 20 rfl rfl)
theorem dX5_fair_67 : decode cX5_fair 67 = .ok (.iconst 0, 1) := dk_3 (dk_at dksX5_fair_2 23 rfl rfl)
theorem dX5_fair_68 : decode cX5_fair 68 = .ok (.istore 4, 2) := dk_54 4 (dk_at dksX5_fair_3 0 rfl rfl)
theorem dX5_fair_70 : decode cX5_fair 70 = .ok (.iload 4, 2) := dk_21 4 (dk_at dksX5_fair_3 2 rfl rfl)
theorem dX5_fair_72 : decode cX5_fair 72 = .ok (.bipush 9, 2) := dk_16 9 (dk_at dksX5_fair_3 4 rfl rfl)
theorem dX5_fair_74 : decode cX5_fair 74 = .ok (.if_icmp .ge 33, 3) := dk_162 0 33 (dk_at dksX5_fair_3 6 rfl rfl)
theorem dX5_fair_77 : decode cX5_fair 77 = .ok (.aload_n 0, 1) := dk_42 (dk_at dksX5_fair_3 9 rfl rfl)
theorem dX5_fair_78 : decode cX5_fair 78 = .ok (.getfield 7, 3) := dk_180 0 7 (dk_at dksX5_fair_3 10 rfl rfl)
theorem dX5_fair_81 : decode cX5_fair 81 = .ok (.bipush 9, 2) := dk_16 9 (dk_at dksX5_fair_3 13 rfl rfl)
theorem dX5_fair_83 : decode cX5_fair 83 = .ok (.iload_n 1, 1) := dk_27 (dk_at dksX5_fair_3 15 rfl rfl)
theorem dX5_fair_84 : decode cX5_fair 84 = .ok (.imul, 1) := dk_104 (dk_at dksX5_fair_3 16 rfl rfl)
theorem dX5_fair_85 : decode cX5_fair 85 = .ok (.iload 4, 2) := dk_21 4 (dk_at dksX5_fair_3 17 rfl rfl)
theorem dX5_fair_87 : decode cX5_fair 87 = .ok (.iadd, 1) := dk_96 (dk_at dksX5_fair_3 19 rfl rfl)
theorem dX5_fair_88 : decode cX5_fair 88 = .ok (.dup2, 1) := dk_92 (dk_at dksX5_fair_3 20 rfl rfl)
theorem dX5_fair_89 : decode cX5_fair 89 = .ok (.iaload, 1) := dk_46 (dk_at dksX5_fair_3 21 rfl rfl)
theorem dX5_fair_90 : decode cX5_fair 90 = .ok (.aload_n 0, 1) := dk_42 (dk_at dksX5_fair_3 22 rfl rfl)
theorem dX5_fair_91 : decode cX5_fair 91 = .ok (.getfield 38, 3) := dk_180 0 38 (dk_at dksX5_fair_4 0 rfl rfl)
theorem dX5_fair_94 : decode cX5_fair 94 = .ok (.iload 4, 2) := dk_21 4 (dk_at dksX5_fair_4 3 rfl rfl)
theorem dX5_fair_96 : decode cX5_fair 96 = .ok (.iaload, 1) := dk_46 (dk_at dksX5_fair_4 5 rfl rfl)
theorem dX5_fair_97 : decode cX5_fair 97 = .ok (.iconst 2, 1) := dk_5 (dk_at dksX5_fair_4 6 rfl rfl)
theorem dX5_fair_98 : decode cX5_fair 98 = .ok (.isub, 1) := dk_100 (dk_at dksX5_fair_4 7 rfl rfl)
theorem dX5_fair_99 : decode cX5_fair 99 = .ok (.iadd, 1) := dk_96 (dk_at dksX5_fair_4 8 rfl rfl)
theorem dX5_fair_100 : decode cX5_fair 100 = .ok (.iastore, 1) := dk_79 (dk_at dksX5_fair_4 9 rfl rfl)
theorem dX5_fair_101 : decode cX5_fair 101 = .ok (.iinc 4 1, 3) := dk_132 4 1 (dk_at dksX5_fair_4 10 rfl rfl)
theorem dX5_fair_104 : decode cX5_fair 104 = .ok (.goto (-34), 3) := dk_167 255 222 (dk_at dksX5_fair_4 13 rfl rfl)
theorem dX5_fair_107 : decode cX5_fair 107 = .ok (.iload_n 3, 1) := dk_29 (dk_at dksX5_fair_4 16 rfl rfl)
theorem dX5_fair_108 : decode cX5_fair 108 = .ok (.aload_n 0, 1) := dk_42 (dk_at dksX5_fair_4 17 rfl rfl)
theorem dX5_fair_109 : decode cX5_fair 109 = .ok (.iload_n 1, 1) := dk_27 (dk_at dksX5_fair_4 18 rfl rfl)
theorem dX5_fair_110 : decode cX5_fair 110 = .ok (.invokevirtual 67, 3) := dk_182 0 67 (dk_at dksX5_fair_4 19 rfl rfl)
theorem dX5_fair_113 : decode cX5_fair 113 = .ok (.isub, 1) := dk_100 (dk_at dksX5_fair_4 22 rfl rfl)
theorem dX5_fair_114 : decode cX5_fair 114 = .ok (.ireturn, 1) := dk_172 (dk_at dksX5_fair_4 23 rfl rfl)
abbrev cX5_findsBehind : ByteArray := prog_13_method_17_code
def yX5_findsBehind : MethodName := ⟨RX5, "findsBehind", "(II)V"⟩
def dkwX5_findsBehind_3 : List UInt8 := [132, 4, 1, 167, 255, 219, 132, 3, 255, 167, 255, 206, 177]
abbrev dktX5_findsBehind_3 : List UInt8 := dkwX5_findsBehind_3 ++ []
def dkwX5_findsBehind_2 : List UInt8 := [29, 3, 21, 4, 184, 0, 73, 42, 27, 29, 21, 4, 8, 108, 21, 4, 8, 112, 28, 182, 0, 86, 79]
abbrev dktX5_findsBehind_2 : List UInt8 := dkwX5_findsBehind_2 ++ dktX5_findsBehind_3
def dkwX5_findsBehind_1 : List UInt8 := [167, 255, 234, 16, 7, 62, 29, 158, 0, 52, 3, 54, 4, 21, 4, 16, 25, 162, 0, 36, 42, 180, 0, 35]
abbrev dktX5_findsBehind_1 : List UInt8 := dkwX5_findsBehind_1 ++ dktX5_findsBehind_2
def dkwX5_findsBehind_0 : List UInt8 := [3, 62, 29, 16, 25, 162, 0, 22, 42, 180, 0, 35, 16, 8, 3, 29, 184, 0, 73, 3, 79, 132, 3, 1]
abbrev dktX5_findsBehind_0 : List UInt8 := dkwX5_findsBehind_0 ++ dktX5_findsBehind_1
theorem dksX5_findsBehind_0 : cX5_findsBehind.data.toList.drop 0 = dktX5_findsBehind_0 := by decide +kernel
theorem dksX5_findsBehind_1 : cX5_findsBehind.data.toList.drop 24 = dktX5_findsBehind_1 := dk_seg dksX5_findsBehind_0 24 rfl rfl
theorem dksX5_findsBehind_2 : cX5_findsBehind.data.toList.drop 48 = dktX5_findsBehind_2 := dk_seg dksX5_findsBehind_1 24 rfl rfl
theorem dksX5_findsBehind_3 : cX5_findsBehind.data.toList.drop 71 = dktX5_findsBehind_3 := dk_seg dksX5_findsBehind_2 23 rfl rfl
theorem dX5_findsBehind_0 : decode cX5_findsBehind 0 = .ok (.iconst 0, 1) := dk_3 (dk_at dksX5_findsBehind_0 0 rfl rfl)
theorem dX5_findsBehind_1 : decode cX5_findsBehind 1 = .ok (.istore_n 3, 1) := dk_62 (dk_at dksX5_findsBehind_0 1 rfl rfl)
theorem dX5_findsBehind_2 : decode cX5_findsBehind 2 = .ok (.iload_n 3, 1) := dk_29 (dk_at dksX5_findsBehind_0 2 rfl rfl)
theorem dX5_findsBehind_3 : decode cX5_findsBehind 3 = .ok (.bipush 25, 2) := dk_16 25 (dk_at dksX5_findsBehind_0 3 rfl rfl)
theorem dX5_findsBehind_5 : decode cX5_findsBehind 5 = .ok (.if_icmp .ge 22, 3) := dk_162 0 22 (dk_at dksX5_findsBehind_0 5 rfl rfl)
theorem dX5_findsBehind_8 : decode cX5_findsBehind 8 = .ok (.aload_n 0, 1) := dk_42 (dk_at dksX5_findsBehind_0 8 rfl rfl)
theorem dX5_findsBehind_9 : decode cX5_findsBehind 9 = .ok (.getfield 35, 3) := dk_180 0 35 (dk_at dksX5_findsBehind_0 9 rfl rfl)
theorem dX5_findsBehind_12 : decode cX5_findsBehind 12 = .ok (.bipush 8, 2) := dk_16 8 (dk_at dksX5_findsBehind_0 12 rfl rfl)
theorem dX5_findsBehind_14 : decode cX5_findsBehind 14 = .ok (.iconst 0, 1) := dk_3 (dk_at dksX5_findsBehind_0 14 rfl rfl)
theorem dX5_findsBehind_15 : decode cX5_findsBehind 15 = .ok (.iload_n 3, 1) := dk_29 (dk_at dksX5_findsBehind_0 15 rfl rfl)
theorem dX5_findsBehind_16 : decode cX5_findsBehind 16 = .ok (.invokestatic 73, 3) := dk_184 0 73 (dk_at dksX5_findsBehind_0 16 rfl rfl)
theorem dX5_findsBehind_19 : decode cX5_findsBehind 19 = .ok (.iconst 0, 1) := dk_3 (dk_at dksX5_findsBehind_0 19 rfl rfl)
theorem dX5_findsBehind_20 : decode cX5_findsBehind 20 = .ok (.iastore, 1) := dk_79 (dk_at dksX5_findsBehind_0 20 rfl rfl)
theorem dX5_findsBehind_21 : decode cX5_findsBehind 21 = .ok (.iinc 3 1, 3) := dk_132 3 1 (dk_at dksX5_findsBehind_0 21 rfl rfl)
theorem dX5_findsBehind_24 : decode cX5_findsBehind 24 = .ok (.goto (-22), 3) := dk_167 255 234 (dk_at dksX5_findsBehind_1 0 rfl rfl)
theorem dX5_findsBehind_27 : decode cX5_findsBehind 27 = .ok (.bipush 7, 2) := dk_16 7 (dk_at dksX5_findsBehind_1 3 rfl rfl)
theorem dX5_findsBehind_29 : decode cX5_findsBehind 29 = .ok (.istore_n 3, 1) := dk_62 (dk_at dksX5_findsBehind_1 5 rfl rfl)
theorem dX5_findsBehind_30 : decode cX5_findsBehind 30 = .ok (.iload_n 3, 1) := dk_29 (dk_at dksX5_findsBehind_1 6 rfl rfl)
theorem dX5_findsBehind_31 : decode cX5_findsBehind 31 = .ok (.ifCond .le 52, 3) := dk_158 0 52 (dk_at dksX5_findsBehind_1 7 rfl rfl)
theorem dX5_findsBehind_34 : decode cX5_findsBehind 34 = .ok (.iconst 0, 1) := dk_3 (dk_at dksX5_findsBehind_1 10 rfl rfl)
theorem dX5_findsBehind_35 : decode cX5_findsBehind 35 = .ok (.istore 4, 2) := dk_54 4 (dk_at dksX5_findsBehind_1 11 rfl rfl)
theorem dX5_findsBehind_37 : decode cX5_findsBehind 37 = .ok (.iload 4, 2) := dk_21 4 (dk_at dksX5_findsBehind_1 13 rfl rfl)
theorem dX5_findsBehind_39 : decode cX5_findsBehind 39 = .ok (.bipush 25, 2) := dk_16 25 (dk_at dksX5_findsBehind_1 15 rfl rfl)
theorem dX5_findsBehind_41 : decode cX5_findsBehind 41 = .ok (.if_icmp .ge 36, 3) := dk_162 0 36 (dk_at dksX5_findsBehind_1 17 rfl rfl)
theorem dX5_findsBehind_44 : decode cX5_findsBehind 44 = .ok (.aload_n 0, 1) := dk_42 (dk_at dksX5_findsBehind_1 20 rfl rfl)
theorem dX5_findsBehind_45 : decode cX5_findsBehind 45 = .ok (.getfield 35, 3) := dk_180 0 35 (dk_at dksX5_findsBehind_1 21 rfl rfl)
theorem dX5_findsBehind_48 : decode cX5_findsBehind 48 = .ok (.iload_n 3, 1) := dk_29 (dk_at dksX5_findsBehind_2 0 rfl rfl)
theorem dX5_findsBehind_49 : decode cX5_findsBehind 49 = .ok (.iconst 0, 1) := dk_3 (dk_at dksX5_findsBehind_2 1 rfl rfl)
theorem dX5_findsBehind_50 : decode cX5_findsBehind 50 = .ok (.iload 4, 2) := dk_21 4 (dk_at dksX5_findsBehind_2 2 rfl rfl)
theorem dX5_findsBehind_52 : decode cX5_findsBehind 52 = .ok (.invokestatic 73, 3) := dk_184 0 73 (dk_at dksX5_findsBehind_2 4 rfl rfl)
theorem dX5_findsBehind_55 : decode cX5_findsBehind 55 = .ok (.aload_n 0, 1) := dk_42 (dk_at dksX5_findsBehind_2 7 rfl rfl)
theorem dX5_findsBehind_56 : decode cX5_findsBehind 56 = .ok (.iload_n 1, 1) := dk_27 (dk_at dksX5_findsBehind_2 8 rfl rfl)
theorem dX5_findsBehind_57 : decode cX5_findsBehind 57 = .ok (.iload_n 3, 1) := dk_29 (dk_at dksX5_findsBehind_2 9 rfl rfl)
theorem dX5_findsBehind_58 : decode cX5_findsBehind 58 = .ok (.iload 4, 2) := dk_21 4 (dk_at dksX5_findsBehind_2 10 rfl rfl)
theorem dX5_findsBehind_60 : decode cX5_findsBehind 60 = .ok (.iconst 5, 1) := dk_8 (dk_at dksX5_findsBehind_2 12 rfl rfl)
theorem dX5_findsBehind_61 : decode cX5_findsBehind 61 = .ok (.idiv, 1) := dk_108 (dk_at dksX5_findsBehind_2 13 rfl rfl)
theorem dX5_findsBehind_62 : decode cX5_findsBehind 62 = .ok (.iload 4, 2) := dk_21 4 (dk_at dksX5_findsBehind_2 14 rfl rfl)
theorem dX5_findsBehind_64 : decode cX5_findsBehind 64 = .ok (.iconst 5, 1) := dk_8 (dk_at dksX5_findsBehind_2 16 rfl rfl)
theorem dX5_findsBehind_65 : decode cX5_findsBehind 65 = .ok (.irem, 1) := dk_112 (dk_at dksX5_findsBehind_2 17 rfl rfl)
theorem dX5_findsBehind_66 : decode cX5_findsBehind 66 = .ok (.iload_n 2, 1) := dk_28 (dk_at dksX5_findsBehind_2 18 rfl rfl)
theorem dX5_findsBehind_67 : decode cX5_findsBehind 67 = .ok (.invokevirtual 86, 3) := dk_182 0 86 (dk_at dksX5_findsBehind_2 19 rfl rfl)
theorem dX5_findsBehind_70 : decode cX5_findsBehind 70 = .ok (.iastore, 1) := dk_79 (dk_at dksX5_findsBehind_2 22 rfl rfl)
theorem dX5_findsBehind_71 : decode cX5_findsBehind 71 = .ok (.iinc 4 1, 3) := dk_132 4 1 (dk_at dksX5_findsBehind_3 0 rfl rfl)
theorem dX5_findsBehind_74 : decode cX5_findsBehind 74 = .ok (.goto (-37), 3) := dk_167 255 219 (dk_at dksX5_findsBehind_3 3 rfl rfl)
theorem dX5_findsBehind_77 : decode cX5_findsBehind 77 = .ok (.iinc 3 (-1), 3) := dk_132 3 255 (dk_at dksX5_findsBehind_3 6 rfl rfl)
theorem dX5_findsBehind_80 : decode cX5_findsBehind 80 = .ok (.goto (-50), 3) := dk_167 255 206 (dk_at dksX5_findsBehind_3 9 rfl rfl)
theorem dX5_findsBehind_83 : decode cX5_findsBehind 83 = .ok (.return_, 1) := dk_177 (dk_at dksX5_findsBehind_3 12 rfl rfl)
abbrev cX5_place : ByteArray := prog_13_method_13_code
def yX5_place : MethodName := ⟨RX5, "place", "(III)I"⟩
def dkwX5_place_0 : List UInt8 := [16, 25, 26, 104, 8, 27, 104, 96, 28, 96, 172]
abbrev dktX5_place_0 : List UInt8 := dkwX5_place_0 ++ []
theorem dksX5_place_0 : cX5_place.data.toList.drop 0 = dktX5_place_0 := by decide +kernel
theorem dX5_place_0 : decode cX5_place 0 = .ok (.bipush 25, 2) := dk_16 25 (dk_at dksX5_place_0 0 rfl rfl)
theorem dX5_place_2 : decode cX5_place 2 = .ok (.iload_n 0, 1) := dk_26 (dk_at dksX5_place_0 2 rfl rfl)
theorem dX5_place_3 : decode cX5_place 3 = .ok (.imul, 1) := dk_104 (dk_at dksX5_place_0 3 rfl rfl)
theorem dX5_place_4 : decode cX5_place 4 = .ok (.iconst 5, 1) := dk_8 (dk_at dksX5_place_0 4 rfl rfl)
theorem dX5_place_5 : decode cX5_place 5 = .ok (.iload_n 1, 1) := dk_27 (dk_at dksX5_place_0 5 rfl rfl)
theorem dX5_place_6 : decode cX5_place 6 = .ok (.imul, 1) := dk_104 (dk_at dksX5_place_0 6 rfl rfl)
theorem dX5_place_7 : decode cX5_place 7 = .ok (.iadd, 1) := dk_96 (dk_at dksX5_place_0 7 rfl rfl)
theorem dX5_place_8 : decode cX5_place 8 = .ok (.iload_n 2, 1) := dk_28 (dk_at dksX5_place_0 8 rfl rfl)
theorem dX5_place_9 : decode cX5_place 9 = .ok (.iadd, 1) := dk_96 (dk_at dksX5_place_0 9 rfl rfl)
theorem dX5_place_10 : decode cX5_place 10 = .ok (.ireturn, 1) := dk_172 (dk_at dksX5_place_0 10 rfl rfl)
abbrev cX5_leastBy : ByteArray := prog_13_method_16_code
def yX5_leastBy : MethodName := ⟨RX5, "leastBy", "(IIIII)I"⟩
def dkwX5_leastBy_3 : List UInt8 := [172]
abbrev dktX5_leastBy_3 : List UInt8 := dkwX5_leastBy_3 ++ []
def dkwX5_leastBy_2 : List UInt8 := [21, 8, 21, 6, 162, 0, 8, 21, 8, 167, 0, 5, 21, 6, 54, 6, 132, 7, 1, 167, 255, 198, 21, 6]
abbrev dktX5_leastBy_2 : List UInt8 := dkwX5_leastBy_2 ++ dktX5_leastBy_3
def dkwX5_leastBy_1 : List UInt8 := [182, 0, 78, 153, 0, 17, 42, 27, 28, 29, 21, 4, 21, 7, 182, 0, 82, 167, 0, 5, 18, 77, 54, 8]
abbrev dktX5_leastBy_1 : List UInt8 := dkwX5_leastBy_1 ++ dktX5_leastBy_2
def dkwX5_leastBy_0 : List UInt8 := [18, 77, 54, 6, 3, 54, 7, 21, 7, 8, 162, 0, 58, 42, 27, 28, 4, 96, 21, 7, 21, 5]
abbrev dktX5_leastBy_0 : List UInt8 := dkwX5_leastBy_0 ++ dktX5_leastBy_1
theorem dksX5_leastBy_0 : cX5_leastBy.data.toList.drop 0 = dktX5_leastBy_0 := by decide +kernel
theorem dksX5_leastBy_1 : cX5_leastBy.data.toList.drop 22 = dktX5_leastBy_1 := dk_seg dksX5_leastBy_0 22 rfl rfl
theorem dksX5_leastBy_2 : cX5_leastBy.data.toList.drop 46 = dktX5_leastBy_2 := dk_seg dksX5_leastBy_1 24 rfl rfl
theorem dksX5_leastBy_3 : cX5_leastBy.data.toList.drop 70 = dktX5_leastBy_3 := dk_seg dksX5_leastBy_2 24 rfl rfl
theorem dX5_leastBy_0 : decode cX5_leastBy 0 = .ok (.ldc 77, 2) := dk_18 77 (dk_at dksX5_leastBy_0 0 rfl rfl)
theorem dX5_leastBy_2 : decode cX5_leastBy 2 = .ok (.istore 6, 2) := dk_54 6 (dk_at dksX5_leastBy_0 2 rfl rfl)
theorem dX5_leastBy_4 : decode cX5_leastBy 4 = .ok (.iconst 0, 1) := dk_3 (dk_at dksX5_leastBy_0 4 rfl rfl)
theorem dX5_leastBy_5 : decode cX5_leastBy 5 = .ok (.istore 7, 2) := dk_54 7 (dk_at dksX5_leastBy_0 5 rfl rfl)
theorem dX5_leastBy_7 : decode cX5_leastBy 7 = .ok (.iload 7, 2) := dk_21 7 (dk_at dksX5_leastBy_0 7 rfl rfl)
theorem dX5_leastBy_9 : decode cX5_leastBy 9 = .ok (.iconst 5, 1) := dk_8 (dk_at dksX5_leastBy_0 9 rfl rfl)
theorem dX5_leastBy_10 : decode cX5_leastBy 10 = .ok (.if_icmp .ge 58, 3) := dk_162 0 58 (dk_at dksX5_leastBy_0 10 rfl rfl)
theorem dX5_leastBy_13 : decode cX5_leastBy 13 = .ok (.aload_n 0, 1) := dk_42 (dk_at dksX5_leastBy_0 13 rfl rfl)
theorem dX5_leastBy_14 : decode cX5_leastBy 14 = .ok (.iload_n 1, 1) := dk_27 (dk_at dksX5_leastBy_0 14 rfl rfl)
theorem dX5_leastBy_15 : decode cX5_leastBy 15 = .ok (.iload_n 2, 1) := dk_28 (dk_at dksX5_leastBy_0 15 rfl rfl)
theorem dX5_leastBy_16 : decode cX5_leastBy 16 = .ok (.iconst 1, 1) := dk_4 (dk_at dksX5_leastBy_0 16 rfl rfl)
theorem dX5_leastBy_17 : decode cX5_leastBy 17 = .ok (.iadd, 1) := dk_96 (dk_at dksX5_leastBy_0 17 rfl rfl)
theorem dX5_leastBy_18 : decode cX5_leastBy 18 = .ok (.iload 7, 2) := dk_21 7 (dk_at dksX5_leastBy_0 18 rfl rfl)
theorem dX5_leastBy_20 : decode cX5_leastBy 20 = .ok (.iload 5, 2) := dk_21 5 (dk_at dksX5_leastBy_0 20 rfl rfl)
theorem dX5_leastBy_22 : decode cX5_leastBy 22 = .ok (.invokevirtual 78, 3) := dk_182 0 78 (dk_at dksX5_leastBy_1 0 rfl rfl)
theorem dX5_leastBy_25 : decode cX5_leastBy 25 = .ok (.ifCond .eq 17, 3) := dk_153 0 17 (dk_at dksX5_leastBy_1 3 rfl rfl)
theorem dX5_leastBy_28 : decode cX5_leastBy 28 = .ok (.aload_n 0, 1) := dk_42 (dk_at dksX5_leastBy_1 6 rfl rfl)
theorem dX5_leastBy_29 : decode cX5_leastBy 29 = .ok (.iload_n 1, 1) := dk_27 (dk_at dksX5_leastBy_1 7 rfl rfl)
theorem dX5_leastBy_30 : decode cX5_leastBy 30 = .ok (.iload_n 2, 1) := dk_28 (dk_at dksX5_leastBy_1 8 rfl rfl)
theorem dX5_leastBy_31 : decode cX5_leastBy 31 = .ok (.iload_n 3, 1) := dk_29 (dk_at dksX5_leastBy_1 9 rfl rfl)
theorem dX5_leastBy_32 : decode cX5_leastBy 32 = .ok (.iload 4, 2) := dk_21 4 (dk_at dksX5_leastBy_1 10 rfl rfl)
theorem dX5_leastBy_34 : decode cX5_leastBy 34 = .ok (.iload 7, 2) := dk_21 7 (dk_at dksX5_leastBy_1 12 rfl rfl)
theorem dX5_leastBy_36 : decode cX5_leastBy 36 = .ok (.invokevirtual 82, 3) := dk_182 0 82 (dk_at dksX5_leastBy_1 14 rfl rfl)
theorem dX5_leastBy_39 : decode cX5_leastBy 39 = .ok (.goto 5, 3) := dk_167 0 5 (dk_at dksX5_leastBy_1 17 rfl rfl)
theorem dX5_leastBy_42 : decode cX5_leastBy 42 = .ok (.ldc 77, 2) := dk_18 77 (dk_at dksX5_leastBy_1 20 rfl rfl)
theorem dX5_leastBy_44 : decode cX5_leastBy 44 = .ok (.istore 8, 2) := dk_54 8 (dk_at dksX5_leastBy_1 22 rfl rfl)
theorem dX5_leastBy_46 : decode cX5_leastBy 46 = .ok (.iload 8, 2) := dk_21 8 (dk_at dksX5_leastBy_2 0 rfl rfl)
theorem dX5_leastBy_48 : decode cX5_leastBy 48 = .ok (.iload 6, 2) := dk_21 6 (dk_at dksX5_leastBy_2 2 rfl rfl)
theorem dX5_leastBy_50 : decode cX5_leastBy 50 = .ok (.if_icmp .ge 8, 3) := dk_162 0 8 (dk_at dksX5_leastBy_2 4 rfl rfl)
theorem dX5_leastBy_53 : decode cX5_leastBy 53 = .ok (.iload 8, 2) := dk_21 8 (dk_at dksX5_leastBy_2 7 rfl rfl)
theorem dX5_leastBy_55 : decode cX5_leastBy 55 = .ok (.goto 5, 3) := dk_167 0 5 (dk_at dksX5_leastBy_2 9 rfl rfl)
theorem dX5_leastBy_58 : decode cX5_leastBy 58 = .ok (.iload 6, 2) := dk_21 6 (dk_at dksX5_leastBy_2 12 rfl rfl)
theorem dX5_leastBy_60 : decode cX5_leastBy 60 = .ok (.istore 6, 2) := dk_54 6 (dk_at dksX5_leastBy_2 14 rfl rfl)
theorem dX5_leastBy_62 : decode cX5_leastBy 62 = .ok (.iinc 7 1, 3) := dk_132 7 1 (dk_at dksX5_leastBy_2 16 rfl rfl)
theorem dX5_leastBy_65 : decode cX5_leastBy 65 = .ok (.goto (-58), 3) := dk_167 255 198 (dk_at dksX5_leastBy_2 19 rfl rfl)
theorem dX5_leastBy_68 : decode cX5_leastBy 68 = .ok (.iload 6, 2) := dk_21 6 (dk_at dksX5_leastBy_2 22 rfl rfl)
theorem dX5_leastBy_70 : decode cX5_leastBy 70 = .ok (.ireturn, 1) := dk_172 (dk_at dksX5_leastBy_3 0 rfl rfl)
abbrev cX5_may : ByteArray := prog_13_method_14_code
def yX5_may : MethodName := ⟨RX5, "may", "(IIII)Z"⟩
def dkwX5_may_1 : List UInt8 := [17, 0, 200, 184, 0, 44, 153, 0, 7, 4, 167, 0, 4, 3, 172]
abbrev dktX5_may_1 : List UInt8 := dkwX5_may_1 ++ []
def dkwX5_may_0 : List UInt8 := [29, 5, 100, 184, 0, 70, 21, 4, 163, 0, 27, 42, 28, 27, 182, 0, 59, 29, 96, 5, 100, 3]
abbrev dktX5_may_0 : List UInt8 := dkwX5_may_0 ++ dktX5_may_1
theorem dksX5_may_0 : cX5_may.data.toList.drop 0 = dktX5_may_0 := by decide +kernel
theorem dksX5_may_1 : cX5_may.data.toList.drop 22 = dktX5_may_1 := dk_seg dksX5_may_0 22 rfl rfl
theorem dX5_may_0 : decode cX5_may 0 = .ok (.iload_n 3, 1) := dk_29 (dk_at dksX5_may_0 0 rfl rfl)
theorem dX5_may_1 : decode cX5_may 1 = .ok (.iconst 2, 1) := dk_5 (dk_at dksX5_may_0 1 rfl rfl)
theorem dX5_may_2 : decode cX5_may 2 = .ok (.isub, 1) := dk_100 (dk_at dksX5_may_0 2 rfl rfl)
theorem dX5_may_3 : decode cX5_may 3 = .ok (.invokestatic 70, 3) := dk_184 0 70 (dk_at dksX5_may_0 3 rfl rfl)
theorem dX5_may_6 : decode cX5_may 6 = .ok (.iload 4, 2) := dk_21 4 (dk_at dksX5_may_0 6 rfl rfl)
theorem dX5_may_8 : decode cX5_may 8 = .ok (.if_icmp .gt 27, 3) := dk_163 0 27 (dk_at dksX5_may_0 8 rfl rfl)
theorem dX5_may_11 : decode cX5_may 11 = .ok (.aload_n 0, 1) := dk_42 (dk_at dksX5_may_0 11 rfl rfl)
theorem dX5_may_12 : decode cX5_may 12 = .ok (.iload_n 2, 1) := dk_28 (dk_at dksX5_may_0 12 rfl rfl)
theorem dX5_may_13 : decode cX5_may 13 = .ok (.iload_n 1, 1) := dk_27 (dk_at dksX5_may_0 13 rfl rfl)
theorem dX5_may_14 : decode cX5_may 14 = .ok (.invokevirtual 59, 3) := dk_182 0 59 (dk_at dksX5_may_0 14 rfl rfl)
theorem dX5_may_17 : decode cX5_may 17 = .ok (.iload_n 3, 1) := dk_29 (dk_at dksX5_may_0 17 rfl rfl)
theorem dX5_may_18 : decode cX5_may 18 = .ok (.iadd, 1) := dk_96 (dk_at dksX5_may_0 18 rfl rfl)
theorem dX5_may_19 : decode cX5_may 19 = .ok (.iconst 2, 1) := dk_5 (dk_at dksX5_may_0 19 rfl rfl)
theorem dX5_may_20 : decode cX5_may 20 = .ok (.isub, 1) := dk_100 (dk_at dksX5_may_0 20 rfl rfl)
theorem dX5_may_21 : decode cX5_may 21 = .ok (.iconst 0, 1) := dk_3 (dk_at dksX5_may_0 21 rfl rfl)
theorem dX5_may_22 : decode cX5_may 22 = .ok (.sipush 200, 3) := dk_17 0 200 (dk_at dksX5_may_1 0 rfl rfl)
theorem dX5_may_25 : decode cX5_may 25 = .ok (.invokestatic 44, 3) := dk_184 0 44 (dk_at dksX5_may_1 3 rfl rfl)
theorem dX5_may_28 : decode cX5_may 28 = .ok (.ifCond .eq 7, 3) := dk_153 0 7 (dk_at dksX5_may_1 6 rfl rfl)
theorem dX5_may_31 : decode cX5_may 31 = .ok (.iconst 1, 1) := dk_4 (dk_at dksX5_may_1 9 rfl rfl)
theorem dX5_may_32 : decode cX5_may 32 = .ok (.goto 4, 3) := dk_167 0 4 (dk_at dksX5_may_1 10 rfl rfl)
theorem dX5_may_35 : decode cX5_may 35 = .ok (.iconst 0, 1) := dk_3 (dk_at dksX5_may_1 13 rfl rfl)
theorem dX5_may_36 : decode cX5_may 36 = .ok (.ireturn, 1) := dk_172 (dk_at dksX5_may_1 14 rfl rfl)
abbrev cX5_size : ByteArray := prog_13_method_6_code
def yX5_size : MethodName := ⟨RX5, "size", "(I)I"⟩
def dkwX5_size_0 : List UInt8 := [26, 156, 0, 8, 26, 116, 167, 0, 4, 26, 172]
abbrev dktX5_size_0 : List UInt8 := dkwX5_size_0 ++ []
theorem dksX5_size_0 : cX5_size.data.toList.drop 0 = dktX5_size_0 := by decide +kernel
theorem dX5_size_0 : decode cX5_size 0 = .ok (.iload_n 0, 1) := dk_26 (dk_at dksX5_size_0 0 rfl rfl)
theorem dX5_size_1 : decode cX5_size 1 = .ok (.ifCond .ge 8, 3) := dk_156 0 8 (dk_at dksX5_size_0 1 rfl rfl)
theorem dX5_size_4 : decode cX5_size 4 = .ok (.iload_n 0, 1) := dk_26 (dk_at dksX5_size_0 4 rfl rfl)
theorem dX5_size_5 : decode cX5_size 5 = .ok (.ineg, 1) := dk_116 (dk_at dksX5_size_0 5 rfl rfl)
theorem dX5_size_6 : decode cX5_size 6 = .ok (.goto 4, 3) := dk_167 0 4 (dk_at dksX5_size_0 6 rfl rfl)
theorem dX5_size_9 : decode cX5_size 9 = .ok (.iload_n 0, 1) := dk_26 (dk_at dksX5_size_0 9 rfl rfl)
theorem dX5_size_10 : decode cX5_size 10 = .ok (.ireturn, 1) := dk_172 (dk_at dksX5_size_0 10 rfl rfl)
abbrev cX5_bendBy : ByteArray := prog_13_method_15_code
def yX5_bendBy : MethodName := ⟨RX5, "bendBy", "(IIIII)I"⟩
def dkwX5_bendBy_2 : List UInt8 := [180, 0, 35, 28, 4, 96, 21, 4, 21, 5, 184, 0, 73, 46, 96, 172]
abbrev dktX5_bendBy_2 : List UInt8 := dkwX5_bendBy_2 ++ []
def dkwX5_bendBy_1 : List UInt8 := [5, 100, 5, 42, 28, 27, 182, 0, 59, 21, 4, 96, 5, 100, 104, 100, 54, 6, 21, 6, 184, 0, 63, 42]
abbrev dktX5_bendBy_1 : List UInt8 := dkwX5_bendBy_1 ++ dktX5_bendBy_2
def dkwX5_bendBy_0 : List UInt8 := [42, 28, 4, 100, 27, 182, 0, 59, 29, 96, 5, 100, 42, 28, 4, 96, 27, 182, 0, 59, 96, 21, 5, 96]
abbrev dktX5_bendBy_0 : List UInt8 := dkwX5_bendBy_0 ++ dktX5_bendBy_1
theorem dksX5_bendBy_0 : cX5_bendBy.data.toList.drop 0 = dktX5_bendBy_0 := by decide +kernel
theorem dksX5_bendBy_1 : cX5_bendBy.data.toList.drop 24 = dktX5_bendBy_1 := dk_seg dksX5_bendBy_0 24 rfl rfl
theorem dksX5_bendBy_2 : cX5_bendBy.data.toList.drop 48 = dktX5_bendBy_2 := dk_seg dksX5_bendBy_1 24 rfl rfl
theorem dX5_bendBy_0 : decode cX5_bendBy 0 = .ok (.aload_n 0, 1) := dk_42 (dk_at dksX5_bendBy_0 0 rfl rfl)
theorem dX5_bendBy_1 : decode cX5_bendBy 1 = .ok (.iload_n 2, 1) := dk_28 (dk_at dksX5_bendBy_0 1 rfl rfl)
theorem dX5_bendBy_2 : decode cX5_bendBy 2 = .ok (.iconst 1, 1) := dk_4 (dk_at dksX5_bendBy_0 2 rfl rfl)
theorem dX5_bendBy_3 : decode cX5_bendBy 3 = .ok (.isub, 1) := dk_100 (dk_at dksX5_bendBy_0 3 rfl rfl)
theorem dX5_bendBy_4 : decode cX5_bendBy 4 = .ok (.iload_n 1, 1) := dk_27 (dk_at dksX5_bendBy_0 4 rfl rfl)
theorem dX5_bendBy_5 : decode cX5_bendBy 5 = .ok (.invokevirtual 59, 3) := dk_182 0 59 (dk_at dksX5_bendBy_0 5 rfl rfl)
theorem dX5_bendBy_8 : decode cX5_bendBy 8 = .ok (.iload_n 3, 1) := dk_29 (dk_at dksX5_bendBy_0 8 rfl rfl)
theorem dX5_bendBy_9 : decode cX5_bendBy 9 = .ok (.iadd, 1) := dk_96 (dk_at dksX5_bendBy_0 9 rfl rfl)
theorem dX5_bendBy_10 : decode cX5_bendBy 10 = .ok (.iconst 2, 1) := dk_5 (dk_at dksX5_bendBy_0 10 rfl rfl)
theorem dX5_bendBy_11 : decode cX5_bendBy 11 = .ok (.isub, 1) := dk_100 (dk_at dksX5_bendBy_0 11 rfl rfl)
theorem dX5_bendBy_12 : decode cX5_bendBy 12 = .ok (.aload_n 0, 1) := dk_42 (dk_at dksX5_bendBy_0 12 rfl rfl)
theorem dX5_bendBy_13 : decode cX5_bendBy 13 = .ok (.iload_n 2, 1) := dk_28 (dk_at dksX5_bendBy_0 13 rfl rfl)
theorem dX5_bendBy_14 : decode cX5_bendBy 14 = .ok (.iconst 1, 1) := dk_4 (dk_at dksX5_bendBy_0 14 rfl rfl)
theorem dX5_bendBy_15 : decode cX5_bendBy 15 = .ok (.iadd, 1) := dk_96 (dk_at dksX5_bendBy_0 15 rfl rfl)
theorem dX5_bendBy_16 : decode cX5_bendBy 16 = .ok (.iload_n 1, 1) := dk_27 (dk_at dksX5_bendBy_0 16 rfl rfl)
theorem dX5_bendBy_17 : decode cX5_bendBy 17 = .ok (.invokevirtual 59, 3) := dk_182 0 59 (dk_at dksX5_bendBy_0 17 rfl rfl)
theorem dX5_bendBy_20 : decode cX5_bendBy 20 = .ok (.iadd, 1) := dk_96 (dk_at dksX5_bendBy_0 20 rfl rfl)
theorem dX5_bendBy_21 : decode cX5_bendBy 21 = .ok (.iload 5, 2) := dk_21 5 (dk_at dksX5_bendBy_0 21 rfl rfl)
theorem dX5_bendBy_23 : decode cX5_bendBy 23 = .ok (.iadd, 1) := dk_96 (dk_at dksX5_bendBy_0 23 rfl rfl)
theorem dX5_bendBy_24 : decode cX5_bendBy 24 = .ok (.iconst 2, 1) := dk_5 (dk_at dksX5_bendBy_1 0 rfl rfl)
theorem dX5_bendBy_25 : decode cX5_bendBy 25 = .ok (.isub, 1) := dk_100 (dk_at dksX5_bendBy_1 1 rfl rfl)
theorem dX5_bendBy_26 : decode cX5_bendBy 26 = .ok (.iconst 2, 1) := dk_5 (dk_at dksX5_bendBy_1 2 rfl rfl)
theorem dX5_bendBy_27 : decode cX5_bendBy 27 = .ok (.aload_n 0, 1) := dk_42 (dk_at dksX5_bendBy_1 3 rfl rfl)
theorem dX5_bendBy_28 : decode cX5_bendBy 28 = .ok (.iload_n 2, 1) := dk_28 (dk_at dksX5_bendBy_1 4 rfl rfl)
theorem dX5_bendBy_29 : decode cX5_bendBy 29 = .ok (.iload_n 1, 1) := dk_27 (dk_at dksX5_bendBy_1 5 rfl rfl)
theorem dX5_bendBy_30 : decode cX5_bendBy 30 = .ok (.invokevirtual 59, 3) := dk_182 0 59 (dk_at dksX5_bendBy_1 6 rfl rfl)
theorem dX5_bendBy_33 : decode cX5_bendBy 33 = .ok (.iload 4, 2) := dk_21 4 (dk_at dksX5_bendBy_1 9 rfl rfl)
theorem dX5_bendBy_35 : decode cX5_bendBy 35 = .ok (.iadd, 1) := dk_96 (dk_at dksX5_bendBy_1 11 rfl rfl)
theorem dX5_bendBy_36 : decode cX5_bendBy 36 = .ok (.iconst 2, 1) := dk_5 (dk_at dksX5_bendBy_1 12 rfl rfl)
theorem dX5_bendBy_37 : decode cX5_bendBy 37 = .ok (.isub, 1) := dk_100 (dk_at dksX5_bendBy_1 13 rfl rfl)
theorem dX5_bendBy_38 : decode cX5_bendBy 38 = .ok (.imul, 1) := dk_104 (dk_at dksX5_bendBy_1 14 rfl rfl)
theorem dX5_bendBy_39 : decode cX5_bendBy 39 = .ok (.isub, 1) := dk_100 (dk_at dksX5_bendBy_1 15 rfl rfl)
theorem dX5_bendBy_40 : decode cX5_bendBy 40 = .ok (.istore 6, 2) := dk_54 6 (dk_at dksX5_bendBy_1 16 rfl rfl)
theorem dX5_bendBy_42 : decode cX5_bendBy 42 = .ok (.iload 6, 2) := dk_21 6 (dk_at dksX5_bendBy_1 18 rfl rfl)
theorem dX5_bendBy_44 : decode cX5_bendBy 44 = .ok (.invokestatic 63, 3) := dk_184 0 63 (dk_at dksX5_bendBy_1 20 rfl rfl)
theorem dX5_bendBy_47 : decode cX5_bendBy 47 = .ok (.aload_n 0, 1) := dk_42 (dk_at dksX5_bendBy_1 23 rfl rfl)
theorem dX5_bendBy_48 : decode cX5_bendBy 48 = .ok (.getfield 35, 3) := dk_180 0 35 (dk_at dksX5_bendBy_2 0 rfl rfl)
theorem dX5_bendBy_51 : decode cX5_bendBy 51 = .ok (.iload_n 2, 1) := dk_28 (dk_at dksX5_bendBy_2 3 rfl rfl)
theorem dX5_bendBy_52 : decode cX5_bendBy 52 = .ok (.iconst 1, 1) := dk_4 (dk_at dksX5_bendBy_2 4 rfl rfl)
theorem dX5_bendBy_53 : decode cX5_bendBy 53 = .ok (.iadd, 1) := dk_96 (dk_at dksX5_bendBy_2 5 rfl rfl)
theorem dX5_bendBy_54 : decode cX5_bendBy 54 = .ok (.iload 4, 2) := dk_21 4 (dk_at dksX5_bendBy_2 6 rfl rfl)
theorem dX5_bendBy_56 : decode cX5_bendBy 56 = .ok (.iload 5, 2) := dk_21 5 (dk_at dksX5_bendBy_2 8 rfl rfl)
theorem dX5_bendBy_58 : decode cX5_bendBy 58 = .ok (.invokestatic 73, 3) := dk_184 0 73 (dk_at dksX5_bendBy_2 10 rfl rfl)
theorem dX5_bendBy_61 : decode cX5_bendBy 61 = .ok (.iaload, 1) := dk_46 (dk_at dksX5_bendBy_2 13 rfl rfl)
theorem dX5_bendBy_62 : decode cX5_bendBy 62 = .ok (.iadd, 1) := dk_96 (dk_at dksX5_bendBy_2 14 rfl rfl)
theorem dX5_bendBy_63 : decode cX5_bendBy 63 = .ok (.ireturn, 1) := dk_172 (dk_at dksX5_bendBy_2 15 rfl rfl)
abbrev cX5_laysLine : ByteArray := prog_13_method_18_code
def yX5_laysLine : MethodName := ⟨RX5, "laysLine", "(II)V"⟩
def dkwX5_laysLine_10 : List UInt8 := [132, 5, 1, 167, 255, 134, 177]
abbrev dktX5_laysLine_10 : List UInt8 := dkwX5_laysLine_10 ++ []
def dkwX5_laysLine_9 : List UInt8 := [167, 0, 5, 21, 7, 54, 7, 132, 8, 255, 167, 255, 194, 42, 180, 0, 38, 21, 5, 4, 96, 21, 7, 79]
abbrev dktX5_laysLine_9 : List UInt8 := dkwX5_laysLine_9 ++ dktX5_laysLine_10
def dkwX5_laysLine_8 : List UInt8 := [4, 100, 46, 42, 180, 0, 38, 21, 5, 46, 21, 8, 182, 0, 82, 21, 6, 160, 0, 8, 21, 8]
abbrev dktX5_laysLine_8 : List UInt8 := dkwX5_laysLine_8 ++ dktX5_laysLine_9
def dkwX5_laysLine_7 : List UInt8 := [27, 21, 5, 4, 96, 21, 8, 28, 182, 0, 78, 153, 0, 38, 42, 27, 21, 5, 42, 180, 0, 38, 21, 5]
abbrev dktX5_laysLine_7 : List UInt8 := dkwX5_laysLine_7 ++ dktX5_laysLine_8
def dkwX5_laysLine_6 : List UInt8 := [180, 0, 38, 21, 5, 46, 184, 0, 73, 46, 54, 6, 2, 54, 7, 7, 54, 8, 21, 8, 155, 0, 63, 42]
abbrev dktX5_laysLine_6 : List UInt8 := dkwX5_laysLine_6 ++ dktX5_laysLine_7
def dkwX5_laysLine_5 : List UInt8 := [4, 96, 16, 9, 162, 0, 119, 42, 180, 0, 35, 21, 5, 42, 180, 0, 38, 21, 5, 4, 100, 46, 42]
abbrev dktX5_laysLine_5 : List UInt8 := dkwX5_laysLine_5 ++ dktX5_laysLine_6
def dkwX5_laysLine_4 : List UInt8 := [180, 0, 38, 3, 21, 4, 8, 108, 79, 42, 180, 0, 38, 4, 21, 4, 8, 112, 79, 4, 54, 5, 21, 5]
abbrev dktX5_laysLine_4 : List UInt8 := dkwX5_laysLine_4 ++ dktX5_laysLine_5
def dkwX5_laysLine_3 : List UInt8 := [42, 180, 0, 35, 4, 3, 21, 5, 184, 0, 73, 46, 62, 21, 5, 54, 4, 132, 5, 1, 167, 255, 173, 42]
abbrev dktX5_laysLine_3 : List UInt8 := dkwX5_laysLine_3 ++ dktX5_laysLine_4
def dkwX5_laysLine_2 : List UInt8 := [3, 54, 6, 21, 6, 153, 0, 36, 42, 180, 0, 35, 4, 3, 21, 5, 184, 0, 73, 46, 29, 162, 0, 20]
abbrev dktX5_laysLine_2 : List UInt8 := dkwX5_laysLine_2 ++ dktX5_laysLine_3
def dkwX5_laysLine_1 : List UInt8 := [182, 0, 78, 153, 0, 21, 42, 27, 4, 21, 5, 8, 112, 28, 182, 0, 78, 153, 0, 7, 4, 167, 0, 4]
abbrev dktX5_laysLine_1 : List UInt8 := dkwX5_laysLine_1 ++ dktX5_laysLine_2
def dkwX5_laysLine_0 : List UInt8 := [18, 77, 62, 3, 54, 4, 3, 54, 5, 21, 5, 16, 25, 162, 0, 82, 42, 27, 3, 21, 5, 8, 108, 28]
abbrev dktX5_laysLine_0 : List UInt8 := dkwX5_laysLine_0 ++ dktX5_laysLine_1
theorem dksX5_laysLine_0 : cX5_laysLine.data.toList.drop 0 = dktX5_laysLine_0 := by decide +kernel
theorem dksX5_laysLine_1 : cX5_laysLine.data.toList.drop 24 = dktX5_laysLine_1 := dk_seg dksX5_laysLine_0 24 rfl rfl
theorem dksX5_laysLine_2 : cX5_laysLine.data.toList.drop 48 = dktX5_laysLine_2 := dk_seg dksX5_laysLine_1 24 rfl rfl
theorem dksX5_laysLine_3 : cX5_laysLine.data.toList.drop 72 = dktX5_laysLine_3 := dk_seg dksX5_laysLine_2 24 rfl rfl
theorem dksX5_laysLine_4 : cX5_laysLine.data.toList.drop 96 = dktX5_laysLine_4 := dk_seg dksX5_laysLine_3 24 rfl rfl
theorem dksX5_laysLine_5 : cX5_laysLine.data.toList.drop 120 = dktX5_laysLine_5 := dk_seg dksX5_laysLine_4 24 rfl rfl
theorem dksX5_laysLine_6 : cX5_laysLine.data.toList.drop 143 = dktX5_laysLine_6 := dk_seg dksX5_laysLine_5 23 rfl rfl
theorem dksX5_laysLine_7 : cX5_laysLine.data.toList.drop 167 = dktX5_laysLine_7 := dk_seg dksX5_laysLine_6 24 rfl rfl
theorem dksX5_laysLine_8 : cX5_laysLine.data.toList.drop 191 = dktX5_laysLine_8 := dk_seg dksX5_laysLine_7 24 rfl rfl
theorem dksX5_laysLine_9 : cX5_laysLine.data.toList.drop 213 = dktX5_laysLine_9 := dk_seg dksX5_laysLine_8 22 rfl rfl
theorem dksX5_laysLine_10 : cX5_laysLine.data.toList.drop 237 = dktX5_laysLine_10 := dk_seg dksX5_laysLine_9 24 rfl rfl
theorem dX5_laysLine_0 : decode cX5_laysLine 0 = .ok (.ldc 77, 2) := dk_18 77 (dk_at dksX5_laysLine_0 0 rfl rfl)
theorem dX5_laysLine_2 : decode cX5_laysLine 2 = .ok (.istore_n 3, 1) := dk_62 (dk_at dksX5_laysLine_0 2 rfl rfl)
theorem dX5_laysLine_3 : decode cX5_laysLine 3 = .ok (.iconst 0, 1) := dk_3 (dk_at dksX5_laysLine_0 3 rfl rfl)
theorem dX5_laysLine_4 : decode cX5_laysLine 4 = .ok (.istore 4, 2) := dk_54 4 (dk_at dksX5_laysLine_0 4 rfl rfl)
theorem dX5_laysLine_6 : decode cX5_laysLine 6 = .ok (.iconst 0, 1) := dk_3 (dk_at dksX5_laysLine_0 6 rfl rfl)
theorem dX5_laysLine_7 : decode cX5_laysLine 7 = .ok (.istore 5, 2) := dk_54 5 (dk_at dksX5_laysLine_0 7 rfl rfl)
theorem dX5_laysLine_9 : decode cX5_laysLine 9 = .ok (.iload 5, 2) := dk_21 5 (dk_at dksX5_laysLine_0 9 rfl rfl)
theorem dX5_laysLine_11 : decode cX5_laysLine 11 = .ok (.bipush 25, 2) := dk_16 25 (dk_at dksX5_laysLine_0 11 rfl rfl)
theorem dX5_laysLine_13 : decode cX5_laysLine 13 = .ok (.if_icmp .ge 82, 3) := dk_162 0 82 (dk_at dksX5_laysLine_0 13 rfl rfl)
theorem dX5_laysLine_16 : decode cX5_laysLine 16 = .ok (.aload_n 0, 1) := dk_42 (dk_at dksX5_laysLine_0 16 rfl rfl)
theorem dX5_laysLine_17 : decode cX5_laysLine 17 = .ok (.iload_n 1, 1) := dk_27 (dk_at dksX5_laysLine_0 17 rfl rfl)
theorem dX5_laysLine_18 : decode cX5_laysLine 18 = .ok (.iconst 0, 1) := dk_3 (dk_at dksX5_laysLine_0 18 rfl rfl)
theorem dX5_laysLine_19 : decode cX5_laysLine 19 = .ok (.iload 5, 2) := dk_21 5 (dk_at dksX5_laysLine_0 19 rfl rfl)
theorem dX5_laysLine_21 : decode cX5_laysLine 21 = .ok (.iconst 5, 1) := dk_8 (dk_at dksX5_laysLine_0 21 rfl rfl)
theorem dX5_laysLine_22 : decode cX5_laysLine 22 = .ok (.idiv, 1) := dk_108 (dk_at dksX5_laysLine_0 22 rfl rfl)
theorem dX5_laysLine_23 : decode cX5_laysLine 23 = .ok (.iload_n 2, 1) := dk_28 (dk_at dksX5_laysLine_0 23 rfl rfl)
theorem dX5_laysLine_24 : decode cX5_laysLine 24 = .ok (.invokevirtual 78, 3) := dk_182 0 78 (dk_at dksX5_laysLine_1 0 rfl rfl)
theorem dX5_laysLine_27 : decode cX5_laysLine 27 = .ok (.ifCond .eq 21, 3) := dk_153 0 21 (dk_at dksX5_laysLine_1 3 rfl rfl)
theorem dX5_laysLine_30 : decode cX5_laysLine 30 = .ok (.aload_n 0, 1) := dk_42 (dk_at dksX5_laysLine_1 6 rfl rfl)
theorem dX5_laysLine_31 : decode cX5_laysLine 31 = .ok (.iload_n 1, 1) := dk_27 (dk_at dksX5_laysLine_1 7 rfl rfl)
theorem dX5_laysLine_32 : decode cX5_laysLine 32 = .ok (.iconst 1, 1) := dk_4 (dk_at dksX5_laysLine_1 8 rfl rfl)
theorem dX5_laysLine_33 : decode cX5_laysLine 33 = .ok (.iload 5, 2) := dk_21 5 (dk_at dksX5_laysLine_1 9 rfl rfl)
theorem dX5_laysLine_35 : decode cX5_laysLine 35 = .ok (.iconst 5, 1) := dk_8 (dk_at dksX5_laysLine_1 11 rfl rfl)
theorem dX5_laysLine_36 : decode cX5_laysLine 36 = .ok (.irem, 1) := dk_112 (dk_at dksX5_laysLine_1 12 rfl rfl)
theorem dX5_laysLine_37 : decode cX5_laysLine 37 = .ok (.iload_n 2, 1) := dk_28 (dk_at dksX5_laysLine_1 13 rfl rfl)
theorem dX5_laysLine_38 : decode cX5_laysLine 38 = .ok (.invokevirtual 78, 3) := dk_182 0 78 (dk_at dksX5_laysLine_1 14 rfl rfl)
theorem dX5_laysLine_41 : decode cX5_laysLine 41 = .ok (.ifCond .eq 7, 3) := dk_153 0 7 (dk_at dksX5_laysLine_1 17 rfl rfl)
theorem dX5_laysLine_44 : decode cX5_laysLine 44 = .ok (.iconst 1, 1) := dk_4 (dk_at dksX5_laysLine_1 20 rfl rfl)
theorem dX5_laysLine_45 : decode cX5_laysLine 45 = .ok (.goto 4, 3) := dk_167 0 4 (dk_at dksX5_laysLine_1 21 rfl rfl)
theorem dX5_laysLine_48 : decode cX5_laysLine 48 = .ok (.iconst 0, 1) := dk_3 (dk_at dksX5_laysLine_2 0 rfl rfl)
theorem dX5_laysLine_49 : decode cX5_laysLine 49 = .ok (.istore 6, 2) := dk_54 6 (dk_at dksX5_laysLine_2 1 rfl rfl)
theorem dX5_laysLine_51 : decode cX5_laysLine 51 = .ok (.iload 6, 2) := dk_21 6 (dk_at dksX5_laysLine_2 3 rfl rfl)
theorem dX5_laysLine_53 : decode cX5_laysLine 53 = .ok (.ifCond .eq 36, 3) := dk_153 0 36 (dk_at dksX5_laysLine_2 5 rfl rfl)
theorem dX5_laysLine_56 : decode cX5_laysLine 56 = .ok (.aload_n 0, 1) := dk_42 (dk_at dksX5_laysLine_2 8 rfl rfl)
theorem dX5_laysLine_57 : decode cX5_laysLine 57 = .ok (.getfield 35, 3) := dk_180 0 35 (dk_at dksX5_laysLine_2 9 rfl rfl)
theorem dX5_laysLine_60 : decode cX5_laysLine 60 = .ok (.iconst 1, 1) := dk_4 (dk_at dksX5_laysLine_2 12 rfl rfl)
theorem dX5_laysLine_61 : decode cX5_laysLine 61 = .ok (.iconst 0, 1) := dk_3 (dk_at dksX5_laysLine_2 13 rfl rfl)
theorem dX5_laysLine_62 : decode cX5_laysLine 62 = .ok (.iload 5, 2) := dk_21 5 (dk_at dksX5_laysLine_2 14 rfl rfl)
theorem dX5_laysLine_64 : decode cX5_laysLine 64 = .ok (.invokestatic 73, 3) := dk_184 0 73 (dk_at dksX5_laysLine_2 16 rfl rfl)
theorem dX5_laysLine_67 : decode cX5_laysLine 67 = .ok (.iaload, 1) := dk_46 (dk_at dksX5_laysLine_2 19 rfl rfl)
theorem dX5_laysLine_68 : decode cX5_laysLine 68 = .ok (.iload_n 3, 1) := dk_29 (dk_at dksX5_laysLine_2 20 rfl rfl)
theorem dX5_laysLine_69 : decode cX5_laysLine 69 = .ok (.if_icmp .ge 20, 3) := dk_162 0 20 (dk_at dksX5_laysLine_2 21 rfl rfl)
theorem dX5_laysLine_72 : decode cX5_laysLine 72 = .ok (.aload_n 0, 1) := dk_42 (dk_at dksX5_laysLine_3 0 rfl rfl)
theorem dX5_laysLine_73 : decode cX5_laysLine 73 = .ok (.getfield 35, 3) := dk_180 0 35 (dk_at dksX5_laysLine_3 1 rfl rfl)
theorem dX5_laysLine_76 : decode cX5_laysLine 76 = .ok (.iconst 1, 1) := dk_4 (dk_at dksX5_laysLine_3 4 rfl rfl)
theorem dX5_laysLine_77 : decode cX5_laysLine 77 = .ok (.iconst 0, 1) := dk_3 (dk_at dksX5_laysLine_3 5 rfl rfl)
theorem dX5_laysLine_78 : decode cX5_laysLine 78 = .ok (.iload 5, 2) := dk_21 5 (dk_at dksX5_laysLine_3 6 rfl rfl)
theorem dX5_laysLine_80 : decode cX5_laysLine 80 = .ok (.invokestatic 73, 3) := dk_184 0 73 (dk_at dksX5_laysLine_3 8 rfl rfl)
theorem dX5_laysLine_83 : decode cX5_laysLine 83 = .ok (.iaload, 1) := dk_46 (dk_at dksX5_laysLine_3 11 rfl rfl)
theorem dX5_laysLine_84 : decode cX5_laysLine 84 = .ok (.istore_n 3, 1) := dk_62 (dk_at dksX5_laysLine_3 12 rfl rfl)
theorem dX5_laysLine_85 : decode cX5_laysLine 85 = .ok (.iload 5, 2) := dk_21 5 (dk_at dksX5_laysLine_3 13 rfl rfl)
theorem dX5_laysLine_87 : decode cX5_laysLine 87 = .ok (.istore 4, 2) := dk_54 4 (dk_at dksX5_laysLine_3 15 rfl rfl)
theorem dX5_laysLine_89 : decode cX5_laysLine 89 = .ok (.iinc 5 1, 3) := dk_132 5 1 (dk_at dksX5_laysLine_3 17 rfl rfl)
theorem dX5_laysLine_92 : decode cX5_laysLine 92 = .ok (.goto (-83), 3) := dk_167 255 173 (dk_at dksX5_laysLine_3 20 rfl rfl)
theorem dX5_laysLine_95 : decode cX5_laysLine 95 = .ok (.aload_n 0, 1) := dk_42 (dk_at dksX5_laysLine_3 23 rfl rfl)
theorem dX5_laysLine_96 : decode cX5_laysLine 96 = .ok (.getfield 38, 3) := dk_180 0 38 (dk_at dksX5_laysLine_4 0 rfl rfl)
theorem dX5_laysLine_99 : decode cX5_laysLine 99 = .ok (.iconst 0, 1) := dk_3 (dk_at dksX5_laysLine_4 3 rfl rfl)
theorem dX5_laysLine_100 : decode cX5_laysLine 100 = .ok (.iload 4, 2) := dk_21 4 (dk_at dksX5_laysLine_4 4 rfl rfl)
theorem dX5_laysLine_102 : decode cX5_laysLine 102 = .ok (.iconst 5, 1) := dk_8 (dk_at dksX5_laysLine_4 6 rfl rfl)
theorem dX5_laysLine_103 : decode cX5_laysLine 103 = .ok (.idiv, 1) := dk_108 (dk_at dksX5_laysLine_4 7 rfl rfl)
theorem dX5_laysLine_104 : decode cX5_laysLine 104 = .ok (.iastore, 1) := dk_79 (dk_at dksX5_laysLine_4 8 rfl rfl)
theorem dX5_laysLine_105 : decode cX5_laysLine 105 = .ok (.aload_n 0, 1) := dk_42 (dk_at dksX5_laysLine_4 9 rfl rfl)
theorem dX5_laysLine_106 : decode cX5_laysLine 106 = .ok (.getfield 38, 3) := dk_180 0 38 (dk_at dksX5_laysLine_4 10 rfl rfl)
theorem dX5_laysLine_109 : decode cX5_laysLine 109 = .ok (.iconst 1, 1) := dk_4 (dk_at dksX5_laysLine_4 13 rfl rfl)
theorem dX5_laysLine_110 : decode cX5_laysLine 110 = .ok (.iload 4, 2) := dk_21 4 (dk_at dksX5_laysLine_4 14 rfl rfl)
theorem dX5_laysLine_112 : decode cX5_laysLine 112 = .ok (.iconst 5, 1) := dk_8 (dk_at dksX5_laysLine_4 16 rfl rfl)
theorem dX5_laysLine_113 : decode cX5_laysLine 113 = .ok (.irem, 1) := dk_112 (dk_at dksX5_laysLine_4 17 rfl rfl)
theorem dX5_laysLine_114 : decode cX5_laysLine 114 = .ok (.iastore, 1) := dk_79 (dk_at dksX5_laysLine_4 18 rfl rfl)
theorem dX5_laysLine_115 : decode cX5_laysLine 115 = .ok (.iconst 1, 1) := dk_4 (dk_at dksX5_laysLine_4 19 rfl rfl)
theorem dX5_laysLine_116 : decode cX5_laysLine 116 = .ok (.istore 5, 2) := dk_54 5 (dk_at dksX5_laysLine_4 20 rfl rfl)
theorem dX5_laysLine_118 : decode cX5_laysLine 118 = .ok (.iload 5, 2) := dk_21 5 (dk_at dksX5_laysLine_4 22 rfl rfl)
theorem dX5_laysLine_120 : decode cX5_laysLine 120 = .ok (.iconst 1, 1) := dk_4 (dk_at dksX5_laysLine_5 0 rfl rfl)
theorem dX5_laysLine_121 : decode cX5_laysLine 121 = .ok (.iadd, 1) := dk_96 (dk_at dksX5_laysLine_5 1 rfl rfl)
theorem dX5_laysLine_122 : decode cX5_laysLine 122 = .ok (.bipush 9, 2) := dk_16 9 (dk_at dksX5_laysLine_5 2 rfl rfl)
theorem dX5_laysLine_124 : decode cX5_laysLine 124 = .ok (.if_icmp .ge 119, 3) := dk_162 0 119 (dk_at dksX5_laysLine_5 4 rfl rfl)
theorem dX5_laysLine_127 : decode cX5_laysLine 127 = .ok (.aload_n 0, 1) := dk_42 (dk_at dksX5_laysLine_5 7 rfl rfl)
theorem dX5_laysLine_128 : decode cX5_laysLine 128 = .ok (.getfield 35, 3) := dk_180 0 35 (dk_at dksX5_laysLine_5 8 rfl rfl)
theorem dX5_laysLine_131 : decode cX5_laysLine 131 = .ok (.iload 5, 2) := dk_21 5 (dk_at dksX5_laysLine_5 11 rfl rfl)
theorem dX5_laysLine_133 : decode cX5_laysLine 133 = .ok (.aload_n 0, 1) := dk_42 (dk_at dksX5_laysLine_5 13 rfl rfl)
theorem dX5_laysLine_134 : decode cX5_laysLine 134 = .ok (.getfield 38, 3) := dk_180 0 38 (dk_at dksX5_laysLine_5 14 rfl rfl)
theorem dX5_laysLine_137 : decode cX5_laysLine 137 = .ok (.iload 5, 2) := dk_21 5 (dk_at dksX5_laysLine_5 17 rfl rfl)
theorem dX5_laysLine_139 : decode cX5_laysLine 139 = .ok (.iconst 1, 1) := dk_4 (dk_at dksX5_laysLine_5 19 rfl rfl)
theorem dX5_laysLine_140 : decode cX5_laysLine 140 = .ok (.isub, 1) := dk_100 (dk_at dksX5_laysLine_5 20 rfl rfl)
theorem dX5_laysLine_141 : decode cX5_laysLine 141 = .ok (.iaload, 1) := dk_46 (dk_at dksX5_laysLine_5 21 rfl rfl)
theorem dX5_laysLine_142 : decode cX5_laysLine 142 = .ok (.aload_n 0, 1) := dk_42 (dk_at dksX5_laysLine_5 22 rfl rfl)
theorem dX5_laysLine_143 : decode cX5_laysLine 143 = .ok (.getfield 38, 3) := dk_180 0 38 (dk_at dksX5_laysLine_6 0 rfl rfl)
theorem dX5_laysLine_146 : decode cX5_laysLine 146 = .ok (.iload 5, 2) := dk_21 5 (dk_at dksX5_laysLine_6 3 rfl rfl)
theorem dX5_laysLine_148 : decode cX5_laysLine 148 = .ok (.iaload, 1) := dk_46 (dk_at dksX5_laysLine_6 5 rfl rfl)
theorem dX5_laysLine_149 : decode cX5_laysLine 149 = .ok (.invokestatic 73, 3) := dk_184 0 73 (dk_at dksX5_laysLine_6 6 rfl rfl)
theorem dX5_laysLine_152 : decode cX5_laysLine 152 = .ok (.iaload, 1) := dk_46 (dk_at dksX5_laysLine_6 9 rfl rfl)
theorem dX5_laysLine_153 : decode cX5_laysLine 153 = .ok (.istore 6, 2) := dk_54 6 (dk_at dksX5_laysLine_6 10 rfl rfl)
theorem dX5_laysLine_155 : decode cX5_laysLine 155 = .ok (.iconst (-1), 1) := dk_2 (dk_at dksX5_laysLine_6 12 rfl rfl)
theorem dX5_laysLine_156 : decode cX5_laysLine 156 = .ok (.istore 7, 2) := dk_54 7 (dk_at dksX5_laysLine_6 13 rfl rfl)
theorem dX5_laysLine_158 : decode cX5_laysLine 158 = .ok (.iconst 4, 1) := dk_7 (dk_at dksX5_laysLine_6 15 rfl rfl)
theorem dX5_laysLine_159 : decode cX5_laysLine 159 = .ok (.istore 8, 2) := dk_54 8 (dk_at dksX5_laysLine_6 16 rfl rfl)
theorem dX5_laysLine_161 : decode cX5_laysLine 161 = .ok (.iload 8, 2) := dk_21 8 (dk_at dksX5_laysLine_6 18 rfl rfl)
theorem dX5_laysLine_163 : decode cX5_laysLine 163 = .ok (.ifCond .lt 63, 3) := dk_155 0 63 (dk_at dksX5_laysLine_6 20 rfl rfl)
theorem dX5_laysLine_166 : decode cX5_laysLine 166 = .ok (.aload_n 0, 1) := dk_42 (dk_at dksX5_laysLine_6 23 rfl rfl)
theorem dX5_laysLine_167 : decode cX5_laysLine 167 = .ok (.iload_n 1, 1) := dk_27 (dk_at dksX5_laysLine_7 0 rfl rfl)
theorem dX5_laysLine_168 : decode cX5_laysLine 168 = .ok (.iload 5, 2) := dk_21 5 (dk_at dksX5_laysLine_7 1 rfl rfl)
theorem dX5_laysLine_170 : decode cX5_laysLine 170 = .ok (.iconst 1, 1) := dk_4 (dk_at dksX5_laysLine_7 3 rfl rfl)
theorem dX5_laysLine_171 : decode cX5_laysLine 171 = .ok (.iadd, 1) := dk_96 (dk_at dksX5_laysLine_7 4 rfl rfl)
theorem dX5_laysLine_172 : decode cX5_laysLine 172 = .ok (.iload 8, 2) := dk_21 8 (dk_at dksX5_laysLine_7 5 rfl rfl)
theorem dX5_laysLine_174 : decode cX5_laysLine 174 = .ok (.iload_n 2, 1) := dk_28 (dk_at dksX5_laysLine_7 7 rfl rfl)
theorem dX5_laysLine_175 : decode cX5_laysLine 175 = .ok (.invokevirtual 78, 3) := dk_182 0 78 (dk_at dksX5_laysLine_7 8 rfl rfl)
theorem dX5_laysLine_178 : decode cX5_laysLine 178 = .ok (.ifCond .eq 38, 3) := dk_153 0 38 (dk_at dksX5_laysLine_7 11 rfl rfl)
theorem dX5_laysLine_181 : decode cX5_laysLine 181 = .ok (.aload_n 0, 1) := dk_42 (dk_at dksX5_laysLine_7 14 rfl rfl)
theorem dX5_laysLine_182 : decode cX5_laysLine 182 = .ok (.iload_n 1, 1) := dk_27 (dk_at dksX5_laysLine_7 15 rfl rfl)
theorem dX5_laysLine_183 : decode cX5_laysLine 183 = .ok (.iload 5, 2) := dk_21 5 (dk_at dksX5_laysLine_7 16 rfl rfl)
theorem dX5_laysLine_185 : decode cX5_laysLine 185 = .ok (.aload_n 0, 1) := dk_42 (dk_at dksX5_laysLine_7 18 rfl rfl)
theorem dX5_laysLine_186 : decode cX5_laysLine 186 = .ok (.getfield 38, 3) := dk_180 0 38 (dk_at dksX5_laysLine_7 19 rfl rfl)
theorem dX5_laysLine_189 : decode cX5_laysLine 189 = .ok (.iload 5, 2) := dk_21 5 (dk_at dksX5_laysLine_7 22 rfl rfl)
theorem dX5_laysLine_191 : decode cX5_laysLine 191 = .ok (.iconst 1, 1) := dk_4 (dk_at dksX5_laysLine_8 0 rfl rfl)
theorem dX5_laysLine_192 : decode cX5_laysLine 192 = .ok (.isub, 1) := dk_100 (dk_at dksX5_laysLine_8 1 rfl rfl)
theorem dX5_laysLine_193 : decode cX5_laysLine 193 = .ok (.iaload, 1) := dk_46 (dk_at dksX5_laysLine_8 2 rfl rfl)
theorem dX5_laysLine_194 : decode cX5_laysLine 194 = .ok (.aload_n 0, 1) := dk_42 (dk_at dksX5_laysLine_8 3 rfl rfl)
theorem dX5_laysLine_195 : decode cX5_laysLine 195 = .ok (.getfield 38, 3) := dk_180 0 38 (dk_at dksX5_laysLine_8 4 rfl rfl)
theorem dX5_laysLine_198 : decode cX5_laysLine 198 = .ok (.iload 5, 2) := dk_21 5 (dk_at dksX5_laysLine_8 7 rfl rfl)
theorem dX5_laysLine_200 : decode cX5_laysLine 200 = .ok (.iaload, 1) := dk_46 (dk_at dksX5_laysLine_8 9 rfl rfl)
theorem dX5_laysLine_201 : decode cX5_laysLine 201 = .ok (.iload 8, 2) := dk_21 8 (dk_at dksX5_laysLine_8 10 rfl rfl)
theorem dX5_laysLine_203 : decode cX5_laysLine 203 = .ok (.invokevirtual 82, 3) := dk_182 0 82 (dk_at dksX5_laysLine_8 12 rfl rfl)
theorem dX5_laysLine_206 : decode cX5_laysLine 206 = .ok (.iload 6, 2) := dk_21 6 (dk_at dksX5_laysLine_8 15 rfl rfl)
theorem dX5_laysLine_208 : decode cX5_laysLine 208 = .ok (.if_icmp .ne 8, 3) := dk_160 0 8 (dk_at dksX5_laysLine_8 17 rfl rfl)
theorem dX5_laysLine_211 : decode cX5_laysLine 211 = .ok (.iload 8, 2) := dk_21 8 (dk_at dksX5_laysLine_8 20 rfl rfl)
theorem dX5_laysLine_213 : decode cX5_laysLine 213 = .ok (.goto 5, 3) := dk_167 0 5 (dk_at dksX5_laysLine_9 0 rfl rfl)
theorem dX5_laysLine_216 : decode cX5_laysLine 216 = .ok (.iload 7, 2) := dk_21 7 (dk_at dksX5_laysLine_9 3 rfl rfl)
theorem dX5_laysLine_218 : decode cX5_laysLine 218 = .ok (.istore 7, 2) := dk_54 7 (dk_at dksX5_laysLine_9 5 rfl rfl)
theorem dX5_laysLine_220 : decode cX5_laysLine 220 = .ok (.iinc 8 (-1), 3) := dk_132 8 255 (dk_at dksX5_laysLine_9 7 rfl rfl)
theorem dX5_laysLine_223 : decode cX5_laysLine 223 = .ok (.goto (-62), 3) := dk_167 255 194 (dk_at dksX5_laysLine_9 10 rfl rfl)
theorem dX5_laysLine_226 : decode cX5_laysLine 226 = .ok (.aload_n 0, 1) := dk_42 (dk_at dksX5_laysLine_9 13 rfl rfl)
theorem dX5_laysLine_227 : decode cX5_laysLine 227 = .ok (.getfield 38, 3) := dk_180 0 38 (dk_at dksX5_laysLine_9 14 rfl rfl)
theorem dX5_laysLine_230 : decode cX5_laysLine 230 = .ok (.iload 5, 2) := dk_21 5 (dk_at dksX5_laysLine_9 17 rfl rfl)
theorem dX5_laysLine_232 : decode cX5_laysLine 232 = .ok (.iconst 1, 1) := dk_4 (dk_at dksX5_laysLine_9 19 rfl rfl)
theorem dX5_laysLine_233 : decode cX5_laysLine 233 = .ok (.iadd, 1) := dk_96 (dk_at dksX5_laysLine_9 20 rfl rfl)
theorem dX5_laysLine_234 : decode cX5_laysLine 234 = .ok (.iload 7, 2) := dk_21 7 (dk_at dksX5_laysLine_9 21 rfl rfl)
theorem dX5_laysLine_236 : decode cX5_laysLine 236 = .ok (.iastore, 1) := dk_79 (dk_at dksX5_laysLine_9 23 rfl rfl)
theorem dX5_laysLine_237 : decode cX5_laysLine 237 = .ok (.iinc 5 1, 3) := dk_132 5 1 (dk_at dksX5_laysLine_10 0 rfl rfl)
theorem dX5_laysLine_240 : decode cX5_laysLine 240 = .ok (.goto (-122), 3) := dk_167 255 134 (dk_at dksX5_laysLine_10 3 rfl rfl)
theorem dX5_laysLine_243 : decode cX5_laysLine 243 = .ok (.return_, 1) := dk_177 (dk_at dksX5_laysLine_10 6 rfl rfl)
abbrev cX5_area : ByteArray := prog_13_method_21_code
def yX5_area : MethodName := ⟨RX5, "area", "(II)I"⟩
def dkwX5_area_1 : List UInt8 := [180, 0, 41, 158, 0, 7, 3, 167, 0, 9, 42, 27, 28, 182, 0, 96, 172]
abbrev dktX5_area_1 : List UInt8 := dkwX5_area_1 ++ []
def dkwX5_area_0 : List UInt8 := [42, 27, 184, 0, 48, 153, 0, 14, 28, 184, 0, 52, 153, 0, 7, 3, 167, 0, 4, 4, 181, 0, 41, 42]
abbrev dktX5_area_0 : List UInt8 := dkwX5_area_0 ++ dktX5_area_1
theorem dksX5_area_0 : cX5_area.data.toList.drop 0 = dktX5_area_0 := by decide +kernel
theorem dksX5_area_1 : cX5_area.data.toList.drop 24 = dktX5_area_1 := dk_seg dksX5_area_0 24 rfl rfl
theorem dX5_area_0 : decode cX5_area 0 = .ok (.aload_n 0, 1) := dk_42 (dk_at dksX5_area_0 0 rfl rfl)
theorem dX5_area_1 : decode cX5_area 1 = .ok (.iload_n 1, 1) := dk_27 (dk_at dksX5_area_0 1 rfl rfl)
theorem dX5_area_2 : decode cX5_area 2 = .ok (.invokestatic 48, 3) := dk_184 0 48 (dk_at dksX5_area_0 2 rfl rfl)
theorem dX5_area_5 : decode cX5_area 5 = .ok (.ifCond .eq 14, 3) := dk_153 0 14 (dk_at dksX5_area_0 5 rfl rfl)
theorem dX5_area_8 : decode cX5_area 8 = .ok (.iload_n 2, 1) := dk_28 (dk_at dksX5_area_0 8 rfl rfl)
theorem dX5_area_9 : decode cX5_area 9 = .ok (.invokestatic 52, 3) := dk_184 0 52 (dk_at dksX5_area_0 9 rfl rfl)
theorem dX5_area_12 : decode cX5_area 12 = .ok (.ifCond .eq 7, 3) := dk_153 0 7 (dk_at dksX5_area_0 12 rfl rfl)
theorem dX5_area_15 : decode cX5_area 15 = .ok (.iconst 0, 1) := dk_3 (dk_at dksX5_area_0 15 rfl rfl)
theorem dX5_area_16 : decode cX5_area 16 = .ok (.goto 4, 3) := dk_167 0 4 (dk_at dksX5_area_0 16 rfl rfl)
theorem dX5_area_19 : decode cX5_area 19 = .ok (.iconst 1, 1) := dk_4 (dk_at dksX5_area_0 19 rfl rfl)
theorem dX5_area_20 : decode cX5_area 20 = .ok (.putfield 41, 3) := dk_181 0 41 (dk_at dksX5_area_0 20 rfl rfl)
theorem dX5_area_23 : decode cX5_area 23 = .ok (.aload_n 0, 1) := dk_42 (dk_at dksX5_area_0 23 rfl rfl)
theorem dX5_area_24 : decode cX5_area 24 = .ok (.getfield 41, 3) := dk_180 0 41 (dk_at dksX5_area_1 0 rfl rfl)
theorem dX5_area_27 : decode cX5_area 27 = .ok (.ifCond .le 7, 3) := dk_158 0 7 (dk_at dksX5_area_1 3 rfl rfl)
theorem dX5_area_30 : decode cX5_area 30 = .ok (.iconst 0, 1) := dk_3 (dk_at dksX5_area_1 6 rfl rfl)
theorem dX5_area_31 : decode cX5_area 31 = .ok (.goto 9, 3) := dk_167 0 9 (dk_at dksX5_area_1 7 rfl rfl)
theorem dX5_area_34 : decode cX5_area 34 = .ok (.aload_n 0, 1) := dk_42 (dk_at dksX5_area_1 10 rfl rfl)
theorem dX5_area_35 : decode cX5_area 35 = .ok (.iload_n 1, 1) := dk_27 (dk_at dksX5_area_1 11 rfl rfl)
theorem dX5_area_36 : decode cX5_area 36 = .ok (.iload_n 2, 1) := dk_28 (dk_at dksX5_area_1 12 rfl rfl)
theorem dX5_area_37 : decode cX5_area 37 = .ok (.invokevirtual 96, 3) := dk_182 0 96 (dk_at dksX5_area_1 13 rfl rfl)
theorem dX5_area_40 : decode cX5_area 40 = .ok (.ireturn, 1) := dk_172 (dk_at dksX5_area_1 16 rfl rfl)
abbrev cX5_areaOf : ByteArray := prog_13_method_20_code
def yX5_areaOf : MethodName := ⟨RX5, "areaOf", "(II)I"⟩
def dkwX5_areaOf_1 : List UInt8 := [96, 182, 0, 59, 96, 96, 62, 132, 4, 1, 167, 255, 227, 29, 172]
abbrev dktX5_areaOf_1 : List UInt8 := dkwX5_areaOf_1 ++ []
def dkwX5_areaOf_0 : List UInt8 := [3, 62, 3, 54, 4, 21, 4, 28, 162, 0, 29, 29, 42, 27, 21, 4, 182, 0, 59, 42, 27, 21, 4, 4]
abbrev dktX5_areaOf_0 : List UInt8 := dkwX5_areaOf_0 ++ dktX5_areaOf_1
theorem dksX5_areaOf_0 : cX5_areaOf.data.toList.drop 0 = dktX5_areaOf_0 := by decide +kernel
theorem dksX5_areaOf_1 : cX5_areaOf.data.toList.drop 24 = dktX5_areaOf_1 := dk_seg dksX5_areaOf_0 24 rfl rfl
theorem dX5_areaOf_0 : decode cX5_areaOf 0 = .ok (.iconst 0, 1) := dk_3 (dk_at dksX5_areaOf_0 0 rfl rfl)
theorem dX5_areaOf_1 : decode cX5_areaOf 1 = .ok (.istore_n 3, 1) := dk_62 (dk_at dksX5_areaOf_0 1 rfl rfl)
theorem dX5_areaOf_2 : decode cX5_areaOf 2 = .ok (.iconst 0, 1) := dk_3 (dk_at dksX5_areaOf_0 2 rfl rfl)
theorem dX5_areaOf_3 : decode cX5_areaOf 3 = .ok (.istore 4, 2) := dk_54 4 (dk_at dksX5_areaOf_0 3 rfl rfl)
theorem dX5_areaOf_5 : decode cX5_areaOf 5 = .ok (.iload 4, 2) := dk_21 4 (dk_at dksX5_areaOf_0 5 rfl rfl)
theorem dX5_areaOf_7 : decode cX5_areaOf 7 = .ok (.iload_n 2, 1) := dk_28 (dk_at dksX5_areaOf_0 7 rfl rfl)
theorem dX5_areaOf_8 : decode cX5_areaOf 8 = .ok (.if_icmp .ge 29, 3) := dk_162 0 29 (dk_at dksX5_areaOf_0 8 rfl rfl)
theorem dX5_areaOf_11 : decode cX5_areaOf 11 = .ok (.iload_n 3, 1) := dk_29 (dk_at dksX5_areaOf_0 11 rfl rfl)
theorem dX5_areaOf_12 : decode cX5_areaOf 12 = .ok (.aload_n 0, 1) := dk_42 (dk_at dksX5_areaOf_0 12 rfl rfl)
theorem dX5_areaOf_13 : decode cX5_areaOf 13 = .ok (.iload_n 1, 1) := dk_27 (dk_at dksX5_areaOf_0 13 rfl rfl)
theorem dX5_areaOf_14 : decode cX5_areaOf 14 = .ok (.iload 4, 2) := dk_21 4 (dk_at dksX5_areaOf_0 14 rfl rfl)
theorem dX5_areaOf_16 : decode cX5_areaOf 16 = .ok (.invokevirtual 59, 3) := dk_182 0 59 (dk_at dksX5_areaOf_0 16 rfl rfl)
theorem dX5_areaOf_19 : decode cX5_areaOf 19 = .ok (.aload_n 0, 1) := dk_42 (dk_at dksX5_areaOf_0 19 rfl rfl)
theorem dX5_areaOf_20 : decode cX5_areaOf 20 = .ok (.iload_n 1, 1) := dk_27 (dk_at dksX5_areaOf_0 20 rfl rfl)
theorem dX5_areaOf_21 : decode cX5_areaOf 21 = .ok (.iload 4, 2) := dk_21 4 (dk_at dksX5_areaOf_0 21 rfl rfl)
theorem dX5_areaOf_23 : decode cX5_areaOf 23 = .ok (.iconst 1, 1) := dk_4 (dk_at dksX5_areaOf_0 23 rfl rfl)
theorem dX5_areaOf_24 : decode cX5_areaOf 24 = .ok (.iadd, 1) := dk_96 (dk_at dksX5_areaOf_1 0 rfl rfl)
theorem dX5_areaOf_25 : decode cX5_areaOf 25 = .ok (.invokevirtual 59, 3) := dk_182 0 59 (dk_at dksX5_areaOf_1 1 rfl rfl)
theorem dX5_areaOf_28 : decode cX5_areaOf 28 = .ok (.iadd, 1) := dk_96 (dk_at dksX5_areaOf_1 4 rfl rfl)
theorem dX5_areaOf_29 : decode cX5_areaOf 29 = .ok (.iadd, 1) := dk_96 (dk_at dksX5_areaOf_1 5 rfl rfl)
theorem dX5_areaOf_30 : decode cX5_areaOf 30 = .ok (.istore_n 3, 1) := dk_62 (dk_at dksX5_areaOf_1 6 rfl rfl)
theorem dX5_areaOf_31 : decode cX5_areaOf 31 = .ok (.iinc 4 1, 3) := dk_132 4 1 (dk_at dksX5_areaOf_1 7 rfl rfl)
theorem dX5_areaOf_34 : decode cX5_areaOf 34 = .ok (.goto (-29), 3) := dk_167 255 227 (dk_at dksX5_areaOf_1 10 rfl rfl)
theorem dX5_areaOf_37 : decode cX5_areaOf 37 = .ok (.iload_n 3, 1) := dk_29 (dk_at dksX5_areaOf_1 13 rfl rfl)
theorem dX5_areaOf_38 : decode cX5_areaOf 38 = .ok (.ireturn, 1) := dk_172 (dk_at dksX5_areaOf_1 14 rfl rfl)
abbrev cX5_volume : ByteArray := prog_13_method_23_code
def yX5_volume : MethodName := ⟨RX5, "volume", "(I)I"⟩
def dkwX5_volume_1 : List UInt8 := [167, 0, 8, 42, 27, 182, 0, 99, 172]
abbrev dktX5_volume_1 : List UInt8 := dkwX5_volume_1 ++ []
def dkwX5_volume_0 : List UInt8 := [42, 27, 184, 0, 52, 153, 0, 7, 3, 167, 0, 4, 4, 181, 0, 41, 42, 180, 0, 41, 158, 0, 7, 3]
abbrev dktX5_volume_0 : List UInt8 := dkwX5_volume_0 ++ dktX5_volume_1
theorem dksX5_volume_0 : cX5_volume.data.toList.drop 0 = dktX5_volume_0 := by decide +kernel
theorem dksX5_volume_1 : cX5_volume.data.toList.drop 24 = dktX5_volume_1 := dk_seg dksX5_volume_0 24 rfl rfl
theorem dX5_volume_0 : decode cX5_volume 0 = .ok (.aload_n 0, 1) := dk_42 (dk_at dksX5_volume_0 0 rfl rfl)
theorem dX5_volume_1 : decode cX5_volume 1 = .ok (.iload_n 1, 1) := dk_27 (dk_at dksX5_volume_0 1 rfl rfl)
theorem dX5_volume_2 : decode cX5_volume 2 = .ok (.invokestatic 52, 3) := dk_184 0 52 (dk_at dksX5_volume_0 2 rfl rfl)
theorem dX5_volume_5 : decode cX5_volume 5 = .ok (.ifCond .eq 7, 3) := dk_153 0 7 (dk_at dksX5_volume_0 5 rfl rfl)
theorem dX5_volume_8 : decode cX5_volume 8 = .ok (.iconst 0, 1) := dk_3 (dk_at dksX5_volume_0 8 rfl rfl)
theorem dX5_volume_9 : decode cX5_volume 9 = .ok (.goto 4, 3) := dk_167 0 4 (dk_at dksX5_volume_0 9 rfl rfl)
theorem dX5_volume_12 : decode cX5_volume 12 = .ok (.iconst 1, 1) := dk_4 (dk_at dksX5_volume_0 12 rfl rfl)
theorem dX5_volume_13 : decode cX5_volume 13 = .ok (.putfield 41, 3) := dk_181 0 41 (dk_at dksX5_volume_0 13 rfl rfl)
theorem dX5_volume_16 : decode cX5_volume 16 = .ok (.aload_n 0, 1) := dk_42 (dk_at dksX5_volume_0 16 rfl rfl)
theorem dX5_volume_17 : decode cX5_volume 17 = .ok (.getfield 41, 3) := dk_180 0 41 (dk_at dksX5_volume_0 17 rfl rfl)
theorem dX5_volume_20 : decode cX5_volume 20 = .ok (.ifCond .le 7, 3) := dk_158 0 7 (dk_at dksX5_volume_0 20 rfl rfl)
theorem dX5_volume_23 : decode cX5_volume 23 = .ok (.iconst 0, 1) := dk_3 (dk_at dksX5_volume_0 23 rfl rfl)
theorem dX5_volume_24 : decode cX5_volume 24 = .ok (.goto 8, 3) := dk_167 0 8 (dk_at dksX5_volume_1 0 rfl rfl)
theorem dX5_volume_27 : decode cX5_volume 27 = .ok (.aload_n 0, 1) := dk_42 (dk_at dksX5_volume_1 3 rfl rfl)
theorem dX5_volume_28 : decode cX5_volume 28 = .ok (.iload_n 1, 1) := dk_27 (dk_at dksX5_volume_1 4 rfl rfl)
theorem dX5_volume_29 : decode cX5_volume 29 = .ok (.invokevirtual 99, 3) := dk_182 0 99 (dk_at dksX5_volume_1 5 rfl rfl)
theorem dX5_volume_32 : decode cX5_volume 32 = .ok (.ireturn, 1) := dk_172 (dk_at dksX5_volume_1 8 rfl rfl)
abbrev cX5_volumeOf : ByteArray := prog_13_method_22_code
def yX5_volumeOf : MethodName := ⟨RX5, "volumeOf", "(I)I"⟩
def dkwX5_volumeOf_1 : List UInt8 := [182, 0, 96, 96, 96, 61, 132, 3, 1, 167, 255, 227, 28, 172]
abbrev dktX5_volumeOf_1 : List UInt8 := dkwX5_volumeOf_1 ++ []
def dkwX5_volumeOf_0 : List UInt8 := [3, 61, 3, 62, 29, 4, 96, 16, 9, 162, 0, 27, 28, 42, 29, 27, 182, 0, 96, 42, 29, 4, 96, 27]
abbrev dktX5_volumeOf_0 : List UInt8 := dkwX5_volumeOf_0 ++ dktX5_volumeOf_1
theorem dksX5_volumeOf_0 : cX5_volumeOf.data.toList.drop 0 = dktX5_volumeOf_0 := by decide +kernel
theorem dksX5_volumeOf_1 : cX5_volumeOf.data.toList.drop 24 = dktX5_volumeOf_1 := dk_seg dksX5_volumeOf_0 24 rfl rfl
theorem dX5_volumeOf_0 : decode cX5_volumeOf 0 = .ok (.iconst 0, 1) := dk_3 (dk_at dksX5_volumeOf_0 0 rfl rfl)
theorem dX5_volumeOf_1 : decode cX5_volumeOf 1 = .ok (.istore_n 2, 1) := dk_61 (dk_at dksX5_volumeOf_0 1 rfl rfl)
theorem dX5_volumeOf_2 : decode cX5_volumeOf 2 = .ok (.iconst 0, 1) := dk_3 (dk_at dksX5_volumeOf_0 2 rfl rfl)
theorem dX5_volumeOf_3 : decode cX5_volumeOf 3 = .ok (.istore_n 3, 1) := dk_62 (dk_at dksX5_volumeOf_0 3 rfl rfl)
theorem dX5_volumeOf_4 : decode cX5_volumeOf 4 = .ok (.iload_n 3, 1) := dk_29 (dk_at dksX5_volumeOf_0 4 rfl rfl)
theorem dX5_volumeOf_5 : decode cX5_volumeOf 5 = .ok (.iconst 1, 1) := dk_4 (dk_at dksX5_volumeOf_0 5 rfl rfl)
theorem dX5_volumeOf_6 : decode cX5_volumeOf 6 = .ok (.iadd, 1) := dk_96 (dk_at dksX5_volumeOf_0 6 rfl rfl)
theorem dX5_volumeOf_7 : decode cX5_volumeOf 7 = .ok (.bipush 9, 2) := dk_16 9 (dk_at dksX5_volumeOf_0 7 rfl rfl)
theorem dX5_volumeOf_9 : decode cX5_volumeOf 9 = .ok (.if_icmp .ge 27, 3) := dk_162 0 27 (dk_at dksX5_volumeOf_0 9 rfl rfl)
theorem dX5_volumeOf_12 : decode cX5_volumeOf 12 = .ok (.iload_n 2, 1) := dk_28 (dk_at dksX5_volumeOf_0 12 rfl rfl)
theorem dX5_volumeOf_13 : decode cX5_volumeOf 13 = .ok (.aload_n 0, 1) := dk_42 (dk_at dksX5_volumeOf_0 13 rfl rfl)
theorem dX5_volumeOf_14 : decode cX5_volumeOf 14 = .ok (.iload_n 3, 1) := dk_29 (dk_at dksX5_volumeOf_0 14 rfl rfl)
theorem dX5_volumeOf_15 : decode cX5_volumeOf 15 = .ok (.iload_n 1, 1) := dk_27 (dk_at dksX5_volumeOf_0 15 rfl rfl)
theorem dX5_volumeOf_16 : decode cX5_volumeOf 16 = .ok (.invokevirtual 96, 3) := dk_182 0 96 (dk_at dksX5_volumeOf_0 16 rfl rfl)
theorem dX5_volumeOf_19 : decode cX5_volumeOf 19 = .ok (.aload_n 0, 1) := dk_42 (dk_at dksX5_volumeOf_0 19 rfl rfl)
theorem dX5_volumeOf_20 : decode cX5_volumeOf 20 = .ok (.iload_n 3, 1) := dk_29 (dk_at dksX5_volumeOf_0 20 rfl rfl)
theorem dX5_volumeOf_21 : decode cX5_volumeOf 21 = .ok (.iconst 1, 1) := dk_4 (dk_at dksX5_volumeOf_0 21 rfl rfl)
theorem dX5_volumeOf_22 : decode cX5_volumeOf 22 = .ok (.iadd, 1) := dk_96 (dk_at dksX5_volumeOf_0 22 rfl rfl)
theorem dX5_volumeOf_23 : decode cX5_volumeOf 23 = .ok (.iload_n 1, 1) := dk_27 (dk_at dksX5_volumeOf_0 23 rfl rfl)
theorem dX5_volumeOf_24 : decode cX5_volumeOf 24 = .ok (.invokevirtual 96, 3) := dk_182 0 96 (dk_at dksX5_volumeOf_1 0 rfl rfl)
theorem dX5_volumeOf_27 : decode cX5_volumeOf 27 = .ok (.iadd, 1) := dk_96 (dk_at dksX5_volumeOf_1 3 rfl rfl)
theorem dX5_volumeOf_28 : decode cX5_volumeOf 28 = .ok (.iadd, 1) := dk_96 (dk_at dksX5_volumeOf_1 4 rfl rfl)
theorem dX5_volumeOf_29 : decode cX5_volumeOf 29 = .ok (.istore_n 2, 1) := dk_61 (dk_at dksX5_volumeOf_1 5 rfl rfl)
theorem dX5_volumeOf_30 : decode cX5_volumeOf 30 = .ok (.iinc 3 1, 3) := dk_132 3 1 (dk_at dksX5_volumeOf_1 6 rfl rfl)
theorem dX5_volumeOf_33 : decode cX5_volumeOf 33 = .ok (.goto (-29), 3) := dk_167 255 227 (dk_at dksX5_volumeOf_1 9 rfl rfl)
theorem dX5_volumeOf_36 : decode cX5_volumeOf 36 = .ok (.iload_n 2, 1) := dk_28 (dk_at dksX5_volumeOf_1 12 rfl rfl)
theorem dX5_volumeOf_37 : decode cX5_volumeOf 37 = .ok (.ireturn, 1) := dk_172 (dk_at dksX5_volumeOf_1 13 rfl rfl)
abbrev cX5_volumeAnew : ByteArray := prog_13_method_24_code
def yX5_volumeAnew : MethodName := ⟨RX5, "volumeAnew", "(I)I"⟩
def dkwX5_volumeAnew_0 : List UInt8 := [42, 27, 182, 0, 102, 172]
abbrev dktX5_volumeAnew_0 : List UInt8 := dkwX5_volumeAnew_0 ++ []
theorem dksX5_volumeAnew_0 : cX5_volumeAnew.data.toList.drop 0 = dktX5_volumeAnew_0 := by decide +kernel
theorem dX5_volumeAnew_0 : decode cX5_volumeAnew 0 = .ok (.aload_n 0, 1) := dk_42 (dk_at dksX5_volumeAnew_0 0 rfl rfl)
theorem dX5_volumeAnew_1 : decode cX5_volumeAnew 1 = .ok (.iload_n 1, 1) := dk_27 (dk_at dksX5_volumeAnew_0 1 rfl rfl)
theorem dX5_volumeAnew_2 : decode cX5_volumeAnew 2 = .ok (.invokevirtual 102, 3) := dk_182 0 102 (dk_at dksX5_volumeAnew_0 2 rfl rfl)
theorem dX5_volumeAnew_5 : decode cX5_volumeAnew 5 = .ok (.ireturn, 1) := dk_172 (dk_at dksX5_volumeAnew_0 5 rfl rfl)
abbrev cX5_weigh : ByteArray := prog_13_method_26_code
def yX5_weigh : MethodName := ⟨RX5, "weigh", "(II)I"⟩
def dkwX5_weigh_3 : List UInt8 := [79, 42, 89, 180, 0, 105, 4, 96, 181, 0, 105, 42, 180, 0, 105, 4, 100, 172]
abbrev dktX5_weigh_3 : List UInt8 := dkwX5_weigh_3 ++ []
def dkwX5_weigh_2 : List UInt8 := [158, 0, 5, 3, 172, 42, 180, 0, 13, 42, 180, 0, 105, 27, 79, 42, 180, 0, 16, 42, 180, 0, 105, 28]
abbrev dktX5_weigh_2 : List UInt8 := dkwX5_weigh_2 ++ dktX5_weigh_3
def dkwX5_weigh_1 : List UInt8 := [167, 0, 17, 42, 180, 0, 105, 16, 16, 160, 0, 7, 6, 167, 0, 4, 3, 181, 0, 41, 42, 180, 0, 41]
abbrev dktX5_weigh_1 : List UInt8 := dkwX5_weigh_1 ++ dktX5_weigh_2
def dkwX5_weigh_0 : List UInt8 := [42, 27, 184, 0, 48, 154, 0, 7, 4, 167, 0, 32, 28, 3, 17, 3, 231, 184, 0, 44, 154, 0, 7, 5]
abbrev dktX5_weigh_0 : List UInt8 := dkwX5_weigh_0 ++ dktX5_weigh_1
theorem dksX5_weigh_0 : cX5_weigh.data.toList.drop 0 = dktX5_weigh_0 := by decide +kernel
theorem dksX5_weigh_1 : cX5_weigh.data.toList.drop 24 = dktX5_weigh_1 := dk_seg dksX5_weigh_0 24 rfl rfl
theorem dksX5_weigh_2 : cX5_weigh.data.toList.drop 48 = dktX5_weigh_2 := dk_seg dksX5_weigh_1 24 rfl rfl
theorem dksX5_weigh_3 : cX5_weigh.data.toList.drop 72 = dktX5_weigh_3 := dk_seg dksX5_weigh_2 24 rfl rfl
theorem dX5_weigh_0 : decode cX5_weigh 0 = .ok (.aload_n 0, 1) := dk_42 (dk_at dksX5_weigh_0 0 rfl rfl)
theorem dX5_weigh_1 : decode cX5_weigh 1 = .ok (.iload_n 1, 1) := dk_27 (dk_at dksX5_weigh_0 1 rfl rfl)
theorem dX5_weigh_2 : decode cX5_weigh 2 = .ok (.invokestatic 48, 3) := dk_184 0 48 (dk_at dksX5_weigh_0 2 rfl rfl)
theorem dX5_weigh_5 : decode cX5_weigh 5 = .ok (.ifCond .ne 7, 3) := dk_154 0 7 (dk_at dksX5_weigh_0 5 rfl rfl)
theorem dX5_weigh_8 : decode cX5_weigh 8 = .ok (.iconst 1, 1) := dk_4 (dk_at dksX5_weigh_0 8 rfl rfl)
theorem dX5_weigh_9 : decode cX5_weigh 9 = .ok (.goto 32, 3) := dk_167 0 32 (dk_at dksX5_weigh_0 9 rfl rfl)
theorem dX5_weigh_12 : decode cX5_weigh 12 = .ok (.iload_n 2, 1) := dk_28 (dk_at dksX5_weigh_0 12 rfl rfl)
theorem dX5_weigh_13 : decode cX5_weigh 13 = .ok (.iconst 0, 1) := dk_3 (dk_at dksX5_weigh_0 13 rfl rfl)
theorem dX5_weigh_14 : decode cX5_weigh 14 = .ok (.sipush 999, 3) := dk_17 3 231 (dk_at dksX5_weigh_0 14 rfl rfl)
theorem dX5_weigh_17 : decode cX5_weigh 17 = .ok (.invokestatic 44, 3) := dk_184 0 44 (dk_at dksX5_weigh_0 17 rfl rfl)
theorem dX5_weigh_20 : decode cX5_weigh 20 = .ok (.ifCond .ne 7, 3) := dk_154 0 7 (dk_at dksX5_weigh_0 20 rfl rfl)
theorem dX5_weigh_23 : decode cX5_weigh 23 = .ok (.iconst 2, 1) := dk_5 (dk_at dksX5_weigh_0 23 rfl rfl)
theorem dX5_weigh_24 : decode cX5_weigh 24 = .ok (.goto 17, 3) := dk_167 0 17 (dk_at dksX5_weigh_1 0 rfl rfl)
theorem dX5_weigh_27 : decode cX5_weigh 27 = .ok (.aload_n 0, 1) := dk_42 (dk_at dksX5_weigh_1 3 rfl rfl)
theorem dX5_weigh_28 : decode cX5_weigh 28 = .ok (.getfield 105, 3) := dk_180 0 105 (dk_at dksX5_weigh_1 4 rfl rfl)
theorem dX5_weigh_31 : decode cX5_weigh 31 = .ok (.bipush 16, 2) := dk_16 16 (dk_at dksX5_weigh_1 7 rfl rfl)
theorem dX5_weigh_33 : decode cX5_weigh 33 = .ok (.if_icmp .ne 7, 3) := dk_160 0 7 (dk_at dksX5_weigh_1 9 rfl rfl)
theorem dX5_weigh_36 : decode cX5_weigh 36 = .ok (.iconst 3, 1) := dk_6 (dk_at dksX5_weigh_1 12 rfl rfl)
theorem dX5_weigh_37 : decode cX5_weigh 37 = .ok (.goto 4, 3) := dk_167 0 4 (dk_at dksX5_weigh_1 13 rfl rfl)
theorem dX5_weigh_40 : decode cX5_weigh 40 = .ok (.iconst 0, 1) := dk_3 (dk_at dksX5_weigh_1 16 rfl rfl)
theorem dX5_weigh_41 : decode cX5_weigh 41 = .ok (.putfield 41, 3) := dk_181 0 41 (dk_at dksX5_weigh_1 17 rfl rfl)
theorem dX5_weigh_44 : decode cX5_weigh 44 = .ok (.aload_n 0, 1) := dk_42 (dk_at dksX5_weigh_1 20 rfl rfl)
theorem dX5_weigh_45 : decode cX5_weigh 45 = .ok (.getfield 41, 3) := dk_180 0 41 (dk_at dksX5_weigh_1 21 rfl rfl)
theorem dX5_weigh_48 : decode cX5_weigh 48 = .ok (.ifCond .le 5, 3) := dk_158 0 5 (dk_at dksX5_weigh_2 0 rfl rfl)
theorem dX5_weigh_51 : decode cX5_weigh 51 = .ok (.iconst 0, 1) := dk_3 (dk_at dksX5_weigh_2 3 rfl rfl)
theorem dX5_weigh_52 : decode cX5_weigh 52 = .ok (.ireturn, 1) := dk_172 (dk_at dksX5_weigh_2 4 rfl rfl)
theorem dX5_weigh_53 : decode cX5_weigh 53 = .ok (.aload_n 0, 1) := dk_42 (dk_at dksX5_weigh_2 5 rfl rfl)
theorem dX5_weigh_54 : decode cX5_weigh 54 = .ok (.getfield 13, 3) := dk_180 0 13 (dk_at dksX5_weigh_2 6 rfl rfl)
theorem dX5_weigh_57 : decode cX5_weigh 57 = .ok (.aload_n 0, 1) := dk_42 (dk_at dksX5_weigh_2 9 rfl rfl)
theorem dX5_weigh_58 : decode cX5_weigh 58 = .ok (.getfield 105, 3) := dk_180 0 105 (dk_at dksX5_weigh_2 10 rfl rfl)
theorem dX5_weigh_61 : decode cX5_weigh 61 = .ok (.iload_n 1, 1) := dk_27 (dk_at dksX5_weigh_2 13 rfl rfl)
theorem dX5_weigh_62 : decode cX5_weigh 62 = .ok (.iastore, 1) := dk_79 (dk_at dksX5_weigh_2 14 rfl rfl)
theorem dX5_weigh_63 : decode cX5_weigh 63 = .ok (.aload_n 0, 1) := dk_42 (dk_at dksX5_weigh_2 15 rfl rfl)
theorem dX5_weigh_64 : decode cX5_weigh 64 = .ok (.getfield 16, 3) := dk_180 0 16 (dk_at dksX5_weigh_2 16 rfl rfl)
theorem dX5_weigh_67 : decode cX5_weigh 67 = .ok (.aload_n 0, 1) := dk_42 (dk_at dksX5_weigh_2 19 rfl rfl)
theorem dX5_weigh_68 : decode cX5_weigh 68 = .ok (.getfield 105, 3) := dk_180 0 105 (dk_at dksX5_weigh_2 20 rfl rfl)
theorem dX5_weigh_71 : decode cX5_weigh 71 = .ok (.iload_n 2, 1) := dk_28 (dk_at dksX5_weigh_2 23 rfl rfl)
theorem dX5_weigh_72 : decode cX5_weigh 72 = .ok (.iastore, 1) := dk_79 (dk_at dksX5_weigh_3 0 rfl rfl)
theorem dX5_weigh_73 : decode cX5_weigh 73 = .ok (.aload_n 0, 1) := dk_42 (dk_at dksX5_weigh_3 1 rfl rfl)
theorem dX5_weigh_74 : decode cX5_weigh 74 = .ok (.dup, 1) := dk_89 (dk_at dksX5_weigh_3 2 rfl rfl)
theorem dX5_weigh_75 : decode cX5_weigh 75 = .ok (.getfield 105, 3) := dk_180 0 105 (dk_at dksX5_weigh_3 3 rfl rfl)
theorem dX5_weigh_78 : decode cX5_weigh 78 = .ok (.iconst 1, 1) := dk_4 (dk_at dksX5_weigh_3 6 rfl rfl)
theorem dX5_weigh_79 : decode cX5_weigh 79 = .ok (.iadd, 1) := dk_96 (dk_at dksX5_weigh_3 7 rfl rfl)
theorem dX5_weigh_80 : decode cX5_weigh 80 = .ok (.putfield 105, 3) := dk_181 0 105 (dk_at dksX5_weigh_3 8 rfl rfl)
theorem dX5_weigh_83 : decode cX5_weigh 83 = .ok (.aload_n 0, 1) := dk_42 (dk_at dksX5_weigh_3 11 rfl rfl)
theorem dX5_weigh_84 : decode cX5_weigh 84 = .ok (.getfield 105, 3) := dk_180 0 105 (dk_at dksX5_weigh_3 12 rfl rfl)
theorem dX5_weigh_87 : decode cX5_weigh 87 = .ok (.iconst 1, 1) := dk_4 (dk_at dksX5_weigh_3 15 rfl rfl)
theorem dX5_weigh_88 : decode cX5_weigh 88 = .ok (.isub, 1) := dk_100 (dk_at dksX5_weigh_3 16 rfl rfl)
theorem dX5_weigh_89 : decode cX5_weigh 89 = .ok (.ireturn, 1) := dk_172 (dk_at dksX5_weigh_3 17 rfl rfl)
abbrev cX5_change : ByteArray := prog_13_method_27_code
def yX5_change : MethodName := ⟨RX5, "change", "(III)I"⟩
def dkwX5_change_3 : List UInt8 := [54, 4, 42, 180, 0, 13, 27, 28, 79, 42, 180, 0, 16, 27, 29, 79, 21, 4, 172]
abbrev dktX5_change_3 : List UInt8 := dkwX5_change_3 ++ []
def dkwX5_change_2 : List UInt8 := [180, 0, 41, 158, 0, 5, 3, 172, 16, 10, 42, 180, 0, 16, 27, 46, 104, 42, 180, 0, 13, 27, 46, 96]
abbrev dktX5_change_2 : List UInt8 := dkwX5_change_2 ++ dktX5_change_3
def dkwX5_change_1 : List UInt8 := [167, 0, 19, 29, 3, 17, 3, 231, 184, 0, 44, 153, 0, 7, 3, 167, 0, 4, 5, 181, 0, 41, 42]
abbrev dktX5_change_1 : List UInt8 := dkwX5_change_1 ++ dktX5_change_2
def dkwX5_change_0 : List UInt8 := [42, 27, 3, 42, 180, 0, 105, 4, 100, 184, 0, 44, 153, 0, 10, 28, 184, 0, 48, 154, 0, 7, 4]
abbrev dktX5_change_0 : List UInt8 := dkwX5_change_0 ++ dktX5_change_1
theorem dksX5_change_0 : cX5_change.data.toList.drop 0 = dktX5_change_0 := by decide +kernel
theorem dksX5_change_1 : cX5_change.data.toList.drop 23 = dktX5_change_1 := dk_seg dksX5_change_0 23 rfl rfl
theorem dksX5_change_2 : cX5_change.data.toList.drop 46 = dktX5_change_2 := dk_seg dksX5_change_1 23 rfl rfl
theorem dksX5_change_3 : cX5_change.data.toList.drop 70 = dktX5_change_3 := dk_seg dksX5_change_2 24 rfl rfl
theorem dX5_change_0 : decode cX5_change 0 = .ok (.aload_n 0, 1) := dk_42 (dk_at dksX5_change_0 0 rfl rfl)
theorem dX5_change_1 : decode cX5_change 1 = .ok (.iload_n 1, 1) := dk_27 (dk_at dksX5_change_0 1 rfl rfl)
theorem dX5_change_2 : decode cX5_change 2 = .ok (.iconst 0, 1) := dk_3 (dk_at dksX5_change_0 2 rfl rfl)
theorem dX5_change_3 : decode cX5_change 3 = .ok (.aload_n 0, 1) := dk_42 (dk_at dksX5_change_0 3 rfl rfl)
theorem dX5_change_4 : decode cX5_change 4 = .ok (.getfield 105, 3) := dk_180 0 105 (dk_at dksX5_change_0 4 rfl rfl)
theorem dX5_change_7 : decode cX5_change 7 = .ok (.iconst 1, 1) := dk_4 (dk_at dksX5_change_0 7 rfl rfl)
theorem dX5_change_8 : decode cX5_change 8 = .ok (.isub, 1) := dk_100 (dk_at dksX5_change_0 8 rfl rfl)
theorem dX5_change_9 : decode cX5_change 9 = .ok (.invokestatic 44, 3) := dk_184 0 44 (dk_at dksX5_change_0 9 rfl rfl)
theorem dX5_change_12 : decode cX5_change 12 = .ok (.ifCond .eq 10, 3) := dk_153 0 10 (dk_at dksX5_change_0 12 rfl rfl)
theorem dX5_change_15 : decode cX5_change 15 = .ok (.iload_n 2, 1) := dk_28 (dk_at dksX5_change_0 15 rfl rfl)
theorem dX5_change_16 : decode cX5_change 16 = .ok (.invokestatic 48, 3) := dk_184 0 48 (dk_at dksX5_change_0 16 rfl rfl)
theorem dX5_change_19 : decode cX5_change 19 = .ok (.ifCond .ne 7, 3) := dk_154 0 7 (dk_at dksX5_change_0 19 rfl rfl)
theorem dX5_change_22 : decode cX5_change 22 = .ok (.iconst 1, 1) := dk_4 (dk_at dksX5_change_0 22 rfl rfl)
theorem dX5_change_23 : decode cX5_change 23 = .ok (.goto 19, 3) := dk_167 0 19 (dk_at dksX5_change_1 0 rfl rfl)
theorem dX5_change_26 : decode cX5_change 26 = .ok (.iload_n 3, 1) := dk_29 (dk_at dksX5_change_1 3 rfl rfl)
theorem dX5_change_27 : decode cX5_change 27 = .ok (.iconst 0, 1) := dk_3 (dk_at dksX5_change_1 4 rfl rfl)
theorem dX5_change_28 : decode cX5_change 28 = .ok (.sipush 999, 3) := dk_17 3 231 (dk_at dksX5_change_1 5 rfl rfl)
theorem dX5_change_31 : decode cX5_change 31 = .ok (.invokestatic 44, 3) := dk_184 0 44 (dk_at dksX5_change_1 8 rfl rfl)
theorem dX5_change_34 : decode cX5_change 34 = .ok (.ifCond .eq 7, 3) := dk_153 0 7 (dk_at dksX5_change_1 11 rfl rfl)
theorem dX5_change_37 : decode cX5_change 37 = .ok (.iconst 0, 1) := dk_3 (dk_at dksX5_change_1 14 rfl rfl)
theorem dX5_change_38 : decode cX5_change 38 = .ok (.goto 4, 3) := dk_167 0 4 (dk_at dksX5_change_1 15 rfl rfl)
theorem dX5_change_41 : decode cX5_change 41 = .ok (.iconst 2, 1) := dk_5 (dk_at dksX5_change_1 18 rfl rfl)
theorem dX5_change_42 : decode cX5_change 42 = .ok (.putfield 41, 3) := dk_181 0 41 (dk_at dksX5_change_1 19 rfl rfl)
theorem dX5_change_45 : decode cX5_change 45 = .ok (.aload_n 0, 1) := dk_42 (dk_at dksX5_change_1 22 rfl rfl)
theorem dX5_change_46 : decode cX5_change 46 = .ok (.getfield 41, 3) := dk_180 0 41 (dk_at dksX5_change_2 0 rfl rfl)
theorem dX5_change_49 : decode cX5_change 49 = .ok (.ifCond .le 5, 3) := dk_158 0 5 (dk_at dksX5_change_2 3 rfl rfl)
theorem dX5_change_52 : decode cX5_change 52 = .ok (.iconst 0, 1) := dk_3 (dk_at dksX5_change_2 6 rfl rfl)
theorem dX5_change_53 : decode cX5_change 53 = .ok (.ireturn, 1) := dk_172 (dk_at dksX5_change_2 7 rfl rfl)
theorem dX5_change_54 : decode cX5_change 54 = .ok (.bipush 10, 2) := dk_16 10 (dk_at dksX5_change_2 8 rfl rfl)
theorem dX5_change_56 : decode cX5_change 56 = .ok (.aload_n 0, 1) := dk_42 (dk_at dksX5_change_2 10 rfl rfl)
theorem dX5_change_57 : decode cX5_change 57 = .ok (.getfield 16, 3) := dk_180 0 16 (dk_at dksX5_change_2 11 rfl rfl)
theorem dX5_change_60 : decode cX5_change 60 = .ok (.iload_n 1, 1) := dk_27 (dk_at dksX5_change_2 14 rfl rfl)
theorem dX5_change_61 : decode cX5_change 61 = .ok (.iaload, 1) := dk_46 (dk_at dksX5_change_2 15 rfl rfl)
theorem dX5_change_62 : decode cX5_change 62 = .ok (.imul, 1) := dk_104 (dk_at dksX5_change_2 16 rfl rfl)
theorem dX5_change_63 : decode cX5_change 63 = .ok (.aload_n 0, 1) := dk_42 (dk_at dksX5_change_2 17 rfl rfl)
theorem dX5_change_64 : decode cX5_change 64 = .ok (.getfield 13, 3) := dk_180 0 13 (dk_at dksX5_change_2 18 rfl rfl)
theorem dX5_change_67 : decode cX5_change 67 = .ok (.iload_n 1, 1) := dk_27 (dk_at dksX5_change_2 21 rfl rfl)
theorem dX5_change_68 : decode cX5_change 68 = .ok (.iaload, 1) := dk_46 (dk_at dksX5_change_2 22 rfl rfl)
theorem dX5_change_69 : decode cX5_change 69 = .ok (.iadd, 1) := dk_96 (dk_at dksX5_change_2 23 rfl rfl)
theorem dX5_change_70 : decode cX5_change 70 = .ok (.istore 4, 2) := dk_54 4 (dk_at dksX5_change_3 0 rfl rfl)
theorem dX5_change_72 : decode cX5_change 72 = .ok (.aload_n 0, 1) := dk_42 (dk_at dksX5_change_3 2 rfl rfl)
theorem dX5_change_73 : decode cX5_change 73 = .ok (.getfield 13, 3) := dk_180 0 13 (dk_at dksX5_change_3 3 rfl rfl)
theorem dX5_change_76 : decode cX5_change 76 = .ok (.iload_n 1, 1) := dk_27 (dk_at dksX5_change_3 6 rfl rfl)
theorem dX5_change_77 : decode cX5_change 77 = .ok (.iload_n 2, 1) := dk_28 (dk_at dksX5_change_3 7 rfl rfl)
theorem dX5_change_78 : decode cX5_change 78 = .ok (.iastore, 1) := dk_79 (dk_at dksX5_change_3 8 rfl rfl)
theorem dX5_change_79 : decode cX5_change 79 = .ok (.aload_n 0, 1) := dk_42 (dk_at dksX5_change_3 9 rfl rfl)
theorem dX5_change_80 : decode cX5_change 80 = .ok (.getfield 16, 3) := dk_180 0 16 (dk_at dksX5_change_3 10 rfl rfl)
theorem dX5_change_83 : decode cX5_change 83 = .ok (.iload_n 1, 1) := dk_27 (dk_at dksX5_change_3 13 rfl rfl)
theorem dX5_change_84 : decode cX5_change 84 = .ok (.iload_n 3, 1) := dk_29 (dk_at dksX5_change_3 14 rfl rfl)
theorem dX5_change_85 : decode cX5_change 85 = .ok (.iastore, 1) := dk_79 (dk_at dksX5_change_3 15 rfl rfl)
theorem dX5_change_86 : decode cX5_change 86 = .ok (.iload 4, 2) := dk_21 4 (dk_at dksX5_change_3 16 rfl rfl)
theorem dX5_change_88 : decode cX5_change 88 = .ok (.ireturn, 1) := dk_172 (dk_at dksX5_change_3 18 rfl rfl)
abbrev cX5_ballast : ByteArray := prog_13_method_33_code
def yX5_ballast : MethodName := ⟨RX5, "ballast", "(I)I"⟩
def dkwX5_ballast_6 : List UInt8 := [180, 0, 13, 16, 16, 28, 79, 42, 180, 0, 16, 16, 16, 29, 79, 16, 10, 29, 104, 28, 96, 172]
abbrev dktX5_ballast_6 : List UInt8 := dkwX5_ballast_6 ++ []
def dkwX5_ballast_5 : List UInt8 := [21, 7, 54, 4, 21, 6, 61, 21, 5, 62, 132, 6, 1, 167, 255, 189, 132, 5, 1, 167, 255, 174, 42]
abbrev dktX5_ballast_5 : List UInt8 := dkwX5_ballast_5 ++ dktX5_ballast_6
def dkwX5_ballast_4 : List UInt8 := [160, 0, 8, 18, 77, 167, 0, 10, 42, 182, 0, 124, 184, 0, 70, 54, 7, 21, 7, 21, 4, 162, 0, 13]
abbrev dktX5_ballast_4 : List UInt8 := dkwX5_ballast_4 ++ dktX5_ballast_5
def dkwX5_ballast_3 : List UInt8 := [180, 0, 13, 16, 16, 21, 6, 79, 42, 180, 0, 16, 16, 16, 21, 5, 79, 42, 182, 0, 112, 2]
abbrev dktX5_ballast_3 : List UInt8 := dkwX5_ballast_3 ++ dktX5_ballast_4
def dkwX5_ballast_2 : List UInt8 := [54, 4, 3, 54, 5, 21, 5, 27, 163, 0, 82, 3, 54, 6, 21, 6, 16, 9, 162, 0, 66, 42]
abbrev dktX5_ballast_2 : List UInt8 := dkwX5_ballast_2 ++ dktX5_ballast_3
def dkwX5_ballast_1 : List UInt8 := [158, 0, 5, 3, 172, 42, 180, 0, 13, 16, 16, 46, 61, 42, 180, 0, 16, 16, 16, 46, 62, 18, 77]
abbrev dktX5_ballast_1 : List UInt8 := dkwX5_ballast_1 ++ dktX5_ballast_2
def dkwX5_ballast_0 : List UInt8 := [42, 27, 3, 16, 99, 184, 0, 44, 153, 0, 7, 3, 167, 0, 4, 4, 181, 0, 41, 42, 180, 0, 41]
abbrev dktX5_ballast_0 : List UInt8 := dkwX5_ballast_0 ++ dktX5_ballast_1
theorem dksX5_ballast_0 : cX5_ballast.data.toList.drop 0 = dktX5_ballast_0 := by decide +kernel
theorem dksX5_ballast_1 : cX5_ballast.data.toList.drop 23 = dktX5_ballast_1 := dk_seg dksX5_ballast_0 23 rfl rfl
theorem dksX5_ballast_2 : cX5_ballast.data.toList.drop 46 = dktX5_ballast_2 := dk_seg dksX5_ballast_1 23 rfl rfl
theorem dksX5_ballast_3 : cX5_ballast.data.toList.drop 68 = dktX5_ballast_3 := dk_seg dksX5_ballast_2 22 rfl rfl
theorem dksX5_ballast_4 : cX5_ballast.data.toList.drop 90 = dktX5_ballast_4 := dk_seg dksX5_ballast_3 22 rfl rfl
theorem dksX5_ballast_5 : cX5_ballast.data.toList.drop 114 = dktX5_ballast_5 := dk_seg dksX5_ballast_4 24 rfl rfl
theorem dksX5_ballast_6 : cX5_ballast.data.toList.drop 137 = dktX5_ballast_6 := dk_seg dksX5_ballast_5 23 rfl rfl
theorem dX5_ballast_0 : decode cX5_ballast 0 = .ok (.aload_n 0, 1) := dk_42 (dk_at dksX5_ballast_0 0 rfl rfl)
theorem dX5_ballast_1 : decode cX5_ballast 1 = .ok (.iload_n 1, 1) := dk_27 (dk_at dksX5_ballast_0 1 rfl rfl)
theorem dX5_ballast_2 : decode cX5_ballast 2 = .ok (.iconst 0, 1) := dk_3 (dk_at dksX5_ballast_0 2 rfl rfl)
theorem dX5_ballast_3 : decode cX5_ballast 3 = .ok (.bipush 99, 2) := dk_16 99 (dk_at dksX5_ballast_0 3 rfl rfl)
theorem dX5_ballast_5 : decode cX5_ballast 5 = .ok (.invokestatic 44, 3) := dk_184 0 44 (dk_at dksX5_ballast_0 5 rfl rfl)
theorem dX5_ballast_8 : decode cX5_ballast 8 = .ok (.ifCond .eq 7, 3) := dk_153 0 7 (dk_at dksX5_ballast_0 8 rfl rfl)
theorem dX5_ballast_11 : decode cX5_ballast 11 = .ok (.iconst 0, 1) := dk_3 (dk_at dksX5_ballast_0 11 rfl rfl)
theorem dX5_ballast_12 : decode cX5_ballast 12 = .ok (.goto 4, 3) := dk_167 0 4 (dk_at dksX5_ballast_0 12 rfl rfl)
theorem dX5_ballast_15 : decode cX5_ballast 15 = .ok (.iconst 1, 1) := dk_4 (dk_at dksX5_ballast_0 15 rfl rfl)
theorem dX5_ballast_16 : decode cX5_ballast 16 = .ok (.putfield 41, 3) := dk_181 0 41 (dk_at dksX5_ballast_0 16 rfl rfl)
theorem dX5_ballast_19 : decode cX5_ballast 19 = .ok (.aload_n 0, 1) := dk_42 (dk_at dksX5_ballast_0 19 rfl rfl)
theorem dX5_ballast_20 : decode cX5_ballast 20 = .ok (.getfield 41, 3) := dk_180 0 41 (dk_at dksX5_ballast_0 20 rfl rfl)
theorem dX5_ballast_23 : decode cX5_ballast 23 = .ok (.ifCond .le 5, 3) := dk_158 0 5 (dk_at dksX5_ballast_1 0 rfl rfl)
theorem dX5_ballast_26 : decode cX5_ballast 26 = .ok (.iconst 0, 1) := dk_3 (dk_at dksX5_ballast_1 3 rfl rfl)
theorem dX5_ballast_27 : decode cX5_ballast 27 = .ok (.ireturn, 1) := dk_172 (dk_at dksX5_ballast_1 4 rfl rfl)
theorem dX5_ballast_28 : decode cX5_ballast 28 = .ok (.aload_n 0, 1) := dk_42 (dk_at dksX5_ballast_1 5 rfl rfl)
theorem dX5_ballast_29 : decode cX5_ballast 29 = .ok (.getfield 13, 3) := dk_180 0 13 (dk_at dksX5_ballast_1 6 rfl rfl)
theorem dX5_ballast_32 : decode cX5_ballast 32 = .ok (.bipush 16, 2) := dk_16 16 (dk_at dksX5_ballast_1 9 rfl rfl)
theorem dX5_ballast_34 : decode cX5_ballast 34 = .ok (.iaload, 1) := dk_46 (dk_at dksX5_ballast_1 11 rfl rfl)
theorem dX5_ballast_35 : decode cX5_ballast 35 = .ok (.istore_n 2, 1) := dk_61 (dk_at dksX5_ballast_1 12 rfl rfl)
theorem dX5_ballast_36 : decode cX5_ballast 36 = .ok (.aload_n 0, 1) := dk_42 (dk_at dksX5_ballast_1 13 rfl rfl)
theorem dX5_ballast_37 : decode cX5_ballast 37 = .ok (.getfield 16, 3) := dk_180 0 16 (dk_at dksX5_ballast_1 14 rfl rfl)
theorem dX5_ballast_40 : decode cX5_ballast 40 = .ok (.bipush 16, 2) := dk_16 16 (dk_at dksX5_ballast_1 17 rfl rfl)
theorem dX5_ballast_42 : decode cX5_ballast 42 = .ok (.iaload, 1) := dk_46 (dk_at dksX5_ballast_1 19 rfl rfl)
theorem dX5_ballast_43 : decode cX5_ballast 43 = .ok (.istore_n 3, 1) := dk_62 (dk_at dksX5_ballast_1 20 rfl rfl)
theorem dX5_ballast_44 : decode cX5_ballast 44 = .ok (.ldc 77, 2) := dk_18 77 (dk_at dksX5_ballast_1 21 rfl rfl)
theorem dX5_ballast_46 : decode cX5_ballast 46 = .ok (.istore 4, 2) := dk_54 4 (dk_at dksX5_ballast_2 0 rfl rfl)
theorem dX5_ballast_48 : decode cX5_ballast 48 = .ok (.iconst 0, 1) := dk_3 (dk_at dksX5_ballast_2 2 rfl rfl)
theorem dX5_ballast_49 : decode cX5_ballast 49 = .ok (.istore 5, 2) := dk_54 5 (dk_at dksX5_ballast_2 3 rfl rfl)
theorem dX5_ballast_51 : decode cX5_ballast 51 = .ok (.iload 5, 2) := dk_21 5 (dk_at dksX5_ballast_2 5 rfl rfl)
theorem dX5_ballast_53 : decode cX5_ballast 53 = .ok (.iload_n 1, 1) := dk_27 (dk_at dksX5_ballast_2 7 rfl rfl)
theorem dX5_ballast_54 : decode cX5_ballast 54 = .ok (.if_icmp .gt 82, 3) := dk_163 0 82 (dk_at dksX5_ballast_2 8 rfl rfl)
theorem dX5_ballast_57 : decode cX5_ballast 57 = .ok (.iconst 0, 1) := dk_3 (dk_at dksX5_ballast_2 11 rfl rfl)
theorem dX5_ballast_58 : decode cX5_ballast 58 = .ok (.istore 6, 2) := dk_54 6 (dk_at dksX5_ballast_2 12 rfl rfl)
theorem dX5_ballast_60 : decode cX5_ballast 60 = .ok (.iload 6, 2) := dk_21 6 (dk_at dksX5_ballast_2 14 rfl rfl)
theorem dX5_ballast_62 : decode cX5_ballast 62 = .ok (.bipush 9, 2) := dk_16 9 (dk_at dksX5_ballast_2 16 rfl rfl)
theorem dX5_ballast_64 : decode cX5_ballast 64 = .ok (.if_icmp .ge 66, 3) := dk_162 0 66 (dk_at dksX5_ballast_2 18 rfl rfl)
theorem dX5_ballast_67 : decode cX5_ballast 67 = .ok (.aload_n 0, 1) := dk_42 (dk_at dksX5_ballast_2 21 rfl rfl)
theorem dX5_ballast_68 : decode cX5_ballast 68 = .ok (.getfield 13, 3) := dk_180 0 13 (dk_at dksX5_ballast_3 0 rfl rfl)
theorem dX5_ballast_71 : decode cX5_ballast 71 = .ok (.bipush 16, 2) := dk_16 16 (dk_at dksX5_ballast_3 3 rfl rfl)
theorem dX5_ballast_73 : decode cX5_ballast 73 = .ok (.iload 6, 2) := dk_21 6 (dk_at dksX5_ballast_3 5 rfl rfl)
theorem dX5_ballast_75 : decode cX5_ballast 75 = .ok (.iastore, 1) := dk_79 (dk_at dksX5_ballast_3 7 rfl rfl)
theorem dX5_ballast_76 : decode cX5_ballast 76 = .ok (.aload_n 0, 1) := dk_42 (dk_at dksX5_ballast_3 8 rfl rfl)
theorem dX5_ballast_77 : decode cX5_ballast 77 = .ok (.getfield 16, 3) := dk_180 0 16 (dk_at dksX5_ballast_3 9 rfl rfl)
theorem dX5_ballast_80 : decode cX5_ballast 80 = .ok (.bipush 16, 2) := dk_16 16 (dk_at dksX5_ballast_3 12 rfl rfl)
theorem dX5_ballast_82 : decode cX5_ballast 82 = .ok (.iload 5, 2) := dk_21 5 (dk_at dksX5_ballast_3 14 rfl rfl)
theorem dX5_ballast_84 : decode cX5_ballast 84 = .ok (.iastore, 1) := dk_79 (dk_at dksX5_ballast_3 16 rfl rfl)
theorem dX5_ballast_85 : decode cX5_ballast 85 = .ok (.aload_n 0, 1) := dk_42 (dk_at dksX5_ballast_3 17 rfl rfl)
theorem dX5_ballast_86 : decode cX5_ballast 86 = .ok (.invokevirtual 112, 3) := dk_182 0 112 (dk_at dksX5_ballast_3 18 rfl rfl)
theorem dX5_ballast_89 : decode cX5_ballast 89 = .ok (.iconst (-1), 1) := dk_2 (dk_at dksX5_ballast_3 21 rfl rfl)
theorem dX5_ballast_90 : decode cX5_ballast 90 = .ok (.if_icmp .ne 8, 3) := dk_160 0 8 (dk_at dksX5_ballast_4 0 rfl rfl)
theorem dX5_ballast_93 : decode cX5_ballast 93 = .ok (.ldc 77, 2) := dk_18 77 (dk_at dksX5_ballast_4 3 rfl rfl)
theorem dX5_ballast_95 : decode cX5_ballast 95 = .ok (.goto 10, 3) := dk_167 0 10 (dk_at dksX5_ballast_4 5 rfl rfl)
theorem dX5_ballast_98 : decode cX5_ballast 98 = .ok (.aload_n 0, 1) := dk_42 (dk_at dksX5_ballast_4 8 rfl rfl)
theorem dX5_ballast_99 : decode cX5_ballast 99 = .ok (.invokevirtual 124, 3) := dk_182 0 124 (dk_at dksX5_ballast_4 9 rfl rfl)
theorem dX5_ballast_102 : decode cX5_ballast 102 = .ok (.invokestatic 70, 3) := dk_184 0 70 (dk_at dksX5_ballast_4 12 rfl rfl)
theorem dX5_ballast_105 : decode cX5_ballast 105 = .ok (.istore 7, 2) := dk_54 7 (dk_at dksX5_ballast_4 15 rfl rfl)
theorem dX5_ballast_107 : decode cX5_ballast 107 = .ok (.iload 7, 2) := dk_21 7 (dk_at dksX5_ballast_4 17 rfl rfl)
theorem dX5_ballast_109 : decode cX5_ballast 109 = .ok (.iload 4, 2) := dk_21 4 (dk_at dksX5_ballast_4 19 rfl rfl)
theorem dX5_ballast_111 : decode cX5_ballast 111 = .ok (.if_icmp .ge 13, 3) := dk_162 0 13 (dk_at dksX5_ballast_4 21 rfl rfl)
theorem dX5_ballast_114 : decode cX5_ballast 114 = .ok (.iload 7, 2) := dk_21 7 (dk_at dksX5_ballast_5 0 rfl rfl)
theorem dX5_ballast_116 : decode cX5_ballast 116 = .ok (.istore 4, 2) := dk_54 4 (dk_at dksX5_ballast_5 2 rfl rfl)
theorem dX5_ballast_118 : decode cX5_ballast 118 = .ok (.iload 6, 2) := dk_21 6 (dk_at dksX5_ballast_5 4 rfl rfl)
theorem dX5_ballast_120 : decode cX5_ballast 120 = .ok (.istore_n 2, 1) := dk_61 (dk_at dksX5_ballast_5 6 rfl rfl)
theorem dX5_ballast_121 : decode cX5_ballast 121 = .ok (.iload 5, 2) := dk_21 5 (dk_at dksX5_ballast_5 7 rfl rfl)
theorem dX5_ballast_123 : decode cX5_ballast 123 = .ok (.istore_n 3, 1) := dk_62 (dk_at dksX5_ballast_5 9 rfl rfl)
theorem dX5_ballast_124 : decode cX5_ballast 124 = .ok (.iinc 6 1, 3) := dk_132 6 1 (dk_at dksX5_ballast_5 10 rfl rfl)
theorem dX5_ballast_127 : decode cX5_ballast 127 = .ok (.goto (-67), 3) := dk_167 255 189 (dk_at dksX5_ballast_5 13 rfl rfl)
theorem dX5_ballast_130 : decode cX5_ballast 130 = .ok (.iinc 5 1, 3) := dk_132 5 1 (dk_at dksX5_ballast_5 16 rfl rfl)
theorem dX5_ballast_133 : decode cX5_ballast 133 = .ok (.goto (-82), 3) := dk_167 255 174 (dk_at dksX5_ballast_5 19 rfl rfl)
theorem dX5_ballast_136 : decode cX5_ballast 136 = .ok (.aload_n 0, 1) := dk_42 (dk_at dksX5_ballast_5 22 rfl rfl)
theorem dX5_ballast_137 : decode cX5_ballast 137 = .ok (.getfield 13, 3) := dk_180 0 13 (dk_at dksX5_ballast_6 0 rfl rfl)
theorem dX5_ballast_140 : decode cX5_ballast 140 = .ok (.bipush 16, 2) := dk_16 16 (dk_at dksX5_ballast_6 3 rfl rfl)
theorem dX5_ballast_142 : decode cX5_ballast 142 = .ok (.iload_n 2, 1) := dk_28 (dk_at dksX5_ballast_6 5 rfl rfl)
theorem dX5_ballast_143 : decode cX5_ballast 143 = .ok (.iastore, 1) := dk_79 (dk_at dksX5_ballast_6 6 rfl rfl)
theorem dX5_ballast_144 : decode cX5_ballast 144 = .ok (.aload_n 0, 1) := dk_42 (dk_at dksX5_ballast_6 7 rfl rfl)
theorem dX5_ballast_145 : decode cX5_ballast 145 = .ok (.getfield 16, 3) := dk_180 0 16 (dk_at dksX5_ballast_6 8 rfl rfl)
theorem dX5_ballast_148 : decode cX5_ballast 148 = .ok (.bipush 16, 2) := dk_16 16 (dk_at dksX5_ballast_6 11 rfl rfl)
theorem dX5_ballast_150 : decode cX5_ballast 150 = .ok (.iload_n 3, 1) := dk_29 (dk_at dksX5_ballast_6 13 rfl rfl)
theorem dX5_ballast_151 : decode cX5_ballast 151 = .ok (.iastore, 1) := dk_79 (dk_at dksX5_ballast_6 14 rfl rfl)
theorem dX5_ballast_152 : decode cX5_ballast 152 = .ok (.bipush 10, 2) := dk_16 10 (dk_at dksX5_ballast_6 15 rfl rfl)
theorem dX5_ballast_154 : decode cX5_ballast 154 = .ok (.iload_n 3, 1) := dk_29 (dk_at dksX5_ballast_6 17 rfl rfl)
theorem dX5_ballast_155 : decode cX5_ballast 155 = .ok (.imul, 1) := dk_104 (dk_at dksX5_ballast_6 18 rfl rfl)
theorem dX5_ballast_156 : decode cX5_ballast 156 = .ok (.iload_n 2, 1) := dk_28 (dk_at dksX5_ballast_6 19 rfl rfl)
theorem dX5_ballast_157 : decode cX5_ballast 157 = .ok (.iadd, 1) := dk_96 (dk_at dksX5_ballast_6 20 rfl rfl)
theorem dX5_ballast_158 : decode cX5_ballast 158 = .ok (.ireturn, 1) := dk_172 (dk_at dksX5_ballast_6 21 rfl rfl)
abbrev cX5_draughtNow : ByteArray := prog_13_method_30_code
def yX5_draughtNow : MethodName := ⟨RX5, "draughtNow", "()I"⟩
def dkwX5_draughtNow_1 : List UInt8 := [167, 0, 4, 27, 60, 132, 3, 255, 167, 255, 234, 27, 172]
abbrev dktX5_draughtNow_1 : List UInt8 := dkwX5_draughtNow_1 ++ []
def dkwX5_draughtNow_0 : List UInt8 := [2, 60, 42, 182, 0, 108, 61, 8, 62, 29, 155, 0, 24, 42, 29, 182, 0, 99, 28, 161, 0, 7, 29]
abbrev dktX5_draughtNow_0 : List UInt8 := dkwX5_draughtNow_0 ++ dktX5_draughtNow_1
theorem dksX5_draughtNow_0 : cX5_draughtNow.data.toList.drop 0 = dktX5_draughtNow_0 := by decide +kernel
theorem dksX5_draughtNow_1 : cX5_draughtNow.data.toList.drop 23 = dktX5_draughtNow_1 := dk_seg dksX5_draughtNow_0 23 rfl rfl
theorem dX5_draughtNow_0 : decode cX5_draughtNow 0 = .ok (.iconst (-1), 1) := dk_2 (dk_at dksX5_draughtNow_0 0 rfl rfl)
theorem dX5_draughtNow_1 : decode cX5_draughtNow 1 = .ok (.istore_n 1, 1) := dk_60 (dk_at dksX5_draughtNow_0 1 rfl rfl)
theorem dX5_draughtNow_2 : decode cX5_draughtNow 2 = .ok (.aload_n 0, 1) := dk_42 (dk_at dksX5_draughtNow_0 2 rfl rfl)
theorem dX5_draughtNow_3 : decode cX5_draughtNow 3 = .ok (.invokevirtual 108, 3) := dk_182 0 108 (dk_at dksX5_draughtNow_0 3 rfl rfl)
theorem dX5_draughtNow_6 : decode cX5_draughtNow 6 = .ok (.istore_n 2, 1) := dk_61 (dk_at dksX5_draughtNow_0 6 rfl rfl)
theorem dX5_draughtNow_7 : decode cX5_draughtNow 7 = .ok (.iconst 5, 1) := dk_8 (dk_at dksX5_draughtNow_0 7 rfl rfl)
theorem dX5_draughtNow_8 : decode cX5_draughtNow 8 = .ok (.istore_n 3, 1) := dk_62 (dk_at dksX5_draughtNow_0 8 rfl rfl)
theorem dX5_draughtNow_9 : decode cX5_draughtNow 9 = .ok (.iload_n 3, 1) := dk_29 (dk_at dksX5_draughtNow_0 9 rfl rfl)
theorem dX5_draughtNow_10 : decode cX5_draughtNow 10 = .ok (.ifCond .lt 24, 3) := dk_155 0 24 (dk_at dksX5_draughtNow_0 10 rfl rfl)
theorem dX5_draughtNow_13 : decode cX5_draughtNow 13 = .ok (.aload_n 0, 1) := dk_42 (dk_at dksX5_draughtNow_0 13 rfl rfl)
theorem dX5_draughtNow_14 : decode cX5_draughtNow 14 = .ok (.iload_n 3, 1) := dk_29 (dk_at dksX5_draughtNow_0 14 rfl rfl)
theorem dX5_draughtNow_15 : decode cX5_draughtNow 15 = .ok (.invokevirtual 99, 3) := dk_182 0 99 (dk_at dksX5_draughtNow_0 15 rfl rfl)
theorem dX5_draughtNow_18 : decode cX5_draughtNow 18 = .ok (.iload_n 2, 1) := dk_28 (dk_at dksX5_draughtNow_0 18 rfl rfl)
theorem dX5_draughtNow_19 : decode cX5_draughtNow 19 = .ok (.if_icmp .lt 7, 3) := dk_161 0 7 (dk_at dksX5_draughtNow_0 19 rfl rfl)
theorem dX5_draughtNow_22 : decode cX5_draughtNow 22 = .ok (.iload_n 3, 1) := dk_29 (dk_at dksX5_draughtNow_0 22 rfl rfl)
theorem dX5_draughtNow_23 : decode cX5_draughtNow 23 = .ok (.goto 4, 3) := dk_167 0 4 (dk_at dksX5_draughtNow_1 0 rfl rfl)
theorem dX5_draughtNow_26 : decode cX5_draughtNow 26 = .ok (.iload_n 1, 1) := dk_27 (dk_at dksX5_draughtNow_1 3 rfl rfl)
theorem dX5_draughtNow_27 : decode cX5_draughtNow 27 = .ok (.istore_n 1, 1) := dk_60 (dk_at dksX5_draughtNow_1 4 rfl rfl)
theorem dX5_draughtNow_28 : decode cX5_draughtNow 28 = .ok (.iinc 3 (-1), 3) := dk_132 3 255 (dk_at dksX5_draughtNow_1 5 rfl rfl)
theorem dX5_draughtNow_31 : decode cX5_draughtNow 31 = .ok (.goto (-22), 3) := dk_167 255 234 (dk_at dksX5_draughtNow_1 8 rfl rfl)
theorem dX5_draughtNow_34 : decode cX5_draughtNow 34 = .ok (.iload_n 1, 1) := dk_27 (dk_at dksX5_draughtNow_1 11 rfl rfl)
theorem dX5_draughtNow_35 : decode cX5_draughtNow 35 = .ok (.ireturn, 1) := dk_172 (dk_at dksX5_draughtNow_1 12 rfl rfl)
abbrev cX5_loadNow : ByteArray := prog_13_method_28_code
def yX5_loadNow : MethodName := ⟨RX5, "loadNow", "()I"⟩
def dkwX5_loadNow_1 : List UInt8 := [132, 2, 1, 167, 255, 235, 27, 172]
abbrev dktX5_loadNow_1 : List UInt8 := dkwX5_loadNow_1 ++ []
def dkwX5_loadNow_0 : List UInt8 := [3, 60, 3, 61, 28, 16, 16, 163, 0, 21, 27, 16, 10, 42, 180, 0, 16, 28, 46, 104, 96, 60]
abbrev dktX5_loadNow_0 : List UInt8 := dkwX5_loadNow_0 ++ dktX5_loadNow_1
theorem dksX5_loadNow_0 : cX5_loadNow.data.toList.drop 0 = dktX5_loadNow_0 := by decide +kernel
theorem dksX5_loadNow_1 : cX5_loadNow.data.toList.drop 22 = dktX5_loadNow_1 := dk_seg dksX5_loadNow_0 22 rfl rfl
theorem dX5_loadNow_0 : decode cX5_loadNow 0 = .ok (.iconst 0, 1) := dk_3 (dk_at dksX5_loadNow_0 0 rfl rfl)
theorem dX5_loadNow_1 : decode cX5_loadNow 1 = .ok (.istore_n 1, 1) := dk_60 (dk_at dksX5_loadNow_0 1 rfl rfl)
theorem dX5_loadNow_2 : decode cX5_loadNow 2 = .ok (.iconst 0, 1) := dk_3 (dk_at dksX5_loadNow_0 2 rfl rfl)
theorem dX5_loadNow_3 : decode cX5_loadNow 3 = .ok (.istore_n 2, 1) := dk_61 (dk_at dksX5_loadNow_0 3 rfl rfl)
theorem dX5_loadNow_4 : decode cX5_loadNow 4 = .ok (.iload_n 2, 1) := dk_28 (dk_at dksX5_loadNow_0 4 rfl rfl)
theorem dX5_loadNow_5 : decode cX5_loadNow 5 = .ok (.bipush 16, 2) := dk_16 16 (dk_at dksX5_loadNow_0 5 rfl rfl)
theorem dX5_loadNow_7 : decode cX5_loadNow 7 = .ok (.if_icmp .gt 21, 3) := dk_163 0 21 (dk_at dksX5_loadNow_0 7 rfl rfl)
theorem dX5_loadNow_10 : decode cX5_loadNow 10 = .ok (.iload_n 1, 1) := dk_27 (dk_at dksX5_loadNow_0 10 rfl rfl)
theorem dX5_loadNow_11 : decode cX5_loadNow 11 = .ok (.bipush 10, 2) := dk_16 10 (dk_at dksX5_loadNow_0 11 rfl rfl)
theorem dX5_loadNow_13 : decode cX5_loadNow 13 = .ok (.aload_n 0, 1) := dk_42 (dk_at dksX5_loadNow_0 13 rfl rfl)
theorem dX5_loadNow_14 : decode cX5_loadNow 14 = .ok (.getfield 16, 3) := dk_180 0 16 (dk_at dksX5_loadNow_0 14 rfl rfl)
theorem dX5_loadNow_17 : decode cX5_loadNow 17 = .ok (.iload_n 2, 1) := dk_28 (dk_at dksX5_loadNow_0 17 rfl rfl)
theorem dX5_loadNow_18 : decode cX5_loadNow 18 = .ok (.iaload, 1) := dk_46 (dk_at dksX5_loadNow_0 18 rfl rfl)
theorem dX5_loadNow_19 : decode cX5_loadNow 19 = .ok (.imul, 1) := dk_104 (dk_at dksX5_loadNow_0 19 rfl rfl)
theorem dX5_loadNow_20 : decode cX5_loadNow 20 = .ok (.iadd, 1) := dk_96 (dk_at dksX5_loadNow_0 20 rfl rfl)
theorem dX5_loadNow_21 : decode cX5_loadNow 21 = .ok (.istore_n 1, 1) := dk_60 (dk_at dksX5_loadNow_0 21 rfl rfl)
theorem dX5_loadNow_22 : decode cX5_loadNow 22 = .ok (.iinc 2 1, 3) := dk_132 2 1 (dk_at dksX5_loadNow_1 0 rfl rfl)
theorem dX5_loadNow_25 : decode cX5_loadNow 25 = .ok (.goto (-21), 3) := dk_167 255 235 (dk_at dksX5_loadNow_1 3 rfl rfl)
theorem dX5_loadNow_28 : decode cX5_loadNow 28 = .ok (.iload_n 1, 1) := dk_27 (dk_at dksX5_loadNow_1 6 rfl rfl)
theorem dX5_loadNow_29 : decode cX5_loadNow 29 = .ok (.ireturn, 1) := dk_172 (dk_at dksX5_loadNow_1 7 rfl rfl)
abbrev cX5_trimNow : ByteArray := prog_13_method_32_code
def yX5_trimNow : MethodName := ⟨RX5, "trimNow", "()I"⟩
def dkwX5_trimNow_1 : List UInt8 := [184, 0, 118, 42, 27, 182, 0, 121, 42, 27, 182, 0, 99, 184, 0, 118, 100, 172]
abbrev dktX5_trimNow_1 : List UInt8 := dkwX5_trimNow_1 ++ []
def dkwX5_trimNow_0 : List UInt8 := [42, 182, 0, 112, 60, 27, 2, 160, 0, 7, 3, 167, 0, 28, 42, 182, 0, 115, 42, 182, 0, 108]
abbrev dktX5_trimNow_0 : List UInt8 := dkwX5_trimNow_0 ++ dktX5_trimNow_1
theorem dksX5_trimNow_0 : cX5_trimNow.data.toList.drop 0 = dktX5_trimNow_0 := by decide +kernel
theorem dksX5_trimNow_1 : cX5_trimNow.data.toList.drop 22 = dktX5_trimNow_1 := dk_seg dksX5_trimNow_0 22 rfl rfl
theorem dX5_trimNow_0 : decode cX5_trimNow 0 = .ok (.aload_n 0, 1) := dk_42 (dk_at dksX5_trimNow_0 0 rfl rfl)
theorem dX5_trimNow_1 : decode cX5_trimNow 1 = .ok (.invokevirtual 112, 3) := dk_182 0 112 (dk_at dksX5_trimNow_0 1 rfl rfl)
theorem dX5_trimNow_4 : decode cX5_trimNow 4 = .ok (.istore_n 1, 1) := dk_60 (dk_at dksX5_trimNow_0 4 rfl rfl)
theorem dX5_trimNow_5 : decode cX5_trimNow 5 = .ok (.iload_n 1, 1) := dk_27 (dk_at dksX5_trimNow_0 5 rfl rfl)
theorem dX5_trimNow_6 : decode cX5_trimNow 6 = .ok (.iconst (-1), 1) := dk_2 (dk_at dksX5_trimNow_0 6 rfl rfl)
theorem dX5_trimNow_7 : decode cX5_trimNow 7 = .ok (.if_icmp .ne 7, 3) := dk_160 0 7 (dk_at dksX5_trimNow_0 7 rfl rfl)
theorem dX5_trimNow_10 : decode cX5_trimNow 10 = .ok (.iconst 0, 1) := dk_3 (dk_at dksX5_trimNow_0 10 rfl rfl)
theorem dX5_trimNow_11 : decode cX5_trimNow 11 = .ok (.goto 28, 3) := dk_167 0 28 (dk_at dksX5_trimNow_0 11 rfl rfl)
theorem dX5_trimNow_14 : decode cX5_trimNow 14 = .ok (.aload_n 0, 1) := dk_42 (dk_at dksX5_trimNow_0 14 rfl rfl)
theorem dX5_trimNow_15 : decode cX5_trimNow 15 = .ok (.invokevirtual 115, 3) := dk_182 0 115 (dk_at dksX5_trimNow_0 15 rfl rfl)
theorem dX5_trimNow_18 : decode cX5_trimNow 18 = .ok (.aload_n 0, 1) := dk_42 (dk_at dksX5_trimNow_0 18 rfl rfl)
theorem dX5_trimNow_19 : decode cX5_trimNow 19 = .ok (.invokevirtual 108, 3) := dk_182 0 108 (dk_at dksX5_trimNow_0 19 rfl rfl)
theorem dX5_trimNow_22 : decode cX5_trimNow 22 = .ok (.invokestatic 118, 3) := dk_184 0 118 (dk_at dksX5_trimNow_1 0 rfl rfl)
theorem dX5_trimNow_25 : decode cX5_trimNow 25 = .ok (.aload_n 0, 1) := dk_42 (dk_at dksX5_trimNow_1 3 rfl rfl)
theorem dX5_trimNow_26 : decode cX5_trimNow 26 = .ok (.iload_n 1, 1) := dk_27 (dk_at dksX5_trimNow_1 4 rfl rfl)
theorem dX5_trimNow_27 : decode cX5_trimNow 27 = .ok (.invokevirtual 121, 3) := dk_182 0 121 (dk_at dksX5_trimNow_1 5 rfl rfl)
theorem dX5_trimNow_30 : decode cX5_trimNow 30 = .ok (.aload_n 0, 1) := dk_42 (dk_at dksX5_trimNow_1 8 rfl rfl)
theorem dX5_trimNow_31 : decode cX5_trimNow 31 = .ok (.iload_n 1, 1) := dk_27 (dk_at dksX5_trimNow_1 9 rfl rfl)
theorem dX5_trimNow_32 : decode cX5_trimNow 32 = .ok (.invokevirtual 99, 3) := dk_182 0 99 (dk_at dksX5_trimNow_1 10 rfl rfl)
theorem dX5_trimNow_35 : decode cX5_trimNow 35 = .ok (.invokestatic 118, 3) := dk_184 0 118 (dk_at dksX5_trimNow_1 13 rfl rfl)
theorem dX5_trimNow_38 : decode cX5_trimNow 38 = .ok (.isub, 1) := dk_100 (dk_at dksX5_trimNow_1 16 rfl rfl)
theorem dX5_trimNow_39 : decode cX5_trimNow 39 = .ok (.ireturn, 1) := dk_172 (dk_at dksX5_trimNow_1 17 rfl rfl)
abbrev cX5_loadMoment : ByteArray := prog_13_method_29_code
def yX5_loadMoment : MethodName := ⟨RX5, "loadMoment", "()I"⟩
def dkwX5_loadMoment_1 : List UInt8 := [28, 46, 104, 96, 60, 132, 2, 1, 167, 255, 228, 27, 172]
abbrev dktX5_loadMoment_1 : List UInt8 := dkwX5_loadMoment_1 ++ []
def dkwX5_loadMoment_0 : List UInt8 := [3, 60, 3, 61, 28, 16, 16, 163, 0, 28, 27, 42, 180, 0, 16, 28, 46, 16, 20, 104, 42, 180, 0, 13]
abbrev dktX5_loadMoment_0 : List UInt8 := dkwX5_loadMoment_0 ++ dktX5_loadMoment_1
theorem dksX5_loadMoment_0 : cX5_loadMoment.data.toList.drop 0 = dktX5_loadMoment_0 := by decide +kernel
theorem dksX5_loadMoment_1 : cX5_loadMoment.data.toList.drop 24 = dktX5_loadMoment_1 := dk_seg dksX5_loadMoment_0 24 rfl rfl
theorem dX5_loadMoment_0 : decode cX5_loadMoment 0 = .ok (.iconst 0, 1) := dk_3 (dk_at dksX5_loadMoment_0 0 rfl rfl)
theorem dX5_loadMoment_1 : decode cX5_loadMoment 1 = .ok (.istore_n 1, 1) := dk_60 (dk_at dksX5_loadMoment_0 1 rfl rfl)
theorem dX5_loadMoment_2 : decode cX5_loadMoment 2 = .ok (.iconst 0, 1) := dk_3 (dk_at dksX5_loadMoment_0 2 rfl rfl)
theorem dX5_loadMoment_3 : decode cX5_loadMoment 3 = .ok (.istore_n 2, 1) := dk_61 (dk_at dksX5_loadMoment_0 3 rfl rfl)
theorem dX5_loadMoment_4 : decode cX5_loadMoment 4 = .ok (.iload_n 2, 1) := dk_28 (dk_at dksX5_loadMoment_0 4 rfl rfl)
theorem dX5_loadMoment_5 : decode cX5_loadMoment 5 = .ok (.bipush 16, 2) := dk_16 16 (dk_at dksX5_loadMoment_0 5 rfl rfl)
theorem dX5_loadMoment_7 : decode cX5_loadMoment 7 = .ok (.if_icmp .gt 28, 3) := dk_163 0 28 (dk_at dksX5_loadMoment_0 7 rfl rfl)
theorem dX5_loadMoment_10 : decode cX5_loadMoment 10 = .ok (.iload_n 1, 1) := dk_27 (dk_at dksX5_loadMoment_0 10 rfl rfl)
theorem dX5_loadMoment_11 : decode cX5_loadMoment 11 = .ok (.aload_n 0, 1) := dk_42 (dk_at dksX5_loadMoment_0 11 rfl rfl)
theorem dX5_loadMoment_12 : decode cX5_loadMoment 12 = .ok (.getfield 16, 3) := dk_180 0 16 (dk_at dksX5_loadMoment_0 12 rfl rfl)
theorem dX5_loadMoment_15 : decode cX5_loadMoment 15 = .ok (.iload_n 2, 1) := dk_28 (dk_at dksX5_loadMoment_0 15 rfl rfl)
theorem dX5_loadMoment_16 : decode cX5_loadMoment 16 = .ok (.iaload, 1) := dk_46 (dk_at dksX5_loadMoment_0 16 rfl rfl)
theorem dX5_loadMoment_17 : decode cX5_loadMoment 17 = .ok (.bipush 20, 2) := dk_16 20 (dk_at dksX5_loadMoment_0 17 rfl rfl)
theorem dX5_loadMoment_19 : decode cX5_loadMoment 19 = .ok (.imul, 1) := dk_104 (dk_at dksX5_loadMoment_0 19 rfl rfl)
theorem dX5_loadMoment_20 : decode cX5_loadMoment 20 = .ok (.aload_n 0, 1) := dk_42 (dk_at dksX5_loadMoment_0 20 rfl rfl)
theorem dX5_loadMoment_21 : decode cX5_loadMoment 21 = .ok (.getfield 13, 3) := dk_180 0 13 (dk_at dksX5_loadMoment_0 21 rfl rfl)
theorem dX5_loadMoment_24 : decode cX5_loadMoment 24 = .ok (.iload_n 2, 1) := dk_28 (dk_at dksX5_loadMoment_1 0 rfl rfl)
theorem dX5_loadMoment_25 : decode cX5_loadMoment 25 = .ok (.iaload, 1) := dk_46 (dk_at dksX5_loadMoment_1 1 rfl rfl)
theorem dX5_loadMoment_26 : decode cX5_loadMoment 26 = .ok (.imul, 1) := dk_104 (dk_at dksX5_loadMoment_1 2 rfl rfl)
theorem dX5_loadMoment_27 : decode cX5_loadMoment 27 = .ok (.iadd, 1) := dk_96 (dk_at dksX5_loadMoment_1 3 rfl rfl)
theorem dX5_loadMoment_28 : decode cX5_loadMoment 28 = .ok (.istore_n 1, 1) := dk_60 (dk_at dksX5_loadMoment_1 4 rfl rfl)
theorem dX5_loadMoment_29 : decode cX5_loadMoment 29 = .ok (.iinc 2 1, 3) := dk_132 2 1 (dk_at dksX5_loadMoment_1 5 rfl rfl)
theorem dX5_loadMoment_32 : decode cX5_loadMoment 32 = .ok (.goto (-28), 3) := dk_167 255 228 (dk_at dksX5_loadMoment_1 8 rfl rfl)
theorem dX5_loadMoment_35 : decode cX5_loadMoment 35 = .ok (.iload_n 1, 1) := dk_27 (dk_at dksX5_loadMoment_1 11 rfl rfl)
theorem dX5_loadMoment_36 : decode cX5_loadMoment 36 = .ok (.ireturn, 1) := dk_172 (dk_at dksX5_loadMoment_1 12 rfl rfl)
abbrev cX5_mean : ByteArray := prog_13_method_31_code
def yX5_mean : MethodName := ⟨RX5, "mean", "(II)I"⟩
def dkwX5_mean_0 : List UInt8 := [27, 154, 0, 7, 3, 167, 0, 9, 16, 100, 26, 104, 27, 108, 172]
abbrev dktX5_mean_0 : List UInt8 := dkwX5_mean_0 ++ []
theorem dksX5_mean_0 : cX5_mean.data.toList.drop 0 = dktX5_mean_0 := by decide +kernel
theorem dX5_mean_0 : decode cX5_mean 0 = .ok (.iload_n 1, 1) := dk_27 (dk_at dksX5_mean_0 0 rfl rfl)
theorem dX5_mean_1 : decode cX5_mean 1 = .ok (.ifCond .ne 7, 3) := dk_154 0 7 (dk_at dksX5_mean_0 1 rfl rfl)
theorem dX5_mean_4 : decode cX5_mean 4 = .ok (.iconst 0, 1) := dk_3 (dk_at dksX5_mean_0 4 rfl rfl)
theorem dX5_mean_5 : decode cX5_mean 5 = .ok (.goto 9, 3) := dk_167 0 9 (dk_at dksX5_mean_0 5 rfl rfl)
theorem dX5_mean_8 : decode cX5_mean 8 = .ok (.bipush 100, 2) := dk_16 100 (dk_at dksX5_mean_0 8 rfl rfl)
theorem dX5_mean_10 : decode cX5_mean 10 = .ok (.iload_n 0, 1) := dk_26 (dk_at dksX5_mean_0 10 rfl rfl)
theorem dX5_mean_11 : decode cX5_mean 11 = .ok (.imul, 1) := dk_104 (dk_at dksX5_mean_0 11 rfl rfl)
theorem dX5_mean_12 : decode cX5_mean 12 = .ok (.iload_n 1, 1) := dk_27 (dk_at dksX5_mean_0 12 rfl rfl)
theorem dX5_mean_13 : decode cX5_mean 13 = .ok (.idiv, 1) := dk_108 (dk_at dksX5_mean_0 13 rfl rfl)
theorem dX5_mean_14 : decode cX5_mean 14 = .ok (.ireturn, 1) := dk_172 (dk_at dksX5_mean_0 14 rfl rfl)
abbrev cX5_momentOf : ByteArray := prog_13_method_25_code
def yX5_momentOf : MethodName := ⟨RX5, "momentOf", "(I)I"⟩
def dkwX5_momentOf_1 : List UInt8 := [42, 29, 4, 96, 27, 182, 0, 96, 96, 104, 96, 61, 132, 3, 1, 167, 255, 221, 28, 172]
abbrev dktX5_momentOf_1 : List UInt8 := dkwX5_momentOf_1 ++ []
def dkwX5_momentOf_0 : List UInt8 := [3, 61, 3, 62, 29, 4, 96, 16, 9, 162, 0, 33, 28, 5, 29, 104, 4, 96, 42, 29, 27, 182, 0, 96]
abbrev dktX5_momentOf_0 : List UInt8 := dkwX5_momentOf_0 ++ dktX5_momentOf_1
theorem dksX5_momentOf_0 : cX5_momentOf.data.toList.drop 0 = dktX5_momentOf_0 := by decide +kernel
theorem dksX5_momentOf_1 : cX5_momentOf.data.toList.drop 24 = dktX5_momentOf_1 := dk_seg dksX5_momentOf_0 24 rfl rfl
theorem dX5_momentOf_0 : decode cX5_momentOf 0 = .ok (.iconst 0, 1) := dk_3 (dk_at dksX5_momentOf_0 0 rfl rfl)
theorem dX5_momentOf_1 : decode cX5_momentOf 1 = .ok (.istore_n 2, 1) := dk_61 (dk_at dksX5_momentOf_0 1 rfl rfl)
theorem dX5_momentOf_2 : decode cX5_momentOf 2 = .ok (.iconst 0, 1) := dk_3 (dk_at dksX5_momentOf_0 2 rfl rfl)
theorem dX5_momentOf_3 : decode cX5_momentOf 3 = .ok (.istore_n 3, 1) := dk_62 (dk_at dksX5_momentOf_0 3 rfl rfl)
theorem dX5_momentOf_4 : decode cX5_momentOf 4 = .ok (.iload_n 3, 1) := dk_29 (dk_at dksX5_momentOf_0 4 rfl rfl)
theorem dX5_momentOf_5 : decode cX5_momentOf 5 = .ok (.iconst 1, 1) := dk_4 (dk_at dksX5_momentOf_0 5 rfl rfl)
theorem dX5_momentOf_6 : decode cX5_momentOf 6 = .ok (.iadd, 1) := dk_96 (dk_at dksX5_momentOf_0 6 rfl rfl)
theorem dX5_momentOf_7 : decode cX5_momentOf 7 = .ok (.bipush 9, 2) := dk_16 9 (dk_at dksX5_momentOf_0 7 rfl rfl)
theorem dX5_momentOf_9 : decode cX5_momentOf 9 = .ok (.if_icmp .ge 33, 3) := dk_162 0 33 (dk_at dksX5_momentOf_0 9 rfl rfl)
theorem dX5_momentOf_12 : decode cX5_momentOf 12 = .ok (.iload_n 2, 1) := dk_28 (dk_at dksX5_momentOf_0 12 rfl rfl)
theorem dX5_momentOf_13 : decode cX5_momentOf 13 = .ok (.iconst 2, 1) := dk_5 (dk_at dksX5_momentOf_0 13 rfl rfl)
theorem dX5_momentOf_14 : decode cX5_momentOf 14 = .ok (.iload_n 3, 1) := dk_29 (dk_at dksX5_momentOf_0 14 rfl rfl)
theorem dX5_momentOf_15 : decode cX5_momentOf 15 = .ok (.imul, 1) := dk_104 (dk_at dksX5_momentOf_0 15 rfl rfl)
theorem dX5_momentOf_16 : decode cX5_momentOf 16 = .ok (.iconst 1, 1) := dk_4 (dk_at dksX5_momentOf_0 16 rfl rfl)
theorem dX5_momentOf_17 : decode cX5_momentOf 17 = .ok (.iadd, 1) := dk_96 (dk_at dksX5_momentOf_0 17 rfl rfl)
theorem dX5_momentOf_18 : decode cX5_momentOf 18 = .ok (.aload_n 0, 1) := dk_42 (dk_at dksX5_momentOf_0 18 rfl rfl)
theorem dX5_momentOf_19 : decode cX5_momentOf 19 = .ok (.iload_n 3, 1) := dk_29 (dk_at dksX5_momentOf_0 19 rfl rfl)
theorem dX5_momentOf_20 : decode cX5_momentOf 20 = .ok (.iload_n 1, 1) := dk_27 (dk_at dksX5_momentOf_0 20 rfl rfl)
theorem dX5_momentOf_21 : decode cX5_momentOf 21 = .ok (.invokevirtual 96, 3) := dk_182 0 96 (dk_at dksX5_momentOf_0 21 rfl rfl)
theorem dX5_momentOf_24 : decode cX5_momentOf 24 = .ok (.aload_n 0, 1) := dk_42 (dk_at dksX5_momentOf_1 0 rfl rfl)
theorem dX5_momentOf_25 : decode cX5_momentOf 25 = .ok (.iload_n 3, 1) := dk_29 (dk_at dksX5_momentOf_1 1 rfl rfl)
theorem dX5_momentOf_26 : decode cX5_momentOf 26 = .ok (.iconst 1, 1) := dk_4 (dk_at dksX5_momentOf_1 2 rfl rfl)
theorem dX5_momentOf_27 : decode cX5_momentOf 27 = .ok (.iadd, 1) := dk_96 (dk_at dksX5_momentOf_1 3 rfl rfl)
theorem dX5_momentOf_28 : decode cX5_momentOf 28 = .ok (.iload_n 1, 1) := dk_27 (dk_at dksX5_momentOf_1 4 rfl rfl)
theorem dX5_momentOf_29 : decode cX5_momentOf 29 = .ok (.invokevirtual 96, 3) := dk_182 0 96 (dk_at dksX5_momentOf_1 5 rfl rfl)
theorem dX5_momentOf_32 : decode cX5_momentOf 32 = .ok (.iadd, 1) := dk_96 (dk_at dksX5_momentOf_1 8 rfl rfl)
theorem dX5_momentOf_33 : decode cX5_momentOf 33 = .ok (.imul, 1) := dk_104 (dk_at dksX5_momentOf_1 9 rfl rfl)
theorem dX5_momentOf_34 : decode cX5_momentOf 34 = .ok (.iadd, 1) := dk_96 (dk_at dksX5_momentOf_1 10 rfl rfl)
theorem dX5_momentOf_35 : decode cX5_momentOf 35 = .ok (.istore_n 2, 1) := dk_61 (dk_at dksX5_momentOf_1 11 rfl rfl)
theorem dX5_momentOf_36 : decode cX5_momentOf 36 = .ok (.iinc 3 1, 3) := dk_132 3 1 (dk_at dksX5_momentOf_1 12 rfl rfl)
theorem dX5_momentOf_39 : decode cX5_momentOf 39 = .ok (.goto (-35), 3) := dk_167 255 221 (dk_at dksX5_momentOf_1 15 rfl rfl)
theorem dX5_momentOf_42 : decode cX5_momentOf 42 = .ok (.iload_n 2, 1) := dk_28 (dk_at dksX5_momentOf_1 18 rfl rfl)
theorem dX5_momentOf_43 : decode cX5_momentOf 43 = .ok (.ireturn, 1) := dk_172 (dk_at dksX5_momentOf_1 19 rfl rfl)
abbrev cX5_draught : ByteArray := prog_13_method_34_code
def yX5_draught : MethodName := ⟨RX5, "draught", "()I"⟩
def dkwX5_draught_0 : List UInt8 := [42, 3, 181, 0, 41, 42, 182, 0, 112, 172]
abbrev dktX5_draught_0 : List UInt8 := dkwX5_draught_0 ++ []
theorem dksX5_draught_0 : cX5_draught.data.toList.drop 0 = dktX5_draught_0 := by decide +kernel
theorem dX5_draught_0 : decode cX5_draught 0 = .ok (.aload_n 0, 1) := dk_42 (dk_at dksX5_draught_0 0 rfl rfl)
theorem dX5_draught_1 : decode cX5_draught 1 = .ok (.iconst 0, 1) := dk_3 (dk_at dksX5_draught_0 1 rfl rfl)
theorem dX5_draught_2 : decode cX5_draught 2 = .ok (.putfield 41, 3) := dk_181 0 41 (dk_at dksX5_draught_0 2 rfl rfl)
theorem dX5_draught_5 : decode cX5_draught 5 = .ok (.aload_n 0, 1) := dk_42 (dk_at dksX5_draught_0 5 rfl rfl)
theorem dX5_draught_6 : decode cX5_draught 6 = .ok (.invokevirtual 112, 3) := dk_182 0 112 (dk_at dksX5_draught_0 6 rfl rfl)
theorem dX5_draught_9 : decode cX5_draught 9 = .ok (.ireturn, 1) := dk_172 (dk_at dksX5_draught_0 9 rfl rfl)
abbrev cX5_trim : ByteArray := prog_13_method_35_code
def yX5_trim : MethodName := ⟨RX5, "trim", "()I"⟩
def dkwX5_trim_0 : List UInt8 := [42, 3, 181, 0, 41, 42, 182, 0, 124, 172]
abbrev dktX5_trim_0 : List UInt8 := dkwX5_trim_0 ++ []
theorem dksX5_trim_0 : cX5_trim.data.toList.drop 0 = dktX5_trim_0 := by decide +kernel
theorem dX5_trim_0 : decode cX5_trim 0 = .ok (.aload_n 0, 1) := dk_42 (dk_at dksX5_trim_0 0 rfl rfl)
theorem dX5_trim_1 : decode cX5_trim 1 = .ok (.iconst 0, 1) := dk_3 (dk_at dksX5_trim_0 1 rfl rfl)
theorem dX5_trim_2 : decode cX5_trim 2 = .ok (.putfield 41, 3) := dk_181 0 41 (dk_at dksX5_trim_0 2 rfl rfl)
theorem dX5_trim_5 : decode cX5_trim 5 = .ok (.aload_n 0, 1) := dk_42 (dk_at dksX5_trim_0 5 rfl rfl)
theorem dX5_trim_6 : decode cX5_trim 6 = .ok (.invokevirtual 124, 3) := dk_182 0 124 (dk_at dksX5_trim_0 6 rfl rfl)
theorem dX5_trim_9 : decode cX5_trim 9 = .ok (.ireturn, 1) := dk_172 (dk_at dksX5_trim_0 9 rfl rfl)
abbrev cX5_strake : ByteArray := prog_13_method_37_code
def yX5_strake : MethodName := ⟨RX5, "strake", "(I)I"⟩
def dkwX5_strake_1 : List UInt8 := [158, 0, 7, 3, 167, 0, 8, 42, 27, 182, 0, 127, 172]
abbrev dktX5_strake_1 : List UInt8 := dkwX5_strake_1 ++ []
def dkwX5_strake_0 : List UInt8 := [42, 27, 3, 7, 184, 0, 44, 153, 0, 7, 3, 167, 0, 4, 4, 181, 0, 41, 42, 180, 0, 41]
abbrev dktX5_strake_0 : List UInt8 := dkwX5_strake_0 ++ dktX5_strake_1
theorem dksX5_strake_0 : cX5_strake.data.toList.drop 0 = dktX5_strake_0 := by decide +kernel
theorem dksX5_strake_1 : cX5_strake.data.toList.drop 22 = dktX5_strake_1 := dk_seg dksX5_strake_0 22 rfl rfl
theorem dX5_strake_0 : decode cX5_strake 0 = .ok (.aload_n 0, 1) := dk_42 (dk_at dksX5_strake_0 0 rfl rfl)
theorem dX5_strake_1 : decode cX5_strake 1 = .ok (.iload_n 1, 1) := dk_27 (dk_at dksX5_strake_0 1 rfl rfl)
theorem dX5_strake_2 : decode cX5_strake 2 = .ok (.iconst 0, 1) := dk_3 (dk_at dksX5_strake_0 2 rfl rfl)
theorem dX5_strake_3 : decode cX5_strake 3 = .ok (.iconst 4, 1) := dk_7 (dk_at dksX5_strake_0 3 rfl rfl)
theorem dX5_strake_4 : decode cX5_strake 4 = .ok (.invokestatic 44, 3) := dk_184 0 44 (dk_at dksX5_strake_0 4 rfl rfl)
theorem dX5_strake_7 : decode cX5_strake 7 = .ok (.ifCond .eq 7, 3) := dk_153 0 7 (dk_at dksX5_strake_0 7 rfl rfl)
theorem dX5_strake_10 : decode cX5_strake 10 = .ok (.iconst 0, 1) := dk_3 (dk_at dksX5_strake_0 10 rfl rfl)
theorem dX5_strake_11 : decode cX5_strake 11 = .ok (.goto 4, 3) := dk_167 0 4 (dk_at dksX5_strake_0 11 rfl rfl)
theorem dX5_strake_14 : decode cX5_strake 14 = .ok (.iconst 1, 1) := dk_4 (dk_at dksX5_strake_0 14 rfl rfl)
theorem dX5_strake_15 : decode cX5_strake 15 = .ok (.putfield 41, 3) := dk_181 0 41 (dk_at dksX5_strake_0 15 rfl rfl)
theorem dX5_strake_18 : decode cX5_strake 18 = .ok (.aload_n 0, 1) := dk_42 (dk_at dksX5_strake_0 18 rfl rfl)
theorem dX5_strake_19 : decode cX5_strake 19 = .ok (.getfield 41, 3) := dk_180 0 41 (dk_at dksX5_strake_0 19 rfl rfl)
theorem dX5_strake_22 : decode cX5_strake 22 = .ok (.ifCond .le 7, 3) := dk_158 0 7 (dk_at dksX5_strake_1 0 rfl rfl)
theorem dX5_strake_25 : decode cX5_strake 25 = .ok (.iconst 0, 1) := dk_3 (dk_at dksX5_strake_1 3 rfl rfl)
theorem dX5_strake_26 : decode cX5_strake 26 = .ok (.goto 8, 3) := dk_167 0 8 (dk_at dksX5_strake_1 4 rfl rfl)
theorem dX5_strake_29 : decode cX5_strake 29 = .ok (.aload_n 0, 1) := dk_42 (dk_at dksX5_strake_1 7 rfl rfl)
theorem dX5_strake_30 : decode cX5_strake 30 = .ok (.iload_n 1, 1) := dk_27 (dk_at dksX5_strake_1 8 rfl rfl)
theorem dX5_strake_31 : decode cX5_strake 31 = .ok (.invokevirtual 127, 3) := dk_182 0 127 (dk_at dksX5_strake_1 9 rfl rfl)
theorem dX5_strake_34 : decode cX5_strake 34 = .ok (.ireturn, 1) := dk_172 (dk_at dksX5_strake_1 12 rfl rfl)
abbrev cX5_strakeOf : ByteArray := prog_13_method_36_code
def yX5_strakeOf : MethodName := ⟨RX5, "strakeOf", "(I)I"⟩
def dkwX5_strakeOf_1 : List UInt8 := [96, 27, 182, 0, 59, 100, 184, 0, 70, 96, 96, 61, 132, 3, 1, 167, 255, 221, 28, 172]
abbrev dktX5_strakeOf_1 : List UInt8 := dkwX5_strakeOf_1 ++ []
def dkwX5_strakeOf_0 : List UInt8 := [3, 61, 3, 62, 29, 4, 96, 16, 9, 162, 0, 33, 28, 16, 10, 42, 29, 27, 182, 0, 59, 42, 29, 4]
abbrev dktX5_strakeOf_0 : List UInt8 := dkwX5_strakeOf_0 ++ dktX5_strakeOf_1
theorem dksX5_strakeOf_0 : cX5_strakeOf.data.toList.drop 0 = dktX5_strakeOf_0 := by decide +kernel
theorem dksX5_strakeOf_1 : cX5_strakeOf.data.toList.drop 24 = dktX5_strakeOf_1 := dk_seg dksX5_strakeOf_0 24 rfl rfl
theorem dX5_strakeOf_0 : decode cX5_strakeOf 0 = .ok (.iconst 0, 1) := dk_3 (dk_at dksX5_strakeOf_0 0 rfl rfl)
theorem dX5_strakeOf_1 : decode cX5_strakeOf 1 = .ok (.istore_n 2, 1) := dk_61 (dk_at dksX5_strakeOf_0 1 rfl rfl)
theorem dX5_strakeOf_2 : decode cX5_strakeOf 2 = .ok (.iconst 0, 1) := dk_3 (dk_at dksX5_strakeOf_0 2 rfl rfl)
theorem dX5_strakeOf_3 : decode cX5_strakeOf 3 = .ok (.istore_n 3, 1) := dk_62 (dk_at dksX5_strakeOf_0 3 rfl rfl)
theorem dX5_strakeOf_4 : decode cX5_strakeOf 4 = .ok (.iload_n 3, 1) := dk_29 (dk_at dksX5_strakeOf_0 4 rfl rfl)
theorem dX5_strakeOf_5 : decode cX5_strakeOf 5 = .ok (.iconst 1, 1) := dk_4 (dk_at dksX5_strakeOf_0 5 rfl rfl)
theorem dX5_strakeOf_6 : decode cX5_strakeOf 6 = .ok (.iadd, 1) := dk_96 (dk_at dksX5_strakeOf_0 6 rfl rfl)
theorem dX5_strakeOf_7 : decode cX5_strakeOf 7 = .ok (.bipush 9, 2) := dk_16 9 (dk_at dksX5_strakeOf_0 7 rfl rfl)
theorem dX5_strakeOf_9 : decode cX5_strakeOf 9 = .ok (.if_icmp .ge 33, 3) := dk_162 0 33 (dk_at dksX5_strakeOf_0 9 rfl rfl)
theorem dX5_strakeOf_12 : decode cX5_strakeOf 12 = .ok (.iload_n 2, 1) := dk_28 (dk_at dksX5_strakeOf_0 12 rfl rfl)
theorem dX5_strakeOf_13 : decode cX5_strakeOf 13 = .ok (.bipush 10, 2) := dk_16 10 (dk_at dksX5_strakeOf_0 13 rfl rfl)
theorem dX5_strakeOf_15 : decode cX5_strakeOf 15 = .ok (.aload_n 0, 1) := dk_42 (dk_at dksX5_strakeOf_0 15 rfl rfl)
theorem dX5_strakeOf_16 : decode cX5_strakeOf 16 = .ok (.iload_n 3, 1) := dk_29 (dk_at dksX5_strakeOf_0 16 rfl rfl)
theorem dX5_strakeOf_17 : decode cX5_strakeOf 17 = .ok (.iload_n 1, 1) := dk_27 (dk_at dksX5_strakeOf_0 17 rfl rfl)
theorem dX5_strakeOf_18 : decode cX5_strakeOf 18 = .ok (.invokevirtual 59, 3) := dk_182 0 59 (dk_at dksX5_strakeOf_0 18 rfl rfl)
theorem dX5_strakeOf_21 : decode cX5_strakeOf 21 = .ok (.aload_n 0, 1) := dk_42 (dk_at dksX5_strakeOf_0 21 rfl rfl)
theorem dX5_strakeOf_22 : decode cX5_strakeOf 22 = .ok (.iload_n 3, 1) := dk_29 (dk_at dksX5_strakeOf_0 22 rfl rfl)
theorem dX5_strakeOf_23 : decode cX5_strakeOf 23 = .ok (.iconst 1, 1) := dk_4 (dk_at dksX5_strakeOf_0 23 rfl rfl)
theorem dX5_strakeOf_24 : decode cX5_strakeOf 24 = .ok (.iadd, 1) := dk_96 (dk_at dksX5_strakeOf_1 0 rfl rfl)
theorem dX5_strakeOf_25 : decode cX5_strakeOf 25 = .ok (.iload_n 1, 1) := dk_27 (dk_at dksX5_strakeOf_1 1 rfl rfl)
theorem dX5_strakeOf_26 : decode cX5_strakeOf 26 = .ok (.invokevirtual 59, 3) := dk_182 0 59 (dk_at dksX5_strakeOf_1 2 rfl rfl)
theorem dX5_strakeOf_29 : decode cX5_strakeOf 29 = .ok (.isub, 1) := dk_100 (dk_at dksX5_strakeOf_1 5 rfl rfl)
theorem dX5_strakeOf_30 : decode cX5_strakeOf 30 = .ok (.invokestatic 70, 3) := dk_184 0 70 (dk_at dksX5_strakeOf_1 6 rfl rfl)
theorem dX5_strakeOf_33 : decode cX5_strakeOf 33 = .ok (.iadd, 1) := dk_96 (dk_at dksX5_strakeOf_1 9 rfl rfl)
theorem dX5_strakeOf_34 : decode cX5_strakeOf 34 = .ok (.iadd, 1) := dk_96 (dk_at dksX5_strakeOf_1 10 rfl rfl)
theorem dX5_strakeOf_35 : decode cX5_strakeOf 35 = .ok (.istore_n 2, 1) := dk_61 (dk_at dksX5_strakeOf_1 11 rfl rfl)
theorem dX5_strakeOf_36 : decode cX5_strakeOf 36 = .ok (.iinc 3 1, 3) := dk_132 3 1 (dk_at dksX5_strakeOf_1 12 rfl rfl)
theorem dX5_strakeOf_39 : decode cX5_strakeOf 39 = .ok (.goto (-35), 3) := dk_167 255 221 (dk_at dksX5_strakeOf_1 15 rfl rfl)
theorem dX5_strakeOf_42 : decode cX5_strakeOf 42 = .ok (.iload_n 2, 1) := dk_28 (dk_at dksX5_strakeOf_1 18 rfl rfl)
theorem dX5_strakeOf_43 : decode cX5_strakeOf 43 = .ok (.ireturn, 1) := dk_172 (dk_at dksX5_strakeOf_1 19 rfl rfl)
abbrev cX5_planks : ByteArray := prog_13_method_40_code
def yX5_planks : MethodName := ⟨RX5, "planks", "(I)I"⟩
def dkwX5_planks_1 : List UInt8 := [180, 0, 41, 158, 0, 5, 3, 172, 42, 27, 181, 0, 19, 42, 182, 0, 133, 172]
abbrev dktX5_planks_1 : List UInt8 := dkwX5_planks_1 ++ []
def dkwX5_planks_0 : List UInt8 := [42, 27, 16, 100, 17, 15, 160, 184, 0, 44, 153, 0, 7, 3, 167, 0, 4, 4, 181, 0, 41, 42]
abbrev dktX5_planks_0 : List UInt8 := dkwX5_planks_0 ++ dktX5_planks_1
theorem dksX5_planks_0 : cX5_planks.data.toList.drop 0 = dktX5_planks_0 := by decide +kernel
theorem dksX5_planks_1 : cX5_planks.data.toList.drop 22 = dktX5_planks_1 := dk_seg dksX5_planks_0 22 rfl rfl
theorem dX5_planks_0 : decode cX5_planks 0 = .ok (.aload_n 0, 1) := dk_42 (dk_at dksX5_planks_0 0 rfl rfl)
theorem dX5_planks_1 : decode cX5_planks 1 = .ok (.iload_n 1, 1) := dk_27 (dk_at dksX5_planks_0 1 rfl rfl)
theorem dX5_planks_2 : decode cX5_planks 2 = .ok (.bipush 100, 2) := dk_16 100 (dk_at dksX5_planks_0 2 rfl rfl)
theorem dX5_planks_4 : decode cX5_planks 4 = .ok (.sipush 4000, 3) := dk_17 15 160 (dk_at dksX5_planks_0 4 rfl rfl)
theorem dX5_planks_7 : decode cX5_planks 7 = .ok (.invokestatic 44, 3) := dk_184 0 44 (dk_at dksX5_planks_0 7 rfl rfl)
theorem dX5_planks_10 : decode cX5_planks 10 = .ok (.ifCond .eq 7, 3) := dk_153 0 7 (dk_at dksX5_planks_0 10 rfl rfl)
theorem dX5_planks_13 : decode cX5_planks 13 = .ok (.iconst 0, 1) := dk_3 (dk_at dksX5_planks_0 13 rfl rfl)
theorem dX5_planks_14 : decode cX5_planks 14 = .ok (.goto 4, 3) := dk_167 0 4 (dk_at dksX5_planks_0 14 rfl rfl)
theorem dX5_planks_17 : decode cX5_planks 17 = .ok (.iconst 1, 1) := dk_4 (dk_at dksX5_planks_0 17 rfl rfl)
theorem dX5_planks_18 : decode cX5_planks 18 = .ok (.putfield 41, 3) := dk_181 0 41 (dk_at dksX5_planks_0 18 rfl rfl)
theorem dX5_planks_21 : decode cX5_planks 21 = .ok (.aload_n 0, 1) := dk_42 (dk_at dksX5_planks_0 21 rfl rfl)
theorem dX5_planks_22 : decode cX5_planks 22 = .ok (.getfield 41, 3) := dk_180 0 41 (dk_at dksX5_planks_1 0 rfl rfl)
theorem dX5_planks_25 : decode cX5_planks 25 = .ok (.ifCond .le 5, 3) := dk_158 0 5 (dk_at dksX5_planks_1 3 rfl rfl)
theorem dX5_planks_28 : decode cX5_planks 28 = .ok (.iconst 0, 1) := dk_3 (dk_at dksX5_planks_1 6 rfl rfl)
theorem dX5_planks_29 : decode cX5_planks 29 = .ok (.ireturn, 1) := dk_172 (dk_at dksX5_planks_1 7 rfl rfl)
theorem dX5_planks_30 : decode cX5_planks 30 = .ok (.aload_n 0, 1) := dk_42 (dk_at dksX5_planks_1 8 rfl rfl)
theorem dX5_planks_31 : decode cX5_planks 31 = .ok (.iload_n 1, 1) := dk_27 (dk_at dksX5_planks_1 9 rfl rfl)
theorem dX5_planks_32 : decode cX5_planks 32 = .ok (.putfield 19, 3) := dk_181 0 19 (dk_at dksX5_planks_1 10 rfl rfl)
theorem dX5_planks_35 : decode cX5_planks 35 = .ok (.aload_n 0, 1) := dk_42 (dk_at dksX5_planks_1 13 rfl rfl)
theorem dX5_planks_36 : decode cX5_planks 36 = .ok (.invokevirtual 133, 3) := dk_182 0 133 (dk_at dksX5_planks_1 14 rfl rfl)
theorem dX5_planks_39 : decode cX5_planks 39 = .ok (.ireturn, 1) := dk_172 (dk_at dksX5_planks_1 17 rfl rfl)
abbrev cX5_planksNow : ByteArray := prog_13_method_39_code
def yX5_planksNow : MethodName := ⟨RX5, "planksNow", "()I"⟩
def dkwX5_planksNow_5 : List UInt8 := [29, 104, 28, 5, 112, 96, 21, 5, 79, 132, 2, 1, 167, 255, 129, 27, 172]
abbrev dktX5_planksNow_5 : List UInt8 := dkwX5_planksNow_5 ++ []
def dkwX5_planksNow_4 : List UInt8 := [180, 0, 19, 79, 132, 1, 1, 42, 180, 0, 23, 21, 5, 92, 46, 21, 4, 100, 79, 42, 180, 0, 26, 5]
abbrev dktX5_planksNow_4 : List UInt8 := dkwX5_planksNow_4 ++ dktX5_planksNow_5
def dkwX5_planksNow_3 : List UInt8 := [46, 21, 4, 162, 0, 9, 132, 5, 1, 167, 255, 235, 21, 5, 27, 160, 0, 16, 42, 180, 0, 23, 27, 42]
abbrev dktX5_planksNow_3 : List UInt8 := dkwX5_planksNow_3 ++ dktX5_planksNow_4
def dkwX5_planksNow_2 : List UInt8 := [180, 0, 19, 100, 54, 4, 167, 255, 228, 3, 54, 5, 21, 5, 27, 162, 0, 21, 42, 180, 0, 23, 21, 5]
abbrev dktX5_planksNow_2 : List UInt8 := dkwX5_planksNow_2 ++ dktX5_planksNow_3
def dkwX5_planksNow_1 : List UInt8 := [54, 4, 21, 4, 42, 180, 0, 19, 164, 0, 25, 42, 180, 0, 23, 27, 3, 79, 132, 1, 1, 21, 4, 42]
abbrev dktX5_planksNow_1 : List UInt8 := dkwX5_planksNow_1 ++ dktX5_planksNow_2
def dkwX5_planksNow_0 : List UInt8 := [3, 60, 3, 61, 28, 16, 10, 162, 0, 127, 42, 28, 5, 108, 182, 0, 130, 62, 42, 29, 182, 0, 127]
abbrev dktX5_planksNow_0 : List UInt8 := dkwX5_planksNow_0 ++ dktX5_planksNow_1
theorem dksX5_planksNow_0 : cX5_planksNow.data.toList.drop 0 = dktX5_planksNow_0 := by decide +kernel
theorem dksX5_planksNow_1 : cX5_planksNow.data.toList.drop 23 = dktX5_planksNow_1 := dk_seg dksX5_planksNow_0 23 rfl rfl
theorem dksX5_planksNow_2 : cX5_planksNow.data.toList.drop 47 = dktX5_planksNow_2 := dk_seg dksX5_planksNow_1 24 rfl rfl
theorem dksX5_planksNow_3 : cX5_planksNow.data.toList.drop 71 = dktX5_planksNow_3 := dk_seg dksX5_planksNow_2 24 rfl rfl
theorem dksX5_planksNow_4 : cX5_planksNow.data.toList.drop 95 = dktX5_planksNow_4 := dk_seg dksX5_planksNow_3 24 rfl rfl
theorem dksX5_planksNow_5 : cX5_planksNow.data.toList.drop 119 = dktX5_planksNow_5 := dk_seg dksX5_planksNow_4 24 rfl rfl
theorem dX5_planksNow_0 : decode cX5_planksNow 0 = .ok (.iconst 0, 1) := dk_3 (dk_at dksX5_planksNow_0 0 rfl rfl)
theorem dX5_planksNow_1 : decode cX5_planksNow 1 = .ok (.istore_n 1, 1) := dk_60 (dk_at dksX5_planksNow_0 1 rfl rfl)
theorem dX5_planksNow_2 : decode cX5_planksNow 2 = .ok (.iconst 0, 1) := dk_3 (dk_at dksX5_planksNow_0 2 rfl rfl)
theorem dX5_planksNow_3 : decode cX5_planksNow 3 = .ok (.istore_n 2, 1) := dk_61 (dk_at dksX5_planksNow_0 3 rfl rfl)
theorem dX5_planksNow_4 : decode cX5_planksNow 4 = .ok (.iload_n 2, 1) := dk_28 (dk_at dksX5_planksNow_0 4 rfl rfl)
theorem dX5_planksNow_5 : decode cX5_planksNow 5 = .ok (.bipush 10, 2) := dk_16 10 (dk_at dksX5_planksNow_0 5 rfl rfl)
theorem dX5_planksNow_7 : decode cX5_planksNow 7 = .ok (.if_icmp .ge 127, 3) := dk_162 0 127 (dk_at dksX5_planksNow_0 7 rfl rfl)
theorem dX5_planksNow_10 : decode cX5_planksNow 10 = .ok (.aload_n 0, 1) := dk_42 (dk_at dksX5_planksNow_0 10 rfl rfl)
theorem dX5_planksNow_11 : decode cX5_planksNow 11 = .ok (.iload_n 2, 1) := dk_28 (dk_at dksX5_planksNow_0 11 rfl rfl)
theorem dX5_planksNow_12 : decode cX5_planksNow 12 = .ok (.iconst 2, 1) := dk_5 (dk_at dksX5_planksNow_0 12 rfl rfl)
theorem dX5_planksNow_13 : decode cX5_planksNow 13 = .ok (.idiv, 1) := dk_108 (dk_at dksX5_planksNow_0 13 rfl rfl)
theorem dX5_planksNow_14 : decode cX5_planksNow 14 = .ok (.invokevirtual 130, 3) := dk_182 0 130 (dk_at dksX5_planksNow_0 14 rfl rfl)
theorem dX5_planksNow_17 : decode cX5_planksNow 17 = .ok (.istore_n 3, 1) := dk_62 (dk_at dksX5_planksNow_0 17 rfl rfl)
theorem dX5_planksNow_18 : decode cX5_planksNow 18 = .ok (.aload_n 0, 1) := dk_42 (dk_at dksX5_planksNow_0 18 rfl rfl)
theorem dX5_planksNow_19 : decode cX5_planksNow 19 = .ok (.iload_n 3, 1) := dk_29 (dk_at dksX5_planksNow_0 19 rfl rfl)
theorem dX5_planksNow_20 : decode cX5_planksNow 20 = .ok (.invokevirtual 127, 3) := dk_182 0 127 (dk_at dksX5_planksNow_0 20 rfl rfl)
theorem dX5_planksNow_23 : decode cX5_planksNow 23 = .ok (.istore 4, 2) := dk_54 4 (dk_at dksX5_planksNow_1 0 rfl rfl)
theorem dX5_planksNow_25 : decode cX5_planksNow 25 = .ok (.iload 4, 2) := dk_21 4 (dk_at dksX5_planksNow_1 2 rfl rfl)
theorem dX5_planksNow_27 : decode cX5_planksNow 27 = .ok (.aload_n 0, 1) := dk_42 (dk_at dksX5_planksNow_1 4 rfl rfl)
theorem dX5_planksNow_28 : decode cX5_planksNow 28 = .ok (.getfield 19, 3) := dk_180 0 19 (dk_at dksX5_planksNow_1 5 rfl rfl)
theorem dX5_planksNow_31 : decode cX5_planksNow 31 = .ok (.if_icmp .le 25, 3) := dk_164 0 25 (dk_at dksX5_planksNow_1 8 rfl rfl)
theorem dX5_planksNow_34 : decode cX5_planksNow 34 = .ok (.aload_n 0, 1) := dk_42 (dk_at dksX5_planksNow_1 11 rfl rfl)
theorem dX5_planksNow_35 : decode cX5_planksNow 35 = .ok (.getfield 23, 3) := dk_180 0 23 (dk_at dksX5_planksNow_1 12 rfl rfl)
theorem dX5_planksNow_38 : decode cX5_planksNow 38 = .ok (.iload_n 1, 1) := dk_27 (dk_at dksX5_planksNow_1 15 rfl rfl)
theorem dX5_planksNow_39 : decode cX5_planksNow 39 = .ok (.iconst 0, 1) := dk_3 (dk_at dksX5_planksNow_1 16 rfl rfl)
theorem dX5_planksNow_40 : decode cX5_planksNow 40 = .ok (.iastore, 1) := dk_79 (dk_at dksX5_planksNow_1 17 rfl rfl)
theorem dX5_planksNow_41 : decode cX5_planksNow 41 = .ok (.iinc 1 1, 3) := dk_132 1 1 (dk_at dksX5_planksNow_1 18 rfl rfl)
theorem dX5_planksNow_44 : decode cX5_planksNow 44 = .ok (.iload 4, 2) := dk_21 4 (dk_at dksX5_planksNow_1 21 rfl rfl)
theorem dX5_planksNow_46 : decode cX5_planksNow 46 = .ok (.aload_n 0, 1) := dk_42 (dk_at dksX5_planksNow_1 23 rfl rfl)
theorem dX5_planksNow_47 : decode cX5_planksNow 47 = .ok (.getfield 19, 3) := dk_180 0 19 (dk_at dksX5_planksNow_2 0 rfl rfl)
theorem dX5_planksNow_50 : decode cX5_planksNow 50 = .ok (.isub, 1) := dk_100 (dk_at dksX5_planksNow_2 3 rfl rfl)
theorem dX5_planksNow_51 : decode cX5_planksNow 51 = .ok (.istore 4, 2) := dk_54 4 (dk_at dksX5_planksNow_2 4 rfl rfl)
theorem dX5_planksNow_53 : decode cX5_planksNow 53 = .ok (.goto (-28), 3) := dk_167 255 228 (dk_at dksX5_planksNow_2 6 rfl rfl)
theorem dX5_planksNow_56 : decode cX5_planksNow 56 = .ok (.iconst 0, 1) := dk_3 (dk_at dksX5_planksNow_2 9 rfl rfl)
theorem dX5_planksNow_57 : decode cX5_planksNow 57 = .ok (.istore 5, 2) := dk_54 5 (dk_at dksX5_planksNow_2 10 rfl rfl)
theorem dX5_planksNow_59 : decode cX5_planksNow 59 = .ok (.iload 5, 2) := dk_21 5 (dk_at dksX5_planksNow_2 12 rfl rfl)
theorem dX5_planksNow_61 : decode cX5_planksNow 61 = .ok (.iload_n 1, 1) := dk_27 (dk_at dksX5_planksNow_2 14 rfl rfl)
theorem dX5_planksNow_62 : decode cX5_planksNow 62 = .ok (.if_icmp .ge 21, 3) := dk_162 0 21 (dk_at dksX5_planksNow_2 15 rfl rfl)
theorem dX5_planksNow_65 : decode cX5_planksNow 65 = .ok (.aload_n 0, 1) := dk_42 (dk_at dksX5_planksNow_2 18 rfl rfl)
theorem dX5_planksNow_66 : decode cX5_planksNow 66 = .ok (.getfield 23, 3) := dk_180 0 23 (dk_at dksX5_planksNow_2 19 rfl rfl)
theorem dX5_planksNow_69 : decode cX5_planksNow 69 = .ok (.iload 5, 2) := dk_21 5 (dk_at dksX5_planksNow_2 22 rfl rfl)
theorem dX5_planksNow_71 : decode cX5_planksNow 71 = .ok (.iaload, 1) := dk_46 (dk_at dksX5_planksNow_3 0 rfl rfl)
theorem dX5_planksNow_72 : decode cX5_planksNow 72 = .ok (.iload 4, 2) := dk_21 4 (dk_at dksX5_planksNow_3 1 rfl rfl)
theorem dX5_planksNow_74 : decode cX5_planksNow 74 = .ok (.if_icmp .ge 9, 3) := dk_162 0 9 (dk_at dksX5_planksNow_3 3 rfl rfl)
theorem dX5_planksNow_77 : decode cX5_planksNow 77 = .ok (.iinc 5 1, 3) := dk_132 5 1 (dk_at dksX5_planksNow_3 6 rfl rfl)
theorem dX5_planksNow_80 : decode cX5_planksNow 80 = .ok (.goto (-21), 3) := dk_167 255 235 (dk_at dksX5_planksNow_3 9 rfl rfl)
theorem dX5_planksNow_83 : decode cX5_planksNow 83 = .ok (.iload 5, 2) := dk_21 5 (dk_at dksX5_planksNow_3 12 rfl rfl)
theorem dX5_planksNow_85 : decode cX5_planksNow 85 = .ok (.iload_n 1, 1) := dk_27 (dk_at dksX5_planksNow_3 14 rfl rfl)
theorem dX5_planksNow_86 : decode cX5_planksNow 86 = .ok (.if_icmp .ne 16, 3) := dk_160 0 16 (dk_at dksX5_planksNow_3 15 rfl rfl)
theorem dX5_planksNow_89 : decode cX5_planksNow 89 = .ok (.aload_n 0, 1) := dk_42 (dk_at dksX5_planksNow_3 18 rfl rfl)
theorem dX5_planksNow_90 : decode cX5_planksNow 90 = .ok (.getfield 23, 3) := dk_180 0 23 (dk_at dksX5_planksNow_3 19 rfl rfl)
theorem dX5_planksNow_93 : decode cX5_planksNow 93 = .ok (.iload_n 1, 1) := dk_27 (dk_at dksX5_planksNow_3 22 rfl rfl)
theorem dX5_planksNow_94 : decode cX5_planksNow 94 = .ok (.aload_n 0, 1) := dk_42 (dk_at dksX5_planksNow_3 23 rfl rfl)
theorem dX5_planksNow_95 : decode cX5_planksNow 95 = .ok (.getfield 19, 3) := dk_180 0 19 (dk_at dksX5_planksNow_4 0 rfl rfl)
theorem dX5_planksNow_98 : decode cX5_planksNow 98 = .ok (.iastore, 1) := dk_79 (dk_at dksX5_planksNow_4 3 rfl rfl)
theorem dX5_planksNow_99 : decode cX5_planksNow 99 = .ok (.iinc 1 1, 3) := dk_132 1 1 (dk_at dksX5_planksNow_4 4 rfl rfl)
theorem dX5_planksNow_102 : decode cX5_planksNow 102 = .ok (.aload_n 0, 1) := dk_42 (dk_at dksX5_planksNow_4 7 rfl rfl)
theorem dX5_planksNow_103 : decode cX5_planksNow 103 = .ok (.getfield 23, 3) := dk_180 0 23 (dk_at dksX5_planksNow_4 8 rfl rfl)
theorem dX5_planksNow_106 : decode cX5_planksNow 106 = .ok (.iload 5, 2) := dk_21 5 (dk_at dksX5_planksNow_4 11 rfl rfl)
theorem dX5_planksNow_108 : decode cX5_planksNow 108 = .ok (.dup2, 1) := dk_92 (dk_at dksX5_planksNow_4 13 rfl rfl)
theorem dX5_planksNow_109 : decode cX5_planksNow 109 = .ok (.iaload, 1) := dk_46 (dk_at dksX5_planksNow_4 14 rfl rfl)
theorem dX5_planksNow_110 : decode cX5_planksNow 110 = .ok (.iload 4, 2) := dk_21 4 (dk_at dksX5_planksNow_4 15 rfl rfl)
theorem dX5_planksNow_112 : decode cX5_planksNow 112 = .ok (.isub, 1) := dk_100 (dk_at dksX5_planksNow_4 17 rfl rfl)
theorem dX5_planksNow_113 : decode cX5_planksNow 113 = .ok (.iastore, 1) := dk_79 (dk_at dksX5_planksNow_4 18 rfl rfl)
theorem dX5_planksNow_114 : decode cX5_planksNow 114 = .ok (.aload_n 0, 1) := dk_42 (dk_at dksX5_planksNow_4 19 rfl rfl)
theorem dX5_planksNow_115 : decode cX5_planksNow 115 = .ok (.getfield 26, 3) := dk_180 0 26 (dk_at dksX5_planksNow_4 20 rfl rfl)
theorem dX5_planksNow_118 : decode cX5_planksNow 118 = .ok (.iconst 2, 1) := dk_5 (dk_at dksX5_planksNow_4 23 rfl rfl)
theorem dX5_planksNow_119 : decode cX5_planksNow 119 = .ok (.iload_n 3, 1) := dk_29 (dk_at dksX5_planksNow_5 0 rfl rfl)
theorem dX5_planksNow_120 : decode cX5_planksNow 120 = .ok (.imul, 1) := dk_104 (dk_at dksX5_planksNow_5 1 rfl rfl)
theorem dX5_planksNow_121 : decode cX5_planksNow 121 = .ok (.iload_n 2, 1) := dk_28 (dk_at dksX5_planksNow_5 2 rfl rfl)
theorem dX5_planksNow_122 : decode cX5_planksNow 122 = .ok (.iconst 2, 1) := dk_5 (dk_at dksX5_planksNow_5 3 rfl rfl)
theorem dX5_planksNow_123 : decode cX5_planksNow 123 = .ok (.irem, 1) := dk_112 (dk_at dksX5_planksNow_5 4 rfl rfl)
theorem dX5_planksNow_124 : decode cX5_planksNow 124 = .ok (.iadd, 1) := dk_96 (dk_at dksX5_planksNow_5 5 rfl rfl)
theorem dX5_planksNow_125 : decode cX5_planksNow 125 = .ok (.iload 5, 2) := dk_21 5 (dk_at dksX5_planksNow_5 6 rfl rfl)
theorem dX5_planksNow_127 : decode cX5_planksNow 127 = .ok (.iastore, 1) := dk_79 (dk_at dksX5_planksNow_5 8 rfl rfl)
theorem dX5_planksNow_128 : decode cX5_planksNow 128 = .ok (.iinc 2 1, 3) := dk_132 2 1 (dk_at dksX5_planksNow_5 9 rfl rfl)
theorem dX5_planksNow_131 : decode cX5_planksNow 131 = .ok (.goto (-127), 3) := dk_167 255 129 (dk_at dksX5_planksNow_5 12 rfl rfl)
theorem dX5_planksNow_134 : decode cX5_planksNow 134 = .ok (.iload_n 1, 1) := dk_27 (dk_at dksX5_planksNow_5 15 rfl rfl)
theorem dX5_planksNow_135 : decode cX5_planksNow 135 = .ok (.ireturn, 1) := dk_172 (dk_at dksX5_planksNow_5 16 rfl rfl)
abbrev cX5_strakeBehind : ByteArray := prog_13_method_38_code
def yX5_strakeBehind : MethodName := ⟨RX5, "strakeBehind", "(I)I"⟩
def dkwX5_strakeBehind_3 : List UInt8 := [21, 4, 27, 160, 0, 7, 29, 167, 0, 4, 28, 61, 132, 3, 1, 167, 255, 174, 28, 172]
abbrev dktX5_strakeBehind_3 : List UInt8 := dkwX5_strakeBehind_3 ++ []
def dkwX5_strakeBehind_2 : List UInt8 := [160, 0, 13, 21, 5, 29, 162, 0, 7, 4, 167, 0, 4, 3, 96, 54, 4, 132, 5, 1, 167, 255, 203]
abbrev dktX5_strakeBehind_2 : List UInt8 := dkwX5_strakeBehind_2 ++ dktX5_strakeBehind_3
def dkwX5_strakeBehind_1 : List UInt8 := [21, 5, 182, 0, 127, 42, 29, 182, 0, 127, 163, 0, 23, 42, 21, 5, 182, 0, 127, 42, 29, 182, 0, 127]
abbrev dktX5_strakeBehind_1 : List UInt8 := dkwX5_strakeBehind_1 ++ dktX5_strakeBehind_2
def dkwX5_strakeBehind_0 : List UInt8 := [2, 61, 3, 62, 29, 8, 162, 0, 83, 3, 54, 4, 3, 54, 5, 21, 5, 8, 162, 0, 53, 21, 4, 42]
abbrev dktX5_strakeBehind_0 : List UInt8 := dkwX5_strakeBehind_0 ++ dktX5_strakeBehind_1
theorem dksX5_strakeBehind_0 : cX5_strakeBehind.data.toList.drop 0 = dktX5_strakeBehind_0 := by decide +kernel
theorem dksX5_strakeBehind_1 : cX5_strakeBehind.data.toList.drop 24 = dktX5_strakeBehind_1 := dk_seg dksX5_strakeBehind_0 24 rfl rfl
theorem dksX5_strakeBehind_2 : cX5_strakeBehind.data.toList.drop 48 = dktX5_strakeBehind_2 := dk_seg dksX5_strakeBehind_1 24 rfl rfl
theorem dksX5_strakeBehind_3 : cX5_strakeBehind.data.toList.drop 71 = dktX5_strakeBehind_3 := dk_seg dksX5_strakeBehind_2 23 rfl rfl
theorem dX5_strakeBehind_0 : decode cX5_strakeBehind 0 = .ok (.iconst (-1), 1) := dk_2 (dk_at dksX5_strakeBehind_0 0 rfl rfl)
theorem dX5_strakeBehind_1 : decode cX5_strakeBehind 1 = .ok (.istore_n 2, 1) := dk_61 (dk_at dksX5_strakeBehind_0 1 rfl rfl)
theorem dX5_strakeBehind_2 : decode cX5_strakeBehind 2 = .ok (.iconst 0, 1) := dk_3 (dk_at dksX5_strakeBehind_0 2 rfl rfl)
theorem dX5_strakeBehind_3 : decode cX5_strakeBehind 3 = .ok (.istore_n 3, 1) := dk_62 (dk_at dksX5_strakeBehind_0 3 rfl rfl)
theorem dX5_strakeBehind_4 : decode cX5_strakeBehind 4 = .ok (.iload_n 3, 1) := dk_29 (dk_at dksX5_strakeBehind_0 4 rfl rfl)
theorem dX5_strakeBehind_5 : decode cX5_strakeBehind 5 = .ok (.iconst 5, 1) := dk_8 (dk_at dksX5_strakeBehind_0 5 rfl rfl)
theorem dX5_strakeBehind_6 : decode cX5_strakeBehind 6 = .ok (.if_icmp .ge 83, 3) := dk_162 0 83 (dk_at dksX5_strakeBehind_0 6 rfl rfl)
theorem dX5_strakeBehind_9 : decode cX5_strakeBehind 9 = .ok (.iconst 0, 1) := dk_3 (dk_at dksX5_strakeBehind_0 9 rfl rfl)
theorem dX5_strakeBehind_10 : decode cX5_strakeBehind 10 = .ok (.istore 4, 2) := dk_54 4 (dk_at dksX5_strakeBehind_0 10 rfl rfl)
theorem dX5_strakeBehind_12 : decode cX5_strakeBehind 12 = .ok (.iconst 0, 1) := dk_3 (dk_at dksX5_strakeBehind_0 12 rfl rfl)
theorem dX5_strakeBehind_13 : decode cX5_strakeBehind 13 = .ok (.istore 5, 2) := dk_54 5 (dk_at dksX5_strakeBehind_0 13 rfl rfl)
theorem dX5_strakeBehind_15 : decode cX5_strakeBehind 15 = .ok (.iload 5, 2) := dk_21 5 (dk_at dksX5_strakeBehind_0 15 rfl rfl)
theorem dX5_strakeBehind_17 : decode cX5_strakeBehind 17 = .ok (.iconst 5, 1) := dk_8 (dk_at dksX5_strakeBehind_0 17 rfl rfl)
theorem dX5_strakeBehind_18 : decode cX5_strakeBehind 18 = .ok (.if_icmp .ge 53, 3) := dk_162 0 53 (dk_at dksX5_strakeBehind_0 18 rfl rfl)
theorem dX5_strakeBehind_21 : decode cX5_strakeBehind 21 = .ok (.iload 4, 2) := dk_21 4 (dk_at dksX5_strakeBehind_0 21 rfl rfl)
theorem dX5_strakeBehind_23 : decode cX5_strakeBehind 23 = .ok (.aload_n 0, 1) := dk_42 (dk_at dksX5_strakeBehind_0 23 rfl rfl)
theorem dX5_strakeBehind_24 : decode cX5_strakeBehind 24 = .ok (.iload 5, 2) := dk_21 5 (dk_at dksX5_strakeBehind_1 0 rfl rfl)
theorem dX5_strakeBehind_26 : decode cX5_strakeBehind 26 = .ok (.invokevirtual 127, 3) := dk_182 0 127 (dk_at dksX5_strakeBehind_1 2 rfl rfl)
theorem dX5_strakeBehind_29 : decode cX5_strakeBehind 29 = .ok (.aload_n 0, 1) := dk_42 (dk_at dksX5_strakeBehind_1 5 rfl rfl)
theorem dX5_strakeBehind_30 : decode cX5_strakeBehind 30 = .ok (.iload_n 3, 1) := dk_29 (dk_at dksX5_strakeBehind_1 6 rfl rfl)
theorem dX5_strakeBehind_31 : decode cX5_strakeBehind 31 = .ok (.invokevirtual 127, 3) := dk_182 0 127 (dk_at dksX5_strakeBehind_1 7 rfl rfl)
theorem dX5_strakeBehind_34 : decode cX5_strakeBehind 34 = .ok (.if_icmp .gt 23, 3) := dk_163 0 23 (dk_at dksX5_strakeBehind_1 10 rfl rfl)
theorem dX5_strakeBehind_37 : decode cX5_strakeBehind 37 = .ok (.aload_n 0, 1) := dk_42 (dk_at dksX5_strakeBehind_1 13 rfl rfl)
theorem dX5_strakeBehind_38 : decode cX5_strakeBehind 38 = .ok (.iload 5, 2) := dk_21 5 (dk_at dksX5_strakeBehind_1 14 rfl rfl)
theorem dX5_strakeBehind_40 : decode cX5_strakeBehind 40 = .ok (.invokevirtual 127, 3) := dk_182 0 127 (dk_at dksX5_strakeBehind_1 16 rfl rfl)
theorem dX5_strakeBehind_43 : decode cX5_strakeBehind 43 = .ok (.aload_n 0, 1) := dk_42 (dk_at dksX5_strakeBehind_1 19 rfl rfl)
theorem dX5_strakeBehind_44 : decode cX5_strakeBehind 44 = .ok (.iload_n 3, 1) := dk_29 (dk_at dksX5_strakeBehind_1 20 rfl rfl)
theorem dX5_strakeBehind_45 : decode cX5_strakeBehind 45 = .ok (.invokevirtual 127, 3) := dk_182 0 127 (dk_at dksX5_strakeBehind_1 21 rfl rfl)
theorem dX5_strakeBehind_48 : decode cX5_strakeBehind 48 = .ok (.if_icmp .ne 13, 3) := dk_160 0 13 (dk_at dksX5_strakeBehind_2 0 rfl rfl)
theorem dX5_strakeBehind_51 : decode cX5_strakeBehind 51 = .ok (.iload 5, 2) := dk_21 5 (dk_at dksX5_strakeBehind_2 3 rfl rfl)
theorem dX5_strakeBehind_53 : decode cX5_strakeBehind 53 = .ok (.iload_n 3, 1) := dk_29 (dk_at dksX5_strakeBehind_2 5 rfl rfl)
theorem dX5_strakeBehind_54 : decode cX5_strakeBehind 54 = .ok (.if_icmp .ge 7, 3) := dk_162 0 7 (dk_at dksX5_strakeBehind_2 6 rfl rfl)
theorem dX5_strakeBehind_57 : decode cX5_strakeBehind 57 = .ok (.iconst 1, 1) := dk_4 (dk_at dksX5_strakeBehind_2 9 rfl rfl)
theorem dX5_strakeBehind_58 : decode cX5_strakeBehind 58 = .ok (.goto 4, 3) := dk_167 0 4 (dk_at dksX5_strakeBehind_2 10 rfl rfl)
theorem dX5_strakeBehind_61 : decode cX5_strakeBehind 61 = .ok (.iconst 0, 1) := dk_3 (dk_at dksX5_strakeBehind_2 13 rfl rfl)
theorem dX5_strakeBehind_62 : decode cX5_strakeBehind 62 = .ok (.iadd, 1) := dk_96 (dk_at dksX5_strakeBehind_2 14 rfl rfl)
theorem dX5_strakeBehind_63 : decode cX5_strakeBehind 63 = .ok (.istore 4, 2) := dk_54 4 (dk_at dksX5_strakeBehind_2 15 rfl rfl)
theorem dX5_strakeBehind_65 : decode cX5_strakeBehind 65 = .ok (.iinc 5 1, 3) := dk_132 5 1 (dk_at dksX5_strakeBehind_2 17 rfl rfl)
theorem dX5_strakeBehind_68 : decode cX5_strakeBehind 68 = .ok (.goto (-53), 3) := dk_167 255 203 (dk_at dksX5_strakeBehind_2 20 rfl rfl)
theorem dX5_strakeBehind_71 : decode cX5_strakeBehind 71 = .ok (.iload 4, 2) := dk_21 4 (dk_at dksX5_strakeBehind_3 0 rfl rfl)
theorem dX5_strakeBehind_73 : decode cX5_strakeBehind 73 = .ok (.iload_n 1, 1) := dk_27 (dk_at dksX5_strakeBehind_3 2 rfl rfl)
theorem dX5_strakeBehind_74 : decode cX5_strakeBehind 74 = .ok (.if_icmp .ne 7, 3) := dk_160 0 7 (dk_at dksX5_strakeBehind_3 3 rfl rfl)
theorem dX5_strakeBehind_77 : decode cX5_strakeBehind 77 = .ok (.iload_n 3, 1) := dk_29 (dk_at dksX5_strakeBehind_3 6 rfl rfl)
theorem dX5_strakeBehind_78 : decode cX5_strakeBehind 78 = .ok (.goto 4, 3) := dk_167 0 4 (dk_at dksX5_strakeBehind_3 7 rfl rfl)
theorem dX5_strakeBehind_81 : decode cX5_strakeBehind 81 = .ok (.iload_n 2, 1) := dk_28 (dk_at dksX5_strakeBehind_3 10 rfl rfl)
theorem dX5_strakeBehind_82 : decode cX5_strakeBehind 82 = .ok (.istore_n 2, 1) := dk_61 (dk_at dksX5_strakeBehind_3 11 rfl rfl)
theorem dX5_strakeBehind_83 : decode cX5_strakeBehind 83 = .ok (.iinc 3 1, 3) := dk_132 3 1 (dk_at dksX5_strakeBehind_3 12 rfl rfl)
theorem dX5_strakeBehind_86 : decode cX5_strakeBehind 86 = .ok (.goto (-82), 3) := dk_167 255 174 (dk_at dksX5_strakeBehind_3 15 rfl rfl)
theorem dX5_strakeBehind_89 : decode cX5_strakeBehind 89 = .ok (.iload_n 2, 1) := dk_28 (dk_at dksX5_strakeBehind_3 18 rfl rfl)
theorem dX5_strakeBehind_90 : decode cX5_strakeBehind 90 = .ok (.ireturn, 1) := dk_172 (dk_at dksX5_strakeBehind_3 19 rfl rfl)
abbrev cX5_plankOf : ByteArray := prog_13_method_41_code
def yX5_plankOf : MethodName := ⟨RX5, "plankOf", "(IZ)I"⟩
def dkwX5_plankOf_2 : List UInt8 := [167, 0, 4, 3, 96, 46, 172]
abbrev dktX5_plankOf_2 : List UInt8 := dkwX5_plankOf_2 ++ []
def dkwX5_plankOf_1 : List UInt8 := [158, 0, 5, 3, 172, 42, 182, 0, 133, 87, 42, 180, 0, 26, 5, 27, 104, 28, 153, 0, 7, 4]
abbrev dktX5_plankOf_1 : List UInt8 := dkwX5_plankOf_1 ++ dktX5_plankOf_2
def dkwX5_plankOf_0 : List UInt8 := [42, 27, 3, 7, 184, 0, 44, 153, 0, 7, 3, 167, 0, 4, 4, 181, 0, 41, 42, 180, 0, 41]
abbrev dktX5_plankOf_0 : List UInt8 := dkwX5_plankOf_0 ++ dktX5_plankOf_1
theorem dksX5_plankOf_0 : cX5_plankOf.data.toList.drop 0 = dktX5_plankOf_0 := by decide +kernel
theorem dksX5_plankOf_1 : cX5_plankOf.data.toList.drop 22 = dktX5_plankOf_1 := dk_seg dksX5_plankOf_0 22 rfl rfl
theorem dksX5_plankOf_2 : cX5_plankOf.data.toList.drop 44 = dktX5_plankOf_2 := dk_seg dksX5_plankOf_1 22 rfl rfl
theorem dX5_plankOf_0 : decode cX5_plankOf 0 = .ok (.aload_n 0, 1) := dk_42 (dk_at dksX5_plankOf_0 0 rfl rfl)
theorem dX5_plankOf_1 : decode cX5_plankOf 1 = .ok (.iload_n 1, 1) := dk_27 (dk_at dksX5_plankOf_0 1 rfl rfl)
theorem dX5_plankOf_2 : decode cX5_plankOf 2 = .ok (.iconst 0, 1) := dk_3 (dk_at dksX5_plankOf_0 2 rfl rfl)
theorem dX5_plankOf_3 : decode cX5_plankOf 3 = .ok (.iconst 4, 1) := dk_7 (dk_at dksX5_plankOf_0 3 rfl rfl)
theorem dX5_plankOf_4 : decode cX5_plankOf 4 = .ok (.invokestatic 44, 3) := dk_184 0 44 (dk_at dksX5_plankOf_0 4 rfl rfl)
theorem dX5_plankOf_7 : decode cX5_plankOf 7 = .ok (.ifCond .eq 7, 3) := dk_153 0 7 (dk_at dksX5_plankOf_0 7 rfl rfl)
theorem dX5_plankOf_10 : decode cX5_plankOf 10 = .ok (.iconst 0, 1) := dk_3 (dk_at dksX5_plankOf_0 10 rfl rfl)
theorem dX5_plankOf_11 : decode cX5_plankOf 11 = .ok (.goto 4, 3) := dk_167 0 4 (dk_at dksX5_plankOf_0 11 rfl rfl)
theorem dX5_plankOf_14 : decode cX5_plankOf 14 = .ok (.iconst 1, 1) := dk_4 (dk_at dksX5_plankOf_0 14 rfl rfl)
theorem dX5_plankOf_15 : decode cX5_plankOf 15 = .ok (.putfield 41, 3) := dk_181 0 41 (dk_at dksX5_plankOf_0 15 rfl rfl)
theorem dX5_plankOf_18 : decode cX5_plankOf 18 = .ok (.aload_n 0, 1) := dk_42 (dk_at dksX5_plankOf_0 18 rfl rfl)
theorem dX5_plankOf_19 : decode cX5_plankOf 19 = .ok (.getfield 41, 3) := dk_180 0 41 (dk_at dksX5_plankOf_0 19 rfl rfl)
theorem dX5_plankOf_22 : decode cX5_plankOf 22 = .ok (.ifCond .le 5, 3) := dk_158 0 5 (dk_at dksX5_plankOf_1 0 rfl rfl)
theorem dX5_plankOf_25 : decode cX5_plankOf 25 = .ok (.iconst 0, 1) := dk_3 (dk_at dksX5_plankOf_1 3 rfl rfl)
theorem dX5_plankOf_26 : decode cX5_plankOf 26 = .ok (.ireturn, 1) := dk_172 (dk_at dksX5_plankOf_1 4 rfl rfl)
theorem dX5_plankOf_27 : decode cX5_plankOf 27 = .ok (.aload_n 0, 1) := dk_42 (dk_at dksX5_plankOf_1 5 rfl rfl)
theorem dX5_plankOf_28 : decode cX5_plankOf 28 = .ok (.invokevirtual 133, 3) := dk_182 0 133 (dk_at dksX5_plankOf_1 6 rfl rfl)
theorem dX5_plankOf_31 : decode cX5_plankOf 31 = .ok (.pop, 1) := dk_87 (dk_at dksX5_plankOf_1 9 rfl rfl)
theorem dX5_plankOf_32 : decode cX5_plankOf 32 = .ok (.aload_n 0, 1) := dk_42 (dk_at dksX5_plankOf_1 10 rfl rfl)
theorem dX5_plankOf_33 : decode cX5_plankOf 33 = .ok (.getfield 26, 3) := dk_180 0 26 (dk_at dksX5_plankOf_1 11 rfl rfl)
theorem dX5_plankOf_36 : decode cX5_plankOf 36 = .ok (.iconst 2, 1) := dk_5 (dk_at dksX5_plankOf_1 14 rfl rfl)
theorem dX5_plankOf_37 : decode cX5_plankOf 37 = .ok (.iload_n 1, 1) := dk_27 (dk_at dksX5_plankOf_1 15 rfl rfl)
theorem dX5_plankOf_38 : decode cX5_plankOf 38 = .ok (.imul, 1) := dk_104 (dk_at dksX5_plankOf_1 16 rfl rfl)
theorem dX5_plankOf_39 : decode cX5_plankOf 39 = .ok (.iload_n 2, 1) := dk_28 (dk_at dksX5_plankOf_1 17 rfl rfl)
theorem dX5_plankOf_40 : decode cX5_plankOf 40 = .ok (.ifCond .eq 7, 3) := dk_153 0 7 (dk_at dksX5_plankOf_1 18 rfl rfl)
theorem dX5_plankOf_43 : decode cX5_plankOf 43 = .ok (.iconst 1, 1) := dk_4 (dk_at dksX5_plankOf_1 21 rfl rfl)
theorem dX5_plankOf_44 : decode cX5_plankOf 44 = .ok (.goto 4, 3) := dk_167 0 4 (dk_at dksX5_plankOf_2 0 rfl rfl)
theorem dX5_plankOf_47 : decode cX5_plankOf 47 = .ok (.iconst 0, 1) := dk_3 (dk_at dksX5_plankOf_2 3 rfl rfl)
theorem dX5_plankOf_48 : decode cX5_plankOf 48 = .ok (.iadd, 1) := dk_96 (dk_at dksX5_plankOf_2 4 rfl rfl)
theorem dX5_plankOf_49 : decode cX5_plankOf 49 = .ok (.iaload, 1) := dk_46 (dk_at dksX5_plankOf_2 5 rfl rfl)
theorem dX5_plankOf_50 : decode cX5_plankOf 50 = .ok (.ireturn, 1) := dk_172 (dk_at dksX5_plankOf_2 6 rfl rfl)
abbrev cX5_tide : ByteArray := prog_13_method_43_code
def yX5_tide : MethodName := ⟨RX5, "tide", "(II)I"⟩
def dkwX5_tide_6 : List UInt8 := [167, 0, 4, 3, 96, 181, 0, 136, 21, 4, 172]
abbrev dktX5_tide_6 : List UInt8 := dkwX5_tide_6 ++ []
def dkwX5_tide_5 : List UInt8 := [27, 79, 42, 180, 0, 32, 29, 28, 79, 42, 89, 180, 0, 136, 29, 42, 180, 0, 136, 160, 0, 7, 4]
abbrev dktX5_tide_5 : List UInt8 := dkwX5_tide_5 ++ dktX5_tide_6
def dkwX5_tide_4 : List UInt8 := [181, 0, 41, 42, 180, 0, 41, 158, 0, 5, 3, 172, 42, 27, 182, 0, 139, 54, 4, 42, 180, 0, 29, 29]
abbrev dktX5_tide_4 : List UInt8 := dkwX5_tide_4 ++ dktX5_tide_5
def dkwX5_tide_3 : List UInt8 := [167, 0, 4, 29, 62, 132, 4, 1, 167, 255, 226, 42, 29, 16, 40, 160, 0, 7, 5, 167, 0, 4, 3]
abbrev dktX5_tide_3 : List UInt8 := dkwX5_tide_3 ++ dktX5_tide_4
def dkwX5_tide_2 : List UInt8 := [21, 4, 42, 180, 0, 136, 162, 0, 27, 42, 180, 0, 29, 21, 4, 46, 27, 160, 0, 8, 21, 4]
abbrev dktX5_tide_2 : List UInt8 := dkwX5_tide_2 ++ dktX5_tide_3
def dkwX5_tide_1 : List UInt8 := [167, 0, 4, 4, 181, 0, 41, 42, 180, 0, 41, 158, 0, 5, 3, 172, 42, 180, 0, 136, 62, 3, 54, 4]
abbrev dktX5_tide_1 : List UInt8 := dkwX5_tide_1 ++ dktX5_tide_2
def dkwX5_tide_0 : List UInt8 := [42, 27, 3, 17, 39, 15, 184, 0, 44, 153, 0, 17, 28, 3, 16, 99, 184, 0, 44, 153, 0, 7, 3]
abbrev dktX5_tide_0 : List UInt8 := dkwX5_tide_0 ++ dktX5_tide_1
theorem dksX5_tide_0 : cX5_tide.data.toList.drop 0 = dktX5_tide_0 := by decide +kernel
theorem dksX5_tide_1 : cX5_tide.data.toList.drop 23 = dktX5_tide_1 := dk_seg dksX5_tide_0 23 rfl rfl
theorem dksX5_tide_2 : cX5_tide.data.toList.drop 47 = dktX5_tide_2 := dk_seg dksX5_tide_1 24 rfl rfl
theorem dksX5_tide_3 : cX5_tide.data.toList.drop 69 = dktX5_tide_3 := dk_seg dksX5_tide_2 22 rfl rfl
theorem dksX5_tide_4 : cX5_tide.data.toList.drop 92 = dktX5_tide_4 := dk_seg dksX5_tide_3 23 rfl rfl
theorem dksX5_tide_5 : cX5_tide.data.toList.drop 116 = dktX5_tide_5 := dk_seg dksX5_tide_4 24 rfl rfl
theorem dksX5_tide_6 : cX5_tide.data.toList.drop 139 = dktX5_tide_6 := dk_seg dksX5_tide_5 23 rfl rfl
theorem dX5_tide_0 : decode cX5_tide 0 = .ok (.aload_n 0, 1) := dk_42 (dk_at dksX5_tide_0 0 rfl rfl)
theorem dX5_tide_1 : decode cX5_tide 1 = .ok (.iload_n 1, 1) := dk_27 (dk_at dksX5_tide_0 1 rfl rfl)
theorem dX5_tide_2 : decode cX5_tide 2 = .ok (.iconst 0, 1) := dk_3 (dk_at dksX5_tide_0 2 rfl rfl)
theorem dX5_tide_3 : decode cX5_tide 3 = .ok (.sipush 9999, 3) := dk_17 39 15 (dk_at dksX5_tide_0 3 rfl rfl)
theorem dX5_tide_6 : decode cX5_tide 6 = .ok (.invokestatic 44, 3) := dk_184 0 44 (dk_at dksX5_tide_0 6 rfl rfl)
theorem dX5_tide_9 : decode cX5_tide 9 = .ok (.ifCond .eq 17, 3) := dk_153 0 17 (dk_at dksX5_tide_0 9 rfl rfl)
theorem dX5_tide_12 : decode cX5_tide 12 = .ok (.iload_n 2, 1) := dk_28 (dk_at dksX5_tide_0 12 rfl rfl)
theorem dX5_tide_13 : decode cX5_tide 13 = .ok (.iconst 0, 1) := dk_3 (dk_at dksX5_tide_0 13 rfl rfl)
theorem dX5_tide_14 : decode cX5_tide 14 = .ok (.bipush 99, 2) := dk_16 99 (dk_at dksX5_tide_0 14 rfl rfl)
theorem dX5_tide_16 : decode cX5_tide 16 = .ok (.invokestatic 44, 3) := dk_184 0 44 (dk_at dksX5_tide_0 16 rfl rfl)
theorem dX5_tide_19 : decode cX5_tide 19 = .ok (.ifCond .eq 7, 3) := dk_153 0 7 (dk_at dksX5_tide_0 19 rfl rfl)
theorem dX5_tide_22 : decode cX5_tide 22 = .ok (.iconst 0, 1) := dk_3 (dk_at dksX5_tide_0 22 rfl rfl)
theorem dX5_tide_23 : decode cX5_tide 23 = .ok (.goto 4, 3) := dk_167 0 4 (dk_at dksX5_tide_1 0 rfl rfl)
theorem dX5_tide_26 : decode cX5_tide 26 = .ok (.iconst 1, 1) := dk_4 (dk_at dksX5_tide_1 3 rfl rfl)
theorem dX5_tide_27 : decode cX5_tide 27 = .ok (.putfield 41, 3) := dk_181 0 41 (dk_at dksX5_tide_1 4 rfl rfl)
theorem dX5_tide_30 : decode cX5_tide 30 = .ok (.aload_n 0, 1) := dk_42 (dk_at dksX5_tide_1 7 rfl rfl)
theorem dX5_tide_31 : decode cX5_tide 31 = .ok (.getfield 41, 3) := dk_180 0 41 (dk_at dksX5_tide_1 8 rfl rfl)
theorem dX5_tide_34 : decode cX5_tide 34 = .ok (.ifCond .le 5, 3) := dk_158 0 5 (dk_at dksX5_tide_1 11 rfl rfl)
theorem dX5_tide_37 : decode cX5_tide 37 = .ok (.iconst 0, 1) := dk_3 (dk_at dksX5_tide_1 14 rfl rfl)
theorem dX5_tide_38 : decode cX5_tide 38 = .ok (.ireturn, 1) := dk_172 (dk_at dksX5_tide_1 15 rfl rfl)
theorem dX5_tide_39 : decode cX5_tide 39 = .ok (.aload_n 0, 1) := dk_42 (dk_at dksX5_tide_1 16 rfl rfl)
theorem dX5_tide_40 : decode cX5_tide 40 = .ok (.getfield 136, 3) := dk_180 0 136 (dk_at dksX5_tide_1 17 rfl rfl)
theorem dX5_tide_43 : decode cX5_tide 43 = .ok (.istore_n 3, 1) := dk_62 (dk_at dksX5_tide_1 20 rfl rfl)
theorem dX5_tide_44 : decode cX5_tide 44 = .ok (.iconst 0, 1) := dk_3 (dk_at dksX5_tide_1 21 rfl rfl)
theorem dX5_tide_45 : decode cX5_tide 45 = .ok (.istore 4, 2) := dk_54 4 (dk_at dksX5_tide_1 22 rfl rfl)
theorem dX5_tide_47 : decode cX5_tide 47 = .ok (.iload 4, 2) := dk_21 4 (dk_at dksX5_tide_2 0 rfl rfl)
theorem dX5_tide_49 : decode cX5_tide 49 = .ok (.aload_n 0, 1) := dk_42 (dk_at dksX5_tide_2 2 rfl rfl)
theorem dX5_tide_50 : decode cX5_tide 50 = .ok (.getfield 136, 3) := dk_180 0 136 (dk_at dksX5_tide_2 3 rfl rfl)
theorem dX5_tide_53 : decode cX5_tide 53 = .ok (.if_icmp .ge 27, 3) := dk_162 0 27 (dk_at dksX5_tide_2 6 rfl rfl)
theorem dX5_tide_56 : decode cX5_tide 56 = .ok (.aload_n 0, 1) := dk_42 (dk_at dksX5_tide_2 9 rfl rfl)
theorem dX5_tide_57 : decode cX5_tide 57 = .ok (.getfield 29, 3) := dk_180 0 29 (dk_at dksX5_tide_2 10 rfl rfl)
theorem dX5_tide_60 : decode cX5_tide 60 = .ok (.iload 4, 2) := dk_21 4 (dk_at dksX5_tide_2 13 rfl rfl)
theorem dX5_tide_62 : decode cX5_tide 62 = .ok (.iaload, 1) := dk_46 (dk_at dksX5_tide_2 15 rfl rfl)
theorem dX5_tide_63 : decode cX5_tide 63 = .ok (.iload_n 1, 1) := dk_27 (dk_at dksX5_tide_2 16 rfl rfl)
theorem dX5_tide_64 : decode cX5_tide 64 = .ok (.if_icmp .ne 8, 3) := dk_160 0 8 (dk_at dksX5_tide_2 17 rfl rfl)
theorem dX5_tide_67 : decode cX5_tide 67 = .ok (.iload 4, 2) := dk_21 4 (dk_at dksX5_tide_2 20 rfl rfl)
theorem dX5_tide_69 : decode cX5_tide 69 = .ok (.goto 4, 3) := dk_167 0 4 (dk_at dksX5_tide_3 0 rfl rfl)
theorem dX5_tide_72 : decode cX5_tide 72 = .ok (.iload_n 3, 1) := dk_29 (dk_at dksX5_tide_3 3 rfl rfl)
theorem dX5_tide_73 : decode cX5_tide 73 = .ok (.istore_n 3, 1) := dk_62 (dk_at dksX5_tide_3 4 rfl rfl)
theorem dX5_tide_74 : decode cX5_tide 74 = .ok (.iinc 4 1, 3) := dk_132 4 1 (dk_at dksX5_tide_3 5 rfl rfl)
theorem dX5_tide_77 : decode cX5_tide 77 = .ok (.goto (-30), 3) := dk_167 255 226 (dk_at dksX5_tide_3 8 rfl rfl)
theorem dX5_tide_80 : decode cX5_tide 80 = .ok (.aload_n 0, 1) := dk_42 (dk_at dksX5_tide_3 11 rfl rfl)
theorem dX5_tide_81 : decode cX5_tide 81 = .ok (.iload_n 3, 1) := dk_29 (dk_at dksX5_tide_3 12 rfl rfl)
theorem dX5_tide_82 : decode cX5_tide 82 = .ok (.bipush 40, 2) := dk_16 40 (dk_at dksX5_tide_3 13 rfl rfl)
theorem dX5_tide_84 : decode cX5_tide 84 = .ok (.if_icmp .ne 7, 3) := dk_160 0 7 (dk_at dksX5_tide_3 15 rfl rfl)
theorem dX5_tide_87 : decode cX5_tide 87 = .ok (.iconst 2, 1) := dk_5 (dk_at dksX5_tide_3 18 rfl rfl)
theorem dX5_tide_88 : decode cX5_tide 88 = .ok (.goto 4, 3) := dk_167 0 4 (dk_at dksX5_tide_3 19 rfl rfl)
theorem dX5_tide_91 : decode cX5_tide 91 = .ok (.iconst 0, 1) := dk_3 (dk_at dksX5_tide_3 22 rfl rfl)
theorem dX5_tide_92 : decode cX5_tide 92 = .ok (.putfield 41, 3) := dk_181 0 41 (dk_at dksX5_tide_4 0 rfl rfl)
theorem dX5_tide_95 : decode cX5_tide 95 = .ok (.aload_n 0, 1) := dk_42 (dk_at dksX5_tide_4 3 rfl rfl)
theorem dX5_tide_96 : decode cX5_tide 96 = .ok (.getfield 41, 3) := dk_180 0 41 (dk_at dksX5_tide_4 4 rfl rfl)
theorem dX5_tide_99 : decode cX5_tide 99 = .ok (.ifCond .le 5, 3) := dk_158 0 5 (dk_at dksX5_tide_4 7 rfl rfl)
theorem dX5_tide_102 : decode cX5_tide 102 = .ok (.iconst 0, 1) := dk_3 (dk_at dksX5_tide_4 10 rfl rfl)
theorem dX5_tide_103 : decode cX5_tide 103 = .ok (.ireturn, 1) := dk_172 (dk_at dksX5_tide_4 11 rfl rfl)
theorem dX5_tide_104 : decode cX5_tide 104 = .ok (.aload_n 0, 1) := dk_42 (dk_at dksX5_tide_4 12 rfl rfl)
theorem dX5_tide_105 : decode cX5_tide 105 = .ok (.iload_n 1, 1) := dk_27 (dk_at dksX5_tide_4 13 rfl rfl)
theorem dX5_tide_106 : decode cX5_tide 106 = .ok (.invokevirtual 139, 3) := dk_182 0 139 (dk_at dksX5_tide_4 14 rfl rfl)
theorem dX5_tide_109 : decode cX5_tide 109 = .ok (.istore 4, 2) := dk_54 4 (dk_at dksX5_tide_4 17 rfl rfl)
theorem dX5_tide_111 : decode cX5_tide 111 = .ok (.aload_n 0, 1) := dk_42 (dk_at dksX5_tide_4 19 rfl rfl)
theorem dX5_tide_112 : decode cX5_tide 112 = .ok (.getfield 29, 3) := dk_180 0 29 (dk_at dksX5_tide_4 20 rfl rfl)
theorem dX5_tide_115 : decode cX5_tide 115 = .ok (.iload_n 3, 1) := dk_29 (dk_at dksX5_tide_4 23 rfl rfl)
theorem dX5_tide_116 : decode cX5_tide 116 = .ok (.iload_n 1, 1) := dk_27 (dk_at dksX5_tide_5 0 rfl rfl)
theorem dX5_tide_117 : decode cX5_tide 117 = .ok (.iastore, 1) := dk_79 (dk_at dksX5_tide_5 1 rfl rfl)
theorem dX5_tide_118 : decode cX5_tide 118 = .ok (.aload_n 0, 1) := dk_42 (dk_at dksX5_tide_5 2 rfl rfl)
theorem dX5_tide_119 : decode cX5_tide 119 = .ok (.getfield 32, 3) := dk_180 0 32 (dk_at dksX5_tide_5 3 rfl rfl)
theorem dX5_tide_122 : decode cX5_tide 122 = .ok (.iload_n 3, 1) := dk_29 (dk_at dksX5_tide_5 6 rfl rfl)
theorem dX5_tide_123 : decode cX5_tide 123 = .ok (.iload_n 2, 1) := dk_28 (dk_at dksX5_tide_5 7 rfl rfl)
theorem dX5_tide_124 : decode cX5_tide 124 = .ok (.iastore, 1) := dk_79 (dk_at dksX5_tide_5 8 rfl rfl)
theorem dX5_tide_125 : decode cX5_tide 125 = .ok (.aload_n 0, 1) := dk_42 (dk_at dksX5_tide_5 9 rfl rfl)
theorem dX5_tide_126 : decode cX5_tide 126 = .ok (.dup, 1) := dk_89 (dk_at dksX5_tide_5 10 rfl rfl)
theorem dX5_tide_127 : decode cX5_tide 127 = .ok (.getfield 136, 3) := dk_180 0 136 (dk_at dksX5_tide_5 11 rfl rfl)
theorem dX5_tide_130 : decode cX5_tide 130 = .ok (.iload_n 3, 1) := dk_29 (dk_at dksX5_tide_5 14 rfl rfl)
theorem dX5_tide_131 : decode cX5_tide 131 = .ok (.aload_n 0, 1) := dk_42 (dk_at dksX5_tide_5 15 rfl rfl)
theorem dX5_tide_132 : decode cX5_tide 132 = .ok (.getfield 136, 3) := dk_180 0 136 (dk_at dksX5_tide_5 16 rfl rfl)
theorem dX5_tide_135 : decode cX5_tide 135 = .ok (.if_icmp .ne 7, 3) := dk_160 0 7 (dk_at dksX5_tide_5 19 rfl rfl)
theorem dX5_tide_138 : decode cX5_tide 138 = .ok (.iconst 1, 1) := dk_4 (dk_at dksX5_tide_5 22 rfl rfl)
theorem dX5_tide_139 : decode cX5_tide 139 = .ok (.goto 4, 3) := dk_167 0 4 (dk_at dksX5_tide_6 0 rfl rfl)
theorem dX5_tide_142 : decode cX5_tide 142 = .ok (.iconst 0, 1) := dk_3 (dk_at dksX5_tide_6 3 rfl rfl)
theorem dX5_tide_143 : decode cX5_tide 143 = .ok (.iadd, 1) := dk_96 (dk_at dksX5_tide_6 4 rfl rfl)
theorem dX5_tide_144 : decode cX5_tide 144 = .ok (.putfield 136, 3) := dk_181 0 136 (dk_at dksX5_tide_6 5 rfl rfl)
theorem dX5_tide_147 : decode cX5_tide 147 = .ok (.iload 4, 2) := dk_21 4 (dk_at dksX5_tide_6 8 rfl rfl)
theorem dX5_tide_149 : decode cX5_tide 149 = .ok (.ireturn, 1) := dk_172 (dk_at dksX5_tide_6 10 rfl rfl)
abbrev cX5_tideOn : ByteArray := prog_13_method_42_code
def yX5_tideOn : MethodName := ⟨RX5, "tideOn", "(I)I"⟩
def dkwX5_tideOn_2 : List UInt8 := [172]
abbrev dktX5_tideOn_2 : List UInt8 := dkwX5_tideOn_2 ++ []
def dkwX5_tideOn_1 : List UInt8 := [29, 46, 27, 160, 0, 12, 42, 180, 0, 32, 29, 46, 167, 0, 4, 28, 61, 132, 3, 1, 167, 255, 224, 28]
abbrev dktX5_tideOn_1 : List UInt8 := dkwX5_tideOn_1 ++ dktX5_tideOn_2
def dkwX5_tideOn_0 : List UInt8 := [16, 7, 27, 104, 6, 96, 16, 19, 112, 61, 3, 62, 29, 42, 180, 0, 136, 162, 0, 30, 42, 180, 0, 29]
abbrev dktX5_tideOn_0 : List UInt8 := dkwX5_tideOn_0 ++ dktX5_tideOn_1
theorem dksX5_tideOn_0 : cX5_tideOn.data.toList.drop 0 = dktX5_tideOn_0 := by decide +kernel
theorem dksX5_tideOn_1 : cX5_tideOn.data.toList.drop 24 = dktX5_tideOn_1 := dk_seg dksX5_tideOn_0 24 rfl rfl
theorem dksX5_tideOn_2 : cX5_tideOn.data.toList.drop 48 = dktX5_tideOn_2 := dk_seg dksX5_tideOn_1 24 rfl rfl
theorem dX5_tideOn_0 : decode cX5_tideOn 0 = .ok (.bipush 7, 2) := dk_16 7 (dk_at dksX5_tideOn_0 0 rfl rfl)
theorem dX5_tideOn_2 : decode cX5_tideOn 2 = .ok (.iload_n 1, 1) := dk_27 (dk_at dksX5_tideOn_0 2 rfl rfl)
theorem dX5_tideOn_3 : decode cX5_tideOn 3 = .ok (.imul, 1) := dk_104 (dk_at dksX5_tideOn_0 3 rfl rfl)
theorem dX5_tideOn_4 : decode cX5_tideOn 4 = .ok (.iconst 3, 1) := dk_6 (dk_at dksX5_tideOn_0 4 rfl rfl)
theorem dX5_tideOn_5 : decode cX5_tideOn 5 = .ok (.iadd, 1) := dk_96 (dk_at dksX5_tideOn_0 5 rfl rfl)
theorem dX5_tideOn_6 : decode cX5_tideOn 6 = .ok (.bipush 19, 2) := dk_16 19 (dk_at dksX5_tideOn_0 6 rfl rfl)
theorem dX5_tideOn_8 : decode cX5_tideOn 8 = .ok (.irem, 1) := dk_112 (dk_at dksX5_tideOn_0 8 rfl rfl)
theorem dX5_tideOn_9 : decode cX5_tideOn 9 = .ok (.istore_n 2, 1) := dk_61 (dk_at dksX5_tideOn_0 9 rfl rfl)
theorem dX5_tideOn_10 : decode cX5_tideOn 10 = .ok (.iconst 0, 1) := dk_3 (dk_at dksX5_tideOn_0 10 rfl rfl)
theorem dX5_tideOn_11 : decode cX5_tideOn 11 = .ok (.istore_n 3, 1) := dk_62 (dk_at dksX5_tideOn_0 11 rfl rfl)
theorem dX5_tideOn_12 : decode cX5_tideOn 12 = .ok (.iload_n 3, 1) := dk_29 (dk_at dksX5_tideOn_0 12 rfl rfl)
theorem dX5_tideOn_13 : decode cX5_tideOn 13 = .ok (.aload_n 0, 1) := dk_42 (dk_at dksX5_tideOn_0 13 rfl rfl)
theorem dX5_tideOn_14 : decode cX5_tideOn 14 = .ok (.getfield 136, 3) := dk_180 0 136 (dk_at dksX5_tideOn_0 14 rfl rfl)
theorem dX5_tideOn_17 : decode cX5_tideOn 17 = .ok (.if_icmp .ge 30, 3) := dk_162 0 30 (dk_at dksX5_tideOn_0 17 rfl rfl)
theorem dX5_tideOn_20 : decode cX5_tideOn 20 = .ok (.aload_n 0, 1) := dk_42 (dk_at dksX5_tideOn_0 20 rfl rfl)
theorem dX5_tideOn_21 : decode cX5_tideOn 21 = .ok (.getfield 29, 3) := dk_180 0 29 (dk_at dksX5_tideOn_0 21 rfl rfl)
theorem dX5_tideOn_24 : decode cX5_tideOn 24 = .ok (.iload_n 3, 1) := dk_29 (dk_at dksX5_tideOn_1 0 rfl rfl)
theorem dX5_tideOn_25 : decode cX5_tideOn 25 = .ok (.iaload, 1) := dk_46 (dk_at dksX5_tideOn_1 1 rfl rfl)
theorem dX5_tideOn_26 : decode cX5_tideOn 26 = .ok (.iload_n 1, 1) := dk_27 (dk_at dksX5_tideOn_1 2 rfl rfl)
theorem dX5_tideOn_27 : decode cX5_tideOn 27 = .ok (.if_icmp .ne 12, 3) := dk_160 0 12 (dk_at dksX5_tideOn_1 3 rfl rfl)
theorem dX5_tideOn_30 : decode cX5_tideOn 30 = .ok (.aload_n 0, 1) := dk_42 (dk_at dksX5_tideOn_1 6 rfl rfl)
theorem dX5_tideOn_31 : decode cX5_tideOn 31 = .ok (.getfield 32, 3) := dk_180 0 32 (dk_at dksX5_tideOn_1 7 rfl rfl)
theorem dX5_tideOn_34 : decode cX5_tideOn 34 = .ok (.iload_n 3, 1) := dk_29 (dk_at dksX5_tideOn_1 10 rfl rfl)
theorem dX5_tideOn_35 : decode cX5_tideOn 35 = .ok (.iaload, 1) := dk_46 (dk_at dksX5_tideOn_1 11 rfl rfl)
theorem dX5_tideOn_36 : decode cX5_tideOn 36 = .ok (.goto 4, 3) := dk_167 0 4 (dk_at dksX5_tideOn_1 12 rfl rfl)
theorem dX5_tideOn_39 : decode cX5_tideOn 39 = .ok (.iload_n 2, 1) := dk_28 (dk_at dksX5_tideOn_1 15 rfl rfl)
theorem dX5_tideOn_40 : decode cX5_tideOn 40 = .ok (.istore_n 2, 1) := dk_61 (dk_at dksX5_tideOn_1 16 rfl rfl)
theorem dX5_tideOn_41 : decode cX5_tideOn 41 = .ok (.iinc 3 1, 3) := dk_132 3 1 (dk_at dksX5_tideOn_1 17 rfl rfl)
theorem dX5_tideOn_44 : decode cX5_tideOn 44 = .ok (.goto (-32), 3) := dk_167 255 224 (dk_at dksX5_tideOn_1 20 rfl rfl)
theorem dX5_tideOn_47 : decode cX5_tideOn 47 = .ok (.iload_n 2, 1) := dk_28 (dk_at dksX5_tideOn_1 23 rfl rfl)
theorem dX5_tideOn_48 : decode cX5_tideOn 48 = .ok (.ireturn, 1) := dk_172 (dk_at dksX5_tideOn_2 0 rfl rfl)
abbrev cX5_sill : ByteArray := prog_13_method_44_code
def yX5_sill : MethodName := ⟨RX5, "sill", "(I)I"⟩
def dkwX5_sill_1 : List UInt8 := [158, 0, 5, 3, 172, 42, 180, 0, 142, 61, 42, 27, 181, 0, 142, 28, 172]
abbrev dktX5_sill_1 : List UInt8 := dkwX5_sill_1 ++ []
def dkwX5_sill_0 : List UInt8 := [42, 27, 3, 16, 50, 184, 0, 44, 153, 0, 7, 3, 167, 0, 4, 4, 181, 0, 41, 42, 180, 0, 41]
abbrev dktX5_sill_0 : List UInt8 := dkwX5_sill_0 ++ dktX5_sill_1
theorem dksX5_sill_0 : cX5_sill.data.toList.drop 0 = dktX5_sill_0 := by decide +kernel
theorem dksX5_sill_1 : cX5_sill.data.toList.drop 23 = dktX5_sill_1 := dk_seg dksX5_sill_0 23 rfl rfl
theorem dX5_sill_0 : decode cX5_sill 0 = .ok (.aload_n 0, 1) := dk_42 (dk_at dksX5_sill_0 0 rfl rfl)
theorem dX5_sill_1 : decode cX5_sill 1 = .ok (.iload_n 1, 1) := dk_27 (dk_at dksX5_sill_0 1 rfl rfl)
theorem dX5_sill_2 : decode cX5_sill 2 = .ok (.iconst 0, 1) := dk_3 (dk_at dksX5_sill_0 2 rfl rfl)
theorem dX5_sill_3 : decode cX5_sill 3 = .ok (.bipush 50, 2) := dk_16 50 (dk_at dksX5_sill_0 3 rfl rfl)
theorem dX5_sill_5 : decode cX5_sill 5 = .ok (.invokestatic 44, 3) := dk_184 0 44 (dk_at dksX5_sill_0 5 rfl rfl)
theorem dX5_sill_8 : decode cX5_sill 8 = .ok (.ifCond .eq 7, 3) := dk_153 0 7 (dk_at dksX5_sill_0 8 rfl rfl)
theorem dX5_sill_11 : decode cX5_sill 11 = .ok (.iconst 0, 1) := dk_3 (dk_at dksX5_sill_0 11 rfl rfl)
theorem dX5_sill_12 : decode cX5_sill 12 = .ok (.goto 4, 3) := dk_167 0 4 (dk_at dksX5_sill_0 12 rfl rfl)
theorem dX5_sill_15 : decode cX5_sill 15 = .ok (.iconst 1, 1) := dk_4 (dk_at dksX5_sill_0 15 rfl rfl)
theorem dX5_sill_16 : decode cX5_sill 16 = .ok (.putfield 41, 3) := dk_181 0 41 (dk_at dksX5_sill_0 16 rfl rfl)
theorem dX5_sill_19 : decode cX5_sill 19 = .ok (.aload_n 0, 1) := dk_42 (dk_at dksX5_sill_0 19 rfl rfl)
theorem dX5_sill_20 : decode cX5_sill 20 = .ok (.getfield 41, 3) := dk_180 0 41 (dk_at dksX5_sill_0 20 rfl rfl)
theorem dX5_sill_23 : decode cX5_sill 23 = .ok (.ifCond .le 5, 3) := dk_158 0 5 (dk_at dksX5_sill_1 0 rfl rfl)
theorem dX5_sill_26 : decode cX5_sill 26 = .ok (.iconst 0, 1) := dk_3 (dk_at dksX5_sill_1 3 rfl rfl)
theorem dX5_sill_27 : decode cX5_sill 27 = .ok (.ireturn, 1) := dk_172 (dk_at dksX5_sill_1 4 rfl rfl)
theorem dX5_sill_28 : decode cX5_sill 28 = .ok (.aload_n 0, 1) := dk_42 (dk_at dksX5_sill_1 5 rfl rfl)
theorem dX5_sill_29 : decode cX5_sill 29 = .ok (.getfield 142, 3) := dk_180 0 142 (dk_at dksX5_sill_1 6 rfl rfl)
theorem dX5_sill_32 : decode cX5_sill 32 = .ok (.istore_n 2, 1) := dk_61 (dk_at dksX5_sill_1 9 rfl rfl)
theorem dX5_sill_33 : decode cX5_sill 33 = .ok (.aload_n 0, 1) := dk_42 (dk_at dksX5_sill_1 10 rfl rfl)
theorem dX5_sill_34 : decode cX5_sill 34 = .ok (.iload_n 1, 1) := dk_27 (dk_at dksX5_sill_1 11 rfl rfl)
theorem dX5_sill_35 : decode cX5_sill 35 = .ok (.putfield 142, 3) := dk_181 0 142 (dk_at dksX5_sill_1 12 rfl rfl)
theorem dX5_sill_38 : decode cX5_sill 38 = .ok (.iload_n 2, 1) := dk_28 (dk_at dksX5_sill_1 15 rfl rfl)
theorem dX5_sill_39 : decode cX5_sill 39 = .ok (.ireturn, 1) := dk_172 (dk_at dksX5_sill_1 16 rfl rfl)
abbrev cX5_needed : ByteArray := prog_13_method_46_code
def yX5_needed : MethodName := ⟨RX5, "needed", "()I"⟩
def dkwX5_needed_0 : List UInt8 := [42, 3, 181, 0, 41, 42, 182, 0, 145, 172]
abbrev dktX5_needed_0 : List UInt8 := dkwX5_needed_0 ++ []
theorem dksX5_needed_0 : cX5_needed.data.toList.drop 0 = dktX5_needed_0 := by decide +kernel
theorem dX5_needed_0 : decode cX5_needed 0 = .ok (.aload_n 0, 1) := dk_42 (dk_at dksX5_needed_0 0 rfl rfl)
theorem dX5_needed_1 : decode cX5_needed 1 = .ok (.iconst 0, 1) := dk_3 (dk_at dksX5_needed_0 1 rfl rfl)
theorem dX5_needed_2 : decode cX5_needed 2 = .ok (.putfield 41, 3) := dk_181 0 41 (dk_at dksX5_needed_0 2 rfl rfl)
theorem dX5_needed_5 : decode cX5_needed 5 = .ok (.aload_n 0, 1) := dk_42 (dk_at dksX5_needed_0 5 rfl rfl)
theorem dX5_needed_6 : decode cX5_needed 6 = .ok (.invokevirtual 145, 3) := dk_182 0 145 (dk_at dksX5_needed_0 6 rfl rfl)
theorem dX5_needed_9 : decode cX5_needed 9 = .ok (.ireturn, 1) := dk_172 (dk_at dksX5_needed_0 9 rfl rfl)
abbrev cX5_neededNow : ByteArray := prog_13_method_45_code
def yX5_neededNow : MethodName := ⟨RX5, "neededNow", "()I"⟩
def dkwX5_neededNow_1 : List UInt8 := [182, 0, 124, 184, 0, 70, 16, 10, 108, 96, 172]
abbrev dktX5_neededNow_1 : List UInt8 := dkwX5_neededNow_1 ++ []
def dkwX5_neededNow_0 : List UInt8 := [42, 182, 0, 112, 60, 27, 2, 160, 0, 7, 2, 167, 0, 23, 16, 10, 27, 104, 42, 180, 0, 142, 96, 42]
abbrev dktX5_neededNow_0 : List UInt8 := dkwX5_neededNow_0 ++ dktX5_neededNow_1
theorem dksX5_neededNow_0 : cX5_neededNow.data.toList.drop 0 = dktX5_neededNow_0 := by decide +kernel
theorem dksX5_neededNow_1 : cX5_neededNow.data.toList.drop 24 = dktX5_neededNow_1 := dk_seg dksX5_neededNow_0 24 rfl rfl
theorem dX5_neededNow_0 : decode cX5_neededNow 0 = .ok (.aload_n 0, 1) := dk_42 (dk_at dksX5_neededNow_0 0 rfl rfl)
theorem dX5_neededNow_1 : decode cX5_neededNow 1 = .ok (.invokevirtual 112, 3) := dk_182 0 112 (dk_at dksX5_neededNow_0 1 rfl rfl)
theorem dX5_neededNow_4 : decode cX5_neededNow 4 = .ok (.istore_n 1, 1) := dk_60 (dk_at dksX5_neededNow_0 4 rfl rfl)
theorem dX5_neededNow_5 : decode cX5_neededNow 5 = .ok (.iload_n 1, 1) := dk_27 (dk_at dksX5_neededNow_0 5 rfl rfl)
theorem dX5_neededNow_6 : decode cX5_neededNow 6 = .ok (.iconst (-1), 1) := dk_2 (dk_at dksX5_neededNow_0 6 rfl rfl)
theorem dX5_neededNow_7 : decode cX5_neededNow 7 = .ok (.if_icmp .ne 7, 3) := dk_160 0 7 (dk_at dksX5_neededNow_0 7 rfl rfl)
theorem dX5_neededNow_10 : decode cX5_neededNow 10 = .ok (.iconst (-1), 1) := dk_2 (dk_at dksX5_neededNow_0 10 rfl rfl)
theorem dX5_neededNow_11 : decode cX5_neededNow 11 = .ok (.goto 23, 3) := dk_167 0 23 (dk_at dksX5_neededNow_0 11 rfl rfl)
theorem dX5_neededNow_14 : decode cX5_neededNow 14 = .ok (.bipush 10, 2) := dk_16 10 (dk_at dksX5_neededNow_0 14 rfl rfl)
theorem dX5_neededNow_16 : decode cX5_neededNow 16 = .ok (.iload_n 1, 1) := dk_27 (dk_at dksX5_neededNow_0 16 rfl rfl)
theorem dX5_neededNow_17 : decode cX5_neededNow 17 = .ok (.imul, 1) := dk_104 (dk_at dksX5_neededNow_0 17 rfl rfl)
theorem dX5_neededNow_18 : decode cX5_neededNow 18 = .ok (.aload_n 0, 1) := dk_42 (dk_at dksX5_neededNow_0 18 rfl rfl)
theorem dX5_neededNow_19 : decode cX5_neededNow 19 = .ok (.getfield 142, 3) := dk_180 0 142 (dk_at dksX5_neededNow_0 19 rfl rfl)
theorem dX5_neededNow_22 : decode cX5_neededNow 22 = .ok (.iadd, 1) := dk_96 (dk_at dksX5_neededNow_0 22 rfl rfl)
theorem dX5_neededNow_23 : decode cX5_neededNow 23 = .ok (.aload_n 0, 1) := dk_42 (dk_at dksX5_neededNow_0 23 rfl rfl)
theorem dX5_neededNow_24 : decode cX5_neededNow 24 = .ok (.invokevirtual 124, 3) := dk_182 0 124 (dk_at dksX5_neededNow_1 0 rfl rfl)
theorem dX5_neededNow_27 : decode cX5_neededNow 27 = .ok (.invokestatic 70, 3) := dk_184 0 70 (dk_at dksX5_neededNow_1 3 rfl rfl)
theorem dX5_neededNow_30 : decode cX5_neededNow 30 = .ok (.bipush 10, 2) := dk_16 10 (dk_at dksX5_neededNow_1 6 rfl rfl)
theorem dX5_neededNow_32 : decode cX5_neededNow 32 = .ok (.idiv, 1) := dk_108 (dk_at dksX5_neededNow_1 8 rfl rfl)
theorem dX5_neededNow_33 : decode cX5_neededNow 33 = .ok (.iadd, 1) := dk_96 (dk_at dksX5_neededNow_1 9 rfl rfl)
theorem dX5_neededNow_34 : decode cX5_neededNow 34 = .ok (.ireturn, 1) := dk_172 (dk_at dksX5_neededNow_1 10 rfl rfl)
abbrev cX5_day : ByteArray := prog_13_method_47_code
def yX5_day : MethodName := ⟨RX5, "day", "()I"⟩
def dkwX5_day_2 : List UInt8 := [161, 0, 7, 29, 167, 0, 4, 28, 61, 132, 3, 255, 167, 255, 218, 28, 172]
abbrev dktX5_day_2 : List UInt8 := dkwX5_day_2 ++ []
def dkwX5_day_1 : List UInt8 := [180, 0, 148, 161, 0, 36, 27, 2, 159, 0, 31, 42, 180, 0, 55, 154, 0, 24, 42, 29, 182, 0, 139, 27]
abbrev dktX5_day_1 : List UInt8 := dkwX5_day_1 ++ dktX5_day_2
def dkwX5_day_0 : List UInt8 := [42, 3, 181, 0, 41, 42, 182, 0, 145, 60, 2, 61, 42, 180, 0, 148, 16, 99, 96, 62, 29, 42]
abbrev dktX5_day_0 : List UInt8 := dkwX5_day_0 ++ dktX5_day_1
theorem dksX5_day_0 : cX5_day.data.toList.drop 0 = dktX5_day_0 := by decide +kernel
theorem dksX5_day_1 : cX5_day.data.toList.drop 22 = dktX5_day_1 := dk_seg dksX5_day_0 22 rfl rfl
theorem dksX5_day_2 : cX5_day.data.toList.drop 46 = dktX5_day_2 := dk_seg dksX5_day_1 24 rfl rfl
theorem dX5_day_0 : decode cX5_day 0 = .ok (.aload_n 0, 1) := dk_42 (dk_at dksX5_day_0 0 rfl rfl)
theorem dX5_day_1 : decode cX5_day 1 = .ok (.iconst 0, 1) := dk_3 (dk_at dksX5_day_0 1 rfl rfl)
theorem dX5_day_2 : decode cX5_day 2 = .ok (.putfield 41, 3) := dk_181 0 41 (dk_at dksX5_day_0 2 rfl rfl)
theorem dX5_day_5 : decode cX5_day 5 = .ok (.aload_n 0, 1) := dk_42 (dk_at dksX5_day_0 5 rfl rfl)
theorem dX5_day_6 : decode cX5_day 6 = .ok (.invokevirtual 145, 3) := dk_182 0 145 (dk_at dksX5_day_0 6 rfl rfl)
theorem dX5_day_9 : decode cX5_day 9 = .ok (.istore_n 1, 1) := dk_60 (dk_at dksX5_day_0 9 rfl rfl)
theorem dX5_day_10 : decode cX5_day 10 = .ok (.iconst (-1), 1) := dk_2 (dk_at dksX5_day_0 10 rfl rfl)
theorem dX5_day_11 : decode cX5_day 11 = .ok (.istore_n 2, 1) := dk_61 (dk_at dksX5_day_0 11 rfl rfl)
theorem dX5_day_12 : decode cX5_day 12 = .ok (.aload_n 0, 1) := dk_42 (dk_at dksX5_day_0 12 rfl rfl)
theorem dX5_day_13 : decode cX5_day 13 = .ok (.getfield 148, 3) := dk_180 0 148 (dk_at dksX5_day_0 13 rfl rfl)
theorem dX5_day_16 : decode cX5_day 16 = .ok (.bipush 99, 2) := dk_16 99 (dk_at dksX5_day_0 16 rfl rfl)
theorem dX5_day_18 : decode cX5_day 18 = .ok (.iadd, 1) := dk_96 (dk_at dksX5_day_0 18 rfl rfl)
theorem dX5_day_19 : decode cX5_day 19 = .ok (.istore_n 3, 1) := dk_62 (dk_at dksX5_day_0 19 rfl rfl)
theorem dX5_day_20 : decode cX5_day 20 = .ok (.iload_n 3, 1) := dk_29 (dk_at dksX5_day_0 20 rfl rfl)
theorem dX5_day_21 : decode cX5_day 21 = .ok (.aload_n 0, 1) := dk_42 (dk_at dksX5_day_0 21 rfl rfl)
theorem dX5_day_22 : decode cX5_day 22 = .ok (.getfield 148, 3) := dk_180 0 148 (dk_at dksX5_day_1 0 rfl rfl)
theorem dX5_day_25 : decode cX5_day 25 = .ok (.if_icmp .lt 36, 3) := dk_161 0 36 (dk_at dksX5_day_1 3 rfl rfl)
theorem dX5_day_28 : decode cX5_day 28 = .ok (.iload_n 1, 1) := dk_27 (dk_at dksX5_day_1 6 rfl rfl)
theorem dX5_day_29 : decode cX5_day 29 = .ok (.iconst (-1), 1) := dk_2 (dk_at dksX5_day_1 7 rfl rfl)
theorem dX5_day_30 : decode cX5_day 30 = .ok (.if_icmp .eq 31, 3) := dk_159 0 31 (dk_at dksX5_day_1 8 rfl rfl)
theorem dX5_day_33 : decode cX5_day 33 = .ok (.aload_n 0, 1) := dk_42 (dk_at dksX5_day_1 11 rfl rfl)
theorem dX5_day_34 : decode cX5_day 34 = .ok (.getfield 55, 3) := dk_180 0 55 (dk_at dksX5_day_1 12 rfl rfl)
theorem dX5_day_37 : decode cX5_day 37 = .ok (.ifCond .ne 24, 3) := dk_154 0 24 (dk_at dksX5_day_1 15 rfl rfl)
theorem dX5_day_40 : decode cX5_day 40 = .ok (.aload_n 0, 1) := dk_42 (dk_at dksX5_day_1 18 rfl rfl)
theorem dX5_day_41 : decode cX5_day 41 = .ok (.iload_n 3, 1) := dk_29 (dk_at dksX5_day_1 19 rfl rfl)
theorem dX5_day_42 : decode cX5_day 42 = .ok (.invokevirtual 139, 3) := dk_182 0 139 (dk_at dksX5_day_1 20 rfl rfl)
theorem dX5_day_45 : decode cX5_day 45 = .ok (.iload_n 1, 1) := dk_27 (dk_at dksX5_day_1 23 rfl rfl)
theorem dX5_day_46 : decode cX5_day 46 = .ok (.if_icmp .lt 7, 3) := dk_161 0 7 (dk_at dksX5_day_2 0 rfl rfl)
theorem dX5_day_49 : decode cX5_day 49 = .ok (.iload_n 3, 1) := dk_29 (dk_at dksX5_day_2 3 rfl rfl)
theorem dX5_day_50 : decode cX5_day 50 = .ok (.goto 4, 3) := dk_167 0 4 (dk_at dksX5_day_2 4 rfl rfl)
theorem dX5_day_53 : decode cX5_day 53 = .ok (.iload_n 2, 1) := dk_28 (dk_at dksX5_day_2 7 rfl rfl)
theorem dX5_day_54 : decode cX5_day 54 = .ok (.istore_n 2, 1) := dk_61 (dk_at dksX5_day_2 8 rfl rfl)
theorem dX5_day_55 : decode cX5_day 55 = .ok (.iinc 3 (-1), 3) := dk_132 3 255 (dk_at dksX5_day_2 9 rfl rfl)
theorem dX5_day_58 : decode cX5_day 58 = .ok (.goto (-38), 3) := dk_167 255 218 (dk_at dksX5_day_2 12 rfl rfl)
theorem dX5_day_61 : decode cX5_day 61 = .ok (.iload_n 2, 1) := dk_28 (dk_at dksX5_day_2 15 rfl rfl)
theorem dX5_day_62 : decode cX5_day 62 = .ok (.ireturn, 1) := dk_172 (dk_at dksX5_day_2 16 rfl rfl)
abbrev cX5_launch : ByteArray := prog_13_method_48_code
def yX5_launch : MethodName := ⟨RX5, "launch", "()I"⟩
def dkwX5_launch_2 : List UInt8 := [42, 4, 181, 0, 55, 42, 42, 180, 0, 148, 182, 0, 139, 27, 100, 172]
abbrev dktX5_launch_2 : List UInt8 := dkwX5_launch_2 ++ []
def dkwX5_launch_1 : List UInt8 := [182, 0, 139, 27, 162, 0, 7, 4, 167, 0, 4, 3, 181, 0, 41, 42, 180, 0, 41, 158, 0, 5, 3, 172]
abbrev dktX5_launch_1 : List UInt8 := dkwX5_launch_1 ++ dktX5_launch_2
def dkwX5_launch_0 : List UInt8 := [42, 182, 0, 145, 60, 42, 42, 180, 0, 55, 154, 0, 20, 27, 2, 159, 0, 15, 42, 42, 180, 0, 148]
abbrev dktX5_launch_0 : List UInt8 := dkwX5_launch_0 ++ dktX5_launch_1
theorem dksX5_launch_0 : cX5_launch.data.toList.drop 0 = dktX5_launch_0 := by decide +kernel
theorem dksX5_launch_1 : cX5_launch.data.toList.drop 23 = dktX5_launch_1 := dk_seg dksX5_launch_0 23 rfl rfl
theorem dksX5_launch_2 : cX5_launch.data.toList.drop 47 = dktX5_launch_2 := dk_seg dksX5_launch_1 24 rfl rfl
theorem dX5_launch_0 : decode cX5_launch 0 = .ok (.aload_n 0, 1) := dk_42 (dk_at dksX5_launch_0 0 rfl rfl)
theorem dX5_launch_1 : decode cX5_launch 1 = .ok (.invokevirtual 145, 3) := dk_182 0 145 (dk_at dksX5_launch_0 1 rfl rfl)
theorem dX5_launch_4 : decode cX5_launch 4 = .ok (.istore_n 1, 1) := dk_60 (dk_at dksX5_launch_0 4 rfl rfl)
theorem dX5_launch_5 : decode cX5_launch 5 = .ok (.aload_n 0, 1) := dk_42 (dk_at dksX5_launch_0 5 rfl rfl)
theorem dX5_launch_6 : decode cX5_launch 6 = .ok (.aload_n 0, 1) := dk_42 (dk_at dksX5_launch_0 6 rfl rfl)
theorem dX5_launch_7 : decode cX5_launch 7 = .ok (.getfield 55, 3) := dk_180 0 55 (dk_at dksX5_launch_0 7 rfl rfl)
theorem dX5_launch_10 : decode cX5_launch 10 = .ok (.ifCond .ne 20, 3) := dk_154 0 20 (dk_at dksX5_launch_0 10 rfl rfl)
theorem dX5_launch_13 : decode cX5_launch 13 = .ok (.iload_n 1, 1) := dk_27 (dk_at dksX5_launch_0 13 rfl rfl)
theorem dX5_launch_14 : decode cX5_launch 14 = .ok (.iconst (-1), 1) := dk_2 (dk_at dksX5_launch_0 14 rfl rfl)
theorem dX5_launch_15 : decode cX5_launch 15 = .ok (.if_icmp .eq 15, 3) := dk_159 0 15 (dk_at dksX5_launch_0 15 rfl rfl)
theorem dX5_launch_18 : decode cX5_launch 18 = .ok (.aload_n 0, 1) := dk_42 (dk_at dksX5_launch_0 18 rfl rfl)
theorem dX5_launch_19 : decode cX5_launch 19 = .ok (.aload_n 0, 1) := dk_42 (dk_at dksX5_launch_0 19 rfl rfl)
theorem dX5_launch_20 : decode cX5_launch 20 = .ok (.getfield 148, 3) := dk_180 0 148 (dk_at dksX5_launch_0 20 rfl rfl)
theorem dX5_launch_23 : decode cX5_launch 23 = .ok (.invokevirtual 139, 3) := dk_182 0 139 (dk_at dksX5_launch_1 0 rfl rfl)
theorem dX5_launch_26 : decode cX5_launch 26 = .ok (.iload_n 1, 1) := dk_27 (dk_at dksX5_launch_1 3 rfl rfl)
theorem dX5_launch_27 : decode cX5_launch 27 = .ok (.if_icmp .ge 7, 3) := dk_162 0 7 (dk_at dksX5_launch_1 4 rfl rfl)
theorem dX5_launch_30 : decode cX5_launch 30 = .ok (.iconst 1, 1) := dk_4 (dk_at dksX5_launch_1 7 rfl rfl)
theorem dX5_launch_31 : decode cX5_launch 31 = .ok (.goto 4, 3) := dk_167 0 4 (dk_at dksX5_launch_1 8 rfl rfl)
theorem dX5_launch_34 : decode cX5_launch 34 = .ok (.iconst 0, 1) := dk_3 (dk_at dksX5_launch_1 11 rfl rfl)
theorem dX5_launch_35 : decode cX5_launch 35 = .ok (.putfield 41, 3) := dk_181 0 41 (dk_at dksX5_launch_1 12 rfl rfl)
theorem dX5_launch_38 : decode cX5_launch 38 = .ok (.aload_n 0, 1) := dk_42 (dk_at dksX5_launch_1 15 rfl rfl)
theorem dX5_launch_39 : decode cX5_launch 39 = .ok (.getfield 41, 3) := dk_180 0 41 (dk_at dksX5_launch_1 16 rfl rfl)
theorem dX5_launch_42 : decode cX5_launch 42 = .ok (.ifCond .le 5, 3) := dk_158 0 5 (dk_at dksX5_launch_1 19 rfl rfl)
theorem dX5_launch_45 : decode cX5_launch 45 = .ok (.iconst 0, 1) := dk_3 (dk_at dksX5_launch_1 22 rfl rfl)
theorem dX5_launch_46 : decode cX5_launch 46 = .ok (.ireturn, 1) := dk_172 (dk_at dksX5_launch_1 23 rfl rfl)
theorem dX5_launch_47 : decode cX5_launch 47 = .ok (.aload_n 0, 1) := dk_42 (dk_at dksX5_launch_2 0 rfl rfl)
theorem dX5_launch_48 : decode cX5_launch 48 = .ok (.iconst 1, 1) := dk_4 (dk_at dksX5_launch_2 1 rfl rfl)
theorem dX5_launch_49 : decode cX5_launch 49 = .ok (.putfield 55, 3) := dk_181 0 55 (dk_at dksX5_launch_2 2 rfl rfl)
theorem dX5_launch_52 : decode cX5_launch 52 = .ok (.aload_n 0, 1) := dk_42 (dk_at dksX5_launch_2 5 rfl rfl)
theorem dX5_launch_53 : decode cX5_launch 53 = .ok (.aload_n 0, 1) := dk_42 (dk_at dksX5_launch_2 6 rfl rfl)
theorem dX5_launch_54 : decode cX5_launch 54 = .ok (.getfield 148, 3) := dk_180 0 148 (dk_at dksX5_launch_2 7 rfl rfl)
theorem dX5_launch_57 : decode cX5_launch 57 = .ok (.invokevirtual 139, 3) := dk_182 0 139 (dk_at dksX5_launch_2 10 rfl rfl)
theorem dX5_launch_60 : decode cX5_launch 60 = .ok (.iload_n 1, 1) := dk_27 (dk_at dksX5_launch_2 13 rfl rfl)
theorem dX5_launch_61 : decode cX5_launch 61 = .ok (.isub, 1) := dk_100 (dk_at dksX5_launch_2 14 rfl rfl)
theorem dX5_launch_62 : decode cX5_launch 62 = .ok (.ireturn, 1) := dk_172 (dk_at dksX5_launch_2 15 rfl rfl)
abbrev cX5_pass : ByteArray := prog_13_method_49_code
def yX5_pass : MethodName := ⟨RX5, "pass", "(I)I"⟩
def dkwX5_pass_2 : List UInt8 := [180, 0, 148, 27, 96, 181, 0, 148, 42, 180, 0, 148, 172]
abbrev dktX5_pass_2 : List UInt8 := dkwX5_pass_2 ++ []
def dkwX5_pass_1 : List UInt8 := [164, 0, 7, 5, 167, 0, 4, 3, 181, 0, 41, 42, 180, 0, 41, 158, 0, 5, 3, 172, 42, 89]
abbrev dktX5_pass_1 : List UInt8 := dkwX5_pass_1 ++ dktX5_pass_2
def dkwX5_pass_0 : List UInt8 := [42, 27, 4, 16, 99, 184, 0, 44, 154, 0, 7, 4, 167, 0, 20, 42, 180, 0, 148, 27, 96, 17, 35, 40]
abbrev dktX5_pass_0 : List UInt8 := dkwX5_pass_0 ++ dktX5_pass_1
theorem dksX5_pass_0 : cX5_pass.data.toList.drop 0 = dktX5_pass_0 := by decide +kernel
theorem dksX5_pass_1 : cX5_pass.data.toList.drop 24 = dktX5_pass_1 := dk_seg dksX5_pass_0 24 rfl rfl
theorem dksX5_pass_2 : cX5_pass.data.toList.drop 46 = dktX5_pass_2 := dk_seg dksX5_pass_1 22 rfl rfl
theorem dX5_pass_0 : decode cX5_pass 0 = .ok (.aload_n 0, 1) := dk_42 (dk_at dksX5_pass_0 0 rfl rfl)
theorem dX5_pass_1 : decode cX5_pass 1 = .ok (.iload_n 1, 1) := dk_27 (dk_at dksX5_pass_0 1 rfl rfl)
theorem dX5_pass_2 : decode cX5_pass 2 = .ok (.iconst 1, 1) := dk_4 (dk_at dksX5_pass_0 2 rfl rfl)
theorem dX5_pass_3 : decode cX5_pass 3 = .ok (.bipush 99, 2) := dk_16 99 (dk_at dksX5_pass_0 3 rfl rfl)
theorem dX5_pass_5 : decode cX5_pass 5 = .ok (.invokestatic 44, 3) := dk_184 0 44 (dk_at dksX5_pass_0 5 rfl rfl)
theorem dX5_pass_8 : decode cX5_pass 8 = .ok (.ifCond .ne 7, 3) := dk_154 0 7 (dk_at dksX5_pass_0 8 rfl rfl)
theorem dX5_pass_11 : decode cX5_pass 11 = .ok (.iconst 1, 1) := dk_4 (dk_at dksX5_pass_0 11 rfl rfl)
theorem dX5_pass_12 : decode cX5_pass 12 = .ok (.goto 20, 3) := dk_167 0 20 (dk_at dksX5_pass_0 12 rfl rfl)
theorem dX5_pass_15 : decode cX5_pass 15 = .ok (.aload_n 0, 1) := dk_42 (dk_at dksX5_pass_0 15 rfl rfl)
theorem dX5_pass_16 : decode cX5_pass 16 = .ok (.getfield 148, 3) := dk_180 0 148 (dk_at dksX5_pass_0 16 rfl rfl)
theorem dX5_pass_19 : decode cX5_pass 19 = .ok (.iload_n 1, 1) := dk_27 (dk_at dksX5_pass_0 19 rfl rfl)
theorem dX5_pass_20 : decode cX5_pass 20 = .ok (.iadd, 1) := dk_96 (dk_at dksX5_pass_0 20 rfl rfl)
theorem dX5_pass_21 : decode cX5_pass 21 = .ok (.sipush 9000, 3) := dk_17 35 40 (dk_at dksX5_pass_0 21 rfl rfl)
theorem dX5_pass_24 : decode cX5_pass 24 = .ok (.if_icmp .le 7, 3) := dk_164 0 7 (dk_at dksX5_pass_1 0 rfl rfl)
theorem dX5_pass_27 : decode cX5_pass 27 = .ok (.iconst 2, 1) := dk_5 (dk_at dksX5_pass_1 3 rfl rfl)
theorem dX5_pass_28 : decode cX5_pass 28 = .ok (.goto 4, 3) := dk_167 0 4 (dk_at dksX5_pass_1 4 rfl rfl)
theorem dX5_pass_31 : decode cX5_pass 31 = .ok (.iconst 0, 1) := dk_3 (dk_at dksX5_pass_1 7 rfl rfl)
theorem dX5_pass_32 : decode cX5_pass 32 = .ok (.putfield 41, 3) := dk_181 0 41 (dk_at dksX5_pass_1 8 rfl rfl)
theorem dX5_pass_35 : decode cX5_pass 35 = .ok (.aload_n 0, 1) := dk_42 (dk_at dksX5_pass_1 11 rfl rfl)
theorem dX5_pass_36 : decode cX5_pass 36 = .ok (.getfield 41, 3) := dk_180 0 41 (dk_at dksX5_pass_1 12 rfl rfl)
theorem dX5_pass_39 : decode cX5_pass 39 = .ok (.ifCond .le 5, 3) := dk_158 0 5 (dk_at dksX5_pass_1 15 rfl rfl)
theorem dX5_pass_42 : decode cX5_pass 42 = .ok (.iconst 0, 1) := dk_3 (dk_at dksX5_pass_1 18 rfl rfl)
theorem dX5_pass_43 : decode cX5_pass 43 = .ok (.ireturn, 1) := dk_172 (dk_at dksX5_pass_1 19 rfl rfl)
theorem dX5_pass_44 : decode cX5_pass 44 = .ok (.aload_n 0, 1) := dk_42 (dk_at dksX5_pass_1 20 rfl rfl)
theorem dX5_pass_45 : decode cX5_pass 45 = .ok (.dup, 1) := dk_89 (dk_at dksX5_pass_1 21 rfl rfl)
theorem dX5_pass_46 : decode cX5_pass 46 = .ok (.getfield 148, 3) := dk_180 0 148 (dk_at dksX5_pass_2 0 rfl rfl)
theorem dX5_pass_49 : decode cX5_pass 49 = .ok (.iload_n 1, 1) := dk_27 (dk_at dksX5_pass_2 3 rfl rfl)
theorem dX5_pass_50 : decode cX5_pass 50 = .ok (.iadd, 1) := dk_96 (dk_at dksX5_pass_2 4 rfl rfl)
theorem dX5_pass_51 : decode cX5_pass 51 = .ok (.putfield 148, 3) := dk_181 0 148 (dk_at dksX5_pass_2 5 rfl rfl)
theorem dX5_pass_54 : decode cX5_pass 54 = .ok (.aload_n 0, 1) := dk_42 (dk_at dksX5_pass_2 8 rfl rfl)
theorem dX5_pass_55 : decode cX5_pass 55 = .ok (.getfield 148, 3) := dk_180 0 148 (dk_at dksX5_pass_2 9 rfl rfl)
theorem dX5_pass_58 : decode cX5_pass 58 = .ok (.ireturn, 1) := dk_172 (dk_at dksX5_pass_2 12 rfl rfl)
theorem q38 : (Jvm.Cond.initialized "FairBattenModel") ∈ lw_all := lw_g (lw_at lw_m1 7 rfl) rfl
theorem q346 : (Jvm.Cond.selects "FairBattenModel" ({ cls := "java/lang/Object", name := "hashCode", desc := "()I" } : Jvm.MethodName) ({ cls := "java/lang/Object", name := "hashCode", desc := "()I" } : Jvm.MethodName)) ∈ lw_all := lw_g (lw_at lw_m2 75 rfl) rfl
theorem q370 : (Jvm.Cond.selects "FairBattenModel" ({ cls := "java/lang/Object", name := "equals", desc := "(Ljava/lang/Object;)Z" } : Jvm.MethodName) ({ cls := "java/lang/Object", name := "equals", desc := "(Ljava/lang/Object;)Z" } : Jvm.MethodName)) ∈ lw_all := lw_g (lw_at lw_m2 99 rfl) rfl
theorem q412 : (Jvm.Cond.selects "FairBattenModel" ({ cls := "java/lang/Object", name := "getClass", desc := "()Ljava/lang/Class;" } : Jvm.MethodName) ({ cls := "java/lang/Object", name := "getClass", desc := "()Ljava/lang/Class;" } : Jvm.MethodName)) ∈ lw_all := lw_g (lw_at lw_m2 141 rfl) rfl
theorem q972 : (Jvm.Cond.instantiable "FairBattenModel" (16 : Nat)) ∈ lw_all := lw_g (lw_at lw_m4 221 rfl) rfl
theorem q974 : (Jvm.Cond.instanceMethod ({ cls := "FairBattenModel", name := "<init>", desc := "()V" } : Jvm.MethodName)) ∈ lw_all := lw_g (lw_at lw_m4 223 rfl) rfl
theorem q975 : (Jvm.Cond.code ({ cls := "FairBattenModel", name := "<init>", desc := "()V" } : Jvm.MethodName) prog_13_method_1_code (1 : Nat) (Option.none : Option Jvm.ClassFile.FieldType)) ∈ lw_all := lw_g (lw_at lw_m4 224 rfl) rfl
theorem q976 : (Jvm.Cond.methodLink "FairBattenModel" (1 : Nat) ({ cls := "java/lang/Object", name := "<init>", desc := "()V" } : Jvm.MethodName)) ∈ lw_all := lw_g (lw_at lw_m4 225 rfl) rfl
theorem q977 : (Jvm.Cond.fieldLink "FairBattenModel" (41 : Nat) "FairBattenModel" "thrown" "I") ∈ lw_all := lw_g (lw_at lw_m4 226 rfl) rfl
theorem q978 : (Jvm.Cond.fieldLink "FairBattenModel" (7 : Nat) "FairBattenModel" "half" "[I") ∈ lw_all := lw_g (lw_at lw_m4 227 rfl) rfl
theorem q979 : (Jvm.Cond.fieldLink "FairBattenModel" (105 : Nat) "FairBattenModel" "weights" "I") ∈ lw_all := lw_g (lw_at lw_m4 228 rfl) rfl
theorem q980 : (Jvm.Cond.fieldLink "FairBattenModel" (13 : Nat) "FairBattenModel" "at" "[I") ∈ lw_all := lw_g (lw_at lw_m4 229 rfl) rfl
theorem q981 : (Jvm.Cond.fieldLink "FairBattenModel" (16 : Nat) "FairBattenModel" "weight" "[I") ∈ lw_all := lw_g (lw_at lw_m4 230 rfl) rfl
theorem q982 : (Jvm.Cond.fieldLink "FairBattenModel" (19 : Nat) "FairBattenModel" "length" "I") ∈ lw_all := lw_g (lw_at lw_m4 231 rfl) rfl
theorem q983 : (Jvm.Cond.fieldLink "FairBattenModel" (23 : Nat) "FairBattenModel" "left" "[I") ∈ lw_all := lw_g (lw_at lw_m4 232 rfl) rfl
theorem q984 : (Jvm.Cond.fieldLink "FairBattenModel" (26 : Nat) "FairBattenModel" "cutFrom" "[I") ∈ lw_all := lw_g (lw_at lw_m4 233 rfl) rfl
theorem q985 : (Jvm.Cond.fieldLink "FairBattenModel" (136 : Nat) "FairBattenModel" "tides" "I") ∈ lw_all := lw_g (lw_at lw_m4 234 rfl) rfl
theorem q986 : (Jvm.Cond.fieldLink "FairBattenModel" (29 : Nat) "FairBattenModel" "tideDay" "[I") ∈ lw_all := lw_g (lw_at lw_m4 235 rfl) rfl
theorem q987 : (Jvm.Cond.fieldLink "FairBattenModel" (32 : Nat) "FairBattenModel" "tide" "[I") ∈ lw_all := lw_g (lw_at lw_m4 236 rfl) rfl
theorem q988 : (Jvm.Cond.fieldLink "FairBattenModel" (142 : Nat) "FairBattenModel" "sill" "I") ∈ lw_all := lw_g (lw_at lw_m4 237 rfl) rfl
theorem q989 : (Jvm.Cond.fieldLink "FairBattenModel" (148 : Nat) "FairBattenModel" "today" "I") ∈ lw_all := lw_g (lw_at lw_m4 238 rfl) rfl
theorem q990 : (Jvm.Cond.fieldLink "FairBattenModel" (55 : Nat) "FairBattenModel" "isLaunched" "Z") ∈ lw_all := lw_g (lw_at lw_m4 239 rfl) rfl
theorem q991 : (Jvm.Cond.fieldLink "FairBattenModel" (35 : Nat) "FairBattenModel" "behind" "[I") ∈ lw_all := lw_g (lw_at lw_m5 0 rfl) rfl
theorem q992 : (Jvm.Cond.fieldLink "FairBattenModel" (38 : Nat) "FairBattenModel" "line" "[I") ∈ lw_all := lw_g (lw_at lw_m5 1 rfl) rfl
theorem q993 : (Jvm.Cond.lays "FairBattenModel" "FairBattenModel" "thrown" "I") ∈ lw_all := lw_g (lw_at lw_m5 2 rfl) rfl
theorem q994 : (Jvm.Cond.soleField "FairBattenModel" "thrown") ∈ lw_all := lw_g (lw_at lw_m5 3 rfl) rfl
theorem q995 : (Jvm.Cond.laysFinal "FairBattenModel" "FairBattenModel" "half" "[I") ∈ lw_all := lw_g (lw_at lw_m5 4 rfl) rfl
theorem q996 : (Jvm.Cond.soleField "FairBattenModel" "half") ∈ lw_all := lw_g (lw_at lw_m5 5 rfl) rfl
theorem q997 : (Jvm.Cond.lays "FairBattenModel" "FairBattenModel" "weights" "I") ∈ lw_all := lw_g (lw_at lw_m5 6 rfl) rfl
theorem q998 : (Jvm.Cond.soleField "FairBattenModel" "weights") ∈ lw_all := lw_g (lw_at lw_m5 7 rfl) rfl
theorem q999 : (Jvm.Cond.laysFinal "FairBattenModel" "FairBattenModel" "at" "[I") ∈ lw_all := lw_g (lw_at lw_m5 8 rfl) rfl
theorem q1000 : (Jvm.Cond.soleField "FairBattenModel" "at") ∈ lw_all := lw_g (lw_at lw_m5 9 rfl) rfl
theorem q1001 : (Jvm.Cond.laysFinal "FairBattenModel" "FairBattenModel" "weight" "[I") ∈ lw_all := lw_g (lw_at lw_m5 10 rfl) rfl
theorem q1002 : (Jvm.Cond.soleField "FairBattenModel" "weight") ∈ lw_all := lw_g (lw_at lw_m5 11 rfl) rfl
theorem q1003 : (Jvm.Cond.lays "FairBattenModel" "FairBattenModel" "length" "I") ∈ lw_all := lw_g (lw_at lw_m5 12 rfl) rfl
theorem q1004 : (Jvm.Cond.soleField "FairBattenModel" "length") ∈ lw_all := lw_g (lw_at lw_m5 13 rfl) rfl
theorem q1005 : (Jvm.Cond.laysFinal "FairBattenModel" "FairBattenModel" "left" "[I") ∈ lw_all := lw_g (lw_at lw_m5 14 rfl) rfl
theorem q1006 : (Jvm.Cond.soleField "FairBattenModel" "left") ∈ lw_all := lw_g (lw_at lw_m5 15 rfl) rfl
theorem q1007 : (Jvm.Cond.laysFinal "FairBattenModel" "FairBattenModel" "cutFrom" "[I") ∈ lw_all := lw_g (lw_at lw_m5 16 rfl) rfl
theorem q1008 : (Jvm.Cond.soleField "FairBattenModel" "cutFrom") ∈ lw_all := lw_g (lw_at lw_m5 17 rfl) rfl
theorem q1009 : (Jvm.Cond.lays "FairBattenModel" "FairBattenModel" "tides" "I") ∈ lw_all := lw_g (lw_at lw_m5 18 rfl) rfl
theorem q1010 : (Jvm.Cond.soleField "FairBattenModel" "tides") ∈ lw_all := lw_g (lw_at lw_m5 19 rfl) rfl
theorem q1011 : (Jvm.Cond.laysFinal "FairBattenModel" "FairBattenModel" "tideDay" "[I") ∈ lw_all := lw_g (lw_at lw_m5 20 rfl) rfl
theorem q1012 : (Jvm.Cond.soleField "FairBattenModel" "tideDay") ∈ lw_all := lw_g (lw_at lw_m5 21 rfl) rfl
theorem q1013 : (Jvm.Cond.laysFinal "FairBattenModel" "FairBattenModel" "tide" "[I") ∈ lw_all := lw_g (lw_at lw_m5 22 rfl) rfl
theorem q1014 : (Jvm.Cond.soleField "FairBattenModel" "tide") ∈ lw_all := lw_g (lw_at lw_m5 23 rfl) rfl
theorem q1015 : (Jvm.Cond.lays "FairBattenModel" "FairBattenModel" "sill" "I") ∈ lw_all := lw_g (lw_at lw_m5 24 rfl) rfl
theorem q1016 : (Jvm.Cond.soleField "FairBattenModel" "sill") ∈ lw_all := lw_g (lw_at lw_m5 25 rfl) rfl
theorem q1017 : (Jvm.Cond.lays "FairBattenModel" "FairBattenModel" "today" "I") ∈ lw_all := lw_g (lw_at lw_m5 26 rfl) rfl
theorem q1018 : (Jvm.Cond.soleField "FairBattenModel" "today") ∈ lw_all := lw_g (lw_at lw_m5 27 rfl) rfl
theorem q1019 : (Jvm.Cond.lays "FairBattenModel" "FairBattenModel" "isLaunched" "Z") ∈ lw_all := lw_g (lw_at lw_m5 28 rfl) rfl
theorem q1020 : (Jvm.Cond.soleField "FairBattenModel" "isLaunched") ∈ lw_all := lw_g (lw_at lw_m5 29 rfl) rfl
theorem q1021 : (Jvm.Cond.laysFinal "FairBattenModel" "FairBattenModel" "behind" "[I") ∈ lw_all := lw_g (lw_at lw_m5 30 rfl) rfl
theorem q1022 : (Jvm.Cond.soleField "FairBattenModel" "behind") ∈ lw_all := lw_g (lw_at lw_m5 31 rfl) rfl
theorem q1023 : (Jvm.Cond.laysFinal "FairBattenModel" "FairBattenModel" "line" "[I") ∈ lw_all := lw_g (lw_at lw_m5 32 rfl) rfl
theorem q1024 : (Jvm.Cond.soleField "FairBattenModel" "line") ∈ lw_all := lw_g (lw_at lw_m5 33 rfl) rfl
theorem q1025 : (Jvm.Cond.superclass "FairBattenModel" "java/lang/Object") ∈ lw_all := lw_g (lw_at lw_m5 34 rfl) rfl
theorem q1027 : (Jvm.Cond.instanceMethod ({ cls := "FairBattenModel", name := "thrown", desc := "()I" } : Jvm.MethodName)) ∈ lw_all := lw_g (lw_at lw_m5 36 rfl) rfl
theorem q1028 : (Jvm.Cond.selects "FairBattenModel" ({ cls := "FairBattenModel", name := "thrown", desc := "()I" } : Jvm.MethodName) ({ cls := "FairBattenModel", name := "thrown", desc := "()I" } : Jvm.MethodName)) ∈ lw_all := lw_g (lw_at lw_m5 37 rfl) rfl
theorem q1029 : (Jvm.Cond.code ({ cls := "FairBattenModel", name := "thrown", desc := "()I" } : Jvm.MethodName) prog_13_method_2_code (1 : Nat) (Option.some Jvm.ClassFile.FieldType.int)) ∈ lw_all := lw_g (lw_at lw_m5 38 rfl) rfl
theorem q1031 : (Jvm.Cond.instanceMethod ({ cls := "FairBattenModel", name := "offset", desc := "(III)I" } : Jvm.MethodName)) ∈ lw_all := lw_g (lw_at lw_m5 40 rfl) rfl
theorem q1032 : (Jvm.Cond.selects "FairBattenModel" ({ cls := "FairBattenModel", name := "offset", desc := "(III)I" } : Jvm.MethodName) ({ cls := "FairBattenModel", name := "offset", desc := "(III)I" } : Jvm.MethodName)) ∈ lw_all := lw_g (lw_at lw_m5 41 rfl) rfl
theorem q1033 : (Jvm.Cond.code ({ cls := "FairBattenModel", name := "offset", desc := "(III)I" } : Jvm.MethodName) prog_13_method_8_code (5 : Nat) (Option.some Jvm.ClassFile.FieldType.int)) ∈ lw_all := lw_g (lw_at lw_m5 42 rfl) rfl
theorem q1034 : (Jvm.Cond.methodLink "FairBattenModel" (48 : Nat) ({ cls := "FairBattenModel", name := "isStation", desc := "(I)Z" } : Jvm.MethodName)) ∈ lw_all := lw_g (lw_at lw_m5 43 rfl) rfl
theorem q1035 : (Jvm.Cond.static ({ cls := "FairBattenModel", name := "isStation", desc := "(I)Z" } : Jvm.MethodName)) ∈ lw_all := lw_g (lw_at lw_m5 44 rfl) rfl
theorem q1036 : (Jvm.Cond.code ({ cls := "FairBattenModel", name := "isStation", desc := "(I)Z" } : Jvm.MethodName) prog_13_method_4_code (1 : Nat) (Option.some Jvm.ClassFile.FieldType.boolean)) ∈ lw_all := lw_g (lw_at lw_m5 45 rfl) rfl
theorem q1037 : (Jvm.Cond.methodLink "FairBattenModel" (44 : Nat) ({ cls := "FairBattenModel", name := "in", desc := "(III)Z" } : Jvm.MethodName)) ∈ lw_all := lw_g (lw_at lw_m5 46 rfl) rfl
theorem q1038 : (Jvm.Cond.static ({ cls := "FairBattenModel", name := "in", desc := "(III)Z" } : Jvm.MethodName)) ∈ lw_all := lw_g (lw_at lw_m5 47 rfl) rfl
theorem q1039 : (Jvm.Cond.code ({ cls := "FairBattenModel", name := "in", desc := "(III)Z" } : Jvm.MethodName) prog_13_method_3_code (3 : Nat) (Option.some Jvm.ClassFile.FieldType.boolean)) ∈ lw_all := lw_g (lw_at lw_m5 48 rfl) rfl
theorem q1040 : (Jvm.Cond.methodLink "FairBattenModel" (52 : Nat) ({ cls := "FairBattenModel", name := "isWaterline", desc := "(I)Z" } : Jvm.MethodName)) ∈ lw_all := lw_g (lw_at lw_m5 49 rfl) rfl
theorem q1041 : (Jvm.Cond.static ({ cls := "FairBattenModel", name := "isWaterline", desc := "(I)Z" } : Jvm.MethodName)) ∈ lw_all := lw_g (lw_at lw_m5 50 rfl) rfl
theorem q1042 : (Jvm.Cond.code ({ cls := "FairBattenModel", name := "isWaterline", desc := "(I)Z" } : Jvm.MethodName) prog_13_method_5_code (1 : Nat) (Option.some Jvm.ClassFile.FieldType.boolean)) ∈ lw_all := lw_g (lw_at lw_m5 51 rfl) rfl
theorem q1043 : (Jvm.Cond.methodLink "FairBattenModel" (59 : Nat) ({ cls := "FairBattenModel", name := "halfAt", desc := "(II)I" } : Jvm.MethodName)) ∈ lw_all := lw_g (lw_at lw_m5 52 rfl) rfl
theorem q1044 : (Jvm.Cond.privateMethod ({ cls := "FairBattenModel", name := "halfAt", desc := "(II)I" } : Jvm.MethodName)) ∈ lw_tbl := lw_at lw_m5 53 rfl
theorem q1045 : (Jvm.Cond.instanceMethod ({ cls := "FairBattenModel", name := "halfAt", desc := "(II)I" } : Jvm.MethodName)) ∈ lw_all := lw_g (lw_at lw_m5 54 rfl) rfl
theorem q1046 : (Jvm.Cond.code ({ cls := "FairBattenModel", name := "halfAt", desc := "(II)I" } : Jvm.MethodName) prog_13_method_7_code (3 : Nat) (Option.some Jvm.ClassFile.FieldType.int)) ∈ lw_all := lw_g (lw_at lw_m5 55 rfl) rfl
theorem q1048 : (Jvm.Cond.instanceMethod ({ cls := "FairBattenModel", name := "half", desc := "(II)I" } : Jvm.MethodName)) ∈ lw_all := lw_g (lw_at lw_m5 57 rfl) rfl
theorem q1049 : (Jvm.Cond.selects "FairBattenModel" ({ cls := "FairBattenModel", name := "half", desc := "(II)I" } : Jvm.MethodName) ({ cls := "FairBattenModel", name := "half", desc := "(II)I" } : Jvm.MethodName)) ∈ lw_all := lw_g (lw_at lw_m5 58 rfl) rfl
theorem q1050 : (Jvm.Cond.code ({ cls := "FairBattenModel", name := "half", desc := "(II)I" } : Jvm.MethodName) prog_13_method_9_code (3 : Nat) (Option.some Jvm.ClassFile.FieldType.int)) ∈ lw_all := lw_g (lw_at lw_m5 59 rfl) rfl
theorem q1052 : (Jvm.Cond.instanceMethod ({ cls := "FairBattenModel", name := "bend", desc := "(I)I" } : Jvm.MethodName)) ∈ lw_all := lw_g (lw_at lw_m5 61 rfl) rfl
theorem q1053 : (Jvm.Cond.selects "FairBattenModel" ({ cls := "FairBattenModel", name := "bend", desc := "(I)I" } : Jvm.MethodName) ({ cls := "FairBattenModel", name := "bend", desc := "(I)I" } : Jvm.MethodName)) ∈ lw_all := lw_g (lw_at lw_m5 62 rfl) rfl
theorem q1054 : (Jvm.Cond.code ({ cls := "FairBattenModel", name := "bend", desc := "(I)I" } : Jvm.MethodName) prog_13_method_12_code (2 : Nat) (Option.some Jvm.ClassFile.FieldType.int)) ∈ lw_all := lw_g (lw_at lw_m5 63 rfl) rfl
theorem q1055 : (Jvm.Cond.methodLink "FairBattenModel" (67 : Nat) ({ cls := "FairBattenModel", name := "bendOf", desc := "(I)I" } : Jvm.MethodName)) ∈ lw_all := lw_g (lw_at lw_m5 64 rfl) rfl
theorem q1056 : (Jvm.Cond.privateMethod ({ cls := "FairBattenModel", name := "bendOf", desc := "(I)I" } : Jvm.MethodName)) ∈ lw_tbl := lw_at lw_m5 65 rfl
theorem q1057 : (Jvm.Cond.instanceMethod ({ cls := "FairBattenModel", name := "bendOf", desc := "(I)I" } : Jvm.MethodName)) ∈ lw_all := lw_g (lw_at lw_m5 66 rfl) rfl
theorem q1058 : (Jvm.Cond.code ({ cls := "FairBattenModel", name := "bendOf", desc := "(I)I" } : Jvm.MethodName) prog_13_method_11_code (4 : Nat) (Option.some Jvm.ClassFile.FieldType.int)) ∈ lw_all := lw_g (lw_at lw_m5 67 rfl) rfl
theorem q1059 : (Jvm.Cond.methodLink "FairBattenModel" (63 : Nat) ({ cls := "FairBattenModel", name := "square", desc := "(I)I" } : Jvm.MethodName)) ∈ lw_all := lw_g (lw_at lw_m5 68 rfl) rfl
theorem q1060 : (Jvm.Cond.static ({ cls := "FairBattenModel", name := "square", desc := "(I)I" } : Jvm.MethodName)) ∈ lw_all := lw_g (lw_at lw_m5 69 rfl) rfl
theorem q1061 : (Jvm.Cond.code ({ cls := "FairBattenModel", name := "square", desc := "(I)I" } : Jvm.MethodName) prog_13_method_10_code (1 : Nat) (Option.some Jvm.ClassFile.FieldType.int)) ∈ lw_all := lw_g (lw_at lw_m5 70 rfl) rfl
theorem q1063 : (Jvm.Cond.instanceMethod ({ cls := "FairBattenModel", name := "fair", desc := "(II)I" } : Jvm.MethodName)) ∈ lw_all := lw_g (lw_at lw_m5 72 rfl) rfl
theorem q1064 : (Jvm.Cond.selects "FairBattenModel" ({ cls := "FairBattenModel", name := "fair", desc := "(II)I" } : Jvm.MethodName) ({ cls := "FairBattenModel", name := "fair", desc := "(II)I" } : Jvm.MethodName)) ∈ lw_all := lw_g (lw_at lw_m5 73 rfl) rfl
theorem q1065 : (Jvm.Cond.code ({ cls := "FairBattenModel", name := "fair", desc := "(II)I" } : Jvm.MethodName) prog_13_method_19_code (5 : Nat) (Option.some Jvm.ClassFile.FieldType.int)) ∈ lw_all := lw_g (lw_at lw_m5 74 rfl) rfl
theorem q1066 : (Jvm.Cond.methodLink "FairBattenModel" (89 : Nat) ({ cls := "FairBattenModel", name := "findsBehind", desc := "(II)V" } : Jvm.MethodName)) ∈ lw_all := lw_g (lw_at lw_m5 75 rfl) rfl
theorem q1067 : (Jvm.Cond.privateMethod ({ cls := "FairBattenModel", name := "findsBehind", desc := "(II)V" } : Jvm.MethodName)) ∈ lw_tbl := lw_at lw_m5 76 rfl
theorem q1068 : (Jvm.Cond.instanceMethod ({ cls := "FairBattenModel", name := "findsBehind", desc := "(II)V" } : Jvm.MethodName)) ∈ lw_all := lw_g (lw_at lw_m5 77 rfl) rfl
theorem q1069 : (Jvm.Cond.code ({ cls := "FairBattenModel", name := "findsBehind", desc := "(II)V" } : Jvm.MethodName) prog_13_method_17_code (5 : Nat) (Option.none : Option Jvm.ClassFile.FieldType)) ∈ lw_all := lw_g (lw_at lw_m5 78 rfl) rfl
theorem q1070 : (Jvm.Cond.methodLink "FairBattenModel" (73 : Nat) ({ cls := "FairBattenModel", name := "place", desc := "(III)I" } : Jvm.MethodName)) ∈ lw_all := lw_g (lw_at lw_m5 79 rfl) rfl
theorem q1071 : (Jvm.Cond.static ({ cls := "FairBattenModel", name := "place", desc := "(III)I" } : Jvm.MethodName)) ∈ lw_all := lw_g (lw_at lw_m5 80 rfl) rfl
theorem q1072 : (Jvm.Cond.code ({ cls := "FairBattenModel", name := "place", desc := "(III)I" } : Jvm.MethodName) prog_13_method_13_code (3 : Nat) (Option.some Jvm.ClassFile.FieldType.int)) ∈ lw_all := lw_g (lw_at lw_m5 81 rfl) rfl
theorem q1073 : (Jvm.Cond.methodLink "FairBattenModel" (86 : Nat) ({ cls := "FairBattenModel", name := "leastBy", desc := "(IIIII)I" } : Jvm.MethodName)) ∈ lw_all := lw_g (lw_at lw_m5 82 rfl) rfl
theorem q1074 : (Jvm.Cond.privateMethod ({ cls := "FairBattenModel", name := "leastBy", desc := "(IIIII)I" } : Jvm.MethodName)) ∈ lw_tbl := lw_at lw_m5 83 rfl
theorem q1075 : (Jvm.Cond.instanceMethod ({ cls := "FairBattenModel", name := "leastBy", desc := "(IIIII)I" } : Jvm.MethodName)) ∈ lw_all := lw_g (lw_at lw_m5 84 rfl) rfl
theorem q1076 : (Jvm.Cond.code ({ cls := "FairBattenModel", name := "leastBy", desc := "(IIIII)I" } : Jvm.MethodName) prog_13_method_16_code (9 : Nat) (Option.some Jvm.ClassFile.FieldType.int)) ∈ lw_all := lw_g (lw_at lw_m5 85 rfl) rfl
theorem q1077 : (Jvm.Cond.constant "FairBattenModel" (77 : Nat) (100000000 : Int32)) ∈ lw_all := lw_g (lw_at lw_m5 86 rfl) rfl
theorem q1078 : (Jvm.Cond.methodLink "FairBattenModel" (78 : Nat) ({ cls := "FairBattenModel", name := "may", desc := "(IIII)Z" } : Jvm.MethodName)) ∈ lw_all := lw_g (lw_at lw_m5 87 rfl) rfl
theorem q1079 : (Jvm.Cond.privateMethod ({ cls := "FairBattenModel", name := "may", desc := "(IIII)Z" } : Jvm.MethodName)) ∈ lw_tbl := lw_at lw_m5 88 rfl
theorem q1080 : (Jvm.Cond.instanceMethod ({ cls := "FairBattenModel", name := "may", desc := "(IIII)Z" } : Jvm.MethodName)) ∈ lw_all := lw_g (lw_at lw_m5 89 rfl) rfl
theorem q1081 : (Jvm.Cond.code ({ cls := "FairBattenModel", name := "may", desc := "(IIII)Z" } : Jvm.MethodName) prog_13_method_14_code (5 : Nat) (Option.some Jvm.ClassFile.FieldType.boolean)) ∈ lw_all := lw_g (lw_at lw_m5 90 rfl) rfl
theorem q1082 : (Jvm.Cond.methodLink "FairBattenModel" (70 : Nat) ({ cls := "FairBattenModel", name := "size", desc := "(I)I" } : Jvm.MethodName)) ∈ lw_all := lw_g (lw_at lw_m5 91 rfl) rfl
theorem q1083 : (Jvm.Cond.static ({ cls := "FairBattenModel", name := "size", desc := "(I)I" } : Jvm.MethodName)) ∈ lw_all := lw_g (lw_at lw_m5 92 rfl) rfl
theorem q1084 : (Jvm.Cond.code ({ cls := "FairBattenModel", name := "size", desc := "(I)I" } : Jvm.MethodName) prog_13_method_6_code (1 : Nat) (Option.some Jvm.ClassFile.FieldType.int)) ∈ lw_all := lw_g (lw_at lw_m5 93 rfl) rfl
theorem q1085 : (Jvm.Cond.methodLink "FairBattenModel" (82 : Nat) ({ cls := "FairBattenModel", name := "bendBy", desc := "(IIIII)I" } : Jvm.MethodName)) ∈ lw_all := lw_g (lw_at lw_m5 94 rfl) rfl
theorem q1086 : (Jvm.Cond.privateMethod ({ cls := "FairBattenModel", name := "bendBy", desc := "(IIIII)I" } : Jvm.MethodName)) ∈ lw_tbl := lw_at lw_m5 95 rfl
theorem q1087 : (Jvm.Cond.instanceMethod ({ cls := "FairBattenModel", name := "bendBy", desc := "(IIIII)I" } : Jvm.MethodName)) ∈ lw_all := lw_g (lw_at lw_m5 96 rfl) rfl
theorem q1088 : (Jvm.Cond.code ({ cls := "FairBattenModel", name := "bendBy", desc := "(IIIII)I" } : Jvm.MethodName) prog_13_method_15_code (7 : Nat) (Option.some Jvm.ClassFile.FieldType.int)) ∈ lw_all := lw_g (lw_at lw_m5 97 rfl) rfl
theorem q1089 : (Jvm.Cond.methodLink "FairBattenModel" (93 : Nat) ({ cls := "FairBattenModel", name := "laysLine", desc := "(II)V" } : Jvm.MethodName)) ∈ lw_all := lw_g (lw_at lw_m5 98 rfl) rfl
theorem q1090 : (Jvm.Cond.privateMethod ({ cls := "FairBattenModel", name := "laysLine", desc := "(II)V" } : Jvm.MethodName)) ∈ lw_tbl := lw_at lw_m5 99 rfl
theorem q1091 : (Jvm.Cond.instanceMethod ({ cls := "FairBattenModel", name := "laysLine", desc := "(II)V" } : Jvm.MethodName)) ∈ lw_all := lw_g (lw_at lw_m5 100 rfl) rfl
theorem q1092 : (Jvm.Cond.code ({ cls := "FairBattenModel", name := "laysLine", desc := "(II)V" } : Jvm.MethodName) prog_13_method_18_code (9 : Nat) (Option.none : Option Jvm.ClassFile.FieldType)) ∈ lw_all := lw_g (lw_at lw_m5 101 rfl) rfl
theorem q1094 : (Jvm.Cond.instanceMethod ({ cls := "FairBattenModel", name := "area", desc := "(II)I" } : Jvm.MethodName)) ∈ lw_all := lw_g (lw_at lw_m5 103 rfl) rfl
theorem q1095 : (Jvm.Cond.selects "FairBattenModel" ({ cls := "FairBattenModel", name := "area", desc := "(II)I" } : Jvm.MethodName) ({ cls := "FairBattenModel", name := "area", desc := "(II)I" } : Jvm.MethodName)) ∈ lw_all := lw_g (lw_at lw_m5 104 rfl) rfl
theorem q1096 : (Jvm.Cond.code ({ cls := "FairBattenModel", name := "area", desc := "(II)I" } : Jvm.MethodName) prog_13_method_21_code (3 : Nat) (Option.some Jvm.ClassFile.FieldType.int)) ∈ lw_all := lw_g (lw_at lw_m5 105 rfl) rfl
theorem q1097 : (Jvm.Cond.methodLink "FairBattenModel" (96 : Nat) ({ cls := "FairBattenModel", name := "areaOf", desc := "(II)I" } : Jvm.MethodName)) ∈ lw_all := lw_g (lw_at lw_m5 106 rfl) rfl
theorem q1098 : (Jvm.Cond.privateMethod ({ cls := "FairBattenModel", name := "areaOf", desc := "(II)I" } : Jvm.MethodName)) ∈ lw_tbl := lw_at lw_m5 107 rfl
theorem q1099 : (Jvm.Cond.instanceMethod ({ cls := "FairBattenModel", name := "areaOf", desc := "(II)I" } : Jvm.MethodName)) ∈ lw_all := lw_g (lw_at lw_m5 108 rfl) rfl
theorem q1100 : (Jvm.Cond.code ({ cls := "FairBattenModel", name := "areaOf", desc := "(II)I" } : Jvm.MethodName) prog_13_method_20_code (5 : Nat) (Option.some Jvm.ClassFile.FieldType.int)) ∈ lw_all := lw_g (lw_at lw_m5 109 rfl) rfl
theorem q1102 : (Jvm.Cond.instanceMethod ({ cls := "FairBattenModel", name := "volume", desc := "(I)I" } : Jvm.MethodName)) ∈ lw_all := lw_g (lw_at lw_m5 111 rfl) rfl
theorem q1103 : (Jvm.Cond.selects "FairBattenModel" ({ cls := "FairBattenModel", name := "volume", desc := "(I)I" } : Jvm.MethodName) ({ cls := "FairBattenModel", name := "volume", desc := "(I)I" } : Jvm.MethodName)) ∈ lw_all := lw_g (lw_at lw_m5 112 rfl) rfl
theorem q1104 : (Jvm.Cond.code ({ cls := "FairBattenModel", name := "volume", desc := "(I)I" } : Jvm.MethodName) prog_13_method_23_code (2 : Nat) (Option.some Jvm.ClassFile.FieldType.int)) ∈ lw_all := lw_g (lw_at lw_m5 113 rfl) rfl
theorem q1105 : (Jvm.Cond.methodLink "FairBattenModel" (99 : Nat) ({ cls := "FairBattenModel", name := "volumeOf", desc := "(I)I" } : Jvm.MethodName)) ∈ lw_all := lw_g (lw_at lw_m5 114 rfl) rfl
theorem q1106 : (Jvm.Cond.privateMethod ({ cls := "FairBattenModel", name := "volumeOf", desc := "(I)I" } : Jvm.MethodName)) ∈ lw_tbl := lw_at lw_m5 115 rfl
theorem q1107 : (Jvm.Cond.instanceMethod ({ cls := "FairBattenModel", name := "volumeOf", desc := "(I)I" } : Jvm.MethodName)) ∈ lw_all := lw_g (lw_at lw_m5 116 rfl) rfl
theorem q1108 : (Jvm.Cond.code ({ cls := "FairBattenModel", name := "volumeOf", desc := "(I)I" } : Jvm.MethodName) prog_13_method_22_code (4 : Nat) (Option.some Jvm.ClassFile.FieldType.int)) ∈ lw_all := lw_g (lw_at lw_m5 117 rfl) rfl
theorem q1110 : (Jvm.Cond.instanceMethod ({ cls := "FairBattenModel", name := "volumeAnew", desc := "(I)I" } : Jvm.MethodName)) ∈ lw_all := lw_g (lw_at lw_m5 119 rfl) rfl
theorem q1111 : (Jvm.Cond.selects "FairBattenModel" ({ cls := "FairBattenModel", name := "volumeAnew", desc := "(I)I" } : Jvm.MethodName) ({ cls := "FairBattenModel", name := "volumeAnew", desc := "(I)I" } : Jvm.MethodName)) ∈ lw_all := lw_g (lw_at lw_m5 120 rfl) rfl
theorem q1112 : (Jvm.Cond.code ({ cls := "FairBattenModel", name := "volumeAnew", desc := "(I)I" } : Jvm.MethodName) prog_13_method_24_code (2 : Nat) (Option.some Jvm.ClassFile.FieldType.int)) ∈ lw_all := lw_g (lw_at lw_m5 121 rfl) rfl
theorem q1113 : (Jvm.Cond.methodLink "FairBattenModel" (102 : Nat) ({ cls := "FairBattenModel", name := "volume", desc := "(I)I" } : Jvm.MethodName)) ∈ lw_all := lw_g (lw_at lw_m5 122 rfl) rfl
theorem q1115 : (Jvm.Cond.instanceMethod ({ cls := "FairBattenModel", name := "weigh", desc := "(II)I" } : Jvm.MethodName)) ∈ lw_all := lw_g (lw_at lw_m5 124 rfl) rfl
theorem q1116 : (Jvm.Cond.selects "FairBattenModel" ({ cls := "FairBattenModel", name := "weigh", desc := "(II)I" } : Jvm.MethodName) ({ cls := "FairBattenModel", name := "weigh", desc := "(II)I" } : Jvm.MethodName)) ∈ lw_all := lw_g (lw_at lw_m5 125 rfl) rfl
theorem q1117 : (Jvm.Cond.code ({ cls := "FairBattenModel", name := "weigh", desc := "(II)I" } : Jvm.MethodName) prog_13_method_26_code (3 : Nat) (Option.some Jvm.ClassFile.FieldType.int)) ∈ lw_all := lw_g (lw_at lw_m5 126 rfl) rfl
theorem q1119 : (Jvm.Cond.instanceMethod ({ cls := "FairBattenModel", name := "change", desc := "(III)I" } : Jvm.MethodName)) ∈ lw_all := lw_g (lw_at lw_m5 128 rfl) rfl
theorem q1120 : (Jvm.Cond.selects "FairBattenModel" ({ cls := "FairBattenModel", name := "change", desc := "(III)I" } : Jvm.MethodName) ({ cls := "FairBattenModel", name := "change", desc := "(III)I" } : Jvm.MethodName)) ∈ lw_all := lw_g (lw_at lw_m5 129 rfl) rfl
theorem q1121 : (Jvm.Cond.code ({ cls := "FairBattenModel", name := "change", desc := "(III)I" } : Jvm.MethodName) prog_13_method_27_code (5 : Nat) (Option.some Jvm.ClassFile.FieldType.int)) ∈ lw_all := lw_g (lw_at lw_m5 130 rfl) rfl
theorem q1123 : (Jvm.Cond.instanceMethod ({ cls := "FairBattenModel", name := "ballast", desc := "(I)I" } : Jvm.MethodName)) ∈ lw_all := lw_g (lw_at lw_m5 132 rfl) rfl
theorem q1124 : (Jvm.Cond.selects "FairBattenModel" ({ cls := "FairBattenModel", name := "ballast", desc := "(I)I" } : Jvm.MethodName) ({ cls := "FairBattenModel", name := "ballast", desc := "(I)I" } : Jvm.MethodName)) ∈ lw_all := lw_g (lw_at lw_m5 133 rfl) rfl
theorem q1125 : (Jvm.Cond.code ({ cls := "FairBattenModel", name := "ballast", desc := "(I)I" } : Jvm.MethodName) prog_13_method_33_code (8 : Nat) (Option.some Jvm.ClassFile.FieldType.int)) ∈ lw_all := lw_g (lw_at lw_m5 134 rfl) rfl
theorem q1126 : (Jvm.Cond.methodLink "FairBattenModel" (112 : Nat) ({ cls := "FairBattenModel", name := "draughtNow", desc := "()I" } : Jvm.MethodName)) ∈ lw_all := lw_g (lw_at lw_m5 135 rfl) rfl
theorem q1127 : (Jvm.Cond.privateMethod ({ cls := "FairBattenModel", name := "draughtNow", desc := "()I" } : Jvm.MethodName)) ∈ lw_tbl := lw_at lw_m5 136 rfl
theorem q1128 : (Jvm.Cond.instanceMethod ({ cls := "FairBattenModel", name := "draughtNow", desc := "()I" } : Jvm.MethodName)) ∈ lw_all := lw_g (lw_at lw_m5 137 rfl) rfl
theorem q1129 : (Jvm.Cond.code ({ cls := "FairBattenModel", name := "draughtNow", desc := "()I" } : Jvm.MethodName) prog_13_method_30_code (4 : Nat) (Option.some Jvm.ClassFile.FieldType.int)) ∈ lw_all := lw_g (lw_at lw_m5 138 rfl) rfl
theorem q1130 : (Jvm.Cond.methodLink "FairBattenModel" (108 : Nat) ({ cls := "FairBattenModel", name := "loadNow", desc := "()I" } : Jvm.MethodName)) ∈ lw_all := lw_g (lw_at lw_m5 139 rfl) rfl
theorem q1131 : (Jvm.Cond.privateMethod ({ cls := "FairBattenModel", name := "loadNow", desc := "()I" } : Jvm.MethodName)) ∈ lw_tbl := lw_at lw_m5 140 rfl
theorem q1132 : (Jvm.Cond.instanceMethod ({ cls := "FairBattenModel", name := "loadNow", desc := "()I" } : Jvm.MethodName)) ∈ lw_all := lw_g (lw_at lw_m5 141 rfl) rfl
theorem q1133 : (Jvm.Cond.code ({ cls := "FairBattenModel", name := "loadNow", desc := "()I" } : Jvm.MethodName) prog_13_method_28_code (3 : Nat) (Option.some Jvm.ClassFile.FieldType.int)) ∈ lw_all := lw_g (lw_at lw_m5 142 rfl) rfl
theorem q1134 : (Jvm.Cond.methodLink "FairBattenModel" (124 : Nat) ({ cls := "FairBattenModel", name := "trimNow", desc := "()I" } : Jvm.MethodName)) ∈ lw_all := lw_g (lw_at lw_m5 143 rfl) rfl
theorem q1135 : (Jvm.Cond.privateMethod ({ cls := "FairBattenModel", name := "trimNow", desc := "()I" } : Jvm.MethodName)) ∈ lw_tbl := lw_at lw_m5 144 rfl
theorem q1136 : (Jvm.Cond.instanceMethod ({ cls := "FairBattenModel", name := "trimNow", desc := "()I" } : Jvm.MethodName)) ∈ lw_all := lw_g (lw_at lw_m5 145 rfl) rfl
theorem q1137 : (Jvm.Cond.code ({ cls := "FairBattenModel", name := "trimNow", desc := "()I" } : Jvm.MethodName) prog_13_method_32_code (2 : Nat) (Option.some Jvm.ClassFile.FieldType.int)) ∈ lw_all := lw_g (lw_at lw_m5 146 rfl) rfl
theorem q1138 : (Jvm.Cond.methodLink "FairBattenModel" (115 : Nat) ({ cls := "FairBattenModel", name := "loadMoment", desc := "()I" } : Jvm.MethodName)) ∈ lw_all := lw_g (lw_at lw_m5 147 rfl) rfl
theorem q1139 : (Jvm.Cond.privateMethod ({ cls := "FairBattenModel", name := "loadMoment", desc := "()I" } : Jvm.MethodName)) ∈ lw_tbl := lw_at lw_m5 148 rfl
theorem q1140 : (Jvm.Cond.instanceMethod ({ cls := "FairBattenModel", name := "loadMoment", desc := "()I" } : Jvm.MethodName)) ∈ lw_all := lw_g (lw_at lw_m5 149 rfl) rfl
theorem q1141 : (Jvm.Cond.code ({ cls := "FairBattenModel", name := "loadMoment", desc := "()I" } : Jvm.MethodName) prog_13_method_29_code (3 : Nat) (Option.some Jvm.ClassFile.FieldType.int)) ∈ lw_all := lw_g (lw_at lw_m5 150 rfl) rfl
theorem q1142 : (Jvm.Cond.methodLink "FairBattenModel" (118 : Nat) ({ cls := "FairBattenModel", name := "mean", desc := "(II)I" } : Jvm.MethodName)) ∈ lw_all := lw_g (lw_at lw_m5 151 rfl) rfl
theorem q1143 : (Jvm.Cond.static ({ cls := "FairBattenModel", name := "mean", desc := "(II)I" } : Jvm.MethodName)) ∈ lw_all := lw_g (lw_at lw_m5 152 rfl) rfl
theorem q1144 : (Jvm.Cond.code ({ cls := "FairBattenModel", name := "mean", desc := "(II)I" } : Jvm.MethodName) prog_13_method_31_code (2 : Nat) (Option.some Jvm.ClassFile.FieldType.int)) ∈ lw_all := lw_g (lw_at lw_m5 153 rfl) rfl
theorem q1145 : (Jvm.Cond.methodLink "FairBattenModel" (121 : Nat) ({ cls := "FairBattenModel", name := "momentOf", desc := "(I)I" } : Jvm.MethodName)) ∈ lw_all := lw_g (lw_at lw_m5 154 rfl) rfl
theorem q1146 : (Jvm.Cond.privateMethod ({ cls := "FairBattenModel", name := "momentOf", desc := "(I)I" } : Jvm.MethodName)) ∈ lw_tbl := lw_at lw_m5 155 rfl
theorem q1147 : (Jvm.Cond.instanceMethod ({ cls := "FairBattenModel", name := "momentOf", desc := "(I)I" } : Jvm.MethodName)) ∈ lw_all := lw_g (lw_at lw_m5 156 rfl) rfl
theorem q1148 : (Jvm.Cond.code ({ cls := "FairBattenModel", name := "momentOf", desc := "(I)I" } : Jvm.MethodName) prog_13_method_25_code (4 : Nat) (Option.some Jvm.ClassFile.FieldType.int)) ∈ lw_all := lw_g (lw_at lw_m5 157 rfl) rfl
theorem q1150 : (Jvm.Cond.instanceMethod ({ cls := "FairBattenModel", name := "draught", desc := "()I" } : Jvm.MethodName)) ∈ lw_all := lw_g (lw_at lw_m5 159 rfl) rfl
theorem q1151 : (Jvm.Cond.selects "FairBattenModel" ({ cls := "FairBattenModel", name := "draught", desc := "()I" } : Jvm.MethodName) ({ cls := "FairBattenModel", name := "draught", desc := "()I" } : Jvm.MethodName)) ∈ lw_all := lw_g (lw_at lw_m5 160 rfl) rfl
theorem q1152 : (Jvm.Cond.code ({ cls := "FairBattenModel", name := "draught", desc := "()I" } : Jvm.MethodName) prog_13_method_34_code (1 : Nat) (Option.some Jvm.ClassFile.FieldType.int)) ∈ lw_all := lw_g (lw_at lw_m5 161 rfl) rfl
theorem q1154 : (Jvm.Cond.instanceMethod ({ cls := "FairBattenModel", name := "trim", desc := "()I" } : Jvm.MethodName)) ∈ lw_all := lw_g (lw_at lw_m5 163 rfl) rfl
theorem q1155 : (Jvm.Cond.selects "FairBattenModel" ({ cls := "FairBattenModel", name := "trim", desc := "()I" } : Jvm.MethodName) ({ cls := "FairBattenModel", name := "trim", desc := "()I" } : Jvm.MethodName)) ∈ lw_all := lw_g (lw_at lw_m5 164 rfl) rfl
theorem q1156 : (Jvm.Cond.code ({ cls := "FairBattenModel", name := "trim", desc := "()I" } : Jvm.MethodName) prog_13_method_35_code (1 : Nat) (Option.some Jvm.ClassFile.FieldType.int)) ∈ lw_all := lw_g (lw_at lw_m5 165 rfl) rfl
theorem q1158 : (Jvm.Cond.instanceMethod ({ cls := "FairBattenModel", name := "strake", desc := "(I)I" } : Jvm.MethodName)) ∈ lw_all := lw_g (lw_at lw_m5 167 rfl) rfl
theorem q1159 : (Jvm.Cond.selects "FairBattenModel" ({ cls := "FairBattenModel", name := "strake", desc := "(I)I" } : Jvm.MethodName) ({ cls := "FairBattenModel", name := "strake", desc := "(I)I" } : Jvm.MethodName)) ∈ lw_all := lw_g (lw_at lw_m5 168 rfl) rfl
theorem q1160 : (Jvm.Cond.code ({ cls := "FairBattenModel", name := "strake", desc := "(I)I" } : Jvm.MethodName) prog_13_method_37_code (2 : Nat) (Option.some Jvm.ClassFile.FieldType.int)) ∈ lw_all := lw_g (lw_at lw_m5 169 rfl) rfl
theorem q1161 : (Jvm.Cond.methodLink "FairBattenModel" (127 : Nat) ({ cls := "FairBattenModel", name := "strakeOf", desc := "(I)I" } : Jvm.MethodName)) ∈ lw_all := lw_g (lw_at lw_m5 170 rfl) rfl
theorem q1162 : (Jvm.Cond.privateMethod ({ cls := "FairBattenModel", name := "strakeOf", desc := "(I)I" } : Jvm.MethodName)) ∈ lw_tbl := lw_at lw_m5 171 rfl
theorem q1163 : (Jvm.Cond.instanceMethod ({ cls := "FairBattenModel", name := "strakeOf", desc := "(I)I" } : Jvm.MethodName)) ∈ lw_all := lw_g (lw_at lw_m5 172 rfl) rfl
theorem q1164 : (Jvm.Cond.code ({ cls := "FairBattenModel", name := "strakeOf", desc := "(I)I" } : Jvm.MethodName) prog_13_method_36_code (4 : Nat) (Option.some Jvm.ClassFile.FieldType.int)) ∈ lw_all := lw_g (lw_at lw_m5 173 rfl) rfl
theorem q1166 : (Jvm.Cond.instanceMethod ({ cls := "FairBattenModel", name := "planks", desc := "(I)I" } : Jvm.MethodName)) ∈ lw_all := lw_g (lw_at lw_m5 175 rfl) rfl
theorem q1167 : (Jvm.Cond.selects "FairBattenModel" ({ cls := "FairBattenModel", name := "planks", desc := "(I)I" } : Jvm.MethodName) ({ cls := "FairBattenModel", name := "planks", desc := "(I)I" } : Jvm.MethodName)) ∈ lw_all := lw_g (lw_at lw_m5 176 rfl) rfl
theorem q1168 : (Jvm.Cond.code ({ cls := "FairBattenModel", name := "planks", desc := "(I)I" } : Jvm.MethodName) prog_13_method_40_code (2 : Nat) (Option.some Jvm.ClassFile.FieldType.int)) ∈ lw_all := lw_g (lw_at lw_m5 177 rfl) rfl
theorem q1169 : (Jvm.Cond.methodLink "FairBattenModel" (133 : Nat) ({ cls := "FairBattenModel", name := "planksNow", desc := "()I" } : Jvm.MethodName)) ∈ lw_all := lw_g (lw_at lw_m5 178 rfl) rfl
theorem q1170 : (Jvm.Cond.privateMethod ({ cls := "FairBattenModel", name := "planksNow", desc := "()I" } : Jvm.MethodName)) ∈ lw_tbl := lw_at lw_m5 179 rfl
theorem q1171 : (Jvm.Cond.instanceMethod ({ cls := "FairBattenModel", name := "planksNow", desc := "()I" } : Jvm.MethodName)) ∈ lw_all := lw_g (lw_at lw_m5 180 rfl) rfl
theorem q1172 : (Jvm.Cond.code ({ cls := "FairBattenModel", name := "planksNow", desc := "()I" } : Jvm.MethodName) prog_13_method_39_code (6 : Nat) (Option.some Jvm.ClassFile.FieldType.int)) ∈ lw_all := lw_g (lw_at lw_m5 181 rfl) rfl
theorem q1173 : (Jvm.Cond.methodLink "FairBattenModel" (130 : Nat) ({ cls := "FairBattenModel", name := "strakeBehind", desc := "(I)I" } : Jvm.MethodName)) ∈ lw_all := lw_g (lw_at lw_m5 182 rfl) rfl
theorem q1174 : (Jvm.Cond.privateMethod ({ cls := "FairBattenModel", name := "strakeBehind", desc := "(I)I" } : Jvm.MethodName)) ∈ lw_tbl := lw_at lw_m5 183 rfl
theorem q1175 : (Jvm.Cond.instanceMethod ({ cls := "FairBattenModel", name := "strakeBehind", desc := "(I)I" } : Jvm.MethodName)) ∈ lw_all := lw_g (lw_at lw_m5 184 rfl) rfl
theorem q1176 : (Jvm.Cond.code ({ cls := "FairBattenModel", name := "strakeBehind", desc := "(I)I" } : Jvm.MethodName) prog_13_method_38_code (6 : Nat) (Option.some Jvm.ClassFile.FieldType.int)) ∈ lw_all := lw_g (lw_at lw_m5 185 rfl) rfl
theorem q1178 : (Jvm.Cond.instanceMethod ({ cls := "FairBattenModel", name := "plankOf", desc := "(IZ)I" } : Jvm.MethodName)) ∈ lw_all := lw_g (lw_at lw_m5 187 rfl) rfl
theorem q1179 : (Jvm.Cond.selects "FairBattenModel" ({ cls := "FairBattenModel", name := "plankOf", desc := "(IZ)I" } : Jvm.MethodName) ({ cls := "FairBattenModel", name := "plankOf", desc := "(IZ)I" } : Jvm.MethodName)) ∈ lw_all := lw_g (lw_at lw_m5 188 rfl) rfl
theorem q1180 : (Jvm.Cond.code ({ cls := "FairBattenModel", name := "plankOf", desc := "(IZ)I" } : Jvm.MethodName) prog_13_method_41_code (3 : Nat) (Option.some Jvm.ClassFile.FieldType.int)) ∈ lw_all := lw_g (lw_at lw_m5 189 rfl) rfl
theorem q1182 : (Jvm.Cond.instanceMethod ({ cls := "FairBattenModel", name := "tide", desc := "(II)I" } : Jvm.MethodName)) ∈ lw_all := lw_g (lw_at lw_m5 191 rfl) rfl
theorem q1183 : (Jvm.Cond.selects "FairBattenModel" ({ cls := "FairBattenModel", name := "tide", desc := "(II)I" } : Jvm.MethodName) ({ cls := "FairBattenModel", name := "tide", desc := "(II)I" } : Jvm.MethodName)) ∈ lw_all := lw_g (lw_at lw_m5 192 rfl) rfl
theorem q1184 : (Jvm.Cond.code ({ cls := "FairBattenModel", name := "tide", desc := "(II)I" } : Jvm.MethodName) prog_13_method_43_code (5 : Nat) (Option.some Jvm.ClassFile.FieldType.int)) ∈ lw_all := lw_g (lw_at lw_m5 193 rfl) rfl
theorem q1185 : (Jvm.Cond.methodLink "FairBattenModel" (139 : Nat) ({ cls := "FairBattenModel", name := "tideOn", desc := "(I)I" } : Jvm.MethodName)) ∈ lw_all := lw_g (lw_at lw_m5 194 rfl) rfl
theorem q1186 : (Jvm.Cond.privateMethod ({ cls := "FairBattenModel", name := "tideOn", desc := "(I)I" } : Jvm.MethodName)) ∈ lw_tbl := lw_at lw_m5 195 rfl
theorem q1187 : (Jvm.Cond.instanceMethod ({ cls := "FairBattenModel", name := "tideOn", desc := "(I)I" } : Jvm.MethodName)) ∈ lw_all := lw_g (lw_at lw_m5 196 rfl) rfl
theorem q1188 : (Jvm.Cond.code ({ cls := "FairBattenModel", name := "tideOn", desc := "(I)I" } : Jvm.MethodName) prog_13_method_42_code (4 : Nat) (Option.some Jvm.ClassFile.FieldType.int)) ∈ lw_all := lw_g (lw_at lw_m5 197 rfl) rfl
theorem q1190 : (Jvm.Cond.instanceMethod ({ cls := "FairBattenModel", name := "sill", desc := "(I)I" } : Jvm.MethodName)) ∈ lw_all := lw_g (lw_at lw_m5 199 rfl) rfl
theorem q1191 : (Jvm.Cond.selects "FairBattenModel" ({ cls := "FairBattenModel", name := "sill", desc := "(I)I" } : Jvm.MethodName) ({ cls := "FairBattenModel", name := "sill", desc := "(I)I" } : Jvm.MethodName)) ∈ lw_all := lw_g (lw_at lw_m5 200 rfl) rfl
theorem q1192 : (Jvm.Cond.code ({ cls := "FairBattenModel", name := "sill", desc := "(I)I" } : Jvm.MethodName) prog_13_method_44_code (3 : Nat) (Option.some Jvm.ClassFile.FieldType.int)) ∈ lw_all := lw_g (lw_at lw_m5 201 rfl) rfl
theorem q1194 : (Jvm.Cond.instanceMethod ({ cls := "FairBattenModel", name := "needed", desc := "()I" } : Jvm.MethodName)) ∈ lw_all := lw_g (lw_at lw_m5 203 rfl) rfl
theorem q1195 : (Jvm.Cond.selects "FairBattenModel" ({ cls := "FairBattenModel", name := "needed", desc := "()I" } : Jvm.MethodName) ({ cls := "FairBattenModel", name := "needed", desc := "()I" } : Jvm.MethodName)) ∈ lw_all := lw_g (lw_at lw_m5 204 rfl) rfl
theorem q1196 : (Jvm.Cond.code ({ cls := "FairBattenModel", name := "needed", desc := "()I" } : Jvm.MethodName) prog_13_method_46_code (1 : Nat) (Option.some Jvm.ClassFile.FieldType.int)) ∈ lw_all := lw_g (lw_at lw_m5 205 rfl) rfl
theorem q1197 : (Jvm.Cond.methodLink "FairBattenModel" (145 : Nat) ({ cls := "FairBattenModel", name := "neededNow", desc := "()I" } : Jvm.MethodName)) ∈ lw_all := lw_g (lw_at lw_m5 206 rfl) rfl
theorem q1198 : (Jvm.Cond.privateMethod ({ cls := "FairBattenModel", name := "neededNow", desc := "()I" } : Jvm.MethodName)) ∈ lw_tbl := lw_at lw_m5 207 rfl
theorem q1199 : (Jvm.Cond.instanceMethod ({ cls := "FairBattenModel", name := "neededNow", desc := "()I" } : Jvm.MethodName)) ∈ lw_all := lw_g (lw_at lw_m5 208 rfl) rfl
theorem q1200 : (Jvm.Cond.code ({ cls := "FairBattenModel", name := "neededNow", desc := "()I" } : Jvm.MethodName) prog_13_method_45_code (2 : Nat) (Option.some Jvm.ClassFile.FieldType.int)) ∈ lw_all := lw_g (lw_at lw_m5 209 rfl) rfl
theorem q1202 : (Jvm.Cond.instanceMethod ({ cls := "FairBattenModel", name := "day", desc := "()I" } : Jvm.MethodName)) ∈ lw_all := lw_g (lw_at lw_m5 211 rfl) rfl
theorem q1203 : (Jvm.Cond.selects "FairBattenModel" ({ cls := "FairBattenModel", name := "day", desc := "()I" } : Jvm.MethodName) ({ cls := "FairBattenModel", name := "day", desc := "()I" } : Jvm.MethodName)) ∈ lw_all := lw_g (lw_at lw_m5 212 rfl) rfl
theorem q1204 : (Jvm.Cond.code ({ cls := "FairBattenModel", name := "day", desc := "()I" } : Jvm.MethodName) prog_13_method_47_code (4 : Nat) (Option.some Jvm.ClassFile.FieldType.int)) ∈ lw_all := lw_g (lw_at lw_m5 213 rfl) rfl
theorem q1206 : (Jvm.Cond.instanceMethod ({ cls := "FairBattenModel", name := "launch", desc := "()I" } : Jvm.MethodName)) ∈ lw_all := lw_g (lw_at lw_m5 215 rfl) rfl
theorem q1207 : (Jvm.Cond.selects "FairBattenModel" ({ cls := "FairBattenModel", name := "launch", desc := "()I" } : Jvm.MethodName) ({ cls := "FairBattenModel", name := "launch", desc := "()I" } : Jvm.MethodName)) ∈ lw_all := lw_g (lw_at lw_m5 216 rfl) rfl
theorem q1208 : (Jvm.Cond.code ({ cls := "FairBattenModel", name := "launch", desc := "()I" } : Jvm.MethodName) prog_13_method_48_code (2 : Nat) (Option.some Jvm.ClassFile.FieldType.int)) ∈ lw_all := lw_g (lw_at lw_m5 217 rfl) rfl
theorem q1210 : (Jvm.Cond.instanceMethod ({ cls := "FairBattenModel", name := "pass", desc := "(I)I" } : Jvm.MethodName)) ∈ lw_all := lw_g (lw_at lw_m5 219 rfl) rfl
theorem q1211 : (Jvm.Cond.selects "FairBattenModel" ({ cls := "FairBattenModel", name := "pass", desc := "(I)I" } : Jvm.MethodName) ({ cls := "FairBattenModel", name := "pass", desc := "(I)I" } : Jvm.MethodName)) ∈ lw_all := lw_g (lw_at lw_m5 220 rfl) rfl
theorem q1212 : (Jvm.Cond.code ({ cls := "FairBattenModel", name := "pass", desc := "(I)I" } : Jvm.MethodName) prog_13_method_49_code (2 : Nat) (Option.some Jvm.ClassFile.FieldType.int)) ∈ lw_all := lw_g (lw_at lw_m5 221 rfl) rfl
theorem q1224 : (Jvm.Cond.castable "FairBattenModel" "java/lang/Object") ∈ lw_tbl := lw_at lw_m5 233 rfl
theorem in_X5 : ∀ w ∈ wsX50, w ∈ lw_all := lw_in wsX50 [993, 995, 997, 999, 1001, 1003, 1005, 1007, 1009, 1011, 1013, 1015, 1017, 1019, 1021, 1023] (by decide +kernel) (by decide +kernel)
