/-! java/util/AbstractMap -/
set_option maxRecDepth 100000
def RJ0 : String := "java/util/AbstractMap"
abbrev cJ0_init : ByteArray := prog_35_method_1_code
def yJ0_init : MethodName := ⟨RJ0, "<init>", "()V"⟩
theorem dJ0_init_0 : decode cJ0_init 0 = .ok (.aload_n 0, 1) := by decide +kernel
theorem dJ0_init_1 : decode cJ0_init 1 = .ok (.invokespecial 1, 3) := by decide +kernel
theorem dJ0_init_4 : decode cJ0_init 4 = .ok (.return_, 1) := by decide +kernel
theorem q36 : (Jvm.Cond.initialized "java/util/AbstractMap") ∈ lw_all := lw_g (lw_at lw_m1 5 rfl) rfl
theorem q130 : (Jvm.Cond.instanceMethod ({ cls := "java/util/AbstractMap", name := "<init>", desc := "()V" } : Jvm.MethodName)) ∈ lw_all := lw_g (lw_at lw_m1 99 rfl) rfl
theorem q131 : (Jvm.Cond.code ({ cls := "java/util/AbstractMap", name := "<init>", desc := "()V" } : Jvm.MethodName) prog_35_method_1_code (1 : Nat) (Option.none : Option Jvm.ClassFile.FieldType)) ∈ lw_all := lw_g (lw_at lw_m1 100 rfl) rfl
theorem q132 : (Jvm.Cond.methodLink "java/util/AbstractMap" (1 : Nat) ({ cls := "java/lang/Object", name := "<init>", desc := "()V" } : Jvm.MethodName)) ∈ lw_all := lw_g (lw_at lw_m1 101 rfl) rfl
theorem q152 : (Jvm.Cond.soleField "java/util/AbstractMap" "keySet") ∈ lw_all := lw_g (lw_at lw_m1 121 rfl) rfl
theorem q154 : (Jvm.Cond.soleField "java/util/AbstractMap" "values") ∈ lw_all := lw_g (lw_at lw_m1 123 rfl) rfl
/-! java/util/HashMap -/
set_option maxRecDepth 100000
def RJ1 : String := "java/util/HashMap"
def TJ1 : u_T := fun k => match k with
  | 0 => ("java/util/AbstractMap", "keySet", "Ljava/util/Set;", false)
  | 1 => ("java/util/AbstractMap", "values", "Ljava/util/Collection;", false)
  | 2 => ("java/util/HashMap", "table", "[Ljava/util/HashMap$Node;", false)
  | 3 => ("java/util/HashMap", "entrySet", "Ljava/util/Set;", false)
  | 4 => ("java/util/HashMap", "size", "I", false)
  | 5 => ("java/util/HashMap", "modCount", "I", false)
  | 6 => ("java/util/HashMap", "threshold", "I", false)
  | _ => ("java/util/HashMap", "loadFactor", "F", true)
def tyJ1 : Nat → FieldType := fun k => match k with
  | 0 => .object "java/util/Set"
  | 1 => .object "java/util/Collection"
  | 2 => .array (.object "java/util/HashMap$Node")
  | 3 => .object "java/util/Set"
  | 4 => .int
  | 5 => .int
  | 6 => .int
  | _ => .float
abbrev wsJ10 : List Cond := u_ws RJ1 TJ1 8
theorem nmJ1 : ∀ a, a < 8 → ∀ b, b < 8 → a ≠ b → (TJ1 a).2.1 ≠ (TJ1 b).2.1 := by decide +kernel
theorem tyJ1_ok : ∀ k, k < 8 → parseFieldDescriptor (TJ1 k).2.2.1 = some (tyJ1 k) := by decide +kernel
abbrev cJ1_init : ByteArray := prog_38_method_7_code
def yJ1_init : MethodName := ⟨RJ1, "<init>", "()V"⟩
def dkwJ1_init_0 : List UInt8 := [42, 183, 0, 43, 42, 18, 92, 181, 0, 81, 177]
abbrev dktJ1_init_0 : List UInt8 := dkwJ1_init_0 ++ []
theorem dksJ1_init_0 : cJ1_init.data.toList.drop 0 = dktJ1_init_0 := by decide +kernel
theorem dJ1_init_0 : decode cJ1_init 0 = .ok (.aload_n 0, 1) := dk_42 (dk_at dksJ1_init_0 0 rfl rfl)
theorem dJ1_init_1 : decode cJ1_init 1 = .ok (.invokespecial 43, 3) := dk_183 0 43 (dk_at dksJ1_init_0 1 rfl rfl)
theorem dJ1_init_4 : decode cJ1_init 4 = .ok (.aload_n 0, 1) := dk_42 (dk_at dksJ1_init_0 4 rfl rfl)
theorem dJ1_init_5 : decode cJ1_init 5 = .ok (.ldc 92, 2) := dk_18 92 (dk_at dksJ1_init_0 5 rfl rfl)
theorem dJ1_init_7 : decode cJ1_init 7 = .ok (.putfield 81, 3) := dk_181 0 81 (dk_at dksJ1_init_0 7 rfl rfl)
theorem dJ1_init_10 : decode cJ1_init 10 = .ok (.return_, 1) := dk_177 (dk_at dksJ1_init_0 10 rfl rfl)
abbrev cJ1_get : ByteArray := prog_38_method_12_code
def yJ1_get : MethodName := ⟨RJ1, "get", "(Ljava/lang/Object;)Ljava/lang/Object;"⟩
def dkwJ1_get_0 : List UInt8 := [42, 43, 182, 0, 158, 89, 77, 199, 0, 7, 1, 167, 0, 7, 44, 180, 0, 162, 176]
abbrev dktJ1_get_0 : List UInt8 := dkwJ1_get_0 ++ []
theorem dksJ1_get_0 : cJ1_get.data.toList.drop 0 = dktJ1_get_0 := by decide +kernel
theorem dJ1_get_0 : decode cJ1_get 0 = .ok (.aload_n 0, 1) := dk_42 (dk_at dksJ1_get_0 0 rfl rfl)
theorem dJ1_get_1 : decode cJ1_get 1 = .ok (.aload_n 1, 1) := dk_43 (dk_at dksJ1_get_0 1 rfl rfl)
theorem dJ1_get_2 : decode cJ1_get 2 = .ok (.invokevirtual 158, 3) := dk_182 0 158 (dk_at dksJ1_get_0 2 rfl rfl)
theorem dJ1_get_5 : decode cJ1_get 5 = .ok (.dup, 1) := dk_89 (dk_at dksJ1_get_0 5 rfl rfl)
theorem dJ1_get_6 : decode cJ1_get 6 = .ok (.astore_n 2, 1) := dk_77 (dk_at dksJ1_get_0 6 rfl rfl)
theorem dJ1_get_7 : decode cJ1_get 7 = .ok (.ifnonnull 7, 3) := dk_199 0 7 (dk_at dksJ1_get_0 7 rfl rfl)
theorem dJ1_get_10 : decode cJ1_get 10 = .ok (.aconst_null, 1) := dk_1 (dk_at dksJ1_get_0 10 rfl rfl)
theorem dJ1_get_11 : decode cJ1_get 11 = .ok (.goto 7, 3) := dk_167 0 7 (dk_at dksJ1_get_0 11 rfl rfl)
theorem dJ1_get_14 : decode cJ1_get 14 = .ok (.aload_n 2, 1) := dk_44 (dk_at dksJ1_get_0 14 rfl rfl)
theorem dJ1_get_15 : decode cJ1_get 15 = .ok (.getfield 162, 3) := dk_180 0 162 (dk_at dksJ1_get_0 15 rfl rfl)
theorem dJ1_get_18 : decode cJ1_get 18 = .ok (.areturn, 1) := dk_176 (dk_at dksJ1_get_0 18 rfl rfl)
abbrev cJ1_getNode : ByteArray := prog_38_method_13_code
def yJ1_getNode : MethodName := ⟨RJ1, "getNode", "(Ljava/lang/Object;)Ljava/util/HashMap$Node;"⟩
def dkwJ1_getNode_6 : List UInt8 := [89, 58, 4, 199, 255, 210, 1, 176]
abbrev dktJ1_getNode_6 : List UInt8 := dkwJ1_getNode_6 ++ []
def dkwJ1_getNode_5 : List UInt8 := [165, 0, 16, 43, 198, 0, 15, 43, 25, 7, 182, 0, 173, 153, 0, 6, 25, 4, 176, 25, 4, 180, 0, 177]
abbrev dktJ1_getNode_5 : List UInt8 := dkwJ1_getNode_5 ++ dktJ1_getNode_6
def dkwJ1_getNode_4 : List UInt8 := [43, 182, 0, 182, 176, 25, 4, 180, 0, 168, 21, 6, 160, 0, 31, 25, 4, 180, 0, 170, 89, 58, 7, 43]
abbrev dktJ1_getNode_4 : List UInt8 := dkwJ1_getNode_4 ++ dktJ1_getNode_5
def dkwJ1_getNode_3 : List UInt8 := [176, 45, 180, 0, 177, 89, 58, 4, 198, 0, 70, 45, 193, 0, 180, 153, 0, 14, 45, 192, 0, 180, 21, 6]
abbrev dktJ1_getNode_3 : List UInt8 := dkwJ1_getNode_3 ++ dktJ1_getNode_4
def dkwJ1_getNode_2 : List UInt8 := [180, 0, 170, 89, 58, 7, 43, 165, 0, 16, 43, 198, 0, 14, 43, 25, 7, 182, 0, 173, 153, 0, 5, 45]
abbrev dktJ1_getNode_2 : List UInt8 := dkwJ1_getNode_2 ++ dktJ1_getNode_3
def dkwJ1_getNode_1 : List UInt8 := [184, 0, 149, 89, 54, 6, 126, 50, 89, 78, 198, 0, 115, 45, 180, 0, 168, 21, 6, 160, 0, 29, 45]
abbrev dktJ1_getNode_1 : List UInt8 := dkwJ1_getNode_1 ++ dktJ1_getNode_2
def dkwJ1_getNode_0 : List UInt8 := [42, 180, 0, 105, 89, 77, 198, 0, 142, 44, 190, 89, 54, 5, 158, 0, 134, 44, 21, 5, 4, 100, 43]
abbrev dktJ1_getNode_0 : List UInt8 := dkwJ1_getNode_0 ++ dktJ1_getNode_1
theorem dksJ1_getNode_0 : cJ1_getNode.data.toList.drop 0 = dktJ1_getNode_0 := by decide +kernel
theorem dksJ1_getNode_1 : cJ1_getNode.data.toList.drop 23 = dktJ1_getNode_1 := dk_seg dksJ1_getNode_0 23 rfl rfl
theorem dksJ1_getNode_2 : cJ1_getNode.data.toList.drop 46 = dktJ1_getNode_2 := dk_seg dksJ1_getNode_1 23 rfl rfl
theorem dksJ1_getNode_3 : cJ1_getNode.data.toList.drop 70 = dktJ1_getNode_3 := dk_seg dksJ1_getNode_2 24 rfl rfl
theorem dksJ1_getNode_4 : cJ1_getNode.data.toList.drop 94 = dktJ1_getNode_4 := dk_seg dksJ1_getNode_3 24 rfl rfl
theorem dksJ1_getNode_5 : cJ1_getNode.data.toList.drop 118 = dktJ1_getNode_5 := dk_seg dksJ1_getNode_4 24 rfl rfl
theorem dksJ1_getNode_6 : cJ1_getNode.data.toList.drop 142 = dktJ1_getNode_6 := dk_seg dksJ1_getNode_5 24 rfl rfl
theorem dJ1_getNode_0 : decode cJ1_getNode 0 = .ok (.aload_n 0, 1) := dk_42 (dk_at dksJ1_getNode_0 0 rfl rfl)
theorem dJ1_getNode_1 : decode cJ1_getNode 1 = .ok (.getfield 105, 3) := dk_180 0 105 (dk_at dksJ1_getNode_0 1 rfl rfl)
theorem dJ1_getNode_4 : decode cJ1_getNode 4 = .ok (.dup, 1) := dk_89 (dk_at dksJ1_getNode_0 4 rfl rfl)
theorem dJ1_getNode_5 : decode cJ1_getNode 5 = .ok (.astore_n 2, 1) := dk_77 (dk_at dksJ1_getNode_0 5 rfl rfl)
theorem dJ1_getNode_6 : decode cJ1_getNode 6 = .ok (.ifnull 142, 3) := dk_198 0 142 (dk_at dksJ1_getNode_0 6 rfl rfl)
theorem dJ1_getNode_9 : decode cJ1_getNode 9 = .ok (.aload_n 2, 1) := dk_44 (dk_at dksJ1_getNode_0 9 rfl rfl)
theorem dJ1_getNode_10 : decode cJ1_getNode 10 = .ok (.arraylength, 1) := dk_190 (dk_at dksJ1_getNode_0 10 rfl rfl)
theorem dJ1_getNode_11 : decode cJ1_getNode 11 = .ok (.dup, 1) := dk_89 (dk_at dksJ1_getNode_0 11 rfl rfl)
theorem dJ1_getNode_12 : decode cJ1_getNode 12 = .ok (.istore 5, 2) := dk_54 5 (dk_at dksJ1_getNode_0 12 rfl rfl)
theorem dJ1_getNode_14 : decode cJ1_getNode 14 = .ok (.ifCond .le 134, 3) := dk_158 0 134 (dk_at dksJ1_getNode_0 14 rfl rfl)
theorem dJ1_getNode_17 : decode cJ1_getNode 17 = .ok (.aload_n 2, 1) := dk_44 (dk_at dksJ1_getNode_0 17 rfl rfl)
theorem dJ1_getNode_18 : decode cJ1_getNode 18 = .ok (.iload 5, 2) := dk_21 5 (dk_at dksJ1_getNode_0 18 rfl rfl)
theorem dJ1_getNode_20 : decode cJ1_getNode 20 = .ok (.iconst 1, 1) := dk_4 (dk_at dksJ1_getNode_0 20 rfl rfl)
theorem dJ1_getNode_21 : decode cJ1_getNode 21 = .ok (.isub, 1) := dk_100 (dk_at dksJ1_getNode_0 21 rfl rfl)
theorem dJ1_getNode_22 : decode cJ1_getNode 22 = .ok (.aload_n 1, 1) := dk_43 (dk_at dksJ1_getNode_0 22 rfl rfl)
theorem dJ1_getNode_23 : decode cJ1_getNode 23 = .ok (.invokestatic 149, 3) := dk_184 0 149 (dk_at dksJ1_getNode_1 0 rfl rfl)
theorem dJ1_getNode_26 : decode cJ1_getNode 26 = .ok (.dup, 1) := dk_89 (dk_at dksJ1_getNode_1 3 rfl rfl)
theorem dJ1_getNode_27 : decode cJ1_getNode 27 = .ok (.istore 6, 2) := dk_54 6 (dk_at dksJ1_getNode_1 4 rfl rfl)
theorem dJ1_getNode_29 : decode cJ1_getNode 29 = .ok (.iand, 1) := dk_126 (dk_at dksJ1_getNode_1 6 rfl rfl)
theorem dJ1_getNode_30 : decode cJ1_getNode 30 = .ok (.aaload, 1) := dk_50 (dk_at dksJ1_getNode_1 7 rfl rfl)
theorem dJ1_getNode_31 : decode cJ1_getNode 31 = .ok (.dup, 1) := dk_89 (dk_at dksJ1_getNode_1 8 rfl rfl)
theorem dJ1_getNode_32 : decode cJ1_getNode 32 = .ok (.astore_n 3, 1) := dk_78 (dk_at dksJ1_getNode_1 9 rfl rfl)
theorem dJ1_getNode_33 : decode cJ1_getNode 33 = .ok (.ifnull 115, 3) := dk_198 0 115 (dk_at dksJ1_getNode_1 10 rfl rfl)
theorem dJ1_getNode_36 : decode cJ1_getNode 36 = .ok (.aload_n 3, 1) := dk_45 (dk_at dksJ1_getNode_1 13 rfl rfl)
theorem dJ1_getNode_37 : decode cJ1_getNode 37 = .ok (.getfield 168, 3) := dk_180 0 168 (dk_at dksJ1_getNode_1 14 rfl rfl)
theorem dJ1_getNode_40 : decode cJ1_getNode 40 = .ok (.iload 6, 2) := dk_21 6 (dk_at dksJ1_getNode_1 17 rfl rfl)
theorem dJ1_getNode_42 : decode cJ1_getNode 42 = .ok (.if_icmp .ne 29, 3) := dk_160 0 29 (dk_at dksJ1_getNode_1 19 rfl rfl)
theorem dJ1_getNode_45 : decode cJ1_getNode 45 = .ok (.aload_n 3, 1) := dk_45 (dk_at dksJ1_getNode_1 22 rfl rfl)
theorem dJ1_getNode_46 : decode cJ1_getNode 46 = .ok (.getfield 170, 3) := dk_180 0 170 (dk_at dksJ1_getNode_2 0 rfl rfl)
theorem dJ1_getNode_49 : decode cJ1_getNode 49 = .ok (.dup, 1) := dk_89 (dk_at dksJ1_getNode_2 3 rfl rfl)
theorem dJ1_getNode_50 : decode cJ1_getNode 50 = .ok (.astore 7, 2) := dk_58 7 (dk_at dksJ1_getNode_2 4 rfl rfl)
theorem dJ1_getNode_52 : decode cJ1_getNode 52 = .ok (.aload_n 1, 1) := dk_43 (dk_at dksJ1_getNode_2 6 rfl rfl)
theorem dJ1_getNode_53 : decode cJ1_getNode 53 = .ok (.if_acmp .eq 16, 3) := dk_165 0 16 (dk_at dksJ1_getNode_2 7 rfl rfl)
theorem dJ1_getNode_56 : decode cJ1_getNode 56 = .ok (.aload_n 1, 1) := dk_43 (dk_at dksJ1_getNode_2 10 rfl rfl)
theorem dJ1_getNode_57 : decode cJ1_getNode 57 = .ok (.ifnull 14, 3) := dk_198 0 14 (dk_at dksJ1_getNode_2 11 rfl rfl)
theorem dJ1_getNode_60 : decode cJ1_getNode 60 = .ok (.aload_n 1, 1) := dk_43 (dk_at dksJ1_getNode_2 14 rfl rfl)
theorem dJ1_getNode_61 : decode cJ1_getNode 61 = .ok (.aload 7, 2) := dk_25 7 (dk_at dksJ1_getNode_2 15 rfl rfl)
theorem dJ1_getNode_63 : decode cJ1_getNode 63 = .ok (.invokevirtual 173, 3) := dk_182 0 173 (dk_at dksJ1_getNode_2 17 rfl rfl)
theorem dJ1_getNode_66 : decode cJ1_getNode 66 = .ok (.ifCond .eq 5, 3) := dk_153 0 5 (dk_at dksJ1_getNode_2 20 rfl rfl)
theorem dJ1_getNode_69 : decode cJ1_getNode 69 = .ok (.aload_n 3, 1) := dk_45 (dk_at dksJ1_getNode_2 23 rfl rfl)
theorem dJ1_getNode_70 : decode cJ1_getNode 70 = .ok (.areturn, 1) := dk_176 (dk_at dksJ1_getNode_3 0 rfl rfl)
theorem dJ1_getNode_71 : decode cJ1_getNode 71 = .ok (.aload_n 3, 1) := dk_45 (dk_at dksJ1_getNode_3 1 rfl rfl)
theorem dJ1_getNode_72 : decode cJ1_getNode 72 = .ok (.getfield 177, 3) := dk_180 0 177 (dk_at dksJ1_getNode_3 2 rfl rfl)
theorem dJ1_getNode_75 : decode cJ1_getNode 75 = .ok (.dup, 1) := dk_89 (dk_at dksJ1_getNode_3 5 rfl rfl)
theorem dJ1_getNode_76 : decode cJ1_getNode 76 = .ok (.astore 4, 2) := dk_58 4 (dk_at dksJ1_getNode_3 6 rfl rfl)
theorem dJ1_getNode_78 : decode cJ1_getNode 78 = .ok (.ifnull 70, 3) := dk_198 0 70 (dk_at dksJ1_getNode_3 8 rfl rfl)
theorem dJ1_getNode_81 : decode cJ1_getNode 81 = .ok (.aload_n 3, 1) := dk_45 (dk_at dksJ1_getNode_3 11 rfl rfl)
theorem dJ1_getNode_82 : decode cJ1_getNode 82 = .ok (.instanceof 180, 3) := dk_193 0 180 (dk_at dksJ1_getNode_3 12 rfl rfl)
theorem dJ1_getNode_85 : decode cJ1_getNode 85 = .ok (.ifCond .eq 14, 3) := dk_153 0 14 (dk_at dksJ1_getNode_3 15 rfl rfl)
theorem dJ1_getNode_88 : decode cJ1_getNode 88 = .ok (.aload_n 3, 1) := dk_45 (dk_at dksJ1_getNode_3 18 rfl rfl)
theorem dJ1_getNode_89 : decode cJ1_getNode 89 = .ok (.checkcast 180, 3) := dk_192 0 180 (dk_at dksJ1_getNode_3 19 rfl rfl)
theorem dJ1_getNode_92 : decode cJ1_getNode 92 = .ok (.iload 6, 2) := dk_21 6 (dk_at dksJ1_getNode_3 22 rfl rfl)
theorem dJ1_getNode_94 : decode cJ1_getNode 94 = .ok (.aload_n 1, 1) := dk_43 (dk_at dksJ1_getNode_4 0 rfl rfl)
theorem dJ1_getNode_95 : decode cJ1_getNode 95 = .ok (.invokevirtual 182, 3) := dk_182 0 182 (dk_at dksJ1_getNode_4 1 rfl rfl)
theorem dJ1_getNode_98 : decode cJ1_getNode 98 = .ok (.areturn, 1) := dk_176 (dk_at dksJ1_getNode_4 4 rfl rfl)
theorem dJ1_getNode_99 : decode cJ1_getNode 99 = .ok (.aload 4, 2) := dk_25 4 (dk_at dksJ1_getNode_4 5 rfl rfl)
theorem dJ1_getNode_101 : decode cJ1_getNode 101 = .ok (.getfield 168, 3) := dk_180 0 168 (dk_at dksJ1_getNode_4 7 rfl rfl)
theorem dJ1_getNode_104 : decode cJ1_getNode 104 = .ok (.iload 6, 2) := dk_21 6 (dk_at dksJ1_getNode_4 10 rfl rfl)
theorem dJ1_getNode_106 : decode cJ1_getNode 106 = .ok (.if_icmp .ne 31, 3) := dk_160 0 31 (dk_at dksJ1_getNode_4 12 rfl rfl)
theorem dJ1_getNode_109 : decode cJ1_getNode 109 = .ok (.aload 4, 2) := dk_25 4 (dk_at dksJ1_getNode_4 15 rfl rfl)
theorem dJ1_getNode_111 : decode cJ1_getNode 111 = .ok (.getfield 170, 3) := dk_180 0 170 (dk_at dksJ1_getNode_4 17 rfl rfl)
theorem dJ1_getNode_114 : decode cJ1_getNode 114 = .ok (.dup, 1) := dk_89 (dk_at dksJ1_getNode_4 20 rfl rfl)
theorem dJ1_getNode_115 : decode cJ1_getNode 115 = .ok (.astore 7, 2) := dk_58 7 (dk_at dksJ1_getNode_4 21 rfl rfl)
theorem dJ1_getNode_117 : decode cJ1_getNode 117 = .ok (.aload_n 1, 1) := dk_43 (dk_at dksJ1_getNode_4 23 rfl rfl)
theorem dJ1_getNode_118 : decode cJ1_getNode 118 = .ok (.if_acmp .eq 16, 3) := dk_165 0 16 (dk_at dksJ1_getNode_5 0 rfl rfl)
theorem dJ1_getNode_121 : decode cJ1_getNode 121 = .ok (.aload_n 1, 1) := dk_43 (dk_at dksJ1_getNode_5 3 rfl rfl)
theorem dJ1_getNode_122 : decode cJ1_getNode 122 = .ok (.ifnull 15, 3) := dk_198 0 15 (dk_at dksJ1_getNode_5 4 rfl rfl)
theorem dJ1_getNode_125 : decode cJ1_getNode 125 = .ok (.aload_n 1, 1) := dk_43 (dk_at dksJ1_getNode_5 7 rfl rfl)
theorem dJ1_getNode_126 : decode cJ1_getNode 126 = .ok (.aload 7, 2) := dk_25 7 (dk_at dksJ1_getNode_5 8 rfl rfl)
theorem dJ1_getNode_128 : decode cJ1_getNode 128 = .ok (.invokevirtual 173, 3) := dk_182 0 173 (dk_at dksJ1_getNode_5 10 rfl rfl)
theorem dJ1_getNode_131 : decode cJ1_getNode 131 = .ok (.ifCond .eq 6, 3) := dk_153 0 6 (dk_at dksJ1_getNode_5 13 rfl rfl)
theorem dJ1_getNode_134 : decode cJ1_getNode 134 = .ok (.aload 4, 2) := dk_25 4 (dk_at dksJ1_getNode_5 16 rfl rfl)
theorem dJ1_getNode_136 : decode cJ1_getNode 136 = .ok (.areturn, 1) := dk_176 (dk_at dksJ1_getNode_5 18 rfl rfl)
theorem dJ1_getNode_137 : decode cJ1_getNode 137 = .ok (.aload 4, 2) := dk_25 4 (dk_at dksJ1_getNode_5 19 rfl rfl)
theorem dJ1_getNode_139 : decode cJ1_getNode 139 = .ok (.getfield 177, 3) := dk_180 0 177 (dk_at dksJ1_getNode_5 21 rfl rfl)
theorem dJ1_getNode_142 : decode cJ1_getNode 142 = .ok (.dup, 1) := dk_89 (dk_at dksJ1_getNode_6 0 rfl rfl)
theorem dJ1_getNode_143 : decode cJ1_getNode 143 = .ok (.astore 4, 2) := dk_58 4 (dk_at dksJ1_getNode_6 1 rfl rfl)
theorem dJ1_getNode_145 : decode cJ1_getNode 145 = .ok (.ifnonnull (-46), 3) := dk_199 255 210 (dk_at dksJ1_getNode_6 3 rfl rfl)
theorem dJ1_getNode_148 : decode cJ1_getNode 148 = .ok (.aconst_null, 1) := dk_1 (dk_at dksJ1_getNode_6 6 rfl rfl)
theorem dJ1_getNode_149 : decode cJ1_getNode 149 = .ok (.areturn, 1) := dk_176 (dk_at dksJ1_getNode_6 7 rfl rfl)
abbrev cJ1_hash : ByteArray := prog_38_method_1_code
def yJ1_hash : MethodName := ⟨RJ1, "hash", "(Ljava/lang/Object;)I"⟩
def dkwJ1_hash_0 : List UInt8 := [42, 199, 0, 7, 3, 167, 0, 14, 42, 182, 0, 1, 89, 60, 27, 16, 16, 124, 130, 172]
abbrev dktJ1_hash_0 : List UInt8 := dkwJ1_hash_0 ++ []
theorem dksJ1_hash_0 : cJ1_hash.data.toList.drop 0 = dktJ1_hash_0 := by decide +kernel
theorem dJ1_hash_0 : decode cJ1_hash 0 = .ok (.aload_n 0, 1) := dk_42 (dk_at dksJ1_hash_0 0 rfl rfl)
theorem dJ1_hash_1 : decode cJ1_hash 1 = .ok (.ifnonnull 7, 3) := dk_199 0 7 (dk_at dksJ1_hash_0 1 rfl rfl)
theorem dJ1_hash_4 : decode cJ1_hash 4 = .ok (.iconst 0, 1) := dk_3 (dk_at dksJ1_hash_0 4 rfl rfl)
theorem dJ1_hash_5 : decode cJ1_hash 5 = .ok (.goto 14, 3) := dk_167 0 14 (dk_at dksJ1_hash_0 5 rfl rfl)
theorem dJ1_hash_8 : decode cJ1_hash 8 = .ok (.aload_n 0, 1) := dk_42 (dk_at dksJ1_hash_0 8 rfl rfl)
theorem dJ1_hash_9 : decode cJ1_hash 9 = .ok (.invokevirtual 1, 3) := dk_182 0 1 (dk_at dksJ1_hash_0 9 rfl rfl)
theorem dJ1_hash_12 : decode cJ1_hash 12 = .ok (.dup, 1) := dk_89 (dk_at dksJ1_hash_0 12 rfl rfl)
theorem dJ1_hash_13 : decode cJ1_hash 13 = .ok (.istore_n 1, 1) := dk_60 (dk_at dksJ1_hash_0 13 rfl rfl)
theorem dJ1_hash_14 : decode cJ1_hash 14 = .ok (.iload_n 1, 1) := dk_27 (dk_at dksJ1_hash_0 14 rfl rfl)
theorem dJ1_hash_15 : decode cJ1_hash 15 = .ok (.bipush 16, 2) := dk_16 16 (dk_at dksJ1_hash_0 15 rfl rfl)
theorem dJ1_hash_17 : decode cJ1_hash 17 = .ok (.iushr, 1) := dk_124 (dk_at dksJ1_hash_0 17 rfl rfl)
theorem dJ1_hash_18 : decode cJ1_hash 18 = .ok (.ixor, 1) := dk_130 (dk_at dksJ1_hash_0 18 rfl rfl)
theorem dJ1_hash_19 : decode cJ1_hash 19 = .ok (.ireturn, 1) := dk_172 (dk_at dksJ1_hash_0 19 rfl rfl)
abbrev cJ1_comparableClassFor : ByteArray := prog_38_method_2_code
def yJ1_comparableClassFor : MethodName := ⟨RJ1, "comparableClassFor", "(Ljava/lang/Object;)Ljava/lang/Class;"⟩
def dkwJ1_comparableClassFor_4 : List UInt8 := [4, 160, 0, 12, 45, 3, 50, 43, 166, 0, 5, 43, 176, 132, 7, 1, 167, 255, 186, 1, 176]
abbrev dktJ1_comparableClassFor_4 : List UInt8 := dkwJ1_comparableClassFor_4 ++ []
def dkwJ1_comparableClassFor_3 : List UInt8 := [185, 0, 23, 1, 0, 18, 7, 166, 0, 30, 25, 4, 185, 0, 27, 1, 0, 89, 78, 198, 0, 18, 45, 190]
abbrev dktJ1_comparableClassFor_3 : List UInt8 := dkwJ1_comparableClassFor_3 ++ dktJ1_comparableClassFor_4
def dkwJ1_comparableClassFor_2 : List UInt8 := [25, 5, 21, 7, 50, 58, 8, 25, 8, 193, 0, 21, 153, 0, 48, 25, 8, 192, 0, 21, 89, 58, 4]
abbrev dktJ1_comparableClassFor_2 : List UInt8 := dkwJ1_comparableClassFor_2 ++ dktJ1_comparableClassFor_3
def dkwJ1_comparableClassFor_1 : List UInt8 := [89, 77, 198, 0, 87, 44, 58, 5, 25, 5, 190, 54, 6, 3, 54, 7, 21, 7, 21, 6, 162, 0, 69]
abbrev dktJ1_comparableClassFor_1 : List UInt8 := dkwJ1_comparableClassFor_1 ++ dktJ1_comparableClassFor_2
def dkwJ1_comparableClassFor_0 : List UInt8 := [42, 193, 0, 7, 153, 0, 109, 42, 182, 0, 9, 89, 76, 18, 13, 166, 0, 5, 43, 176, 43, 182, 0, 15]
abbrev dktJ1_comparableClassFor_0 : List UInt8 := dkwJ1_comparableClassFor_0 ++ dktJ1_comparableClassFor_1
theorem dksJ1_comparableClassFor_0 : cJ1_comparableClassFor.data.toList.drop 0 = dktJ1_comparableClassFor_0 := by decide +kernel
theorem dksJ1_comparableClassFor_1 : cJ1_comparableClassFor.data.toList.drop 24 = dktJ1_comparableClassFor_1 := dk_seg dksJ1_comparableClassFor_0 24 rfl rfl
theorem dksJ1_comparableClassFor_2 : cJ1_comparableClassFor.data.toList.drop 47 = dktJ1_comparableClassFor_2 := dk_seg dksJ1_comparableClassFor_1 23 rfl rfl
theorem dksJ1_comparableClassFor_3 : cJ1_comparableClassFor.data.toList.drop 70 = dktJ1_comparableClassFor_3 := dk_seg dksJ1_comparableClassFor_2 23 rfl rfl
theorem dksJ1_comparableClassFor_4 : cJ1_comparableClassFor.data.toList.drop 94 = dktJ1_comparableClassFor_4 := dk_seg dksJ1_comparableClassFor_3 24 rfl rfl
theorem dJ1_comparableClassFor_0 : decode cJ1_comparableClassFor 0 = .ok (.aload_n 0, 1) := dk_42 (dk_at dksJ1_comparableClassFor_0 0 rfl rfl)
theorem dJ1_comparableClassFor_1 : decode cJ1_comparableClassFor 1 = .ok (.instanceof 7, 3) := dk_193 0 7 (dk_at dksJ1_comparableClassFor_0 1 rfl rfl)
theorem dJ1_comparableClassFor_4 : decode cJ1_comparableClassFor 4 = .ok (.ifCond .eq 109, 3) := dk_153 0 109 (dk_at dksJ1_comparableClassFor_0 4 rfl rfl)
theorem dJ1_comparableClassFor_7 : decode cJ1_comparableClassFor 7 = .ok (.aload_n 0, 1) := dk_42 (dk_at dksJ1_comparableClassFor_0 7 rfl rfl)
theorem dJ1_comparableClassFor_8 : decode cJ1_comparableClassFor 8 = .ok (.invokevirtual 9, 3) := dk_182 0 9 (dk_at dksJ1_comparableClassFor_0 8 rfl rfl)
theorem dJ1_comparableClassFor_11 : decode cJ1_comparableClassFor 11 = .ok (.dup, 1) := dk_89 (dk_at dksJ1_comparableClassFor_0 11 rfl rfl)
theorem dJ1_comparableClassFor_12 : decode cJ1_comparableClassFor 12 = .ok (.astore_n 1, 1) := dk_76 (dk_at dksJ1_comparableClassFor_0 12 rfl rfl)
theorem dJ1_comparableClassFor_13 : decode cJ1_comparableClassFor 13 = .ok (.ldc 13, 2) := dk_18 13 (dk_at dksJ1_comparableClassFor_0 13 rfl rfl)
theorem dJ1_comparableClassFor_15 : decode cJ1_comparableClassFor 15 = .ok (.if_acmp .ne 5, 3) := dk_166 0 5 (dk_at dksJ1_comparableClassFor_0 15 rfl rfl)
theorem dJ1_comparableClassFor_18 : decode cJ1_comparableClassFor 18 = .ok (.aload_n 1, 1) := dk_43 (dk_at dksJ1_comparableClassFor_0 18 rfl rfl)
theorem dJ1_comparableClassFor_19 : decode cJ1_comparableClassFor 19 = .ok (.areturn, 1) := dk_176 (dk_at dksJ1_comparableClassFor_0 19 rfl rfl)
theorem dJ1_comparableClassFor_20 : decode cJ1_comparableClassFor 20 = .ok (.aload_n 1, 1) := dk_43 (dk_at dksJ1_comparableClassFor_0 20 rfl rfl)
theorem dJ1_comparableClassFor_21 : decode cJ1_comparableClassFor 21 = .ok (.invokevirtual 15, 3) := dk_182 0 15 (dk_at dksJ1_comparableClassFor_0 21 rfl rfl)
theorem dJ1_comparableClassFor_24 : decode cJ1_comparableClassFor 24 = .ok (.dup, 1) := dk_89 (dk_at dksJ1_comparableClassFor_1 0 rfl rfl)
theorem dJ1_comparableClassFor_25 : decode cJ1_comparableClassFor 25 = .ok (.astore_n 2, 1) := dk_77 (dk_at dksJ1_comparableClassFor_1 1 rfl rfl)
theorem dJ1_comparableClassFor_26 : decode cJ1_comparableClassFor 26 = .ok (.ifnull 87, 3) := dk_198 0 87 (dk_at dksJ1_comparableClassFor_1 2 rfl rfl)
theorem dJ1_comparableClassFor_29 : decode cJ1_comparableClassFor 29 = .ok (.aload_n 2, 1) := dk_44 (dk_at dksJ1_comparableClassFor_1 5 rfl rfl)
theorem dJ1_comparableClassFor_30 : decode cJ1_comparableClassFor 30 = .ok (.astore 5, 2) := dk_58 5 (dk_at dksJ1_comparableClassFor_1 6 rfl rfl)
theorem dJ1_comparableClassFor_32 : decode cJ1_comparableClassFor 32 = .ok (.aload 5, 2) := dk_25 5 (dk_at dksJ1_comparableClassFor_1 8 rfl rfl)
theorem dJ1_comparableClassFor_34 : decode cJ1_comparableClassFor 34 = .ok (.arraylength, 1) := dk_190 (dk_at dksJ1_comparableClassFor_1 10 rfl rfl)
theorem dJ1_comparableClassFor_35 : decode cJ1_comparableClassFor 35 = .ok (.istore 6, 2) := dk_54 6 (dk_at dksJ1_comparableClassFor_1 11 rfl rfl)
theorem dJ1_comparableClassFor_37 : decode cJ1_comparableClassFor 37 = .ok (.iconst 0, 1) := dk_3 (dk_at dksJ1_comparableClassFor_1 13 rfl rfl)
theorem dJ1_comparableClassFor_38 : decode cJ1_comparableClassFor 38 = .ok (.istore 7, 2) := dk_54 7 (dk_at dksJ1_comparableClassFor_1 14 rfl rfl)
theorem dJ1_comparableClassFor_40 : decode cJ1_comparableClassFor 40 = .ok (.iload 7, 2) := dk_21 7 (dk_at dksJ1_comparableClassFor_1 16 rfl rfl)
theorem dJ1_comparableClassFor_42 : decode cJ1_comparableClassFor 42 = .ok (.iload 6, 2) := dk_21 6 (dk_at dksJ1_comparableClassFor_1 18 rfl rfl)
theorem dJ1_comparableClassFor_44 : decode cJ1_comparableClassFor 44 = .ok (.if_icmp .ge 69, 3) := dk_162 0 69 (dk_at dksJ1_comparableClassFor_1 20 rfl rfl)
theorem dJ1_comparableClassFor_47 : decode cJ1_comparableClassFor 47 = .ok (.aload 5, 2) := dk_25 5 (dk_at dksJ1_comparableClassFor_2 0 rfl rfl)
theorem dJ1_comparableClassFor_49 : decode cJ1_comparableClassFor 49 = .ok (.iload 7, 2) := dk_21 7 (dk_at dksJ1_comparableClassFor_2 2 rfl rfl)
theorem dJ1_comparableClassFor_51 : decode cJ1_comparableClassFor 51 = .ok (.aaload, 1) := dk_50 (dk_at dksJ1_comparableClassFor_2 4 rfl rfl)
theorem dJ1_comparableClassFor_52 : decode cJ1_comparableClassFor 52 = .ok (.astore 8, 2) := dk_58 8 (dk_at dksJ1_comparableClassFor_2 5 rfl rfl)
theorem dJ1_comparableClassFor_54 : decode cJ1_comparableClassFor 54 = .ok (.aload 8, 2) := dk_25 8 (dk_at dksJ1_comparableClassFor_2 7 rfl rfl)
theorem dJ1_comparableClassFor_56 : decode cJ1_comparableClassFor 56 = .ok (.instanceof 21, 3) := dk_193 0 21 (dk_at dksJ1_comparableClassFor_2 9 rfl rfl)
theorem dJ1_comparableClassFor_59 : decode cJ1_comparableClassFor 59 = .ok (.ifCond .eq 48, 3) := dk_153 0 48 (dk_at dksJ1_comparableClassFor_2 12 rfl rfl)
theorem dJ1_comparableClassFor_62 : decode cJ1_comparableClassFor 62 = .ok (.aload 8, 2) := dk_25 8 (dk_at dksJ1_comparableClassFor_2 15 rfl rfl)
theorem dJ1_comparableClassFor_64 : decode cJ1_comparableClassFor 64 = .ok (.checkcast 21, 3) := dk_192 0 21 (dk_at dksJ1_comparableClassFor_2 17 rfl rfl)
theorem dJ1_comparableClassFor_67 : decode cJ1_comparableClassFor 67 = .ok (.dup, 1) := dk_89 (dk_at dksJ1_comparableClassFor_2 20 rfl rfl)
theorem dJ1_comparableClassFor_68 : decode cJ1_comparableClassFor 68 = .ok (.astore 4, 2) := dk_58 4 (dk_at dksJ1_comparableClassFor_2 21 rfl rfl)
theorem dJ1_comparableClassFor_70 : decode cJ1_comparableClassFor 70 = .ok (.invokeinterface 23 1, 5) := by decide +kernel
theorem dJ1_comparableClassFor_75 : decode cJ1_comparableClassFor 75 = .ok (.ldc 7, 2) := dk_18 7 (dk_at dksJ1_comparableClassFor_3 5 rfl rfl)
theorem dJ1_comparableClassFor_77 : decode cJ1_comparableClassFor 77 = .ok (.if_acmp .ne 30, 3) := dk_166 0 30 (dk_at dksJ1_comparableClassFor_3 7 rfl rfl)
theorem dJ1_comparableClassFor_80 : decode cJ1_comparableClassFor 80 = .ok (.aload 4, 2) := dk_25 4 (dk_at dksJ1_comparableClassFor_3 10 rfl rfl)
theorem dJ1_comparableClassFor_82 : decode cJ1_comparableClassFor 82 = .ok (.invokeinterface 27 1, 5) := by decide +kernel
theorem dJ1_comparableClassFor_87 : decode cJ1_comparableClassFor 87 = .ok (.dup, 1) := dk_89 (dk_at dksJ1_comparableClassFor_3 17 rfl rfl)
theorem dJ1_comparableClassFor_88 : decode cJ1_comparableClassFor 88 = .ok (.astore_n 3, 1) := dk_78 (dk_at dksJ1_comparableClassFor_3 18 rfl rfl)
theorem dJ1_comparableClassFor_89 : decode cJ1_comparableClassFor 89 = .ok (.ifnull 18, 3) := dk_198 0 18 (dk_at dksJ1_comparableClassFor_3 19 rfl rfl)
theorem dJ1_comparableClassFor_92 : decode cJ1_comparableClassFor 92 = .ok (.aload_n 3, 1) := dk_45 (dk_at dksJ1_comparableClassFor_3 22 rfl rfl)
theorem dJ1_comparableClassFor_93 : decode cJ1_comparableClassFor 93 = .ok (.arraylength, 1) := dk_190 (dk_at dksJ1_comparableClassFor_3 23 rfl rfl)
theorem dJ1_comparableClassFor_94 : decode cJ1_comparableClassFor 94 = .ok (.iconst 1, 1) := dk_4 (dk_at dksJ1_comparableClassFor_4 0 rfl rfl)
theorem dJ1_comparableClassFor_95 : decode cJ1_comparableClassFor 95 = .ok (.if_icmp .ne 12, 3) := dk_160 0 12 (dk_at dksJ1_comparableClassFor_4 1 rfl rfl)
theorem dJ1_comparableClassFor_98 : decode cJ1_comparableClassFor 98 = .ok (.aload_n 3, 1) := dk_45 (dk_at dksJ1_comparableClassFor_4 4 rfl rfl)
theorem dJ1_comparableClassFor_99 : decode cJ1_comparableClassFor 99 = .ok (.iconst 0, 1) := dk_3 (dk_at dksJ1_comparableClassFor_4 5 rfl rfl)
theorem dJ1_comparableClassFor_100 : decode cJ1_comparableClassFor 100 = .ok (.aaload, 1) := dk_50 (dk_at dksJ1_comparableClassFor_4 6 rfl rfl)
theorem dJ1_comparableClassFor_101 : decode cJ1_comparableClassFor 101 = .ok (.aload_n 1, 1) := dk_43 (dk_at dksJ1_comparableClassFor_4 7 rfl rfl)
theorem dJ1_comparableClassFor_102 : decode cJ1_comparableClassFor 102 = .ok (.if_acmp .ne 5, 3) := dk_166 0 5 (dk_at dksJ1_comparableClassFor_4 8 rfl rfl)
theorem dJ1_comparableClassFor_105 : decode cJ1_comparableClassFor 105 = .ok (.aload_n 1, 1) := dk_43 (dk_at dksJ1_comparableClassFor_4 11 rfl rfl)
theorem dJ1_comparableClassFor_106 : decode cJ1_comparableClassFor 106 = .ok (.areturn, 1) := dk_176 (dk_at dksJ1_comparableClassFor_4 12 rfl rfl)
theorem dJ1_comparableClassFor_107 : decode cJ1_comparableClassFor 107 = .ok (.iinc 7 1, 3) := dk_132 7 1 (dk_at dksJ1_comparableClassFor_4 13 rfl rfl)
theorem dJ1_comparableClassFor_110 : decode cJ1_comparableClassFor 110 = .ok (.goto (-70), 3) := dk_167 255 186 (dk_at dksJ1_comparableClassFor_4 16 rfl rfl)
theorem dJ1_comparableClassFor_113 : decode cJ1_comparableClassFor 113 = .ok (.aconst_null, 1) := dk_1 (dk_at dksJ1_comparableClassFor_4 19 rfl rfl)
theorem dJ1_comparableClassFor_114 : decode cJ1_comparableClassFor 114 = .ok (.areturn, 1) := dk_176 (dk_at dksJ1_comparableClassFor_4 20 rfl rfl)
abbrev cJ1_compareComparables : ByteArray := prog_38_method_3_code
def yJ1_compareComparables : MethodName := ⟨RJ1, "compareComparables", "(Ljava/lang/Class;Ljava/lang/Object;Ljava/lang/Object;)I"⟩
def dkwJ1_compareComparables_1 : List UInt8 := [185, 0, 30, 2, 0, 172]
abbrev dktJ1_compareComparables_1 : List UInt8 := dkwJ1_compareComparables_1 ++ []
def dkwJ1_compareComparables_0 : List UInt8 := [44, 198, 0, 11, 44, 182, 0, 9, 42, 165, 0, 7, 3, 167, 0, 13, 43, 192, 0, 7, 44]
abbrev dktJ1_compareComparables_0 : List UInt8 := dkwJ1_compareComparables_0 ++ dktJ1_compareComparables_1
theorem dksJ1_compareComparables_0 : cJ1_compareComparables.data.toList.drop 0 = dktJ1_compareComparables_0 := by decide +kernel
theorem dksJ1_compareComparables_1 : cJ1_compareComparables.data.toList.drop 21 = dktJ1_compareComparables_1 := dk_seg dksJ1_compareComparables_0 21 rfl rfl
theorem dJ1_compareComparables_0 : decode cJ1_compareComparables 0 = .ok (.aload_n 2, 1) := dk_44 (dk_at dksJ1_compareComparables_0 0 rfl rfl)
theorem dJ1_compareComparables_1 : decode cJ1_compareComparables 1 = .ok (.ifnull 11, 3) := dk_198 0 11 (dk_at dksJ1_compareComparables_0 1 rfl rfl)
theorem dJ1_compareComparables_4 : decode cJ1_compareComparables 4 = .ok (.aload_n 2, 1) := dk_44 (dk_at dksJ1_compareComparables_0 4 rfl rfl)
theorem dJ1_compareComparables_5 : decode cJ1_compareComparables 5 = .ok (.invokevirtual 9, 3) := dk_182 0 9 (dk_at dksJ1_compareComparables_0 5 rfl rfl)
theorem dJ1_compareComparables_8 : decode cJ1_compareComparables 8 = .ok (.aload_n 0, 1) := dk_42 (dk_at dksJ1_compareComparables_0 8 rfl rfl)
theorem dJ1_compareComparables_9 : decode cJ1_compareComparables 9 = .ok (.if_acmp .eq 7, 3) := dk_165 0 7 (dk_at dksJ1_compareComparables_0 9 rfl rfl)
theorem dJ1_compareComparables_12 : decode cJ1_compareComparables 12 = .ok (.iconst 0, 1) := dk_3 (dk_at dksJ1_compareComparables_0 12 rfl rfl)
theorem dJ1_compareComparables_13 : decode cJ1_compareComparables 13 = .ok (.goto 13, 3) := dk_167 0 13 (dk_at dksJ1_compareComparables_0 13 rfl rfl)
theorem dJ1_compareComparables_16 : decode cJ1_compareComparables 16 = .ok (.aload_n 1, 1) := dk_43 (dk_at dksJ1_compareComparables_0 16 rfl rfl)
theorem dJ1_compareComparables_17 : decode cJ1_compareComparables 17 = .ok (.checkcast 7, 3) := dk_192 0 7 (dk_at dksJ1_compareComparables_0 17 rfl rfl)
theorem dJ1_compareComparables_20 : decode cJ1_compareComparables 20 = .ok (.aload_n 2, 1) := dk_44 (dk_at dksJ1_compareComparables_0 20 rfl rfl)
theorem dJ1_compareComparables_21 : decode cJ1_compareComparables 21 = .ok (.invokeinterface 30 2, 5) := by decide +kernel
theorem dJ1_compareComparables_26 : decode cJ1_compareComparables 26 = .ok (.ireturn, 1) := dk_172 (dk_at dksJ1_compareComparables_1 5 rfl rfl)
abbrev cJ1_containsKey : ByteArray := prog_38_method_14_code
def yJ1_containsKey : MethodName := ⟨RJ1, "containsKey", "(Ljava/lang/Object;)Z"⟩
def dkwJ1_containsKey_0 : List UInt8 := [42, 43, 182, 0, 158, 198, 0, 7, 4, 167, 0, 4, 3, 172]
abbrev dktJ1_containsKey_0 : List UInt8 := dkwJ1_containsKey_0 ++ []
theorem dksJ1_containsKey_0 : cJ1_containsKey.data.toList.drop 0 = dktJ1_containsKey_0 := by decide +kernel
theorem dJ1_containsKey_0 : decode cJ1_containsKey 0 = .ok (.aload_n 0, 1) := dk_42 (dk_at dksJ1_containsKey_0 0 rfl rfl)
theorem dJ1_containsKey_1 : decode cJ1_containsKey 1 = .ok (.aload_n 1, 1) := dk_43 (dk_at dksJ1_containsKey_0 1 rfl rfl)
theorem dJ1_containsKey_2 : decode cJ1_containsKey 2 = .ok (.invokevirtual 158, 3) := dk_182 0 158 (dk_at dksJ1_containsKey_0 2 rfl rfl)
theorem dJ1_containsKey_5 : decode cJ1_containsKey 5 = .ok (.ifnull 7, 3) := dk_198 0 7 (dk_at dksJ1_containsKey_0 5 rfl rfl)
theorem dJ1_containsKey_8 : decode cJ1_containsKey 8 = .ok (.iconst 1, 1) := dk_4 (dk_at dksJ1_containsKey_0 8 rfl rfl)
theorem dJ1_containsKey_9 : decode cJ1_containsKey 9 = .ok (.goto 4, 3) := dk_167 0 4 (dk_at dksJ1_containsKey_0 9 rfl rfl)
theorem dJ1_containsKey_12 : decode cJ1_containsKey 12 = .ok (.iconst 0, 1) := dk_3 (dk_at dksJ1_containsKey_0 12 rfl rfl)
theorem dJ1_containsKey_13 : decode cJ1_containsKey 13 = .ok (.ireturn, 1) := dk_172 (dk_at dksJ1_containsKey_0 13 rfl rfl)
abbrev cJ1_size : ByteArray := prog_38_method_10_code
def yJ1_size : MethodName := ⟨RJ1, "size", "()I"⟩
theorem dJ1_size_0 : decode cJ1_size 0 = .ok (.aload_n 0, 1) := by decide +kernel
theorem dJ1_size_1 : decode cJ1_size 1 = .ok (.getfield 156, 3) := by decide +kernel
theorem dJ1_size_4 : decode cJ1_size 4 = .ok (.ireturn, 1) := by decide +kernel
abbrev cJ1_put : ByteArray := prog_38_method_15_code
def yJ1_put : MethodName := ⟨RJ1, "put", "(Ljava/lang/Object;Ljava/lang/Object;)Ljava/lang/Object;"⟩
def dkwJ1_put_0 : List UInt8 := [42, 43, 184, 0, 149, 43, 44, 3, 4, 182, 0, 152, 176]
abbrev dktJ1_put_0 : List UInt8 := dkwJ1_put_0 ++ []
theorem dksJ1_put_0 : cJ1_put.data.toList.drop 0 = dktJ1_put_0 := by decide +kernel
theorem dJ1_put_0 : decode cJ1_put 0 = .ok (.aload_n 0, 1) := dk_42 (dk_at dksJ1_put_0 0 rfl rfl)
theorem dJ1_put_1 : decode cJ1_put 1 = .ok (.aload_n 1, 1) := dk_43 (dk_at dksJ1_put_0 1 rfl rfl)
theorem dJ1_put_2 : decode cJ1_put 2 = .ok (.invokestatic 149, 3) := dk_184 0 149 (dk_at dksJ1_put_0 2 rfl rfl)
theorem dJ1_put_5 : decode cJ1_put 5 = .ok (.aload_n 1, 1) := dk_43 (dk_at dksJ1_put_0 5 rfl rfl)
theorem dJ1_put_6 : decode cJ1_put 6 = .ok (.aload_n 2, 1) := dk_44 (dk_at dksJ1_put_0 6 rfl rfl)
theorem dJ1_put_7 : decode cJ1_put 7 = .ok (.iconst 0, 1) := dk_3 (dk_at dksJ1_put_0 7 rfl rfl)
theorem dJ1_put_8 : decode cJ1_put 8 = .ok (.iconst 1, 1) := dk_4 (dk_at dksJ1_put_0 8 rfl rfl)
theorem dJ1_put_9 : decode cJ1_put 9 = .ok (.invokevirtual 152, 3) := dk_182 0 152 (dk_at dksJ1_put_0 9 rfl rfl)
theorem dJ1_put_12 : decode cJ1_put 12 = .ok (.areturn, 1) := dk_176 (dk_at dksJ1_put_0 12 rfl rfl)
abbrev cJ1_putVal : ByteArray := prog_38_method_16_code
def yJ1_putVal : MethodName := ⟨RJ1, "putVal", "(ILjava/lang/Object;Ljava/lang/Object;ZZ)Ljava/lang/Object;"⟩
def dkwJ1_putVal_12 : List UInt8 := [181, 0, 156, 42, 180, 0, 88, 164, 0, 8, 42, 182, 0, 117, 87, 42, 21, 5, 182, 0, 205, 1, 176]
abbrev dktJ1_putVal_12 : List UInt8 := dkwJ1_putVal_12 ++ []
def dkwJ1_putVal_11 : List UInt8 := [182, 0, 198, 25, 12, 176, 42, 89, 180, 0, 202, 4, 96, 181, 0, 202, 42, 89, 180, 0, 156, 4, 96, 90]
abbrev dktJ1_putVal_11 : List UInt8 := dkwJ1_putVal_11 ++ dktJ1_putVal_12
def dkwJ1_putVal_10 : List UInt8 := [180, 0, 162, 58, 12, 21, 4, 153, 0, 8, 25, 12, 199, 0, 9, 25, 10, 45, 181, 0, 162, 42, 25, 10]
abbrev dktJ1_putVal_10 : List UInt8 := dkwJ1_putVal_10 ++ dktJ1_putVal_11
def dkwJ1_putVal_9 : List UInt8 := [153, 0, 6, 167, 0, 13, 25, 10, 58, 7, 132, 12, 1, 167, 255, 171, 25, 10, 198, 0, 35, 25, 10]
abbrev dktJ1_putVal_9 : List UInt8 := dkwJ1_putVal_9 ++ dktJ1_putVal_10
def dkwJ1_putVal_8 : List UInt8 := [25, 10, 180, 0, 170, 89, 58, 11, 44, 165, 0, 29, 44, 198, 0, 15, 44, 25, 11, 182, 0, 173]
abbrev dktJ1_putVal_8 : List UInt8 := dkwJ1_putVal_8 ++ dktJ1_putVal_9
def dkwJ1_putVal_7 : List UInt8 := [16, 7, 161, 0, 60, 42, 25, 6, 27, 182, 0, 194, 167, 0, 50, 25, 10, 180, 0, 168, 27, 160, 0, 31]
abbrev dktJ1_putVal_7 : List UInt8 := dkwJ1_putVal_7 ++ dktJ1_putVal_8
def dkwJ1_putVal_6 : List UInt8 := [180, 0, 177, 89, 58, 10, 199, 0, 33, 25, 7, 42, 27, 44, 45, 1, 182, 0, 186, 181, 0, 177, 21, 12]
abbrev dktJ1_putVal_6 : List UInt8 := dkwJ1_putVal_6 ++ dktJ1_putVal_7
def dkwJ1_putVal_5 : List UInt8 := [192, 0, 180, 42, 25, 6, 27, 44, 45, 182, 0, 190, 58, 10, 167, 0, 94, 3, 54, 12, 25, 7]
abbrev dktJ1_putVal_5 : List UInt8 := dkwJ1_putVal_5 ++ dktJ1_putVal_6
def dkwJ1_putVal_4 : List UInt8 := [182, 0, 173, 153, 0, 10, 25, 7, 58, 10, 167, 0, 121, 25, 7, 193, 0, 180, 153, 0, 22, 25, 7]
abbrev dktJ1_putVal_4 : List UInt8 := dkwJ1_putVal_4 ++ dktJ1_putVal_5
def dkwJ1_putVal_3 : List UInt8 := [160, 0, 35, 25, 7, 180, 0, 170, 89, 58, 11, 44, 165, 0, 16, 44, 198, 0, 19, 44, 25, 11]
abbrev dktJ1_putVal_3 : List UInt8 := dkwJ1_putVal_3 ++ dktJ1_putVal_4
def dkwJ1_putVal_2 : List UInt8 := [25, 6, 21, 9, 42, 27, 44, 45, 1, 182, 0, 186, 83, 167, 0, 199, 25, 7, 180, 0, 168, 27]
abbrev dktJ1_putVal_2 : List UInt8 := dkwJ1_putVal_2 ++ dktJ1_putVal_3
def dkwJ1_putVal_1 : List UInt8 := [58, 6, 190, 54, 8, 25, 6, 21, 8, 4, 100, 27, 126, 89, 54, 9, 50, 89, 58, 7, 199, 0, 19]
abbrev dktJ1_putVal_1 : List UInt8 := dkwJ1_putVal_1 ++ dktJ1_putVal_2
def dkwJ1_putVal_0 : List UInt8 := [42, 180, 0, 105, 89, 58, 6, 198, 0, 12, 25, 6, 190, 89, 54, 8, 154, 0, 13, 42, 182, 0, 117, 89]
abbrev dktJ1_putVal_0 : List UInt8 := dkwJ1_putVal_0 ++ dktJ1_putVal_1
theorem dksJ1_putVal_0 : cJ1_putVal.data.toList.drop 0 = dktJ1_putVal_0 := by decide +kernel
theorem dksJ1_putVal_1 : cJ1_putVal.data.toList.drop 24 = dktJ1_putVal_1 := dk_seg dksJ1_putVal_0 24 rfl rfl
theorem dksJ1_putVal_2 : cJ1_putVal.data.toList.drop 47 = dktJ1_putVal_2 := dk_seg dksJ1_putVal_1 23 rfl rfl
theorem dksJ1_putVal_3 : cJ1_putVal.data.toList.drop 69 = dktJ1_putVal_3 := dk_seg dksJ1_putVal_2 22 rfl rfl
theorem dksJ1_putVal_4 : cJ1_putVal.data.toList.drop 91 = dktJ1_putVal_4 := dk_seg dksJ1_putVal_3 22 rfl rfl
theorem dksJ1_putVal_5 : cJ1_putVal.data.toList.drop 114 = dktJ1_putVal_5 := dk_seg dksJ1_putVal_4 23 rfl rfl
theorem dksJ1_putVal_6 : cJ1_putVal.data.toList.drop 136 = dktJ1_putVal_6 := dk_seg dksJ1_putVal_5 22 rfl rfl
theorem dksJ1_putVal_7 : cJ1_putVal.data.toList.drop 160 = dktJ1_putVal_7 := dk_seg dksJ1_putVal_6 24 rfl rfl
theorem dksJ1_putVal_8 : cJ1_putVal.data.toList.drop 184 = dktJ1_putVal_8 := dk_seg dksJ1_putVal_7 24 rfl rfl
theorem dksJ1_putVal_9 : cJ1_putVal.data.toList.drop 206 = dktJ1_putVal_9 := dk_seg dksJ1_putVal_8 22 rfl rfl
theorem dksJ1_putVal_10 : cJ1_putVal.data.toList.drop 229 = dktJ1_putVal_10 := dk_seg dksJ1_putVal_9 23 rfl rfl
theorem dksJ1_putVal_11 : cJ1_putVal.data.toList.drop 253 = dktJ1_putVal_11 := dk_seg dksJ1_putVal_10 24 rfl rfl
theorem dksJ1_putVal_12 : cJ1_putVal.data.toList.drop 277 = dktJ1_putVal_12 := dk_seg dksJ1_putVal_11 24 rfl rfl
theorem dJ1_putVal_0 : decode cJ1_putVal 0 = .ok (.aload_n 0, 1) := dk_42 (dk_at dksJ1_putVal_0 0 rfl rfl)
theorem dJ1_putVal_1 : decode cJ1_putVal 1 = .ok (.getfield 105, 3) := dk_180 0 105 (dk_at dksJ1_putVal_0 1 rfl rfl)
theorem dJ1_putVal_4 : decode cJ1_putVal 4 = .ok (.dup, 1) := dk_89 (dk_at dksJ1_putVal_0 4 rfl rfl)
theorem dJ1_putVal_5 : decode cJ1_putVal 5 = .ok (.astore 6, 2) := dk_58 6 (dk_at dksJ1_putVal_0 5 rfl rfl)
theorem dJ1_putVal_7 : decode cJ1_putVal 7 = .ok (.ifnull 12, 3) := dk_198 0 12 (dk_at dksJ1_putVal_0 7 rfl rfl)
theorem dJ1_putVal_10 : decode cJ1_putVal 10 = .ok (.aload 6, 2) := dk_25 6 (dk_at dksJ1_putVal_0 10 rfl rfl)
theorem dJ1_putVal_12 : decode cJ1_putVal 12 = .ok (.arraylength, 1) := dk_190 (dk_at dksJ1_putVal_0 12 rfl rfl)
theorem dJ1_putVal_13 : decode cJ1_putVal 13 = .ok (.dup, 1) := dk_89 (dk_at dksJ1_putVal_0 13 rfl rfl)
theorem dJ1_putVal_14 : decode cJ1_putVal 14 = .ok (.istore 8, 2) := dk_54 8 (dk_at dksJ1_putVal_0 14 rfl rfl)
theorem dJ1_putVal_16 : decode cJ1_putVal 16 = .ok (.ifCond .ne 13, 3) := dk_154 0 13 (dk_at dksJ1_putVal_0 16 rfl rfl)
theorem dJ1_putVal_19 : decode cJ1_putVal 19 = .ok (.aload_n 0, 1) := dk_42 (dk_at dksJ1_putVal_0 19 rfl rfl)
theorem dJ1_putVal_20 : decode cJ1_putVal 20 = .ok (.invokevirtual 117, 3) := dk_182 0 117 (dk_at dksJ1_putVal_0 20 rfl rfl)
theorem dJ1_putVal_23 : decode cJ1_putVal 23 = .ok (.dup, 1) := dk_89 (dk_at dksJ1_putVal_0 23 rfl rfl)
theorem dJ1_putVal_24 : decode cJ1_putVal 24 = .ok (.astore 6, 2) := dk_58 6 (dk_at dksJ1_putVal_1 0 rfl rfl)
theorem dJ1_putVal_26 : decode cJ1_putVal 26 = .ok (.arraylength, 1) := dk_190 (dk_at dksJ1_putVal_1 2 rfl rfl)
theorem dJ1_putVal_27 : decode cJ1_putVal 27 = .ok (.istore 8, 2) := dk_54 8 (dk_at dksJ1_putVal_1 3 rfl rfl)
theorem dJ1_putVal_29 : decode cJ1_putVal 29 = .ok (.aload 6, 2) := dk_25 6 (dk_at dksJ1_putVal_1 5 rfl rfl)
theorem dJ1_putVal_31 : decode cJ1_putVal 31 = .ok (.iload 8, 2) := dk_21 8 (dk_at dksJ1_putVal_1 7 rfl rfl)
theorem dJ1_putVal_33 : decode cJ1_putVal 33 = .ok (.iconst 1, 1) := dk_4 (dk_at dksJ1_putVal_1 9 rfl rfl)
theorem dJ1_putVal_34 : decode cJ1_putVal 34 = .ok (.isub, 1) := dk_100 (dk_at dksJ1_putVal_1 10 rfl rfl)
theorem dJ1_putVal_35 : decode cJ1_putVal 35 = .ok (.iload_n 1, 1) := dk_27 (dk_at dksJ1_putVal_1 11 rfl rfl)
theorem dJ1_putVal_36 : decode cJ1_putVal 36 = .ok (.iand, 1) := dk_126 (dk_at dksJ1_putVal_1 12 rfl rfl)
theorem dJ1_putVal_37 : decode cJ1_putVal 37 = .ok (.dup, 1) := dk_89 (dk_at dksJ1_putVal_1 13 rfl rfl)
theorem dJ1_putVal_38 : decode cJ1_putVal 38 = .ok (.istore 9, 2) := dk_54 9 (dk_at dksJ1_putVal_1 14 rfl rfl)
theorem dJ1_putVal_40 : decode cJ1_putVal 40 = .ok (.aaload, 1) := dk_50 (dk_at dksJ1_putVal_1 16 rfl rfl)
theorem dJ1_putVal_41 : decode cJ1_putVal 41 = .ok (.dup, 1) := dk_89 (dk_at dksJ1_putVal_1 17 rfl rfl)
theorem dJ1_putVal_42 : decode cJ1_putVal 42 = .ok (.astore 7, 2) := dk_58 7 (dk_at dksJ1_putVal_1 18 rfl rfl)
theorem dJ1_putVal_44 : decode cJ1_putVal 44 = .ok (.ifnonnull 19, 3) := dk_199 0 19 (dk_at dksJ1_putVal_1 20 rfl rfl)
theorem dJ1_putVal_47 : decode cJ1_putVal 47 = .ok (.aload 6, 2) := dk_25 6 (dk_at dksJ1_putVal_2 0 rfl rfl)
theorem dJ1_putVal_49 : decode cJ1_putVal 49 = .ok (.iload 9, 2) := dk_21 9 (dk_at dksJ1_putVal_2 2 rfl rfl)
theorem dJ1_putVal_51 : decode cJ1_putVal 51 = .ok (.aload_n 0, 1) := dk_42 (dk_at dksJ1_putVal_2 4 rfl rfl)
theorem dJ1_putVal_52 : decode cJ1_putVal 52 = .ok (.iload_n 1, 1) := dk_27 (dk_at dksJ1_putVal_2 5 rfl rfl)
theorem dJ1_putVal_53 : decode cJ1_putVal 53 = .ok (.aload_n 2, 1) := dk_44 (dk_at dksJ1_putVal_2 6 rfl rfl)
theorem dJ1_putVal_54 : decode cJ1_putVal 54 = .ok (.aload_n 3, 1) := dk_45 (dk_at dksJ1_putVal_2 7 rfl rfl)
theorem dJ1_putVal_55 : decode cJ1_putVal 55 = .ok (.aconst_null, 1) := dk_1 (dk_at dksJ1_putVal_2 8 rfl rfl)
theorem dJ1_putVal_56 : decode cJ1_putVal 56 = .ok (.invokevirtual 186, 3) := dk_182 0 186 (dk_at dksJ1_putVal_2 9 rfl rfl)
theorem dJ1_putVal_59 : decode cJ1_putVal 59 = .ok (.aastore, 1) := dk_83 (dk_at dksJ1_putVal_2 12 rfl rfl)
theorem dJ1_putVal_60 : decode cJ1_putVal 60 = .ok (.goto 199, 3) := dk_167 0 199 (dk_at dksJ1_putVal_2 13 rfl rfl)
theorem dJ1_putVal_63 : decode cJ1_putVal 63 = .ok (.aload 7, 2) := dk_25 7 (dk_at dksJ1_putVal_2 16 rfl rfl)
theorem dJ1_putVal_65 : decode cJ1_putVal 65 = .ok (.getfield 168, 3) := dk_180 0 168 (dk_at dksJ1_putVal_2 18 rfl rfl)
theorem dJ1_putVal_68 : decode cJ1_putVal 68 = .ok (.iload_n 1, 1) := dk_27 (dk_at dksJ1_putVal_2 21 rfl rfl)
theorem dJ1_putVal_69 : decode cJ1_putVal 69 = .ok (.if_icmp .ne 35, 3) := dk_160 0 35 (dk_at dksJ1_putVal_3 0 rfl rfl)
theorem dJ1_putVal_72 : decode cJ1_putVal 72 = .ok (.aload 7, 2) := dk_25 7 (dk_at dksJ1_putVal_3 3 rfl rfl)
theorem dJ1_putVal_74 : decode cJ1_putVal 74 = .ok (.getfield 170, 3) := dk_180 0 170 (dk_at dksJ1_putVal_3 5 rfl rfl)
theorem dJ1_putVal_77 : decode cJ1_putVal 77 = .ok (.dup, 1) := dk_89 (dk_at dksJ1_putVal_3 8 rfl rfl)
theorem dJ1_putVal_78 : decode cJ1_putVal 78 = .ok (.astore 11, 2) := dk_58 11 (dk_at dksJ1_putVal_3 9 rfl rfl)
theorem dJ1_putVal_80 : decode cJ1_putVal 80 = .ok (.aload_n 2, 1) := dk_44 (dk_at dksJ1_putVal_3 11 rfl rfl)
theorem dJ1_putVal_81 : decode cJ1_putVal 81 = .ok (.if_acmp .eq 16, 3) := dk_165 0 16 (dk_at dksJ1_putVal_3 12 rfl rfl)
theorem dJ1_putVal_84 : decode cJ1_putVal 84 = .ok (.aload_n 2, 1) := dk_44 (dk_at dksJ1_putVal_3 15 rfl rfl)
theorem dJ1_putVal_85 : decode cJ1_putVal 85 = .ok (.ifnull 19, 3) := dk_198 0 19 (dk_at dksJ1_putVal_3 16 rfl rfl)
theorem dJ1_putVal_88 : decode cJ1_putVal 88 = .ok (.aload_n 2, 1) := dk_44 (dk_at dksJ1_putVal_3 19 rfl rfl)
theorem dJ1_putVal_89 : decode cJ1_putVal 89 = .ok (.aload 11, 2) := dk_25 11 (dk_at dksJ1_putVal_3 20 rfl rfl)
theorem dJ1_putVal_91 : decode cJ1_putVal 91 = .ok (.invokevirtual 173, 3) := dk_182 0 173 (dk_at dksJ1_putVal_4 0 rfl rfl)
theorem dJ1_putVal_94 : decode cJ1_putVal 94 = .ok (.ifCond .eq 10, 3) := dk_153 0 10 (dk_at dksJ1_putVal_4 3 rfl rfl)
theorem dJ1_putVal_97 : decode cJ1_putVal 97 = .ok (.aload 7, 2) := dk_25 7 (dk_at dksJ1_putVal_4 6 rfl rfl)
theorem dJ1_putVal_99 : decode cJ1_putVal 99 = .ok (.astore 10, 2) := dk_58 10 (dk_at dksJ1_putVal_4 8 rfl rfl)
theorem dJ1_putVal_101 : decode cJ1_putVal 101 = .ok (.goto 121, 3) := dk_167 0 121 (dk_at dksJ1_putVal_4 10 rfl rfl)
theorem dJ1_putVal_104 : decode cJ1_putVal 104 = .ok (.aload 7, 2) := dk_25 7 (dk_at dksJ1_putVal_4 13 rfl rfl)
theorem dJ1_putVal_106 : decode cJ1_putVal 106 = .ok (.instanceof 180, 3) := dk_193 0 180 (dk_at dksJ1_putVal_4 15 rfl rfl)
theorem dJ1_putVal_109 : decode cJ1_putVal 109 = .ok (.ifCond .eq 22, 3) := dk_153 0 22 (dk_at dksJ1_putVal_4 18 rfl rfl)
theorem dJ1_putVal_112 : decode cJ1_putVal 112 = .ok (.aload 7, 2) := dk_25 7 (dk_at dksJ1_putVal_4 21 rfl rfl)
theorem dJ1_putVal_114 : decode cJ1_putVal 114 = .ok (.checkcast 180, 3) := dk_192 0 180 (dk_at dksJ1_putVal_5 0 rfl rfl)
theorem dJ1_putVal_117 : decode cJ1_putVal 117 = .ok (.aload_n 0, 1) := dk_42 (dk_at dksJ1_putVal_5 3 rfl rfl)
theorem dJ1_putVal_118 : decode cJ1_putVal 118 = .ok (.aload 6, 2) := dk_25 6 (dk_at dksJ1_putVal_5 4 rfl rfl)
theorem dJ1_putVal_120 : decode cJ1_putVal 120 = .ok (.iload_n 1, 1) := dk_27 (dk_at dksJ1_putVal_5 6 rfl rfl)
theorem dJ1_putVal_121 : decode cJ1_putVal 121 = .ok (.aload_n 2, 1) := dk_44 (dk_at dksJ1_putVal_5 7 rfl rfl)
theorem dJ1_putVal_122 : decode cJ1_putVal 122 = .ok (.aload_n 3, 1) := dk_45 (dk_at dksJ1_putVal_5 8 rfl rfl)
theorem dJ1_putVal_123 : decode cJ1_putVal 123 = .ok (.invokevirtual 190, 3) := dk_182 0 190 (dk_at dksJ1_putVal_5 9 rfl rfl)
theorem dJ1_putVal_126 : decode cJ1_putVal 126 = .ok (.astore 10, 2) := dk_58 10 (dk_at dksJ1_putVal_5 12 rfl rfl)
theorem dJ1_putVal_128 : decode cJ1_putVal 128 = .ok (.goto 94, 3) := dk_167 0 94 (dk_at dksJ1_putVal_5 14 rfl rfl)
theorem dJ1_putVal_131 : decode cJ1_putVal 131 = .ok (.iconst 0, 1) := dk_3 (dk_at dksJ1_putVal_5 17 rfl rfl)
theorem dJ1_putVal_132 : decode cJ1_putVal 132 = .ok (.istore 12, 2) := dk_54 12 (dk_at dksJ1_putVal_5 18 rfl rfl)
theorem dJ1_putVal_134 : decode cJ1_putVal 134 = .ok (.aload 7, 2) := dk_25 7 (dk_at dksJ1_putVal_5 20 rfl rfl)
theorem dJ1_putVal_136 : decode cJ1_putVal 136 = .ok (.getfield 177, 3) := dk_180 0 177 (dk_at dksJ1_putVal_6 0 rfl rfl)
theorem dJ1_putVal_139 : decode cJ1_putVal 139 = .ok (.dup, 1) := dk_89 (dk_at dksJ1_putVal_6 3 rfl rfl)
theorem dJ1_putVal_140 : decode cJ1_putVal 140 = .ok (.astore 10, 2) := dk_58 10 (dk_at dksJ1_putVal_6 4 rfl rfl)
theorem dJ1_putVal_142 : decode cJ1_putVal 142 = .ok (.ifnonnull 33, 3) := dk_199 0 33 (dk_at dksJ1_putVal_6 6 rfl rfl)
theorem dJ1_putVal_145 : decode cJ1_putVal 145 = .ok (.aload 7, 2) := dk_25 7 (dk_at dksJ1_putVal_6 9 rfl rfl)
theorem dJ1_putVal_147 : decode cJ1_putVal 147 = .ok (.aload_n 0, 1) := dk_42 (dk_at dksJ1_putVal_6 11 rfl rfl)
theorem dJ1_putVal_148 : decode cJ1_putVal 148 = .ok (.iload_n 1, 1) := dk_27 (dk_at dksJ1_putVal_6 12 rfl rfl)
theorem dJ1_putVal_149 : decode cJ1_putVal 149 = .ok (.aload_n 2, 1) := dk_44 (dk_at dksJ1_putVal_6 13 rfl rfl)
theorem dJ1_putVal_150 : decode cJ1_putVal 150 = .ok (.aload_n 3, 1) := dk_45 (dk_at dksJ1_putVal_6 14 rfl rfl)
theorem dJ1_putVal_151 : decode cJ1_putVal 151 = .ok (.aconst_null, 1) := dk_1 (dk_at dksJ1_putVal_6 15 rfl rfl)
theorem dJ1_putVal_152 : decode cJ1_putVal 152 = .ok (.invokevirtual 186, 3) := dk_182 0 186 (dk_at dksJ1_putVal_6 16 rfl rfl)
theorem dJ1_putVal_155 : decode cJ1_putVal 155 = .ok (.putfield 177, 3) := dk_181 0 177 (dk_at dksJ1_putVal_6 19 rfl rfl)
theorem dJ1_putVal_158 : decode cJ1_putVal 158 = .ok (.iload 12, 2) := dk_21 12 (dk_at dksJ1_putVal_6 22 rfl rfl)
theorem dJ1_putVal_160 : decode cJ1_putVal 160 = .ok (.bipush 7, 2) := dk_16 7 (dk_at dksJ1_putVal_7 0 rfl rfl)
theorem dJ1_putVal_162 : decode cJ1_putVal 162 = .ok (.if_icmp .lt 60, 3) := dk_161 0 60 (dk_at dksJ1_putVal_7 2 rfl rfl)
theorem dJ1_putVal_165 : decode cJ1_putVal 165 = .ok (.aload_n 0, 1) := dk_42 (dk_at dksJ1_putVal_7 5 rfl rfl)
theorem dJ1_putVal_166 : decode cJ1_putVal 166 = .ok (.aload 6, 2) := dk_25 6 (dk_at dksJ1_putVal_7 6 rfl rfl)
theorem dJ1_putVal_168 : decode cJ1_putVal 168 = .ok (.iload_n 1, 1) := dk_27 (dk_at dksJ1_putVal_7 8 rfl rfl)
theorem dJ1_putVal_169 : decode cJ1_putVal 169 = .ok (.invokevirtual 194, 3) := dk_182 0 194 (dk_at dksJ1_putVal_7 9 rfl rfl)
theorem dJ1_putVal_172 : decode cJ1_putVal 172 = .ok (.goto 50, 3) := dk_167 0 50 (dk_at dksJ1_putVal_7 12 rfl rfl)
theorem dJ1_putVal_175 : decode cJ1_putVal 175 = .ok (.aload 10, 2) := dk_25 10 (dk_at dksJ1_putVal_7 15 rfl rfl)
theorem dJ1_putVal_177 : decode cJ1_putVal 177 = .ok (.getfield 168, 3) := dk_180 0 168 (dk_at dksJ1_putVal_7 17 rfl rfl)
theorem dJ1_putVal_180 : decode cJ1_putVal 180 = .ok (.iload_n 1, 1) := dk_27 (dk_at dksJ1_putVal_7 20 rfl rfl)
theorem dJ1_putVal_181 : decode cJ1_putVal 181 = .ok (.if_icmp .ne 31, 3) := dk_160 0 31 (dk_at dksJ1_putVal_7 21 rfl rfl)
theorem dJ1_putVal_184 : decode cJ1_putVal 184 = .ok (.aload 10, 2) := dk_25 10 (dk_at dksJ1_putVal_8 0 rfl rfl)
theorem dJ1_putVal_186 : decode cJ1_putVal 186 = .ok (.getfield 170, 3) := dk_180 0 170 (dk_at dksJ1_putVal_8 2 rfl rfl)
theorem dJ1_putVal_189 : decode cJ1_putVal 189 = .ok (.dup, 1) := dk_89 (dk_at dksJ1_putVal_8 5 rfl rfl)
theorem dJ1_putVal_190 : decode cJ1_putVal 190 = .ok (.astore 11, 2) := dk_58 11 (dk_at dksJ1_putVal_8 6 rfl rfl)
theorem dJ1_putVal_192 : decode cJ1_putVal 192 = .ok (.aload_n 2, 1) := dk_44 (dk_at dksJ1_putVal_8 8 rfl rfl)
theorem dJ1_putVal_193 : decode cJ1_putVal 193 = .ok (.if_acmp .eq 29, 3) := dk_165 0 29 (dk_at dksJ1_putVal_8 9 rfl rfl)
theorem dJ1_putVal_196 : decode cJ1_putVal 196 = .ok (.aload_n 2, 1) := dk_44 (dk_at dksJ1_putVal_8 12 rfl rfl)
theorem dJ1_putVal_197 : decode cJ1_putVal 197 = .ok (.ifnull 15, 3) := dk_198 0 15 (dk_at dksJ1_putVal_8 13 rfl rfl)
theorem dJ1_putVal_200 : decode cJ1_putVal 200 = .ok (.aload_n 2, 1) := dk_44 (dk_at dksJ1_putVal_8 16 rfl rfl)
theorem dJ1_putVal_201 : decode cJ1_putVal 201 = .ok (.aload 11, 2) := dk_25 11 (dk_at dksJ1_putVal_8 17 rfl rfl)
theorem dJ1_putVal_203 : decode cJ1_putVal 203 = .ok (.invokevirtual 173, 3) := dk_182 0 173 (dk_at dksJ1_putVal_8 19 rfl rfl)
theorem dJ1_putVal_206 : decode cJ1_putVal 206 = .ok (.ifCond .eq 6, 3) := dk_153 0 6 (dk_at dksJ1_putVal_9 0 rfl rfl)
theorem dJ1_putVal_209 : decode cJ1_putVal 209 = .ok (.goto 13, 3) := dk_167 0 13 (dk_at dksJ1_putVal_9 3 rfl rfl)
theorem dJ1_putVal_212 : decode cJ1_putVal 212 = .ok (.aload 10, 2) := dk_25 10 (dk_at dksJ1_putVal_9 6 rfl rfl)
theorem dJ1_putVal_214 : decode cJ1_putVal 214 = .ok (.astore 7, 2) := dk_58 7 (dk_at dksJ1_putVal_9 8 rfl rfl)
theorem dJ1_putVal_216 : decode cJ1_putVal 216 = .ok (.iinc 12 1, 3) := dk_132 12 1 (dk_at dksJ1_putVal_9 10 rfl rfl)
theorem dJ1_putVal_219 : decode cJ1_putVal 219 = .ok (.goto (-85), 3) := dk_167 255 171 (dk_at dksJ1_putVal_9 13 rfl rfl)
theorem dJ1_putVal_222 : decode cJ1_putVal 222 = .ok (.aload 10, 2) := dk_25 10 (dk_at dksJ1_putVal_9 16 rfl rfl)
theorem dJ1_putVal_224 : decode cJ1_putVal 224 = .ok (.ifnull 35, 3) := dk_198 0 35 (dk_at dksJ1_putVal_9 18 rfl rfl)
theorem dJ1_putVal_227 : decode cJ1_putVal 227 = .ok (.aload 10, 2) := dk_25 10 (dk_at dksJ1_putVal_9 21 rfl rfl)
theorem dJ1_putVal_229 : decode cJ1_putVal 229 = .ok (.getfield 162, 3) := dk_180 0 162 (dk_at dksJ1_putVal_10 0 rfl rfl)
theorem dJ1_putVal_232 : decode cJ1_putVal 232 = .ok (.astore 12, 2) := dk_58 12 (dk_at dksJ1_putVal_10 3 rfl rfl)
theorem dJ1_putVal_234 : decode cJ1_putVal 234 = .ok (.iload 4, 2) := dk_21 4 (dk_at dksJ1_putVal_10 5 rfl rfl)
theorem dJ1_putVal_236 : decode cJ1_putVal 236 = .ok (.ifCond .eq 8, 3) := dk_153 0 8 (dk_at dksJ1_putVal_10 7 rfl rfl)
theorem dJ1_putVal_239 : decode cJ1_putVal 239 = .ok (.aload 12, 2) := dk_25 12 (dk_at dksJ1_putVal_10 10 rfl rfl)
theorem dJ1_putVal_241 : decode cJ1_putVal 241 = .ok (.ifnonnull 9, 3) := dk_199 0 9 (dk_at dksJ1_putVal_10 12 rfl rfl)
theorem dJ1_putVal_244 : decode cJ1_putVal 244 = .ok (.aload 10, 2) := dk_25 10 (dk_at dksJ1_putVal_10 15 rfl rfl)
theorem dJ1_putVal_246 : decode cJ1_putVal 246 = .ok (.aload_n 3, 1) := dk_45 (dk_at dksJ1_putVal_10 17 rfl rfl)
theorem dJ1_putVal_247 : decode cJ1_putVal 247 = .ok (.putfield 162, 3) := dk_181 0 162 (dk_at dksJ1_putVal_10 18 rfl rfl)
theorem dJ1_putVal_250 : decode cJ1_putVal 250 = .ok (.aload_n 0, 1) := dk_42 (dk_at dksJ1_putVal_10 21 rfl rfl)
theorem dJ1_putVal_251 : decode cJ1_putVal 251 = .ok (.aload 10, 2) := dk_25 10 (dk_at dksJ1_putVal_10 22 rfl rfl)
theorem dJ1_putVal_253 : decode cJ1_putVal 253 = .ok (.invokevirtual 198, 3) := dk_182 0 198 (dk_at dksJ1_putVal_11 0 rfl rfl)
theorem dJ1_putVal_256 : decode cJ1_putVal 256 = .ok (.aload 12, 2) := dk_25 12 (dk_at dksJ1_putVal_11 3 rfl rfl)
theorem dJ1_putVal_258 : decode cJ1_putVal 258 = .ok (.areturn, 1) := dk_176 (dk_at dksJ1_putVal_11 5 rfl rfl)
theorem dJ1_putVal_259 : decode cJ1_putVal 259 = .ok (.aload_n 0, 1) := dk_42 (dk_at dksJ1_putVal_11 6 rfl rfl)
theorem dJ1_putVal_260 : decode cJ1_putVal 260 = .ok (.dup, 1) := dk_89 (dk_at dksJ1_putVal_11 7 rfl rfl)
theorem dJ1_putVal_261 : decode cJ1_putVal 261 = .ok (.getfield 202, 3) := dk_180 0 202 (dk_at dksJ1_putVal_11 8 rfl rfl)
theorem dJ1_putVal_264 : decode cJ1_putVal 264 = .ok (.iconst 1, 1) := dk_4 (dk_at dksJ1_putVal_11 11 rfl rfl)
theorem dJ1_putVal_265 : decode cJ1_putVal 265 = .ok (.iadd, 1) := dk_96 (dk_at dksJ1_putVal_11 12 rfl rfl)
theorem dJ1_putVal_266 : decode cJ1_putVal 266 = .ok (.putfield 202, 3) := dk_181 0 202 (dk_at dksJ1_putVal_11 13 rfl rfl)
theorem dJ1_putVal_269 : decode cJ1_putVal 269 = .ok (.aload_n 0, 1) := dk_42 (dk_at dksJ1_putVal_11 16 rfl rfl)
theorem dJ1_putVal_270 : decode cJ1_putVal 270 = .ok (.dup, 1) := dk_89 (dk_at dksJ1_putVal_11 17 rfl rfl)
theorem dJ1_putVal_271 : decode cJ1_putVal 271 = .ok (.getfield 156, 3) := dk_180 0 156 (dk_at dksJ1_putVal_11 18 rfl rfl)
theorem dJ1_putVal_274 : decode cJ1_putVal 274 = .ok (.iconst 1, 1) := dk_4 (dk_at dksJ1_putVal_11 21 rfl rfl)
theorem dJ1_putVal_275 : decode cJ1_putVal 275 = .ok (.iadd, 1) := dk_96 (dk_at dksJ1_putVal_11 22 rfl rfl)
theorem dJ1_putVal_276 : decode cJ1_putVal 276 = .ok (.dup_x1, 1) := dk_90 (dk_at dksJ1_putVal_11 23 rfl rfl)
theorem dJ1_putVal_277 : decode cJ1_putVal 277 = .ok (.putfield 156, 3) := dk_181 0 156 (dk_at dksJ1_putVal_12 0 rfl rfl)
theorem dJ1_putVal_280 : decode cJ1_putVal 280 = .ok (.aload_n 0, 1) := dk_42 (dk_at dksJ1_putVal_12 3 rfl rfl)
theorem dJ1_putVal_281 : decode cJ1_putVal 281 = .ok (.getfield 88, 3) := dk_180 0 88 (dk_at dksJ1_putVal_12 4 rfl rfl)
theorem dJ1_putVal_284 : decode cJ1_putVal 284 = .ok (.if_icmp .le 8, 3) := dk_164 0 8 (dk_at dksJ1_putVal_12 7 rfl rfl)
theorem dJ1_putVal_287 : decode cJ1_putVal 287 = .ok (.aload_n 0, 1) := dk_42 (dk_at dksJ1_putVal_12 10 rfl rfl)
theorem dJ1_putVal_288 : decode cJ1_putVal 288 = .ok (.invokevirtual 117, 3) := dk_182 0 117 (dk_at dksJ1_putVal_12 11 rfl rfl)
theorem dJ1_putVal_291 : decode cJ1_putVal 291 = .ok (.pop, 1) := dk_87 (dk_at dksJ1_putVal_12 14 rfl rfl)
theorem dJ1_putVal_292 : decode cJ1_putVal 292 = .ok (.aload_n 0, 1) := dk_42 (dk_at dksJ1_putVal_12 15 rfl rfl)
theorem dJ1_putVal_293 : decode cJ1_putVal 293 = .ok (.iload 5, 2) := dk_21 5 (dk_at dksJ1_putVal_12 16 rfl rfl)
theorem dJ1_putVal_295 : decode cJ1_putVal 295 = .ok (.invokevirtual 205, 3) := dk_182 0 205 (dk_at dksJ1_putVal_12 18 rfl rfl)
theorem dJ1_putVal_298 : decode cJ1_putVal 298 = .ok (.aconst_null, 1) := dk_1 (dk_at dksJ1_putVal_12 21 rfl rfl)
theorem dJ1_putVal_299 : decode cJ1_putVal 299 = .ok (.areturn, 1) := dk_176 (dk_at dksJ1_putVal_12 22 rfl rfl)
abbrev cJ1_resize : ByteArray := prog_38_method_17_code
def yJ1_resize : MethodName := ⟨RJ1, "resize", "()[Ljava/util/HashMap$Node;"⟩
def dkwJ1_resize_15 : List UInt8 := [25, 6, 176]
abbrev dktJ1_resize_15 : List UInt8 := dkwJ1_resize_15 ++ []
def dkwJ1_resize_14 : List UInt8 := [198, 0, 18, 25, 12, 1, 181, 0, 177, 25, 6, 21, 7, 28, 96, 25, 11, 83, 132, 7, 1, 167, 255, 57]
abbrev dktJ1_resize_14 : List UInt8 := dkwJ1_resize_14 ++ dktJ1_resize_15
def dkwJ1_resize_13 : List UInt8 := [199, 255, 185, 25, 10, 198, 0, 16, 25, 10, 1, 181, 0, 177, 25, 6, 21, 7, 25, 9, 83, 25, 12]
abbrev dktJ1_resize_13 : List UInt8 := dkwJ1_resize_13 ++ dktJ1_resize_14
def dkwJ1_resize_12 : List UInt8 := [25, 8, 58, 11, 167, 0, 10, 25, 12, 25, 8, 181, 0, 177, 25, 8, 58, 12, 25, 13, 89, 58, 8]
abbrev dktJ1_resize_12 : List UInt8 := dkwJ1_resize_12 ++ dktJ1_resize_13
def dkwJ1_resize_11 : List UInt8 := [58, 9, 167, 0, 10, 25, 10, 25, 8, 181, 0, 177, 25, 8, 58, 10, 167, 0, 26, 25, 12, 199, 0, 10]
abbrev dktJ1_resize_11 : List UInt8 := dkwJ1_resize_11 ++ dktJ1_resize_12
def dkwJ1_resize_10 : List UInt8 := [25, 8, 180, 0, 177, 58, 13, 25, 8, 180, 0, 168, 28, 126, 154, 0, 29, 25, 10, 199, 0, 10, 25, 8]
abbrev dktJ1_resize_10 : List UInt8 := dkwJ1_resize_10 ++ dktJ1_resize_11
def dkwJ1_resize_9 : List UInt8 := [42, 25, 6, 21, 7, 28, 182, 0, 211, 167, 0, 127, 1, 58, 9, 1, 58, 10, 1, 58, 11, 1, 58, 12]
abbrev dktJ1_resize_9 : List UInt8 := dkwJ1_resize_9 ++ dktJ1_resize_10
def dkwJ1_resize_8 : List UInt8 := [21, 4, 4, 100, 126, 25, 8, 83, 167, 0, 152, 25, 8, 193, 0, 180, 153, 0, 20, 25, 8, 192, 0, 180]
abbrev dktJ1_resize_8 : List UInt8 := dkwJ1_resize_8 ++ dktJ1_resize_9
def dkwJ1_resize_7 : List UInt8 := [198, 0, 183, 43, 21, 7, 1, 83, 25, 8, 180, 0, 177, 199, 0, 21, 25, 6, 25, 8, 180, 0, 168]
abbrev dktJ1_resize_7 : List UInt8 := dkwJ1_resize_7 ++ dktJ1_resize_8
def dkwJ1_resize_6 : List UInt8 := [181, 0, 105, 43, 198, 0, 208, 3, 54, 7, 21, 7, 28, 162, 0, 199, 43, 21, 7, 50, 89, 58, 8]
abbrev dktJ1_resize_6 : List UInt8 := dkwJ1_resize_6 ++ dktJ1_resize_7
def dkwJ1_resize_5 : List UInt8 := [167, 0, 5, 18, 209, 54, 5, 42, 21, 5, 181, 0, 88, 21, 4, 189, 0, 163, 58, 6, 42, 25, 6]
abbrev dktJ1_resize_5 : List UInt8 := dkwJ1_resize_5 ++ dktJ1_resize_6
def dkwJ1_resize_4 : List UInt8 := [180, 0, 81, 106, 56, 6, 21, 4, 18, 42, 162, 0, 17, 23, 6, 18, 210, 150, 156, 0, 9, 23, 6, 139]
abbrev dktJ1_resize_4 : List UInt8 := dkwJ1_resize_4 ++ dktJ1_resize_5
def dkwJ1_resize_3 : List UInt8 := [54, 4, 167, 0, 11, 16, 16, 54, 4, 16, 12, 54, 5, 21, 5, 154, 0, 38, 21, 4, 134, 42]
abbrev dktJ1_resize_3 : List UInt8 := dkwJ1_resize_3 ++ dktJ1_resize_4
def dkwJ1_resize_2 : List UInt8 := [18, 42, 162, 0, 35, 28, 16, 16, 161, 0, 29, 29, 4, 120, 54, 5, 167, 0, 21, 29, 158, 0, 9, 29]
abbrev dktJ1_resize_2 : List UInt8 := dkwJ1_resize_2 ++ dktJ1_resize_3
def dkwJ1_resize_1 : List UInt8 := [28, 158, 0, 42, 28, 18, 42, 161, 0, 11, 42, 18, 209, 181, 0, 88, 43, 176, 28, 4, 120, 89, 54, 4]
abbrev dktJ1_resize_1 : List UInt8 := dkwJ1_resize_1 ++ dktJ1_resize_2
def dkwJ1_resize_0 : List UInt8 := [42, 180, 0, 105, 76, 43, 199, 0, 7, 3, 167, 0, 5, 43, 190, 61, 42, 180, 0, 88, 62, 3, 54, 5]
abbrev dktJ1_resize_0 : List UInt8 := dkwJ1_resize_0 ++ dktJ1_resize_1
theorem dksJ1_resize_0 : cJ1_resize.data.toList.drop 0 = dktJ1_resize_0 := by decide +kernel
theorem dksJ1_resize_1 : cJ1_resize.data.toList.drop 24 = dktJ1_resize_1 := dk_seg dksJ1_resize_0 24 rfl rfl
theorem dksJ1_resize_2 : cJ1_resize.data.toList.drop 48 = dktJ1_resize_2 := dk_seg dksJ1_resize_1 24 rfl rfl
theorem dksJ1_resize_3 : cJ1_resize.data.toList.drop 72 = dktJ1_resize_3 := dk_seg dksJ1_resize_2 24 rfl rfl
theorem dksJ1_resize_4 : cJ1_resize.data.toList.drop 94 = dktJ1_resize_4 := dk_seg dksJ1_resize_3 22 rfl rfl
theorem dksJ1_resize_5 : cJ1_resize.data.toList.drop 118 = dktJ1_resize_5 := dk_seg dksJ1_resize_4 24 rfl rfl
theorem dksJ1_resize_6 : cJ1_resize.data.toList.drop 141 = dktJ1_resize_6 := dk_seg dksJ1_resize_5 23 rfl rfl
theorem dksJ1_resize_7 : cJ1_resize.data.toList.drop 164 = dktJ1_resize_7 := dk_seg dksJ1_resize_6 23 rfl rfl
theorem dksJ1_resize_8 : cJ1_resize.data.toList.drop 187 = dktJ1_resize_8 := dk_seg dksJ1_resize_7 23 rfl rfl
theorem dksJ1_resize_9 : cJ1_resize.data.toList.drop 211 = dktJ1_resize_9 := dk_seg dksJ1_resize_8 24 rfl rfl
theorem dksJ1_resize_10 : cJ1_resize.data.toList.drop 235 = dktJ1_resize_10 := dk_seg dksJ1_resize_9 24 rfl rfl
theorem dksJ1_resize_11 : cJ1_resize.data.toList.drop 259 = dktJ1_resize_11 := dk_seg dksJ1_resize_10 24 rfl rfl
theorem dksJ1_resize_12 : cJ1_resize.data.toList.drop 283 = dktJ1_resize_12 := dk_seg dksJ1_resize_11 24 rfl rfl
theorem dksJ1_resize_13 : cJ1_resize.data.toList.drop 306 = dktJ1_resize_13 := dk_seg dksJ1_resize_12 23 rfl rfl
theorem dksJ1_resize_14 : cJ1_resize.data.toList.drop 329 = dktJ1_resize_14 := dk_seg dksJ1_resize_13 23 rfl rfl
theorem dksJ1_resize_15 : cJ1_resize.data.toList.drop 353 = dktJ1_resize_15 := dk_seg dksJ1_resize_14 24 rfl rfl
theorem dJ1_resize_0 : decode cJ1_resize 0 = .ok (.aload_n 0, 1) := dk_42 (dk_at dksJ1_resize_0 0 rfl rfl)
theorem dJ1_resize_1 : decode cJ1_resize 1 = .ok (.getfield 105, 3) := dk_180 0 105 (dk_at dksJ1_resize_0 1 rfl rfl)
theorem dJ1_resize_4 : decode cJ1_resize 4 = .ok (.astore_n 1, 1) := dk_76 (dk_at dksJ1_resize_0 4 rfl rfl)
theorem dJ1_resize_5 : decode cJ1_resize 5 = .ok (.aload_n 1, 1) := dk_43 (dk_at dksJ1_resize_0 5 rfl rfl)
theorem dJ1_resize_6 : decode cJ1_resize 6 = .ok (.ifnonnull 7, 3) := dk_199 0 7 (dk_at dksJ1_resize_0 6 rfl rfl)
theorem dJ1_resize_9 : decode cJ1_resize 9 = .ok (.iconst 0, 1) := dk_3 (dk_at dksJ1_resize_0 9 rfl rfl)
theorem dJ1_resize_10 : decode cJ1_resize 10 = .ok (.goto 5, 3) := dk_167 0 5 (dk_at dksJ1_resize_0 10 rfl rfl)
theorem dJ1_resize_13 : decode cJ1_resize 13 = .ok (.aload_n 1, 1) := dk_43 (dk_at dksJ1_resize_0 13 rfl rfl)
theorem dJ1_resize_14 : decode cJ1_resize 14 = .ok (.arraylength, 1) := dk_190 (dk_at dksJ1_resize_0 14 rfl rfl)
theorem dJ1_resize_15 : decode cJ1_resize 15 = .ok (.istore_n 2, 1) := dk_61 (dk_at dksJ1_resize_0 15 rfl rfl)
theorem dJ1_resize_16 : decode cJ1_resize 16 = .ok (.aload_n 0, 1) := dk_42 (dk_at dksJ1_resize_0 16 rfl rfl)
theorem dJ1_resize_17 : decode cJ1_resize 17 = .ok (.getfield 88, 3) := dk_180 0 88 (dk_at dksJ1_resize_0 17 rfl rfl)
theorem dJ1_resize_20 : decode cJ1_resize 20 = .ok (.istore_n 3, 1) := dk_62 (dk_at dksJ1_resize_0 20 rfl rfl)
theorem dJ1_resize_21 : decode cJ1_resize 21 = .ok (.iconst 0, 1) := dk_3 (dk_at dksJ1_resize_0 21 rfl rfl)
theorem dJ1_resize_22 : decode cJ1_resize 22 = .ok (.istore 5, 2) := dk_54 5 (dk_at dksJ1_resize_0 22 rfl rfl)
theorem dJ1_resize_24 : decode cJ1_resize 24 = .ok (.iload_n 2, 1) := dk_28 (dk_at dksJ1_resize_1 0 rfl rfl)
theorem dJ1_resize_25 : decode cJ1_resize 25 = .ok (.ifCond .le 42, 3) := dk_158 0 42 (dk_at dksJ1_resize_1 1 rfl rfl)
theorem dJ1_resize_28 : decode cJ1_resize 28 = .ok (.iload_n 2, 1) := dk_28 (dk_at dksJ1_resize_1 4 rfl rfl)
theorem dJ1_resize_29 : decode cJ1_resize 29 = .ok (.ldc 42, 2) := dk_18 42 (dk_at dksJ1_resize_1 5 rfl rfl)
theorem dJ1_resize_31 : decode cJ1_resize 31 = .ok (.if_icmp .lt 11, 3) := dk_161 0 11 (dk_at dksJ1_resize_1 7 rfl rfl)
theorem dJ1_resize_34 : decode cJ1_resize 34 = .ok (.aload_n 0, 1) := dk_42 (dk_at dksJ1_resize_1 10 rfl rfl)
theorem dJ1_resize_35 : decode cJ1_resize 35 = .ok (.ldc 209, 2) := dk_18 209 (dk_at dksJ1_resize_1 11 rfl rfl)
theorem dJ1_resize_37 : decode cJ1_resize 37 = .ok (.putfield 88, 3) := dk_181 0 88 (dk_at dksJ1_resize_1 13 rfl rfl)
theorem dJ1_resize_40 : decode cJ1_resize 40 = .ok (.aload_n 1, 1) := dk_43 (dk_at dksJ1_resize_1 16 rfl rfl)
theorem dJ1_resize_41 : decode cJ1_resize 41 = .ok (.areturn, 1) := dk_176 (dk_at dksJ1_resize_1 17 rfl rfl)
theorem dJ1_resize_42 : decode cJ1_resize 42 = .ok (.iload_n 2, 1) := dk_28 (dk_at dksJ1_resize_1 18 rfl rfl)
theorem dJ1_resize_43 : decode cJ1_resize 43 = .ok (.iconst 1, 1) := dk_4 (dk_at dksJ1_resize_1 19 rfl rfl)
theorem dJ1_resize_44 : decode cJ1_resize 44 = .ok (.ishl, 1) := dk_120 (dk_at dksJ1_resize_1 20 rfl rfl)
theorem dJ1_resize_45 : decode cJ1_resize 45 = .ok (.dup, 1) := dk_89 (dk_at dksJ1_resize_1 21 rfl rfl)
theorem dJ1_resize_46 : decode cJ1_resize 46 = .ok (.istore 4, 2) := dk_54 4 (dk_at dksJ1_resize_1 22 rfl rfl)
theorem dJ1_resize_48 : decode cJ1_resize 48 = .ok (.ldc 42, 2) := dk_18 42 (dk_at dksJ1_resize_2 0 rfl rfl)
theorem dJ1_resize_50 : decode cJ1_resize 50 = .ok (.if_icmp .ge 35, 3) := dk_162 0 35 (dk_at dksJ1_resize_2 2 rfl rfl)
theorem dJ1_resize_53 : decode cJ1_resize 53 = .ok (.iload_n 2, 1) := dk_28 (dk_at dksJ1_resize_2 5 rfl rfl)
theorem dJ1_resize_54 : decode cJ1_resize 54 = .ok (.bipush 16, 2) := dk_16 16 (dk_at dksJ1_resize_2 6 rfl rfl)
theorem dJ1_resize_56 : decode cJ1_resize 56 = .ok (.if_icmp .lt 29, 3) := dk_161 0 29 (dk_at dksJ1_resize_2 8 rfl rfl)
theorem dJ1_resize_59 : decode cJ1_resize 59 = .ok (.iload_n 3, 1) := dk_29 (dk_at dksJ1_resize_2 11 rfl rfl)
theorem dJ1_resize_60 : decode cJ1_resize 60 = .ok (.iconst 1, 1) := dk_4 (dk_at dksJ1_resize_2 12 rfl rfl)
theorem dJ1_resize_61 : decode cJ1_resize 61 = .ok (.ishl, 1) := dk_120 (dk_at dksJ1_resize_2 13 rfl rfl)
theorem dJ1_resize_62 : decode cJ1_resize 62 = .ok (.istore 5, 2) := dk_54 5 (dk_at dksJ1_resize_2 14 rfl rfl)
theorem dJ1_resize_64 : decode cJ1_resize 64 = .ok (.goto 21, 3) := dk_167 0 21 (dk_at dksJ1_resize_2 16 rfl rfl)
theorem dJ1_resize_67 : decode cJ1_resize 67 = .ok (.iload_n 3, 1) := dk_29 (dk_at dksJ1_resize_2 19 rfl rfl)
theorem dJ1_resize_68 : decode cJ1_resize 68 = .ok (.ifCond .le 9, 3) := dk_158 0 9 (dk_at dksJ1_resize_2 20 rfl rfl)
theorem dJ1_resize_71 : decode cJ1_resize 71 = .ok (.iload_n 3, 1) := dk_29 (dk_at dksJ1_resize_2 23 rfl rfl)
theorem dJ1_resize_72 : decode cJ1_resize 72 = .ok (.istore 4, 2) := dk_54 4 (dk_at dksJ1_resize_3 0 rfl rfl)
theorem dJ1_resize_74 : decode cJ1_resize 74 = .ok (.goto 11, 3) := dk_167 0 11 (dk_at dksJ1_resize_3 2 rfl rfl)
theorem dJ1_resize_77 : decode cJ1_resize 77 = .ok (.bipush 16, 2) := dk_16 16 (dk_at dksJ1_resize_3 5 rfl rfl)
theorem dJ1_resize_79 : decode cJ1_resize 79 = .ok (.istore 4, 2) := dk_54 4 (dk_at dksJ1_resize_3 7 rfl rfl)
theorem dJ1_resize_81 : decode cJ1_resize 81 = .ok (.bipush 12, 2) := dk_16 12 (dk_at dksJ1_resize_3 9 rfl rfl)
theorem dJ1_resize_83 : decode cJ1_resize 83 = .ok (.istore 5, 2) := dk_54 5 (dk_at dksJ1_resize_3 11 rfl rfl)
theorem dJ1_resize_85 : decode cJ1_resize 85 = .ok (.iload 5, 2) := dk_21 5 (dk_at dksJ1_resize_3 13 rfl rfl)
theorem dJ1_resize_87 : decode cJ1_resize 87 = .ok (.ifCond .ne 38, 3) := dk_154 0 38 (dk_at dksJ1_resize_3 15 rfl rfl)
theorem dJ1_resize_90 : decode cJ1_resize 90 = .ok (.iload 4, 2) := dk_21 4 (dk_at dksJ1_resize_3 18 rfl rfl)
theorem dJ1_resize_92 : decode cJ1_resize 92 = .ok (.i2f, 1) := dk_134 (dk_at dksJ1_resize_3 20 rfl rfl)
theorem dJ1_resize_93 : decode cJ1_resize 93 = .ok (.aload_n 0, 1) := dk_42 (dk_at dksJ1_resize_3 21 rfl rfl)
theorem dJ1_resize_94 : decode cJ1_resize 94 = .ok (.getfield 81, 3) := dk_180 0 81 (dk_at dksJ1_resize_4 0 rfl rfl)
theorem dJ1_resize_97 : decode cJ1_resize 97 = .ok (.fmul, 1) := dk_106 (dk_at dksJ1_resize_4 3 rfl rfl)
theorem dJ1_resize_98 : decode cJ1_resize 98 = .ok (.fstore 6, 2) := dk_56 6 (dk_at dksJ1_resize_4 4 rfl rfl)
theorem dJ1_resize_100 : decode cJ1_resize 100 = .ok (.iload 4, 2) := dk_21 4 (dk_at dksJ1_resize_4 6 rfl rfl)
theorem dJ1_resize_102 : decode cJ1_resize 102 = .ok (.ldc 42, 2) := dk_18 42 (dk_at dksJ1_resize_4 8 rfl rfl)
theorem dJ1_resize_104 : decode cJ1_resize 104 = .ok (.if_icmp .ge 17, 3) := dk_162 0 17 (dk_at dksJ1_resize_4 10 rfl rfl)
theorem dJ1_resize_107 : decode cJ1_resize 107 = .ok (.fload 6, 2) := dk_23 6 (dk_at dksJ1_resize_4 13 rfl rfl)
theorem dJ1_resize_109 : decode cJ1_resize 109 = .ok (.ldc 210, 2) := dk_18 210 (dk_at dksJ1_resize_4 15 rfl rfl)
theorem dJ1_resize_111 : decode cJ1_resize 111 = .ok (.fcmp .g, 1) := dk_150 (dk_at dksJ1_resize_4 17 rfl rfl)
theorem dJ1_resize_112 : decode cJ1_resize 112 = .ok (.ifCond .ge 9, 3) := dk_156 0 9 (dk_at dksJ1_resize_4 18 rfl rfl)
theorem dJ1_resize_115 : decode cJ1_resize 115 = .ok (.fload 6, 2) := dk_23 6 (dk_at dksJ1_resize_4 21 rfl rfl)
theorem dJ1_resize_117 : decode cJ1_resize 117 = .ok (.f2i, 1) := dk_139 (dk_at dksJ1_resize_4 23 rfl rfl)
theorem dJ1_resize_118 : decode cJ1_resize 118 = .ok (.goto 5, 3) := dk_167 0 5 (dk_at dksJ1_resize_5 0 rfl rfl)
theorem dJ1_resize_121 : decode cJ1_resize 121 = .ok (.ldc 209, 2) := dk_18 209 (dk_at dksJ1_resize_5 3 rfl rfl)
theorem dJ1_resize_123 : decode cJ1_resize 123 = .ok (.istore 5, 2) := dk_54 5 (dk_at dksJ1_resize_5 5 rfl rfl)
theorem dJ1_resize_125 : decode cJ1_resize 125 = .ok (.aload_n 0, 1) := dk_42 (dk_at dksJ1_resize_5 7 rfl rfl)
theorem dJ1_resize_126 : decode cJ1_resize 126 = .ok (.iload 5, 2) := dk_21 5 (dk_at dksJ1_resize_5 8 rfl rfl)
theorem dJ1_resize_128 : decode cJ1_resize 128 = .ok (.putfield 88, 3) := dk_181 0 88 (dk_at dksJ1_resize_5 10 rfl rfl)
theorem dJ1_resize_131 : decode cJ1_resize 131 = .ok (.iload 4, 2) := dk_21 4 (dk_at dksJ1_resize_5 13 rfl rfl)
theorem dJ1_resize_133 : decode cJ1_resize 133 = .ok (.anewarray 163, 3) := dk_189 0 163 (dk_at dksJ1_resize_5 15 rfl rfl)
theorem dJ1_resize_136 : decode cJ1_resize 136 = .ok (.astore 6, 2) := dk_58 6 (dk_at dksJ1_resize_5 18 rfl rfl)
theorem dJ1_resize_138 : decode cJ1_resize 138 = .ok (.aload_n 0, 1) := dk_42 (dk_at dksJ1_resize_5 20 rfl rfl)
theorem dJ1_resize_139 : decode cJ1_resize 139 = .ok (.aload 6, 2) := dk_25 6 (dk_at dksJ1_resize_5 21 rfl rfl)
theorem dJ1_resize_141 : decode cJ1_resize 141 = .ok (.putfield 105, 3) := dk_181 0 105 (dk_at dksJ1_resize_6 0 rfl rfl)
theorem dJ1_resize_144 : decode cJ1_resize 144 = .ok (.aload_n 1, 1) := dk_43 (dk_at dksJ1_resize_6 3 rfl rfl)
theorem dJ1_resize_145 : decode cJ1_resize 145 = .ok (.ifnull 208, 3) := dk_198 0 208 (dk_at dksJ1_resize_6 4 rfl rfl)
theorem dJ1_resize_148 : decode cJ1_resize 148 = .ok (.iconst 0, 1) := dk_3 (dk_at dksJ1_resize_6 7 rfl rfl)
theorem dJ1_resize_149 : decode cJ1_resize 149 = .ok (.istore 7, 2) := dk_54 7 (dk_at dksJ1_resize_6 8 rfl rfl)
theorem dJ1_resize_151 : decode cJ1_resize 151 = .ok (.iload 7, 2) := dk_21 7 (dk_at dksJ1_resize_6 10 rfl rfl)
theorem dJ1_resize_153 : decode cJ1_resize 153 = .ok (.iload_n 2, 1) := dk_28 (dk_at dksJ1_resize_6 12 rfl rfl)
theorem dJ1_resize_154 : decode cJ1_resize 154 = .ok (.if_icmp .ge 199, 3) := dk_162 0 199 (dk_at dksJ1_resize_6 13 rfl rfl)
theorem dJ1_resize_157 : decode cJ1_resize 157 = .ok (.aload_n 1, 1) := dk_43 (dk_at dksJ1_resize_6 16 rfl rfl)
theorem dJ1_resize_158 : decode cJ1_resize 158 = .ok (.iload 7, 2) := dk_21 7 (dk_at dksJ1_resize_6 17 rfl rfl)
theorem dJ1_resize_160 : decode cJ1_resize 160 = .ok (.aaload, 1) := dk_50 (dk_at dksJ1_resize_6 19 rfl rfl)
theorem dJ1_resize_161 : decode cJ1_resize 161 = .ok (.dup, 1) := dk_89 (dk_at dksJ1_resize_6 20 rfl rfl)
theorem dJ1_resize_162 : decode cJ1_resize 162 = .ok (.astore 8, 2) := dk_58 8 (dk_at dksJ1_resize_6 21 rfl rfl)
theorem dJ1_resize_164 : decode cJ1_resize 164 = .ok (.ifnull 183, 3) := dk_198 0 183 (dk_at dksJ1_resize_7 0 rfl rfl)
theorem dJ1_resize_167 : decode cJ1_resize 167 = .ok (.aload_n 1, 1) := dk_43 (dk_at dksJ1_resize_7 3 rfl rfl)
theorem dJ1_resize_168 : decode cJ1_resize 168 = .ok (.iload 7, 2) := dk_21 7 (dk_at dksJ1_resize_7 4 rfl rfl)
theorem dJ1_resize_170 : decode cJ1_resize 170 = .ok (.aconst_null, 1) := dk_1 (dk_at dksJ1_resize_7 6 rfl rfl)
theorem dJ1_resize_171 : decode cJ1_resize 171 = .ok (.aastore, 1) := dk_83 (dk_at dksJ1_resize_7 7 rfl rfl)
theorem dJ1_resize_172 : decode cJ1_resize 172 = .ok (.aload 8, 2) := dk_25 8 (dk_at dksJ1_resize_7 8 rfl rfl)
theorem dJ1_resize_174 : decode cJ1_resize 174 = .ok (.getfield 177, 3) := dk_180 0 177 (dk_at dksJ1_resize_7 10 rfl rfl)
theorem dJ1_resize_177 : decode cJ1_resize 177 = .ok (.ifnonnull 21, 3) := dk_199 0 21 (dk_at dksJ1_resize_7 13 rfl rfl)
theorem dJ1_resize_180 : decode cJ1_resize 180 = .ok (.aload 6, 2) := dk_25 6 (dk_at dksJ1_resize_7 16 rfl rfl)
theorem dJ1_resize_182 : decode cJ1_resize 182 = .ok (.aload 8, 2) := dk_25 8 (dk_at dksJ1_resize_7 18 rfl rfl)
theorem dJ1_resize_184 : decode cJ1_resize 184 = .ok (.getfield 168, 3) := dk_180 0 168 (dk_at dksJ1_resize_7 20 rfl rfl)
theorem dJ1_resize_187 : decode cJ1_resize 187 = .ok (.iload 4, 2) := dk_21 4 (dk_at dksJ1_resize_8 0 rfl rfl)
theorem dJ1_resize_189 : decode cJ1_resize 189 = .ok (.iconst 1, 1) := dk_4 (dk_at dksJ1_resize_8 2 rfl rfl)
theorem dJ1_resize_190 : decode cJ1_resize 190 = .ok (.isub, 1) := dk_100 (dk_at dksJ1_resize_8 3 rfl rfl)
theorem dJ1_resize_191 : decode cJ1_resize 191 = .ok (.iand, 1) := dk_126 (dk_at dksJ1_resize_8 4 rfl rfl)
theorem dJ1_resize_192 : decode cJ1_resize 192 = .ok (.aload 8, 2) := dk_25 8 (dk_at dksJ1_resize_8 5 rfl rfl)
theorem dJ1_resize_194 : decode cJ1_resize 194 = .ok (.aastore, 1) := dk_83 (dk_at dksJ1_resize_8 7 rfl rfl)
theorem dJ1_resize_195 : decode cJ1_resize 195 = .ok (.goto 152, 3) := dk_167 0 152 (dk_at dksJ1_resize_8 8 rfl rfl)
theorem dJ1_resize_198 : decode cJ1_resize 198 = .ok (.aload 8, 2) := dk_25 8 (dk_at dksJ1_resize_8 11 rfl rfl)
theorem dJ1_resize_200 : decode cJ1_resize 200 = .ok (.instanceof 180, 3) := dk_193 0 180 (dk_at dksJ1_resize_8 13 rfl rfl)
theorem dJ1_resize_203 : decode cJ1_resize 203 = .ok (.ifCond .eq 20, 3) := dk_153 0 20 (dk_at dksJ1_resize_8 16 rfl rfl)
theorem dJ1_resize_206 : decode cJ1_resize 206 = .ok (.aload 8, 2) := dk_25 8 (dk_at dksJ1_resize_8 19 rfl rfl)
theorem dJ1_resize_208 : decode cJ1_resize 208 = .ok (.checkcast 180, 3) := dk_192 0 180 (dk_at dksJ1_resize_8 21 rfl rfl)
theorem dJ1_resize_211 : decode cJ1_resize 211 = .ok (.aload_n 0, 1) := dk_42 (dk_at dksJ1_resize_9 0 rfl rfl)
theorem dJ1_resize_212 : decode cJ1_resize 212 = .ok (.aload 6, 2) := dk_25 6 (dk_at dksJ1_resize_9 1 rfl rfl)
theorem dJ1_resize_214 : decode cJ1_resize 214 = .ok (.iload 7, 2) := dk_21 7 (dk_at dksJ1_resize_9 3 rfl rfl)
theorem dJ1_resize_216 : decode cJ1_resize 216 = .ok (.iload_n 2, 1) := dk_28 (dk_at dksJ1_resize_9 5 rfl rfl)
theorem dJ1_resize_217 : decode cJ1_resize 217 = .ok (.invokevirtual 211, 3) := dk_182 0 211 (dk_at dksJ1_resize_9 6 rfl rfl)
theorem dJ1_resize_220 : decode cJ1_resize 220 = .ok (.goto 127, 3) := dk_167 0 127 (dk_at dksJ1_resize_9 9 rfl rfl)
theorem dJ1_resize_223 : decode cJ1_resize 223 = .ok (.aconst_null, 1) := dk_1 (dk_at dksJ1_resize_9 12 rfl rfl)
theorem dJ1_resize_224 : decode cJ1_resize 224 = .ok (.astore 9, 2) := dk_58 9 (dk_at dksJ1_resize_9 13 rfl rfl)
theorem dJ1_resize_226 : decode cJ1_resize 226 = .ok (.aconst_null, 1) := dk_1 (dk_at dksJ1_resize_9 15 rfl rfl)
theorem dJ1_resize_227 : decode cJ1_resize 227 = .ok (.astore 10, 2) := dk_58 10 (dk_at dksJ1_resize_9 16 rfl rfl)
theorem dJ1_resize_229 : decode cJ1_resize 229 = .ok (.aconst_null, 1) := dk_1 (dk_at dksJ1_resize_9 18 rfl rfl)
theorem dJ1_resize_230 : decode cJ1_resize 230 = .ok (.astore 11, 2) := dk_58 11 (dk_at dksJ1_resize_9 19 rfl rfl)
theorem dJ1_resize_232 : decode cJ1_resize 232 = .ok (.aconst_null, 1) := dk_1 (dk_at dksJ1_resize_9 21 rfl rfl)
theorem dJ1_resize_233 : decode cJ1_resize 233 = .ok (.astore 12, 2) := dk_58 12 (dk_at dksJ1_resize_9 22 rfl rfl)
theorem dJ1_resize_235 : decode cJ1_resize 235 = .ok (.aload 8, 2) := dk_25 8 (dk_at dksJ1_resize_10 0 rfl rfl)
theorem dJ1_resize_237 : decode cJ1_resize 237 = .ok (.getfield 177, 3) := dk_180 0 177 (dk_at dksJ1_resize_10 2 rfl rfl)
theorem dJ1_resize_240 : decode cJ1_resize 240 = .ok (.astore 13, 2) := dk_58 13 (dk_at dksJ1_resize_10 5 rfl rfl)
theorem dJ1_resize_242 : decode cJ1_resize 242 = .ok (.aload 8, 2) := dk_25 8 (dk_at dksJ1_resize_10 7 rfl rfl)
theorem dJ1_resize_244 : decode cJ1_resize 244 = .ok (.getfield 168, 3) := dk_180 0 168 (dk_at dksJ1_resize_10 9 rfl rfl)
theorem dJ1_resize_247 : decode cJ1_resize 247 = .ok (.iload_n 2, 1) := dk_28 (dk_at dksJ1_resize_10 12 rfl rfl)
theorem dJ1_resize_248 : decode cJ1_resize 248 = .ok (.iand, 1) := dk_126 (dk_at dksJ1_resize_10 13 rfl rfl)
theorem dJ1_resize_249 : decode cJ1_resize 249 = .ok (.ifCond .ne 29, 3) := dk_154 0 29 (dk_at dksJ1_resize_10 14 rfl rfl)
theorem dJ1_resize_252 : decode cJ1_resize 252 = .ok (.aload 10, 2) := dk_25 10 (dk_at dksJ1_resize_10 17 rfl rfl)
theorem dJ1_resize_254 : decode cJ1_resize 254 = .ok (.ifnonnull 10, 3) := dk_199 0 10 (dk_at dksJ1_resize_10 19 rfl rfl)
theorem dJ1_resize_257 : decode cJ1_resize 257 = .ok (.aload 8, 2) := dk_25 8 (dk_at dksJ1_resize_10 22 rfl rfl)
theorem dJ1_resize_259 : decode cJ1_resize 259 = .ok (.astore 9, 2) := dk_58 9 (dk_at dksJ1_resize_11 0 rfl rfl)
theorem dJ1_resize_261 : decode cJ1_resize 261 = .ok (.goto 10, 3) := dk_167 0 10 (dk_at dksJ1_resize_11 2 rfl rfl)
theorem dJ1_resize_264 : decode cJ1_resize 264 = .ok (.aload 10, 2) := dk_25 10 (dk_at dksJ1_resize_11 5 rfl rfl)
theorem dJ1_resize_266 : decode cJ1_resize 266 = .ok (.aload 8, 2) := dk_25 8 (dk_at dksJ1_resize_11 7 rfl rfl)
theorem dJ1_resize_268 : decode cJ1_resize 268 = .ok (.putfield 177, 3) := dk_181 0 177 (dk_at dksJ1_resize_11 9 rfl rfl)
theorem dJ1_resize_271 : decode cJ1_resize 271 = .ok (.aload 8, 2) := dk_25 8 (dk_at dksJ1_resize_11 12 rfl rfl)
theorem dJ1_resize_273 : decode cJ1_resize 273 = .ok (.astore 10, 2) := dk_58 10 (dk_at dksJ1_resize_11 14 rfl rfl)
theorem dJ1_resize_275 : decode cJ1_resize 275 = .ok (.goto 26, 3) := dk_167 0 26 (dk_at dksJ1_resize_11 16 rfl rfl)
theorem dJ1_resize_278 : decode cJ1_resize 278 = .ok (.aload 12, 2) := dk_25 12 (dk_at dksJ1_resize_11 19 rfl rfl)
theorem dJ1_resize_280 : decode cJ1_resize 280 = .ok (.ifnonnull 10, 3) := dk_199 0 10 (dk_at dksJ1_resize_11 21 rfl rfl)
theorem dJ1_resize_283 : decode cJ1_resize 283 = .ok (.aload 8, 2) := dk_25 8 (dk_at dksJ1_resize_12 0 rfl rfl)
theorem dJ1_resize_285 : decode cJ1_resize 285 = .ok (.astore 11, 2) := dk_58 11 (dk_at dksJ1_resize_12 2 rfl rfl)
theorem dJ1_resize_287 : decode cJ1_resize 287 = .ok (.goto 10, 3) := dk_167 0 10 (dk_at dksJ1_resize_12 4 rfl rfl)
theorem dJ1_resize_290 : decode cJ1_resize 290 = .ok (.aload 12, 2) := dk_25 12 (dk_at dksJ1_resize_12 7 rfl rfl)
theorem dJ1_resize_292 : decode cJ1_resize 292 = .ok (.aload 8, 2) := dk_25 8 (dk_at dksJ1_resize_12 9 rfl rfl)
theorem dJ1_resize_294 : decode cJ1_resize 294 = .ok (.putfield 177, 3) := dk_181 0 177 (dk_at dksJ1_resize_12 11 rfl rfl)
theorem dJ1_resize_297 : decode cJ1_resize 297 = .ok (.aload 8, 2) := dk_25 8 (dk_at dksJ1_resize_12 14 rfl rfl)
theorem dJ1_resize_299 : decode cJ1_resize 299 = .ok (.astore 12, 2) := dk_58 12 (dk_at dksJ1_resize_12 16 rfl rfl)
theorem dJ1_resize_301 : decode cJ1_resize 301 = .ok (.aload 13, 2) := dk_25 13 (dk_at dksJ1_resize_12 18 rfl rfl)
theorem dJ1_resize_303 : decode cJ1_resize 303 = .ok (.dup, 1) := dk_89 (dk_at dksJ1_resize_12 20 rfl rfl)
theorem dJ1_resize_304 : decode cJ1_resize 304 = .ok (.astore 8, 2) := dk_58 8 (dk_at dksJ1_resize_12 21 rfl rfl)
theorem dJ1_resize_306 : decode cJ1_resize 306 = .ok (.ifnonnull (-71), 3) := dk_199 255 185 (dk_at dksJ1_resize_13 0 rfl rfl)
theorem dJ1_resize_309 : decode cJ1_resize 309 = .ok (.aload 10, 2) := dk_25 10 (dk_at dksJ1_resize_13 3 rfl rfl)
theorem dJ1_resize_311 : decode cJ1_resize 311 = .ok (.ifnull 16, 3) := dk_198 0 16 (dk_at dksJ1_resize_13 5 rfl rfl)
theorem dJ1_resize_314 : decode cJ1_resize 314 = .ok (.aload 10, 2) := dk_25 10 (dk_at dksJ1_resize_13 8 rfl rfl)
theorem dJ1_resize_316 : decode cJ1_resize 316 = .ok (.aconst_null, 1) := dk_1 (dk_at dksJ1_resize_13 10 rfl rfl)
theorem dJ1_resize_317 : decode cJ1_resize 317 = .ok (.putfield 177, 3) := dk_181 0 177 (dk_at dksJ1_resize_13 11 rfl rfl)
theorem dJ1_resize_320 : decode cJ1_resize 320 = .ok (.aload 6, 2) := dk_25 6 (dk_at dksJ1_resize_13 14 rfl rfl)
theorem dJ1_resize_322 : decode cJ1_resize 322 = .ok (.iload 7, 2) := dk_21 7 (dk_at dksJ1_resize_13 16 rfl rfl)
theorem dJ1_resize_324 : decode cJ1_resize 324 = .ok (.aload 9, 2) := dk_25 9 (dk_at dksJ1_resize_13 18 rfl rfl)
theorem dJ1_resize_326 : decode cJ1_resize 326 = .ok (.aastore, 1) := dk_83 (dk_at dksJ1_resize_13 20 rfl rfl)
theorem dJ1_resize_327 : decode cJ1_resize 327 = .ok (.aload 12, 2) := dk_25 12 (dk_at dksJ1_resize_13 21 rfl rfl)
theorem dJ1_resize_329 : decode cJ1_resize 329 = .ok (.ifnull 18, 3) := dk_198 0 18 (dk_at dksJ1_resize_14 0 rfl rfl)
theorem dJ1_resize_332 : decode cJ1_resize 332 = .ok (.aload 12, 2) := dk_25 12 (dk_at dksJ1_resize_14 3 rfl rfl)
theorem dJ1_resize_334 : decode cJ1_resize 334 = .ok (.aconst_null, 1) := dk_1 (dk_at dksJ1_resize_14 5 rfl rfl)
theorem dJ1_resize_335 : decode cJ1_resize 335 = .ok (.putfield 177, 3) := dk_181 0 177 (dk_at dksJ1_resize_14 6 rfl rfl)
theorem dJ1_resize_338 : decode cJ1_resize 338 = .ok (.aload 6, 2) := dk_25 6 (dk_at dksJ1_resize_14 9 rfl rfl)
theorem dJ1_resize_340 : decode cJ1_resize 340 = .ok (.iload 7, 2) := dk_21 7 (dk_at dksJ1_resize_14 11 rfl rfl)
theorem dJ1_resize_342 : decode cJ1_resize 342 = .ok (.iload_n 2, 1) := dk_28 (dk_at dksJ1_resize_14 13 rfl rfl)
theorem dJ1_resize_343 : decode cJ1_resize 343 = .ok (.iadd, 1) := dk_96 (dk_at dksJ1_resize_14 14 rfl rfl)
theorem dJ1_resize_344 : decode cJ1_resize 344 = .ok (.aload 11, 2) := dk_25 11 (dk_at dksJ1_resize_14 15 rfl rfl)
theorem dJ1_resize_346 : decode cJ1_resize 346 = .ok (.aastore, 1) := dk_83 (dk_at dksJ1_resize_14 17 rfl rfl)
theorem dJ1_resize_347 : decode cJ1_resize 347 = .ok (.iinc 7 1, 3) := dk_132 7 1 (dk_at dksJ1_resize_14 18 rfl rfl)
theorem dJ1_resize_350 : decode cJ1_resize 350 = .ok (.goto (-199), 3) := dk_167 255 57 (dk_at dksJ1_resize_14 21 rfl rfl)
theorem dJ1_resize_353 : decode cJ1_resize 353 = .ok (.aload 6, 2) := dk_25 6 (dk_at dksJ1_resize_15 0 rfl rfl)
theorem dJ1_resize_355 : decode cJ1_resize 355 = .ok (.areturn, 1) := dk_176 (dk_at dksJ1_resize_15 2 rfl rfl)
abbrev cJ1_replacementNode : ByteArray := prog_38_method_47_code
def yJ1_replacementNode : MethodName := ⟨RJ1, "replacementNode", "(Ljava/util/HashMap$Node;Ljava/util/HashMap$Node;)Ljava/util/HashMap$Node;"⟩
def dkwJ1_replacementNode_0 : List UInt8 := [187, 0, 163, 89, 43, 180, 0, 168, 43, 180, 0, 170, 43, 180, 0, 162, 44, 183, 1, 119, 176]
abbrev dktJ1_replacementNode_0 : List UInt8 := dkwJ1_replacementNode_0 ++ []
theorem dksJ1_replacementNode_0 : cJ1_replacementNode.data.toList.drop 0 = dktJ1_replacementNode_0 := by decide +kernel
theorem dJ1_replacementNode_0 : decode cJ1_replacementNode 0 = .ok (.new 163, 3) := dk_187 0 163 (dk_at dksJ1_replacementNode_0 0 rfl rfl)
theorem dJ1_replacementNode_3 : decode cJ1_replacementNode 3 = .ok (.dup, 1) := dk_89 (dk_at dksJ1_replacementNode_0 3 rfl rfl)
theorem dJ1_replacementNode_4 : decode cJ1_replacementNode 4 = .ok (.aload_n 1, 1) := dk_43 (dk_at dksJ1_replacementNode_0 4 rfl rfl)
theorem dJ1_replacementNode_5 : decode cJ1_replacementNode 5 = .ok (.getfield 168, 3) := dk_180 0 168 (dk_at dksJ1_replacementNode_0 5 rfl rfl)
theorem dJ1_replacementNode_8 : decode cJ1_replacementNode 8 = .ok (.aload_n 1, 1) := dk_43 (dk_at dksJ1_replacementNode_0 8 rfl rfl)
theorem dJ1_replacementNode_9 : decode cJ1_replacementNode 9 = .ok (.getfield 170, 3) := dk_180 0 170 (dk_at dksJ1_replacementNode_0 9 rfl rfl)
theorem dJ1_replacementNode_12 : decode cJ1_replacementNode 12 = .ok (.aload_n 1, 1) := dk_43 (dk_at dksJ1_replacementNode_0 12 rfl rfl)
theorem dJ1_replacementNode_13 : decode cJ1_replacementNode 13 = .ok (.getfield 162, 3) := dk_180 0 162 (dk_at dksJ1_replacementNode_0 13 rfl rfl)
theorem dJ1_replacementNode_16 : decode cJ1_replacementNode 16 = .ok (.aload_n 2, 1) := dk_44 (dk_at dksJ1_replacementNode_0 16 rfl rfl)
theorem dJ1_replacementNode_17 : decode cJ1_replacementNode 17 = .ok (.invokespecial 375, 3) := dk_183 1 119 (dk_at dksJ1_replacementNode_0 17 rfl rfl)
theorem dJ1_replacementNode_20 : decode cJ1_replacementNode 20 = .ok (.areturn, 1) := dk_176 (dk_at dksJ1_replacementNode_0 20 rfl rfl)
abbrev cJ1_newNode : ByteArray := prog_38_method_46_code
def yJ1_newNode : MethodName := ⟨RJ1, "newNode", "(ILjava/lang/Object;Ljava/lang/Object;Ljava/util/HashMap$Node;)Ljava/util/HashMap$Node;"⟩
def dkwJ1_newNode_0 : List UInt8 := [187, 0, 163, 89, 27, 44, 45, 25, 4, 183, 1, 119, 176]
abbrev dktJ1_newNode_0 : List UInt8 := dkwJ1_newNode_0 ++ []
theorem dksJ1_newNode_0 : cJ1_newNode.data.toList.drop 0 = dktJ1_newNode_0 := by decide +kernel
theorem dJ1_newNode_0 : decode cJ1_newNode 0 = .ok (.new 163, 3) := dk_187 0 163 (dk_at dksJ1_newNode_0 0 rfl rfl)
theorem dJ1_newNode_3 : decode cJ1_newNode 3 = .ok (.dup, 1) := dk_89 (dk_at dksJ1_newNode_0 3 rfl rfl)
theorem dJ1_newNode_4 : decode cJ1_newNode 4 = .ok (.iload_n 1, 1) := dk_27 (dk_at dksJ1_newNode_0 4 rfl rfl)
theorem dJ1_newNode_5 : decode cJ1_newNode 5 = .ok (.aload_n 2, 1) := dk_44 (dk_at dksJ1_newNode_0 5 rfl rfl)
theorem dJ1_newNode_6 : decode cJ1_newNode 6 = .ok (.aload_n 3, 1) := dk_45 (dk_at dksJ1_newNode_0 6 rfl rfl)
theorem dJ1_newNode_7 : decode cJ1_newNode 7 = .ok (.aload 4, 2) := dk_25 4 (dk_at dksJ1_newNode_0 7 rfl rfl)
theorem dJ1_newNode_9 : decode cJ1_newNode 9 = .ok (.invokespecial 375, 3) := dk_183 1 119 (dk_at dksJ1_newNode_0 9 rfl rfl)
theorem dJ1_newNode_12 : decode cJ1_newNode 12 = .ok (.areturn, 1) := dk_176 (dk_at dksJ1_newNode_0 12 rfl rfl)
abbrev cJ1_newTreeNode : ByteArray := prog_38_method_48_code
def yJ1_newTreeNode : MethodName := ⟨RJ1, "newTreeNode", "(ILjava/lang/Object;Ljava/lang/Object;Ljava/util/HashMap$Node;)Ljava/util/HashMap$TreeNode;"⟩
def dkwJ1_newTreeNode_0 : List UInt8 := [187, 0, 180, 89, 27, 44, 45, 25, 4, 183, 1, 122, 176]
abbrev dktJ1_newTreeNode_0 : List UInt8 := dkwJ1_newTreeNode_0 ++ []
theorem dksJ1_newTreeNode_0 : cJ1_newTreeNode.data.toList.drop 0 = dktJ1_newTreeNode_0 := by decide +kernel
theorem dJ1_newTreeNode_0 : decode cJ1_newTreeNode 0 = .ok (.new 180, 3) := dk_187 0 180 (dk_at dksJ1_newTreeNode_0 0 rfl rfl)
theorem dJ1_newTreeNode_3 : decode cJ1_newTreeNode 3 = .ok (.dup, 1) := dk_89 (dk_at dksJ1_newTreeNode_0 3 rfl rfl)
theorem dJ1_newTreeNode_4 : decode cJ1_newTreeNode 4 = .ok (.iload_n 1, 1) := dk_27 (dk_at dksJ1_newTreeNode_0 4 rfl rfl)
theorem dJ1_newTreeNode_5 : decode cJ1_newTreeNode 5 = .ok (.aload_n 2, 1) := dk_44 (dk_at dksJ1_newTreeNode_0 5 rfl rfl)
theorem dJ1_newTreeNode_6 : decode cJ1_newTreeNode 6 = .ok (.aload_n 3, 1) := dk_45 (dk_at dksJ1_newTreeNode_0 6 rfl rfl)
theorem dJ1_newTreeNode_7 : decode cJ1_newTreeNode 7 = .ok (.aload 4, 2) := dk_25 4 (dk_at dksJ1_newTreeNode_0 7 rfl rfl)
theorem dJ1_newTreeNode_9 : decode cJ1_newTreeNode 9 = .ok (.invokespecial 378, 3) := dk_183 1 122 (dk_at dksJ1_newTreeNode_0 9 rfl rfl)
theorem dJ1_newTreeNode_12 : decode cJ1_newTreeNode 12 = .ok (.areturn, 1) := dk_176 (dk_at dksJ1_newTreeNode_0 12 rfl rfl)
abbrev cJ1_treeifyBin : ByteArray := prog_38_method_18_code
def yJ1_treeifyBin : MethodName := ⟨RJ1, "treeifyBin", "([Ljava/util/HashMap$Node;I)V"⟩
def dkwJ1_treeifyBin_4 : List UInt8 := [21, 4, 25, 6, 91, 83, 198, 0, 9, 25, 6, 43, 182, 0, 224, 177]
abbrev dktJ1_treeifyBin_4 : List UInt8 := dkwJ1_treeifyBin_4 ++ []
def dkwJ1_treeifyBin_3 : List UInt8 := [25, 7, 25, 8, 181, 0, 223, 25, 8, 58, 7, 25, 5, 180, 0, 177, 89, 58, 5, 199, 255, 209, 43]
abbrev dktJ1_treeifyBin_3 : List UInt8 := dkwJ1_treeifyBin_3 ++ dktJ1_treeifyBin_4
def dkwJ1_treeifyBin_2 : List UInt8 := [182, 0, 215, 58, 8, 25, 7, 199, 0, 10, 25, 8, 58, 6, 167, 0, 17, 25, 8, 25, 7, 181, 0, 219]
abbrev dktJ1_treeifyBin_2 : List UInt8 := dkwJ1_treeifyBin_2 ++ dktJ1_treeifyBin_3
def dkwJ1_treeifyBin_1 : List UInt8 := [100, 28, 126, 89, 54, 4, 50, 89, 58, 5, 198, 0, 75, 1, 58, 6, 1, 58, 7, 42, 25, 5, 1]
abbrev dktJ1_treeifyBin_1 : List UInt8 := dkwJ1_treeifyBin_1 ++ dktJ1_treeifyBin_2
def dkwJ1_treeifyBin_0 : List UInt8 := [43, 198, 0, 12, 43, 190, 89, 62, 16, 64, 162, 0, 11, 42, 182, 0, 117, 87, 167, 0, 91, 43, 29, 4]
abbrev dktJ1_treeifyBin_0 : List UInt8 := dkwJ1_treeifyBin_0 ++ dktJ1_treeifyBin_1
theorem dksJ1_treeifyBin_0 : cJ1_treeifyBin.data.toList.drop 0 = dktJ1_treeifyBin_0 := by decide +kernel
theorem dksJ1_treeifyBin_1 : cJ1_treeifyBin.data.toList.drop 24 = dktJ1_treeifyBin_1 := dk_seg dksJ1_treeifyBin_0 24 rfl rfl
theorem dksJ1_treeifyBin_2 : cJ1_treeifyBin.data.toList.drop 47 = dktJ1_treeifyBin_2 := dk_seg dksJ1_treeifyBin_1 23 rfl rfl
theorem dksJ1_treeifyBin_3 : cJ1_treeifyBin.data.toList.drop 71 = dktJ1_treeifyBin_3 := dk_seg dksJ1_treeifyBin_2 24 rfl rfl
theorem dksJ1_treeifyBin_4 : cJ1_treeifyBin.data.toList.drop 94 = dktJ1_treeifyBin_4 := dk_seg dksJ1_treeifyBin_3 23 rfl rfl
theorem dJ1_treeifyBin_0 : decode cJ1_treeifyBin 0 = .ok (.aload_n 1, 1) := dk_43 (dk_at dksJ1_treeifyBin_0 0 rfl rfl)
theorem dJ1_treeifyBin_1 : decode cJ1_treeifyBin 1 = .ok (.ifnull 12, 3) := dk_198 0 12 (dk_at dksJ1_treeifyBin_0 1 rfl rfl)
theorem dJ1_treeifyBin_4 : decode cJ1_treeifyBin 4 = .ok (.aload_n 1, 1) := dk_43 (dk_at dksJ1_treeifyBin_0 4 rfl rfl)
theorem dJ1_treeifyBin_5 : decode cJ1_treeifyBin 5 = .ok (.arraylength, 1) := dk_190 (dk_at dksJ1_treeifyBin_0 5 rfl rfl)
theorem dJ1_treeifyBin_6 : decode cJ1_treeifyBin 6 = .ok (.dup, 1) := dk_89 (dk_at dksJ1_treeifyBin_0 6 rfl rfl)
theorem dJ1_treeifyBin_7 : decode cJ1_treeifyBin 7 = .ok (.istore_n 3, 1) := dk_62 (dk_at dksJ1_treeifyBin_0 7 rfl rfl)
theorem dJ1_treeifyBin_8 : decode cJ1_treeifyBin 8 = .ok (.bipush 64, 2) := dk_16 64 (dk_at dksJ1_treeifyBin_0 8 rfl rfl)
theorem dJ1_treeifyBin_10 : decode cJ1_treeifyBin 10 = .ok (.if_icmp .ge 11, 3) := dk_162 0 11 (dk_at dksJ1_treeifyBin_0 10 rfl rfl)
theorem dJ1_treeifyBin_13 : decode cJ1_treeifyBin 13 = .ok (.aload_n 0, 1) := dk_42 (dk_at dksJ1_treeifyBin_0 13 rfl rfl)
theorem dJ1_treeifyBin_14 : decode cJ1_treeifyBin 14 = .ok (.invokevirtual 117, 3) := dk_182 0 117 (dk_at dksJ1_treeifyBin_0 14 rfl rfl)
theorem dJ1_treeifyBin_17 : decode cJ1_treeifyBin 17 = .ok (.pop, 1) := dk_87 (dk_at dksJ1_treeifyBin_0 17 rfl rfl)
theorem dJ1_treeifyBin_18 : decode cJ1_treeifyBin 18 = .ok (.goto 91, 3) := dk_167 0 91 (dk_at dksJ1_treeifyBin_0 18 rfl rfl)
theorem dJ1_treeifyBin_21 : decode cJ1_treeifyBin 21 = .ok (.aload_n 1, 1) := dk_43 (dk_at dksJ1_treeifyBin_0 21 rfl rfl)
theorem dJ1_treeifyBin_22 : decode cJ1_treeifyBin 22 = .ok (.iload_n 3, 1) := dk_29 (dk_at dksJ1_treeifyBin_0 22 rfl rfl)
theorem dJ1_treeifyBin_23 : decode cJ1_treeifyBin 23 = .ok (.iconst 1, 1) := dk_4 (dk_at dksJ1_treeifyBin_0 23 rfl rfl)
theorem dJ1_treeifyBin_24 : decode cJ1_treeifyBin 24 = .ok (.isub, 1) := dk_100 (dk_at dksJ1_treeifyBin_1 0 rfl rfl)
theorem dJ1_treeifyBin_25 : decode cJ1_treeifyBin 25 = .ok (.iload_n 2, 1) := dk_28 (dk_at dksJ1_treeifyBin_1 1 rfl rfl)
theorem dJ1_treeifyBin_26 : decode cJ1_treeifyBin 26 = .ok (.iand, 1) := dk_126 (dk_at dksJ1_treeifyBin_1 2 rfl rfl)
theorem dJ1_treeifyBin_27 : decode cJ1_treeifyBin 27 = .ok (.dup, 1) := dk_89 (dk_at dksJ1_treeifyBin_1 3 rfl rfl)
theorem dJ1_treeifyBin_28 : decode cJ1_treeifyBin 28 = .ok (.istore 4, 2) := dk_54 4 (dk_at dksJ1_treeifyBin_1 4 rfl rfl)
theorem dJ1_treeifyBin_30 : decode cJ1_treeifyBin 30 = .ok (.aaload, 1) := dk_50 (dk_at dksJ1_treeifyBin_1 6 rfl rfl)
theorem dJ1_treeifyBin_31 : decode cJ1_treeifyBin 31 = .ok (.dup, 1) := dk_89 (dk_at dksJ1_treeifyBin_1 7 rfl rfl)
theorem dJ1_treeifyBin_32 : decode cJ1_treeifyBin 32 = .ok (.astore 5, 2) := dk_58 5 (dk_at dksJ1_treeifyBin_1 8 rfl rfl)
theorem dJ1_treeifyBin_34 : decode cJ1_treeifyBin 34 = .ok (.ifnull 75, 3) := dk_198 0 75 (dk_at dksJ1_treeifyBin_1 10 rfl rfl)
theorem dJ1_treeifyBin_37 : decode cJ1_treeifyBin 37 = .ok (.aconst_null, 1) := dk_1 (dk_at dksJ1_treeifyBin_1 13 rfl rfl)
theorem dJ1_treeifyBin_38 : decode cJ1_treeifyBin 38 = .ok (.astore 6, 2) := dk_58 6 (dk_at dksJ1_treeifyBin_1 14 rfl rfl)
theorem dJ1_treeifyBin_40 : decode cJ1_treeifyBin 40 = .ok (.aconst_null, 1) := dk_1 (dk_at dksJ1_treeifyBin_1 16 rfl rfl)
theorem dJ1_treeifyBin_41 : decode cJ1_treeifyBin 41 = .ok (.astore 7, 2) := dk_58 7 (dk_at dksJ1_treeifyBin_1 17 rfl rfl)
theorem dJ1_treeifyBin_43 : decode cJ1_treeifyBin 43 = .ok (.aload_n 0, 1) := dk_42 (dk_at dksJ1_treeifyBin_1 19 rfl rfl)
theorem dJ1_treeifyBin_44 : decode cJ1_treeifyBin 44 = .ok (.aload 5, 2) := dk_25 5 (dk_at dksJ1_treeifyBin_1 20 rfl rfl)
theorem dJ1_treeifyBin_46 : decode cJ1_treeifyBin 46 = .ok (.aconst_null, 1) := dk_1 (dk_at dksJ1_treeifyBin_1 22 rfl rfl)
theorem dJ1_treeifyBin_47 : decode cJ1_treeifyBin 47 = .ok (.invokevirtual 215, 3) := dk_182 0 215 (dk_at dksJ1_treeifyBin_2 0 rfl rfl)
theorem dJ1_treeifyBin_50 : decode cJ1_treeifyBin 50 = .ok (.astore 8, 2) := dk_58 8 (dk_at dksJ1_treeifyBin_2 3 rfl rfl)
theorem dJ1_treeifyBin_52 : decode cJ1_treeifyBin 52 = .ok (.aload 7, 2) := dk_25 7 (dk_at dksJ1_treeifyBin_2 5 rfl rfl)
theorem dJ1_treeifyBin_54 : decode cJ1_treeifyBin 54 = .ok (.ifnonnull 10, 3) := dk_199 0 10 (dk_at dksJ1_treeifyBin_2 7 rfl rfl)
theorem dJ1_treeifyBin_57 : decode cJ1_treeifyBin 57 = .ok (.aload 8, 2) := dk_25 8 (dk_at dksJ1_treeifyBin_2 10 rfl rfl)
theorem dJ1_treeifyBin_59 : decode cJ1_treeifyBin 59 = .ok (.astore 6, 2) := dk_58 6 (dk_at dksJ1_treeifyBin_2 12 rfl rfl)
theorem dJ1_treeifyBin_61 : decode cJ1_treeifyBin 61 = .ok (.goto 17, 3) := dk_167 0 17 (dk_at dksJ1_treeifyBin_2 14 rfl rfl)
theorem dJ1_treeifyBin_64 : decode cJ1_treeifyBin 64 = .ok (.aload 8, 2) := dk_25 8 (dk_at dksJ1_treeifyBin_2 17 rfl rfl)
theorem dJ1_treeifyBin_66 : decode cJ1_treeifyBin 66 = .ok (.aload 7, 2) := dk_25 7 (dk_at dksJ1_treeifyBin_2 19 rfl rfl)
theorem dJ1_treeifyBin_68 : decode cJ1_treeifyBin 68 = .ok (.putfield 219, 3) := dk_181 0 219 (dk_at dksJ1_treeifyBin_2 21 rfl rfl)
theorem dJ1_treeifyBin_71 : decode cJ1_treeifyBin 71 = .ok (.aload 7, 2) := dk_25 7 (dk_at dksJ1_treeifyBin_3 0 rfl rfl)
theorem dJ1_treeifyBin_73 : decode cJ1_treeifyBin 73 = .ok (.aload 8, 2) := dk_25 8 (dk_at dksJ1_treeifyBin_3 2 rfl rfl)
theorem dJ1_treeifyBin_75 : decode cJ1_treeifyBin 75 = .ok (.putfield 223, 3) := dk_181 0 223 (dk_at dksJ1_treeifyBin_3 4 rfl rfl)
theorem dJ1_treeifyBin_78 : decode cJ1_treeifyBin 78 = .ok (.aload 8, 2) := dk_25 8 (dk_at dksJ1_treeifyBin_3 7 rfl rfl)
theorem dJ1_treeifyBin_80 : decode cJ1_treeifyBin 80 = .ok (.astore 7, 2) := dk_58 7 (dk_at dksJ1_treeifyBin_3 9 rfl rfl)
theorem dJ1_treeifyBin_82 : decode cJ1_treeifyBin 82 = .ok (.aload 5, 2) := dk_25 5 (dk_at dksJ1_treeifyBin_3 11 rfl rfl)
theorem dJ1_treeifyBin_84 : decode cJ1_treeifyBin 84 = .ok (.getfield 177, 3) := dk_180 0 177 (dk_at dksJ1_treeifyBin_3 13 rfl rfl)
theorem dJ1_treeifyBin_87 : decode cJ1_treeifyBin 87 = .ok (.dup, 1) := dk_89 (dk_at dksJ1_treeifyBin_3 16 rfl rfl)
theorem dJ1_treeifyBin_88 : decode cJ1_treeifyBin 88 = .ok (.astore 5, 2) := dk_58 5 (dk_at dksJ1_treeifyBin_3 17 rfl rfl)
theorem dJ1_treeifyBin_90 : decode cJ1_treeifyBin 90 = .ok (.ifnonnull (-47), 3) := dk_199 255 209 (dk_at dksJ1_treeifyBin_3 19 rfl rfl)
theorem dJ1_treeifyBin_93 : decode cJ1_treeifyBin 93 = .ok (.aload_n 1, 1) := dk_43 (dk_at dksJ1_treeifyBin_3 22 rfl rfl)
theorem dJ1_treeifyBin_94 : decode cJ1_treeifyBin 94 = .ok (.iload 4, 2) := dk_21 4 (dk_at dksJ1_treeifyBin_4 0 rfl rfl)
theorem dJ1_treeifyBin_96 : decode cJ1_treeifyBin 96 = .ok (.aload 6, 2) := dk_25 6 (dk_at dksJ1_treeifyBin_4 2 rfl rfl)
theorem dJ1_treeifyBin_98 : decode cJ1_treeifyBin 98 = .ok (.dup_x2, 1) := dk_91 (dk_at dksJ1_treeifyBin_4 4 rfl rfl)
theorem dJ1_treeifyBin_99 : decode cJ1_treeifyBin 99 = .ok (.aastore, 1) := dk_83 (dk_at dksJ1_treeifyBin_4 5 rfl rfl)
theorem dJ1_treeifyBin_100 : decode cJ1_treeifyBin 100 = .ok (.ifnull 9, 3) := dk_198 0 9 (dk_at dksJ1_treeifyBin_4 6 rfl rfl)
theorem dJ1_treeifyBin_103 : decode cJ1_treeifyBin 103 = .ok (.aload 6, 2) := dk_25 6 (dk_at dksJ1_treeifyBin_4 9 rfl rfl)
theorem dJ1_treeifyBin_105 : decode cJ1_treeifyBin 105 = .ok (.aload_n 1, 1) := dk_43 (dk_at dksJ1_treeifyBin_4 11 rfl rfl)
theorem dJ1_treeifyBin_106 : decode cJ1_treeifyBin 106 = .ok (.invokevirtual 224, 3) := dk_182 0 224 (dk_at dksJ1_treeifyBin_4 12 rfl rfl)
theorem dJ1_treeifyBin_109 : decode cJ1_treeifyBin 109 = .ok (.return_, 1) := dk_177 (dk_at dksJ1_treeifyBin_4 15 rfl rfl)
abbrev cJ1_replacementTreeNode : ByteArray := prog_38_method_49_code
def yJ1_replacementTreeNode : MethodName := ⟨RJ1, "replacementTreeNode", "(Ljava/util/HashMap$Node;Ljava/util/HashMap$Node;)Ljava/util/HashMap$TreeNode;"⟩
def dkwJ1_replacementTreeNode_0 : List UInt8 := [187, 0, 180, 89, 43, 180, 0, 168, 43, 180, 0, 170, 43, 180, 0, 162, 44, 183, 1, 122, 176]
abbrev dktJ1_replacementTreeNode_0 : List UInt8 := dkwJ1_replacementTreeNode_0 ++ []
theorem dksJ1_replacementTreeNode_0 : cJ1_replacementTreeNode.data.toList.drop 0 = dktJ1_replacementTreeNode_0 := by decide +kernel
theorem dJ1_replacementTreeNode_0 : decode cJ1_replacementTreeNode 0 = .ok (.new 180, 3) := dk_187 0 180 (dk_at dksJ1_replacementTreeNode_0 0 rfl rfl)
theorem dJ1_replacementTreeNode_3 : decode cJ1_replacementTreeNode 3 = .ok (.dup, 1) := dk_89 (dk_at dksJ1_replacementTreeNode_0 3 rfl rfl)
theorem dJ1_replacementTreeNode_4 : decode cJ1_replacementTreeNode 4 = .ok (.aload_n 1, 1) := dk_43 (dk_at dksJ1_replacementTreeNode_0 4 rfl rfl)
theorem dJ1_replacementTreeNode_5 : decode cJ1_replacementTreeNode 5 = .ok (.getfield 168, 3) := dk_180 0 168 (dk_at dksJ1_replacementTreeNode_0 5 rfl rfl)
theorem dJ1_replacementTreeNode_8 : decode cJ1_replacementTreeNode 8 = .ok (.aload_n 1, 1) := dk_43 (dk_at dksJ1_replacementTreeNode_0 8 rfl rfl)
theorem dJ1_replacementTreeNode_9 : decode cJ1_replacementTreeNode 9 = .ok (.getfield 170, 3) := dk_180 0 170 (dk_at dksJ1_replacementTreeNode_0 9 rfl rfl)
theorem dJ1_replacementTreeNode_12 : decode cJ1_replacementTreeNode 12 = .ok (.aload_n 1, 1) := dk_43 (dk_at dksJ1_replacementTreeNode_0 12 rfl rfl)
theorem dJ1_replacementTreeNode_13 : decode cJ1_replacementTreeNode 13 = .ok (.getfield 162, 3) := dk_180 0 162 (dk_at dksJ1_replacementTreeNode_0 13 rfl rfl)
theorem dJ1_replacementTreeNode_16 : decode cJ1_replacementTreeNode 16 = .ok (.aload_n 2, 1) := dk_44 (dk_at dksJ1_replacementTreeNode_0 16 rfl rfl)
theorem dJ1_replacementTreeNode_17 : decode cJ1_replacementTreeNode 17 = .ok (.invokespecial 378, 3) := dk_183 1 122 (dk_at dksJ1_replacementTreeNode_0 17 rfl rfl)
theorem dJ1_replacementTreeNode_20 : decode cJ1_replacementTreeNode 20 = .ok (.areturn, 1) := dk_176 (dk_at dksJ1_replacementTreeNode_0 20 rfl rfl)
abbrev cJ1_afterNodeAccess : ByteArray := prog_38_method_51_code
def yJ1_afterNodeAccess : MethodName := ⟨RJ1, "afterNodeAccess", "(Ljava/util/HashMap$Node;)V"⟩
theorem dJ1_afterNodeAccess_0 : decode cJ1_afterNodeAccess 0 = .ok (.return_, 1) := by decide +kernel
abbrev cJ1_afterNodeInsertion : ByteArray := prog_38_method_52_code
def yJ1_afterNodeInsertion : MethodName := ⟨RJ1, "afterNodeInsertion", "(Z)V"⟩
theorem dJ1_afterNodeInsertion_0 : decode cJ1_afterNodeInsertion 0 = .ok (.return_, 1) := by decide +kernel
theorem q37 : (Jvm.Cond.initialized "java/util/HashMap") ∈ lw_all := lw_g (lw_at lw_m1 6 rfl) rfl
theorem q125 : (Jvm.Cond.instantiable "java/util/HashMap" (8 : Nat)) ∈ lw_all := lw_g (lw_at lw_m1 94 rfl) rfl
theorem q127 : (Jvm.Cond.instanceMethod ({ cls := "java/util/HashMap", name := "<init>", desc := "()V" } : Jvm.MethodName)) ∈ lw_all := lw_g (lw_at lw_m1 96 rfl) rfl
theorem q128 : (Jvm.Cond.code ({ cls := "java/util/HashMap", name := "<init>", desc := "()V" } : Jvm.MethodName) prog_38_method_7_code (1 : Nat) (Option.none : Option Jvm.ClassFile.FieldType)) ∈ lw_all := lw_g (lw_at lw_m1 97 rfl) rfl
theorem q129 : (Jvm.Cond.methodLink "java/util/HashMap" (43 : Nat) ({ cls := "java/util/AbstractMap", name := "<init>", desc := "()V" } : Jvm.MethodName)) ∈ lw_all := lw_g (lw_at lw_m1 98 rfl) rfl
theorem q133 : (Jvm.Cond.constantFloat "java/util/HashMap" (92 : Nat) (1061158912 : UInt32)) ∈ lw_all := lw_g (lw_at lw_m1 102 rfl) rfl
theorem q134 : (Jvm.Cond.fieldLink "java/util/HashMap" (105 : Nat) "java/util/HashMap" "table" "[Ljava/util/HashMap$Node;") ∈ lw_all := lw_g (lw_at lw_m1 103 rfl) rfl
theorem q135 : (Jvm.Cond.fieldLink "java/util/HashMap" (156 : Nat) "java/util/HashMap" "size" "I") ∈ lw_all := lw_g (lw_at lw_m1 104 rfl) rfl
theorem q136 : (Jvm.Cond.fieldLink "java/util/HashMap" (202 : Nat) "java/util/HashMap" "modCount" "I") ∈ lw_all := lw_g (lw_at lw_m1 105 rfl) rfl
theorem q137 : (Jvm.Cond.fieldLink "java/util/HashMap" (88 : Nat) "java/util/HashMap" "threshold" "I") ∈ lw_all := lw_g (lw_at lw_m1 106 rfl) rfl
theorem q138 : (Jvm.Cond.fieldLink "java/util/HashMap" (81 : Nat) "java/util/HashMap" "loadFactor" "F") ∈ lw_all := lw_g (lw_at lw_m1 107 rfl) rfl
theorem q139 : (Jvm.Cond.lays "java/util/HashMap" "java/util/HashMap" "table" "[Ljava/util/HashMap$Node;") ∈ lw_all := lw_g (lw_at lw_m1 108 rfl) rfl
theorem q140 : (Jvm.Cond.soleField "java/util/HashMap" "table") ∈ lw_all := lw_g (lw_at lw_m1 109 rfl) rfl
theorem q141 : (Jvm.Cond.lays "java/util/HashMap" "java/util/HashMap" "entrySet" "Ljava/util/Set;") ∈ lw_all := lw_g (lw_at lw_m1 110 rfl) rfl
theorem q142 : (Jvm.Cond.soleField "java/util/HashMap" "entrySet") ∈ lw_all := lw_g (lw_at lw_m1 111 rfl) rfl
theorem q143 : (Jvm.Cond.lays "java/util/HashMap" "java/util/HashMap" "size" "I") ∈ lw_all := lw_g (lw_at lw_m1 112 rfl) rfl
theorem q144 : (Jvm.Cond.soleField "java/util/HashMap" "size") ∈ lw_all := lw_g (lw_at lw_m1 113 rfl) rfl
theorem q145 : (Jvm.Cond.lays "java/util/HashMap" "java/util/HashMap" "modCount" "I") ∈ lw_all := lw_g (lw_at lw_m1 114 rfl) rfl
theorem q146 : (Jvm.Cond.soleField "java/util/HashMap" "modCount") ∈ lw_all := lw_g (lw_at lw_m1 115 rfl) rfl
theorem q147 : (Jvm.Cond.lays "java/util/HashMap" "java/util/HashMap" "threshold" "I") ∈ lw_all := lw_g (lw_at lw_m1 116 rfl) rfl
theorem q148 : (Jvm.Cond.soleField "java/util/HashMap" "threshold") ∈ lw_all := lw_g (lw_at lw_m1 117 rfl) rfl
theorem q149 : (Jvm.Cond.laysFinal "java/util/HashMap" "java/util/HashMap" "loadFactor" "F") ∈ lw_all := lw_g (lw_at lw_m1 118 rfl) rfl
theorem q150 : (Jvm.Cond.soleField "java/util/HashMap" "loadFactor") ∈ lw_all := lw_g (lw_at lw_m1 119 rfl) rfl
theorem q151 : (Jvm.Cond.lays "java/util/HashMap" "java/util/AbstractMap" "keySet" "Ljava/util/Set;") ∈ lw_all := lw_g (lw_at lw_m1 120 rfl) rfl
theorem q153 : (Jvm.Cond.lays "java/util/HashMap" "java/util/AbstractMap" "values" "Ljava/util/Collection;") ∈ lw_all := lw_g (lw_at lw_m1 122 rfl) rfl
theorem q155 : (Jvm.Cond.superclass "java/util/HashMap" "java/util/AbstractMap") ∈ lw_all := lw_g (lw_at lw_m1 124 rfl) rfl
theorem q321 : (Jvm.Cond.castable "java/util/HashMap" "java/util/Map") ∈ lw_tbl := lw_at lw_m2 50 rfl
theorem q322 : (Jvm.Cond.selects "java/util/HashMap" ({ cls := "java/util/Map", name := "get", desc := "(Ljava/lang/Object;)Ljava/lang/Object;" } : Jvm.MethodName) ({ cls := "java/util/HashMap", name := "get", desc := "(Ljava/lang/Object;)Ljava/lang/Object;" } : Jvm.MethodName)) ∈ lw_all := lw_g (lw_at lw_m2 51 rfl) rfl
theorem q323 : (Jvm.Cond.unhidden "java/util/HashMap" "get" "(Ljava/lang/Object;)Ljava/lang/Object;") ∈ lw_tbl := lw_at lw_m2 52 rfl
theorem q324 : (Jvm.Cond.instanceMethod ({ cls := "java/util/HashMap", name := "get", desc := "(Ljava/lang/Object;)Ljava/lang/Object;" } : Jvm.MethodName)) ∈ lw_all := lw_g (lw_at lw_m2 53 rfl) rfl
theorem q325 : (Jvm.Cond.publicMethod ({ cls := "java/util/HashMap", name := "get", desc := "(Ljava/lang/Object;)Ljava/lang/Object;" } : Jvm.MethodName)) ∈ lw_tbl := lw_at lw_m2 54 rfl
theorem q326 : (Jvm.Cond.code ({ cls := "java/util/HashMap", name := "get", desc := "(Ljava/lang/Object;)Ljava/lang/Object;" } : Jvm.MethodName) prog_38_method_12_code (3 : Nat) (Option.some (Jvm.ClassFile.FieldType.object "java/lang/Object"))) ∈ lw_all := lw_g (lw_at lw_m2 55 rfl) rfl
theorem q327 : (Jvm.Cond.methodLink "java/util/HashMap" (158 : Nat) ({ cls := "java/util/HashMap", name := "getNode", desc := "(Ljava/lang/Object;)Ljava/util/HashMap$Node;" } : Jvm.MethodName)) ∈ lw_all := lw_g (lw_at lw_m2 56 rfl) rfl
theorem q328 : (Jvm.Cond.instanceMethod ({ cls := "java/util/HashMap", name := "getNode", desc := "(Ljava/lang/Object;)Ljava/util/HashMap$Node;" } : Jvm.MethodName)) ∈ lw_all := lw_g (lw_at lw_m2 57 rfl) rfl
theorem q329 : (Jvm.Cond.selects "java/util/HashMap" ({ cls := "java/util/HashMap", name := "getNode", desc := "(Ljava/lang/Object;)Ljava/util/HashMap$Node;" } : Jvm.MethodName) ({ cls := "java/util/HashMap", name := "getNode", desc := "(Ljava/lang/Object;)Ljava/util/HashMap$Node;" } : Jvm.MethodName)) ∈ lw_all := lw_g (lw_at lw_m2 58 rfl) rfl
theorem q330 : (Jvm.Cond.code ({ cls := "java/util/HashMap", name := "getNode", desc := "(Ljava/lang/Object;)Ljava/util/HashMap$Node;" } : Jvm.MethodName) prog_38_method_13_code (8 : Nat) (Option.some (Jvm.ClassFile.FieldType.object "java/util/HashMap$Node"))) ∈ lw_all := lw_g (lw_at lw_m2 59 rfl) rfl
theorem q331 : (Jvm.Cond.methodLink "java/util/HashMap" (149 : Nat) ({ cls := "java/util/HashMap", name := "hash", desc := "(Ljava/lang/Object;)I" } : Jvm.MethodName)) ∈ lw_all := lw_g (lw_at lw_m2 60 rfl) rfl
theorem q332 : (Jvm.Cond.static ({ cls := "java/util/HashMap", name := "hash", desc := "(Ljava/lang/Object;)I" } : Jvm.MethodName)) ∈ lw_all := lw_g (lw_at lw_m2 61 rfl) rfl
theorem q333 : (Jvm.Cond.code ({ cls := "java/util/HashMap", name := "hash", desc := "(Ljava/lang/Object;)I" } : Jvm.MethodName) prog_38_method_1_code (2 : Nat) (Option.some Jvm.ClassFile.FieldType.int)) ∈ lw_all := lw_g (lw_at lw_m2 62 rfl) rfl
theorem q335 : (Jvm.Cond.methodLink "java/util/HashMap" (1 : Nat) ({ cls := "java/lang/Object", name := "hashCode", desc := "()I" } : Jvm.MethodName)) ∈ lw_all := lw_g (lw_at lw_m2 64 rfl) rfl
theorem q359 : (Jvm.Cond.methodLink "java/util/HashMap" (173 : Nat) ({ cls := "java/lang/Object", name := "equals", desc := "(Ljava/lang/Object;)Z" } : Jvm.MethodName)) ∈ lw_all := lw_g (lw_at lw_m2 88 rfl) rfl
theorem q383 : (Jvm.Cond.classLink "java/util/HashMap" (180 : Nat) "java/util/HashMap$TreeNode") ∈ lw_all := lw_g (lw_at lw_m2 112 rfl) rfl
theorem q384 : (Jvm.Cond.methodLink "java/util/HashMap" (182 : Nat) ({ cls := "java/util/HashMap$TreeNode", name := "getTreeNode", desc := "(ILjava/lang/Object;)Ljava/util/HashMap$TreeNode;" } : Jvm.MethodName)) ∈ lw_all := lw_g (lw_at lw_m2 113 rfl) rfl
theorem q398 : (Jvm.Cond.static ({ cls := "java/util/HashMap", name := "comparableClassFor", desc := "(Ljava/lang/Object;)Ljava/lang/Class;" } : Jvm.MethodName)) ∈ lw_all := lw_g (lw_at lw_m2 127 rfl) rfl
theorem q399 : (Jvm.Cond.code ({ cls := "java/util/HashMap", name := "comparableClassFor", desc := "(Ljava/lang/Object;)Ljava/lang/Class;" } : Jvm.MethodName) prog_38_method_2_code (9 : Nat) (Option.some (Jvm.ClassFile.FieldType.object "java/lang/Class"))) ∈ lw_all := lw_g (lw_at lw_m2 128 rfl) rfl
theorem q400 : (Jvm.Cond.classLink "java/util/HashMap" (7 : Nat) "java/lang/Comparable") ∈ lw_all := lw_g (lw_at lw_m2 129 rfl) rfl
theorem q401 : (Jvm.Cond.methodLink "java/util/HashMap" (9 : Nat) ({ cls := "java/lang/Object", name := "getClass", desc := "()Ljava/lang/Class;" } : Jvm.MethodName)) ∈ lw_all := lw_g (lw_at lw_m2 130 rfl) rfl
theorem q418 : (Jvm.Cond.selects "java/util/HashMap" ({ cls := "java/lang/Object", name := "getClass", desc := "()Ljava/lang/Class;" } : Jvm.MethodName) ({ cls := "java/lang/Object", name := "getClass", desc := "()Ljava/lang/Class;" } : Jvm.MethodName)) ∈ lw_all := lw_g (lw_at lw_m2 147 rfl) rfl
theorem q422 : (Jvm.Cond.classLink "java/util/HashMap" (13 : Nat) "java/lang/String") ∈ lw_all := lw_g (lw_at lw_m2 151 rfl) rfl
theorem q424 : (Jvm.Cond.static ({ cls := "java/util/HashMap", name := "compareComparables", desc := "(Ljava/lang/Class;Ljava/lang/Object;Ljava/lang/Object;)I" } : Jvm.MethodName)) ∈ lw_all := lw_g (lw_at lw_m2 153 rfl) rfl
theorem q425 : (Jvm.Cond.code ({ cls := "java/util/HashMap", name := "compareComparables", desc := "(Ljava/lang/Class;Ljava/lang/Object;Ljava/lang/Object;)I" } : Jvm.MethodName) prog_38_method_3_code (3 : Nat) (Option.some Jvm.ClassFile.FieldType.int)) ∈ lw_all := lw_g (lw_at lw_m2 154 rfl) rfl
theorem q426 : (Jvm.Cond.interfaceEntry "java/util/HashMap" (30 : Nat)) ∈ lw_tbl := lw_at lw_m2 155 rfl
theorem q427 : (Jvm.Cond.methodLink "java/util/HashMap" (30 : Nat) ({ cls := "java/lang/Comparable", name := "compareTo", desc := "(Ljava/lang/Object;)I" } : Jvm.MethodName)) ∈ lw_all := lw_g (lw_at lw_m2 156 rfl) rfl
theorem q791 : (Jvm.Cond.selects "java/util/HashMap" ({ cls := "java/util/Map", name := "containsKey", desc := "(Ljava/lang/Object;)Z" } : Jvm.MethodName) ({ cls := "java/util/HashMap", name := "containsKey", desc := "(Ljava/lang/Object;)Z" } : Jvm.MethodName)) ∈ lw_all := lw_g (lw_at lw_m4 40 rfl) rfl
theorem q792 : (Jvm.Cond.unhidden "java/util/HashMap" "containsKey" "(Ljava/lang/Object;)Z") ∈ lw_tbl := lw_at lw_m4 41 rfl
theorem q793 : (Jvm.Cond.instanceMethod ({ cls := "java/util/HashMap", name := "containsKey", desc := "(Ljava/lang/Object;)Z" } : Jvm.MethodName)) ∈ lw_all := lw_g (lw_at lw_m4 42 rfl) rfl
theorem q794 : (Jvm.Cond.publicMethod ({ cls := "java/util/HashMap", name := "containsKey", desc := "(Ljava/lang/Object;)Z" } : Jvm.MethodName)) ∈ lw_tbl := lw_at lw_m4 43 rfl
theorem q795 : (Jvm.Cond.code ({ cls := "java/util/HashMap", name := "containsKey", desc := "(Ljava/lang/Object;)Z" } : Jvm.MethodName) prog_38_method_14_code (2 : Nat) (Option.some Jvm.ClassFile.FieldType.boolean)) ∈ lw_all := lw_g (lw_at lw_m4 44 rfl) rfl
theorem q800 : (Jvm.Cond.selects "java/util/HashMap" ({ cls := "java/util/Map", name := "size", desc := "()I" } : Jvm.MethodName) ({ cls := "java/util/HashMap", name := "size", desc := "()I" } : Jvm.MethodName)) ∈ lw_all := lw_g (lw_at lw_m4 49 rfl) rfl
theorem q801 : (Jvm.Cond.unhidden "java/util/HashMap" "size" "()I") ∈ lw_tbl := lw_at lw_m4 50 rfl
theorem q802 : (Jvm.Cond.instanceMethod ({ cls := "java/util/HashMap", name := "size", desc := "()I" } : Jvm.MethodName)) ∈ lw_all := lw_g (lw_at lw_m4 51 rfl) rfl
theorem q803 : (Jvm.Cond.publicMethod ({ cls := "java/util/HashMap", name := "size", desc := "()I" } : Jvm.MethodName)) ∈ lw_tbl := lw_at lw_m4 52 rfl
theorem q804 : (Jvm.Cond.code ({ cls := "java/util/HashMap", name := "size", desc := "()I" } : Jvm.MethodName) prog_38_method_10_code (1 : Nat) (Option.some Jvm.ClassFile.FieldType.int)) ∈ lw_all := lw_g (lw_at lw_m4 53 rfl) rfl
theorem q809 : (Jvm.Cond.selects "java/util/HashMap" ({ cls := "java/util/Map", name := "put", desc := "(Ljava/lang/Object;Ljava/lang/Object;)Ljava/lang/Object;" } : Jvm.MethodName) ({ cls := "java/util/HashMap", name := "put", desc := "(Ljava/lang/Object;Ljava/lang/Object;)Ljava/lang/Object;" } : Jvm.MethodName)) ∈ lw_all := lw_g (lw_at lw_m4 58 rfl) rfl
theorem q810 : (Jvm.Cond.unhidden "java/util/HashMap" "put" "(Ljava/lang/Object;Ljava/lang/Object;)Ljava/lang/Object;") ∈ lw_tbl := lw_at lw_m4 59 rfl
theorem q811 : (Jvm.Cond.instanceMethod ({ cls := "java/util/HashMap", name := "put", desc := "(Ljava/lang/Object;Ljava/lang/Object;)Ljava/lang/Object;" } : Jvm.MethodName)) ∈ lw_all := lw_g (lw_at lw_m4 60 rfl) rfl
theorem q812 : (Jvm.Cond.publicMethod ({ cls := "java/util/HashMap", name := "put", desc := "(Ljava/lang/Object;Ljava/lang/Object;)Ljava/lang/Object;" } : Jvm.MethodName)) ∈ lw_tbl := lw_at lw_m4 61 rfl
theorem q813 : (Jvm.Cond.code ({ cls := "java/util/HashMap", name := "put", desc := "(Ljava/lang/Object;Ljava/lang/Object;)Ljava/lang/Object;" } : Jvm.MethodName) prog_38_method_15_code (3 : Nat) (Option.some (Jvm.ClassFile.FieldType.object "java/lang/Object"))) ∈ lw_all := lw_g (lw_at lw_m4 62 rfl) rfl
theorem q814 : (Jvm.Cond.methodLink "java/util/HashMap" (152 : Nat) ({ cls := "java/util/HashMap", name := "putVal", desc := "(ILjava/lang/Object;Ljava/lang/Object;ZZ)Ljava/lang/Object;" } : Jvm.MethodName)) ∈ lw_all := lw_g (lw_at lw_m4 63 rfl) rfl
theorem q815 : (Jvm.Cond.instanceMethod ({ cls := "java/util/HashMap", name := "putVal", desc := "(ILjava/lang/Object;Ljava/lang/Object;ZZ)Ljava/lang/Object;" } : Jvm.MethodName)) ∈ lw_all := lw_g (lw_at lw_m4 64 rfl) rfl
theorem q816 : (Jvm.Cond.selects "java/util/HashMap" ({ cls := "java/util/HashMap", name := "putVal", desc := "(ILjava/lang/Object;Ljava/lang/Object;ZZ)Ljava/lang/Object;" } : Jvm.MethodName) ({ cls := "java/util/HashMap", name := "putVal", desc := "(ILjava/lang/Object;Ljava/lang/Object;ZZ)Ljava/lang/Object;" } : Jvm.MethodName)) ∈ lw_all := lw_g (lw_at lw_m4 65 rfl) rfl
theorem q817 : (Jvm.Cond.code ({ cls := "java/util/HashMap", name := "putVal", desc := "(ILjava/lang/Object;Ljava/lang/Object;ZZ)Ljava/lang/Object;" } : Jvm.MethodName) prog_38_method_16_code (13 : Nat) (Option.some (Jvm.ClassFile.FieldType.object "java/lang/Object"))) ∈ lw_all := lw_g (lw_at lw_m4 66 rfl) rfl
theorem q818 : (Jvm.Cond.methodLink "java/util/HashMap" (117 : Nat) ({ cls := "java/util/HashMap", name := "resize", desc := "()[Ljava/util/HashMap$Node;" } : Jvm.MethodName)) ∈ lw_all := lw_g (lw_at lw_m4 67 rfl) rfl
theorem q819 : (Jvm.Cond.instanceMethod ({ cls := "java/util/HashMap", name := "resize", desc := "()[Ljava/util/HashMap$Node;" } : Jvm.MethodName)) ∈ lw_all := lw_g (lw_at lw_m4 68 rfl) rfl
theorem q820 : (Jvm.Cond.selects "java/util/HashMap" ({ cls := "java/util/HashMap", name := "resize", desc := "()[Ljava/util/HashMap$Node;" } : Jvm.MethodName) ({ cls := "java/util/HashMap", name := "resize", desc := "()[Ljava/util/HashMap$Node;" } : Jvm.MethodName)) ∈ lw_all := lw_g (lw_at lw_m4 69 rfl) rfl
theorem q821 : (Jvm.Cond.code ({ cls := "java/util/HashMap", name := "resize", desc := "()[Ljava/util/HashMap$Node;" } : Jvm.MethodName) prog_38_method_17_code (14 : Nat) (Option.some (Jvm.ClassFile.FieldType.array (Jvm.ClassFile.FieldType.object "java/util/HashMap$Node")))) ∈ lw_all := lw_g (lw_at lw_m4 70 rfl) rfl
theorem q822 : (Jvm.Cond.constant "java/util/HashMap" (42 : Nat) (1073741824 : Int32)) ∈ lw_all := lw_g (lw_at lw_m4 71 rfl) rfl
theorem q823 : (Jvm.Cond.constant "java/util/HashMap" (209 : Nat) (2147483647 : Int32)) ∈ lw_all := lw_g (lw_at lw_m4 72 rfl) rfl
theorem q824 : (Jvm.Cond.constantFloat "java/util/HashMap" (210 : Nat) (1317011456 : UInt32)) ∈ lw_all := lw_g (lw_at lw_m4 73 rfl) rfl
theorem q825 : (Jvm.Cond.classLink "java/util/HashMap" (163 : Nat) "java/util/HashMap$Node") ∈ lw_all := lw_g (lw_at lw_m4 74 rfl) rfl
theorem q827 : (Jvm.Cond.methodLink "java/util/HashMap" (211 : Nat) ({ cls := "java/util/HashMap$TreeNode", name := "split", desc := "(Ljava/util/HashMap;[Ljava/util/HashMap$Node;II)V" } : Jvm.MethodName)) ∈ lw_all := lw_g (lw_at lw_m4 76 rfl) rfl
theorem q837 : (Jvm.Cond.instanceMethod ({ cls := "java/util/HashMap", name := "replacementNode", desc := "(Ljava/util/HashMap$Node;Ljava/util/HashMap$Node;)Ljava/util/HashMap$Node;" } : Jvm.MethodName)) ∈ lw_all := lw_g (lw_at lw_m4 86 rfl) rfl
theorem q838 : (Jvm.Cond.selects "java/util/HashMap" ({ cls := "java/util/HashMap", name := "replacementNode", desc := "(Ljava/util/HashMap$Node;Ljava/util/HashMap$Node;)Ljava/util/HashMap$Node;" } : Jvm.MethodName) ({ cls := "java/util/HashMap", name := "replacementNode", desc := "(Ljava/util/HashMap$Node;Ljava/util/HashMap$Node;)Ljava/util/HashMap$Node;" } : Jvm.MethodName)) ∈ lw_all := lw_g (lw_at lw_m4 87 rfl) rfl
theorem q839 : (Jvm.Cond.code ({ cls := "java/util/HashMap", name := "replacementNode", desc := "(Ljava/util/HashMap$Node;Ljava/util/HashMap$Node;)Ljava/util/HashMap$Node;" } : Jvm.MethodName) prog_38_method_47_code (3 : Nat) (Option.some (Jvm.ClassFile.FieldType.object "java/util/HashMap$Node"))) ∈ lw_all := lw_g (lw_at lw_m4 88 rfl) rfl
theorem q841 : (Jvm.Cond.methodLink "java/util/HashMap" (375 : Nat) ({ cls := "java/util/HashMap$Node", name := "<init>", desc := "(ILjava/lang/Object;Ljava/lang/Object;Ljava/util/HashMap$Node;)V" } : Jvm.MethodName)) ∈ lw_all := lw_g (lw_at lw_m4 90 rfl) rfl
theorem q848 : (Jvm.Cond.fieldLink "java/util/HashMap" (168 : Nat) "java/util/HashMap$Node" "hash" "I") ∈ lw_all := lw_g (lw_at lw_m4 97 rfl) rfl
theorem q852 : (Jvm.Cond.fieldLink "java/util/HashMap" (170 : Nat) "java/util/HashMap$Node" "key" "Ljava/lang/Object;") ∈ lw_all := lw_g (lw_at lw_m4 101 rfl) rfl
theorem q854 : (Jvm.Cond.fieldLink "java/util/HashMap" (162 : Nat) "java/util/HashMap$Node" "value" "Ljava/lang/Object;") ∈ lw_all := lw_g (lw_at lw_m4 103 rfl) rfl
theorem q859 : (Jvm.Cond.fieldLink "java/util/HashMap" (177 : Nat) "java/util/HashMap$Node" "next" "Ljava/util/HashMap$Node;") ∈ lw_all := lw_g (lw_at lw_m4 108 rfl) rfl
theorem q860 : (Jvm.Cond.fieldLink "java/util/HashMap" (223 : Nat) "java/util/HashMap$TreeNode" "next" "Ljava/util/HashMap$Node;") ∈ lw_all := lw_g (lw_at lw_m4 109 rfl) rfl
theorem q888 : (Jvm.Cond.methodLink "java/util/HashMap" (186 : Nat) ({ cls := "java/util/HashMap", name := "newNode", desc := "(ILjava/lang/Object;Ljava/lang/Object;Ljava/util/HashMap$Node;)Ljava/util/HashMap$Node;" } : Jvm.MethodName)) ∈ lw_all := lw_g (lw_at lw_m4 137 rfl) rfl
theorem q889 : (Jvm.Cond.instanceMethod ({ cls := "java/util/HashMap", name := "newNode", desc := "(ILjava/lang/Object;Ljava/lang/Object;Ljava/util/HashMap$Node;)Ljava/util/HashMap$Node;" } : Jvm.MethodName)) ∈ lw_all := lw_g (lw_at lw_m4 138 rfl) rfl
theorem q890 : (Jvm.Cond.selects "java/util/HashMap" ({ cls := "java/util/HashMap", name := "newNode", desc := "(ILjava/lang/Object;Ljava/lang/Object;Ljava/util/HashMap$Node;)Ljava/util/HashMap$Node;" } : Jvm.MethodName) ({ cls := "java/util/HashMap", name := "newNode", desc := "(ILjava/lang/Object;Ljava/lang/Object;Ljava/util/HashMap$Node;)Ljava/util/HashMap$Node;" } : Jvm.MethodName)) ∈ lw_all := lw_g (lw_at lw_m4 139 rfl) rfl
theorem q891 : (Jvm.Cond.code ({ cls := "java/util/HashMap", name := "newNode", desc := "(ILjava/lang/Object;Ljava/lang/Object;Ljava/util/HashMap$Node;)Ljava/util/HashMap$Node;" } : Jvm.MethodName) prog_38_method_46_code (5 : Nat) (Option.some (Jvm.ClassFile.FieldType.object "java/util/HashMap$Node"))) ∈ lw_all := lw_g (lw_at lw_m4 140 rfl) rfl
theorem q892 : (Jvm.Cond.methodLink "java/util/HashMap" (190 : Nat) ({ cls := "java/util/HashMap$TreeNode", name := "putTreeVal", desc := "(Ljava/util/HashMap;[Ljava/util/HashMap$Node;ILjava/lang/Object;Ljava/lang/Object;)Ljava/util/HashMap$TreeNode;" } : Jvm.MethodName)) ∈ lw_all := lw_g (lw_at lw_m4 141 rfl) rfl
theorem q897 : (Jvm.Cond.instanceMethod ({ cls := "java/util/HashMap", name := "newTreeNode", desc := "(ILjava/lang/Object;Ljava/lang/Object;Ljava/util/HashMap$Node;)Ljava/util/HashMap$TreeNode;" } : Jvm.MethodName)) ∈ lw_all := lw_g (lw_at lw_m4 146 rfl) rfl
theorem q898 : (Jvm.Cond.selects "java/util/HashMap" ({ cls := "java/util/HashMap", name := "newTreeNode", desc := "(ILjava/lang/Object;Ljava/lang/Object;Ljava/util/HashMap$Node;)Ljava/util/HashMap$TreeNode;" } : Jvm.MethodName) ({ cls := "java/util/HashMap", name := "newTreeNode", desc := "(ILjava/lang/Object;Ljava/lang/Object;Ljava/util/HashMap$Node;)Ljava/util/HashMap$TreeNode;" } : Jvm.MethodName)) ∈ lw_all := lw_g (lw_at lw_m4 147 rfl) rfl
theorem q899 : (Jvm.Cond.code ({ cls := "java/util/HashMap", name := "newTreeNode", desc := "(ILjava/lang/Object;Ljava/lang/Object;Ljava/util/HashMap$Node;)Ljava/util/HashMap$TreeNode;" } : Jvm.MethodName) prog_38_method_48_code (5 : Nat) (Option.some (Jvm.ClassFile.FieldType.object "java/util/HashMap$TreeNode"))) ∈ lw_all := lw_g (lw_at lw_m4 148 rfl) rfl
theorem q901 : (Jvm.Cond.methodLink "java/util/HashMap" (378 : Nat) ({ cls := "java/util/HashMap$TreeNode", name := "<init>", desc := "(ILjava/lang/Object;Ljava/lang/Object;Ljava/util/HashMap$Node;)V" } : Jvm.MethodName)) ∈ lw_all := lw_g (lw_at lw_m4 150 rfl) rfl
theorem q912 : (Jvm.Cond.fieldLink "java/util/HashMap" (219 : Nat) "java/util/HashMap$TreeNode" "prev" "Ljava/util/HashMap$TreeNode;") ∈ lw_all := lw_g (lw_at lw_m4 161 rfl) rfl
theorem q933 : (Jvm.Cond.methodLink "java/util/HashMap" (194 : Nat) ({ cls := "java/util/HashMap", name := "treeifyBin", desc := "([Ljava/util/HashMap$Node;I)V" } : Jvm.MethodName)) ∈ lw_all := lw_g (lw_at lw_m4 182 rfl) rfl
theorem q934 : (Jvm.Cond.instanceMethod ({ cls := "java/util/HashMap", name := "treeifyBin", desc := "([Ljava/util/HashMap$Node;I)V" } : Jvm.MethodName)) ∈ lw_all := lw_g (lw_at lw_m4 183 rfl) rfl
theorem q935 : (Jvm.Cond.selects "java/util/HashMap" ({ cls := "java/util/HashMap", name := "treeifyBin", desc := "([Ljava/util/HashMap$Node;I)V" } : Jvm.MethodName) ({ cls := "java/util/HashMap", name := "treeifyBin", desc := "([Ljava/util/HashMap$Node;I)V" } : Jvm.MethodName)) ∈ lw_all := lw_g (lw_at lw_m4 184 rfl) rfl
theorem q936 : (Jvm.Cond.code ({ cls := "java/util/HashMap", name := "treeifyBin", desc := "([Ljava/util/HashMap$Node;I)V" } : Jvm.MethodName) prog_38_method_18_code (9 : Nat) (Option.none : Option Jvm.ClassFile.FieldType)) ∈ lw_all := lw_g (lw_at lw_m4 185 rfl) rfl
theorem q937 : (Jvm.Cond.methodLink "java/util/HashMap" (215 : Nat) ({ cls := "java/util/HashMap", name := "replacementTreeNode", desc := "(Ljava/util/HashMap$Node;Ljava/util/HashMap$Node;)Ljava/util/HashMap$TreeNode;" } : Jvm.MethodName)) ∈ lw_all := lw_g (lw_at lw_m4 186 rfl) rfl
theorem q938 : (Jvm.Cond.instanceMethod ({ cls := "java/util/HashMap", name := "replacementTreeNode", desc := "(Ljava/util/HashMap$Node;Ljava/util/HashMap$Node;)Ljava/util/HashMap$TreeNode;" } : Jvm.MethodName)) ∈ lw_all := lw_g (lw_at lw_m4 187 rfl) rfl
theorem q939 : (Jvm.Cond.selects "java/util/HashMap" ({ cls := "java/util/HashMap", name := "replacementTreeNode", desc := "(Ljava/util/HashMap$Node;Ljava/util/HashMap$Node;)Ljava/util/HashMap$TreeNode;" } : Jvm.MethodName) ({ cls := "java/util/HashMap", name := "replacementTreeNode", desc := "(Ljava/util/HashMap$Node;Ljava/util/HashMap$Node;)Ljava/util/HashMap$TreeNode;" } : Jvm.MethodName)) ∈ lw_all := lw_g (lw_at lw_m4 188 rfl) rfl
theorem q940 : (Jvm.Cond.code ({ cls := "java/util/HashMap", name := "replacementTreeNode", desc := "(Ljava/util/HashMap$Node;Ljava/util/HashMap$Node;)Ljava/util/HashMap$TreeNode;" } : Jvm.MethodName) prog_38_method_49_code (3 : Nat) (Option.some (Jvm.ClassFile.FieldType.object "java/util/HashMap$TreeNode"))) ∈ lw_all := lw_g (lw_at lw_m4 189 rfl) rfl
theorem q941 : (Jvm.Cond.methodLink "java/util/HashMap" (224 : Nat) ({ cls := "java/util/HashMap$TreeNode", name := "treeify", desc := "([Ljava/util/HashMap$Node;)V" } : Jvm.MethodName)) ∈ lw_all := lw_g (lw_at lw_m4 190 rfl) rfl
theorem q942 : (Jvm.Cond.methodLink "java/util/HashMap" (198 : Nat) ({ cls := "java/util/HashMap", name := "afterNodeAccess", desc := "(Ljava/util/HashMap$Node;)V" } : Jvm.MethodName)) ∈ lw_all := lw_g (lw_at lw_m4 191 rfl) rfl
theorem q943 : (Jvm.Cond.instanceMethod ({ cls := "java/util/HashMap", name := "afterNodeAccess", desc := "(Ljava/util/HashMap$Node;)V" } : Jvm.MethodName)) ∈ lw_all := lw_g (lw_at lw_m4 192 rfl) rfl
theorem q944 : (Jvm.Cond.selects "java/util/HashMap" ({ cls := "java/util/HashMap", name := "afterNodeAccess", desc := "(Ljava/util/HashMap$Node;)V" } : Jvm.MethodName) ({ cls := "java/util/HashMap", name := "afterNodeAccess", desc := "(Ljava/util/HashMap$Node;)V" } : Jvm.MethodName)) ∈ lw_all := lw_g (lw_at lw_m4 193 rfl) rfl
theorem q945 : (Jvm.Cond.code ({ cls := "java/util/HashMap", name := "afterNodeAccess", desc := "(Ljava/util/HashMap$Node;)V" } : Jvm.MethodName) prog_38_method_51_code (2 : Nat) (Option.none : Option Jvm.ClassFile.FieldType)) ∈ lw_all := lw_g (lw_at lw_m4 194 rfl) rfl
theorem q946 : (Jvm.Cond.methodLink "java/util/HashMap" (205 : Nat) ({ cls := "java/util/HashMap", name := "afterNodeInsertion", desc := "(Z)V" } : Jvm.MethodName)) ∈ lw_all := lw_g (lw_at lw_m4 195 rfl) rfl
theorem q947 : (Jvm.Cond.instanceMethod ({ cls := "java/util/HashMap", name := "afterNodeInsertion", desc := "(Z)V" } : Jvm.MethodName)) ∈ lw_all := lw_g (lw_at lw_m4 196 rfl) rfl
theorem q948 : (Jvm.Cond.selects "java/util/HashMap" ({ cls := "java/util/HashMap", name := "afterNodeInsertion", desc := "(Z)V" } : Jvm.MethodName) ({ cls := "java/util/HashMap", name := "afterNodeInsertion", desc := "(Z)V" } : Jvm.MethodName)) ∈ lw_all := lw_g (lw_at lw_m4 197 rfl) rfl
theorem q949 : (Jvm.Cond.code ({ cls := "java/util/HashMap", name := "afterNodeInsertion", desc := "(Z)V" } : Jvm.MethodName) prog_38_method_52_code (2 : Nat) (Option.none : Option Jvm.ClassFile.FieldType)) ∈ lw_all := lw_g (lw_at lw_m4 198 rfl) rfl
theorem q1223 : (Jvm.Cond.castable "java/util/HashMap" "java/lang/Object") ∈ lw_tbl := lw_at lw_m5 232 rfl
theorem in_J1 : ∀ w ∈ wsJ10, w ∈ lw_all := lw_in wsJ10 [151, 153, 139, 141, 143, 145, 147, 149] (by decide +kernel) (by decide +kernel)
/-! java/lang/Throwable -/
set_option maxRecDepth 100000
def RJ2 : String := "java/lang/Throwable"
def TJ2 : u_T := fun k => match k with
  | 0 => ("java/lang/Throwable", "cause", "Ljava/lang/Throwable;", false)
  | 1 => ("java/lang/Throwable", "stackTrace", "[Ljava/lang/StackTraceElement;", false)
  | 2 => ("java/lang/Throwable", "suppressedExceptions", "Ljava/util/List;", false)
  | 3 => ("java/lang/Throwable", "detailMessage", "Ljava/lang/String;", false)
  | _ => ("java/lang/Throwable", "backtrace", "Ljava/lang/Object;", false)
def tyJ2 : Nat → FieldType := fun k => match k with
  | 0 => .object "java/lang/Throwable"
  | 1 => .array (.object "java/lang/StackTraceElement")
  | 2 => .object "java/util/List"
  | 3 => .object "java/lang/String"
  | _ => .object "java/lang/Object"
abbrev wsJ20 : List Cond := u_ws RJ2 TJ2 5
theorem nmJ2 : ∀ a, a < 5 → ∀ b, b < 5 → a ≠ b → (TJ2 a).2.1 ≠ (TJ2 b).2.1 := by decide +kernel
theorem tyJ2_ok : ∀ k, k < 5 → parseFieldDescriptor (TJ2 k).2.2.1 = some (tyJ2 k) := by decide +kernel
abbrev cJ2_init : ByteArray := prog_30_method_2_code
def yJ2_init : MethodName := ⟨RJ2, "<init>", "(Ljava/lang/String;)V"⟩
def dkwJ2_init_1 : List UInt8 := [182, 0, 27, 87, 42, 43, 181, 0, 31, 177]
abbrev dktJ2_init_1 : List UInt8 := dkwJ2_init_1 ++ []
def dkwJ2_init_0 : List UInt8 := [42, 183, 0, 1, 42, 42, 181, 0, 7, 42, 178, 0, 13, 181, 0, 17, 42, 178, 0, 20, 181, 0, 24, 42]
abbrev dktJ2_init_0 : List UInt8 := dkwJ2_init_0 ++ dktJ2_init_1
theorem dksJ2_init_0 : cJ2_init.data.toList.drop 0 = dktJ2_init_0 := by decide +kernel
theorem dksJ2_init_1 : cJ2_init.data.toList.drop 24 = dktJ2_init_1 := dk_seg dksJ2_init_0 24 rfl rfl
theorem dJ2_init_0 : decode cJ2_init 0 = .ok (.aload_n 0, 1) := dk_42 (dk_at dksJ2_init_0 0 rfl rfl)
theorem dJ2_init_1 : decode cJ2_init 1 = .ok (.invokespecial 1, 3) := dk_183 0 1 (dk_at dksJ2_init_0 1 rfl rfl)
theorem dJ2_init_4 : decode cJ2_init 4 = .ok (.aload_n 0, 1) := dk_42 (dk_at dksJ2_init_0 4 rfl rfl)
theorem dJ2_init_5 : decode cJ2_init 5 = .ok (.aload_n 0, 1) := dk_42 (dk_at dksJ2_init_0 5 rfl rfl)
theorem dJ2_init_6 : decode cJ2_init 6 = .ok (.putfield 7, 3) := dk_181 0 7 (dk_at dksJ2_init_0 6 rfl rfl)
theorem dJ2_init_9 : decode cJ2_init 9 = .ok (.aload_n 0, 1) := dk_42 (dk_at dksJ2_init_0 9 rfl rfl)
theorem dJ2_init_10 : decode cJ2_init 10 = .ok (.getstatic 13, 3) := dk_178 0 13 (dk_at dksJ2_init_0 10 rfl rfl)
theorem dJ2_init_13 : decode cJ2_init 13 = .ok (.putfield 17, 3) := dk_181 0 17 (dk_at dksJ2_init_0 13 rfl rfl)
theorem dJ2_init_16 : decode cJ2_init 16 = .ok (.aload_n 0, 1) := dk_42 (dk_at dksJ2_init_0 16 rfl rfl)
theorem dJ2_init_17 : decode cJ2_init 17 = .ok (.getstatic 20, 3) := dk_178 0 20 (dk_at dksJ2_init_0 17 rfl rfl)
theorem dJ2_init_20 : decode cJ2_init 20 = .ok (.putfield 24, 3) := dk_181 0 24 (dk_at dksJ2_init_0 20 rfl rfl)
theorem dJ2_init_23 : decode cJ2_init 23 = .ok (.aload_n 0, 1) := dk_42 (dk_at dksJ2_init_0 23 rfl rfl)
theorem dJ2_init_24 : decode cJ2_init 24 = .ok (.invokevirtual 27, 3) := dk_182 0 27 (dk_at dksJ2_init_1 0 rfl rfl)
theorem dJ2_init_27 : decode cJ2_init 27 = .ok (.pop, 1) := dk_87 (dk_at dksJ2_init_1 3 rfl rfl)
theorem dJ2_init_28 : decode cJ2_init 28 = .ok (.aload_n 0, 1) := dk_42 (dk_at dksJ2_init_1 4 rfl rfl)
theorem dJ2_init_29 : decode cJ2_init 29 = .ok (.aload_n 1, 1) := dk_43 (dk_at dksJ2_init_1 5 rfl rfl)
theorem dJ2_init_30 : decode cJ2_init 30 = .ok (.putfield 31, 3) := dk_181 0 31 (dk_at dksJ2_init_1 6 rfl rfl)
theorem dJ2_init_33 : decode cJ2_init 33 = .ok (.return_, 1) := dk_177 (dk_at dksJ2_init_1 9 rfl rfl)
abbrev cJ2_init_2 : ByteArray := prog_30_method_1_code
def yJ2_init_2 : MethodName := ⟨RJ2, "<init>", "()V"⟩
def dkwJ2_init_2_1 : List UInt8 := [182, 0, 27, 87, 177]
abbrev dktJ2_init_2_1 : List UInt8 := dkwJ2_init_2_1 ++ []
def dkwJ2_init_2_0 : List UInt8 := [42, 183, 0, 1, 42, 42, 181, 0, 7, 42, 178, 0, 13, 181, 0, 17, 42, 178, 0, 20, 181, 0, 24, 42]
abbrev dktJ2_init_2_0 : List UInt8 := dkwJ2_init_2_0 ++ dktJ2_init_2_1
theorem dksJ2_init_2_0 : cJ2_init_2.data.toList.drop 0 = dktJ2_init_2_0 := by decide +kernel
theorem dksJ2_init_2_1 : cJ2_init_2.data.toList.drop 24 = dktJ2_init_2_1 := dk_seg dksJ2_init_2_0 24 rfl rfl
theorem dJ2_init_2_0 : decode cJ2_init_2 0 = .ok (.aload_n 0, 1) := dk_42 (dk_at dksJ2_init_2_0 0 rfl rfl)
theorem dJ2_init_2_1 : decode cJ2_init_2 1 = .ok (.invokespecial 1, 3) := dk_183 0 1 (dk_at dksJ2_init_2_0 1 rfl rfl)
theorem dJ2_init_2_4 : decode cJ2_init_2 4 = .ok (.aload_n 0, 1) := dk_42 (dk_at dksJ2_init_2_0 4 rfl rfl)
theorem dJ2_init_2_5 : decode cJ2_init_2 5 = .ok (.aload_n 0, 1) := dk_42 (dk_at dksJ2_init_2_0 5 rfl rfl)
theorem dJ2_init_2_6 : decode cJ2_init_2 6 = .ok (.putfield 7, 3) := dk_181 0 7 (dk_at dksJ2_init_2_0 6 rfl rfl)
theorem dJ2_init_2_9 : decode cJ2_init_2 9 = .ok (.aload_n 0, 1) := dk_42 (dk_at dksJ2_init_2_0 9 rfl rfl)
theorem dJ2_init_2_10 : decode cJ2_init_2 10 = .ok (.getstatic 13, 3) := dk_178 0 13 (dk_at dksJ2_init_2_0 10 rfl rfl)
theorem dJ2_init_2_13 : decode cJ2_init_2 13 = .ok (.putfield 17, 3) := dk_181 0 17 (dk_at dksJ2_init_2_0 13 rfl rfl)
theorem dJ2_init_2_16 : decode cJ2_init_2 16 = .ok (.aload_n 0, 1) := dk_42 (dk_at dksJ2_init_2_0 16 rfl rfl)
theorem dJ2_init_2_17 : decode cJ2_init_2 17 = .ok (.getstatic 20, 3) := dk_178 0 20 (dk_at dksJ2_init_2_0 17 rfl rfl)
theorem dJ2_init_2_20 : decode cJ2_init_2 20 = .ok (.putfield 24, 3) := dk_181 0 24 (dk_at dksJ2_init_2_0 20 rfl rfl)
theorem dJ2_init_2_23 : decode cJ2_init_2 23 = .ok (.aload_n 0, 1) := dk_42 (dk_at dksJ2_init_2_0 23 rfl rfl)
theorem dJ2_init_2_24 : decode cJ2_init_2 24 = .ok (.invokevirtual 27, 3) := dk_182 0 27 (dk_at dksJ2_init_2_1 0 rfl rfl)
theorem dJ2_init_2_27 : decode cJ2_init_2 27 = .ok (.pop, 1) := dk_87 (dk_at dksJ2_init_2_1 3 rfl rfl)
theorem dJ2_init_2_28 : decode cJ2_init_2 28 = .ok (.return_, 1) := dk_177 (dk_at dksJ2_init_2_1 4 rfl rfl)
theorem q39 : (Jvm.Cond.initialized "java/lang/Throwable") ∈ lw_all := lw_g (lw_at lw_m1 8 rfl) rfl
theorem q462 : (Jvm.Cond.instanceMethod ({ cls := "java/lang/Throwable", name := "<init>", desc := "(Ljava/lang/String;)V" } : Jvm.MethodName)) ∈ lw_all := lw_g (lw_at lw_m2 191 rfl) rfl
theorem q463 : (Jvm.Cond.code ({ cls := "java/lang/Throwable", name := "<init>", desc := "(Ljava/lang/String;)V" } : Jvm.MethodName) prog_30_method_2_code (2 : Nat) (Option.none : Option Jvm.ClassFile.FieldType)) ∈ lw_all := lw_g (lw_at lw_m2 192 rfl) rfl
theorem q464 : (Jvm.Cond.methodLink "java/lang/Throwable" (1 : Nat) ({ cls := "java/lang/Object", name := "<init>", desc := "()V" } : Jvm.MethodName)) ∈ lw_all := lw_g (lw_at lw_m2 193 rfl) rfl
theorem q465 : (Jvm.Cond.fieldLink "java/lang/Throwable" (13 : Nat) "java/lang/Throwable" "UNASSIGNED_STACK" "[Ljava/lang/StackTraceElement;") ∈ lw_all := lw_g (lw_at lw_m2 194 rfl) rfl
theorem q466 : (Jvm.Cond.laysStatic "java/lang/Throwable" "UNASSIGNED_STACK" "[Ljava/lang/StackTraceElement;") ∈ lw_tbl := lw_at lw_m2 195 rfl
theorem q467 : (Jvm.Cond.fieldLink "java/lang/Throwable" (20 : Nat) "java/lang/Throwable" "SUPPRESSED_SENTINEL" "Ljava/util/List;") ∈ lw_all := lw_g (lw_at lw_m2 196 rfl) rfl
theorem q468 : (Jvm.Cond.laysStatic "java/lang/Throwable" "SUPPRESSED_SENTINEL" "Ljava/util/List;") ∈ lw_tbl := lw_at lw_m2 197 rfl
theorem q469 : (Jvm.Cond.methodLink "java/lang/Throwable" (27 : Nat) ({ cls := "java/lang/Throwable", name := "fillInStackTrace", desc := "()Ljava/lang/Throwable;" } : Jvm.MethodName)) ∈ lw_all := lw_g (lw_at lw_m2 198 rfl) rfl
theorem q470 : (Jvm.Cond.instanceMethod ({ cls := "java/lang/Throwable", name := "fillInStackTrace", desc := "()Ljava/lang/Throwable;" } : Jvm.MethodName)) ∈ lw_all := lw_g (lw_at lw_m2 199 rfl) rfl
theorem q471 : (Jvm.Cond.sameMethod "java/lang/Throwable" "java/lang/Throwable" "fillInStackTrace" "()Ljava/lang/Throwable;") ∈ lw_all := lw_g (lw_at lw_m2 200 rfl) rfl
theorem q476 : (Jvm.Cond.codeSync ({ cls := "java/lang/Throwable", name := "fillInStackTrace", desc := "()Ljava/lang/Throwable;" } : Jvm.MethodName) prog_30_method_18_code (1 : Nat) (Option.some (Jvm.ClassFile.FieldType.object "java/lang/Throwable"))) ∈ lw_all := lw_g (lw_at lw_m2 205 rfl) rfl
theorem q477 : (Jvm.Cond.methodLink "java/lang/Throwable" (202 : Nat) ({ cls := "java/lang/Throwable", name := "fillInStackTrace", desc := "(I)Ljava/lang/Throwable;" } : Jvm.MethodName)) ∈ lw_all := lw_g (lw_at lw_m2 206 rfl) rfl
theorem q478 : (Jvm.Cond.privateMethod ({ cls := "java/lang/Throwable", name := "fillInStackTrace", desc := "(I)Ljava/lang/Throwable;" } : Jvm.MethodName)) ∈ lw_tbl := lw_at lw_m2 207 rfl
theorem q479 : (Jvm.Cond.instanceMethod ({ cls := "java/lang/Throwable", name := "fillInStackTrace", desc := "(I)Ljava/lang/Throwable;" } : Jvm.MethodName)) ∈ lw_all := lw_g (lw_at lw_m2 208 rfl) rfl
theorem q480 : (Jvm.Cond.instantiable "java/lang/Throwable" (6 : Nat)) ∈ lw_all := lw_g (lw_at lw_m2 209 rfl) rfl
theorem q481 : (Jvm.Cond.native ({ cls := "java/lang/Throwable", name := "fillInStackTrace", desc := "(I)Ljava/lang/Throwable;" } : Jvm.MethodName)) ∈ lw_all := lw_g (lw_at lw_m2 210 rfl) rfl
theorem q482 : (Jvm.Cond.fieldLink "java/lang/Throwable" (198 : Nat) "java/lang/Throwable" "backtrace" "Ljava/lang/Object;") ∈ lw_all := lw_g (lw_at lw_m2 211 rfl) rfl
theorem q483 : (Jvm.Cond.fieldLink "java/lang/Throwable" (31 : Nat) "java/lang/Throwable" "detailMessage" "Ljava/lang/String;") ∈ lw_all := lw_g (lw_at lw_m2 212 rfl) rfl
theorem q484 : (Jvm.Cond.fieldLink "java/lang/Throwable" (7 : Nat) "java/lang/Throwable" "cause" "Ljava/lang/Throwable;") ∈ lw_all := lw_g (lw_at lw_m2 213 rfl) rfl
theorem q485 : (Jvm.Cond.fieldLink "java/lang/Throwable" (17 : Nat) "java/lang/Throwable" "stackTrace" "[Ljava/lang/StackTraceElement;") ∈ lw_all := lw_g (lw_at lw_m2 214 rfl) rfl
theorem q486 : (Jvm.Cond.fieldLink "java/lang/Throwable" (24 : Nat) "java/lang/Throwable" "suppressedExceptions" "Ljava/util/List;") ∈ lw_all := lw_g (lw_at lw_m2 215 rfl) rfl
theorem q488 : (Jvm.Cond.soleField "java/lang/Throwable" "backtrace") ∈ lw_all := lw_g (lw_at lw_m2 217 rfl) rfl
theorem q490 : (Jvm.Cond.soleField "java/lang/Throwable" "detailMessage") ∈ lw_all := lw_g (lw_at lw_m2 219 rfl) rfl
theorem q492 : (Jvm.Cond.soleField "java/lang/Throwable" "cause") ∈ lw_all := lw_g (lw_at lw_m2 221 rfl) rfl
theorem q494 : (Jvm.Cond.soleField "java/lang/Throwable" "stackTrace") ∈ lw_all := lw_g (lw_at lw_m2 223 rfl) rfl
theorem q496 : (Jvm.Cond.soleField "java/lang/Throwable" "depth") ∈ lw_all := lw_g (lw_at lw_m2 225 rfl) rfl
theorem q498 : (Jvm.Cond.soleField "java/lang/Throwable" "suppressedExceptions") ∈ lw_all := lw_g (lw_at lw_m2 227 rfl) rfl
theorem q507 : (Jvm.Cond.declares ({ cls := "java/lang/Throwable", name := "<init>", desc := "()V" } : Jvm.MethodName)) ∈ lw_tbl := lw_at lw_m2 236 rfl
theorem q508 : (Jvm.Cond.declares ({ cls := "java/lang/Throwable", name := "<init>", desc := "(Ljava/lang/String;)V" } : Jvm.MethodName)) ∈ lw_tbl := lw_at lw_m2 237 rfl
theorem q510 : (Jvm.Cond.lays "java/lang/Throwable" "java/lang/Throwable" "cause" "Ljava/lang/Throwable;") ∈ lw_all := lw_g (lw_at lw_m2 239 rfl) rfl
theorem q511 : (Jvm.Cond.lays "java/lang/Throwable" "java/lang/Throwable" "stackTrace" "[Ljava/lang/StackTraceElement;") ∈ lw_all := lw_g (lw_at lw_m3 0 rfl) rfl
theorem q512 : (Jvm.Cond.lays "java/lang/Throwable" "java/lang/Throwable" "suppressedExceptions" "Ljava/util/List;") ∈ lw_all := lw_g (lw_at lw_m3 1 rfl) rfl
theorem q513 : (Jvm.Cond.lays "java/lang/Throwable" "java/lang/Throwable" "detailMessage" "Ljava/lang/String;") ∈ lw_all := lw_g (lw_at lw_m3 2 rfl) rfl
theorem q514 : (Jvm.Cond.lays "java/lang/Throwable" "java/lang/Throwable" "backtrace" "Ljava/lang/Object;") ∈ lw_all := lw_g (lw_at lw_m3 3 rfl) rfl
theorem q515 : (Jvm.Cond.fieldLink "java/lang/Throwable" (198 : Nat) "java/lang/Throwable" "backtrace" "Ljava/lang/Object;") ∈ lw_all := lw_g (lw_at lw_m3 4 rfl) rfl
theorem q516 : (Jvm.Cond.superclass "java/lang/Throwable" "java/lang/Object") ∈ lw_all := lw_g (lw_at lw_m3 5 rfl) rfl
theorem q517 : (Jvm.Cond.instanceMethod ({ cls := "java/lang/Throwable", name := "<init>", desc := "()V" } : Jvm.MethodName)) ∈ lw_all := lw_g (lw_at lw_m3 6 rfl) rfl
theorem q518 : (Jvm.Cond.code ({ cls := "java/lang/Throwable", name := "<init>", desc := "()V" } : Jvm.MethodName) prog_30_method_1_code (1 : Nat) (Option.none : Option Jvm.ClassFile.FieldType)) ∈ lw_all := lw_g (lw_at lw_m3 7 rfl) rfl
theorem q1214 : (Jvm.Cond.sameMethod "java/lang/Throwable" "java/lang/Throwable" "fillInStackTrace" "(I)Ljava/lang/Throwable;") ∈ lw_all := lw_g (lw_at lw_m5 223 rfl) rfl
theorem q1236 : (Jvm.Cond.castable "java/lang/Throwable" "java/lang/Object") ∈ lw_tbl := lw_at lw_m6 5 rfl
theorem in_J2 : ∀ w ∈ wsJ20, w ∈ lw_all := lw_in wsJ20 [510, 511, 512, 513, 514] (by decide +kernel) (by decide +kernel)
/-! java/lang/Exception -/
set_option maxRecDepth 100000
def RJ3 : String := "java/lang/Exception"
abbrev cJ3_init : ByteArray := prog_18_method_2_code
def yJ3_init : MethodName := ⟨RJ3, "<init>", "(Ljava/lang/String;)V"⟩
def dkwJ3_init_0 : List UInt8 := [42, 43, 183, 0, 7, 177]
abbrev dktJ3_init_0 : List UInt8 := dkwJ3_init_0 ++ []
theorem dksJ3_init_0 : cJ3_init.data.toList.drop 0 = dktJ3_init_0 := by decide +kernel
theorem dJ3_init_0 : decode cJ3_init 0 = .ok (.aload_n 0, 1) := dk_42 (dk_at dksJ3_init_0 0 rfl rfl)
theorem dJ3_init_1 : decode cJ3_init 1 = .ok (.aload_n 1, 1) := dk_43 (dk_at dksJ3_init_0 1 rfl rfl)
theorem dJ3_init_2 : decode cJ3_init 2 = .ok (.invokespecial 7, 3) := dk_183 0 7 (dk_at dksJ3_init_0 2 rfl rfl)
theorem dJ3_init_5 : decode cJ3_init 5 = .ok (.return_, 1) := dk_177 (dk_at dksJ3_init_0 5 rfl rfl)
abbrev cJ3_init_2 : ByteArray := prog_18_method_1_code
def yJ3_init_2 : MethodName := ⟨RJ3, "<init>", "()V"⟩
theorem dJ3_init_2_0 : decode cJ3_init_2 0 = .ok (.aload_n 0, 1) := by decide +kernel
theorem dJ3_init_2_1 : decode cJ3_init_2 1 = .ok (.invokespecial 1, 3) := by decide +kernel
theorem dJ3_init_2_4 : decode cJ3_init_2 4 = .ok (.return_, 1) := by decide +kernel
theorem q40 : (Jvm.Cond.initialized "java/lang/Exception") ∈ lw_all := lw_g (lw_at lw_m1 9 rfl) rfl
theorem q459 : (Jvm.Cond.instanceMethod ({ cls := "java/lang/Exception", name := "<init>", desc := "(Ljava/lang/String;)V" } : Jvm.MethodName)) ∈ lw_all := lw_g (lw_at lw_m2 188 rfl) rfl
theorem q460 : (Jvm.Cond.code ({ cls := "java/lang/Exception", name := "<init>", desc := "(Ljava/lang/String;)V" } : Jvm.MethodName) prog_18_method_2_code (2 : Nat) (Option.none : Option Jvm.ClassFile.FieldType)) ∈ lw_all := lw_g (lw_at lw_m2 189 rfl) rfl
theorem q461 : (Jvm.Cond.methodLink "java/lang/Exception" (7 : Nat) ({ cls := "java/lang/Throwable", name := "<init>", desc := "(Ljava/lang/String;)V" } : Jvm.MethodName)) ∈ lw_all := lw_g (lw_at lw_m2 190 rfl) rfl
theorem q505 : (Jvm.Cond.declares ({ cls := "java/lang/Exception", name := "<init>", desc := "()V" } : Jvm.MethodName)) ∈ lw_tbl := lw_at lw_m2 234 rfl
theorem q506 : (Jvm.Cond.declares ({ cls := "java/lang/Exception", name := "<init>", desc := "(Ljava/lang/String;)V" } : Jvm.MethodName)) ∈ lw_tbl := lw_at lw_m2 235 rfl
theorem q556 : (Jvm.Cond.instanceMethod ({ cls := "java/lang/Exception", name := "<init>", desc := "()V" } : Jvm.MethodName)) ∈ lw_all := lw_g (lw_at lw_m3 45 rfl) rfl
theorem q557 : (Jvm.Cond.code ({ cls := "java/lang/Exception", name := "<init>", desc := "()V" } : Jvm.MethodName) prog_18_method_1_code (1 : Nat) (Option.none : Option Jvm.ClassFile.FieldType)) ∈ lw_all := lw_g (lw_at lw_m3 46 rfl) rfl
theorem q558 : (Jvm.Cond.methodLink "java/lang/Exception" (1 : Nat) ({ cls := "java/lang/Throwable", name := "<init>", desc := "()V" } : Jvm.MethodName)) ∈ lw_all := lw_g (lw_at lw_m3 47 rfl) rfl
/-! java/lang/RuntimeException -/
set_option maxRecDepth 100000
def RJ4 : String := "java/lang/RuntimeException"
abbrev cJ4_init : ByteArray := prog_27_method_2_code
def yJ4_init : MethodName := ⟨RJ4, "<init>", "(Ljava/lang/String;)V"⟩
def dkwJ4_init_0 : List UInt8 := [42, 43, 183, 0, 7, 177]
abbrev dktJ4_init_0 : List UInt8 := dkwJ4_init_0 ++ []
theorem dksJ4_init_0 : cJ4_init.data.toList.drop 0 = dktJ4_init_0 := by decide +kernel
theorem dJ4_init_0 : decode cJ4_init 0 = .ok (.aload_n 0, 1) := dk_42 (dk_at dksJ4_init_0 0 rfl rfl)
theorem dJ4_init_1 : decode cJ4_init 1 = .ok (.aload_n 1, 1) := dk_43 (dk_at dksJ4_init_0 1 rfl rfl)
theorem dJ4_init_2 : decode cJ4_init 2 = .ok (.invokespecial 7, 3) := dk_183 0 7 (dk_at dksJ4_init_0 2 rfl rfl)
theorem dJ4_init_5 : decode cJ4_init 5 = .ok (.return_, 1) := dk_177 (dk_at dksJ4_init_0 5 rfl rfl)
abbrev cJ4_init_2 : ByteArray := prog_27_method_1_code
def yJ4_init_2 : MethodName := ⟨RJ4, "<init>", "()V"⟩
theorem dJ4_init_2_0 : decode cJ4_init_2 0 = .ok (.aload_n 0, 1) := by decide +kernel
theorem dJ4_init_2_1 : decode cJ4_init_2 1 = .ok (.invokespecial 1, 3) := by decide +kernel
theorem dJ4_init_2_4 : decode cJ4_init_2 4 = .ok (.return_, 1) := by decide +kernel
theorem q41 : (Jvm.Cond.initialized "java/lang/RuntimeException") ∈ lw_all := lw_g (lw_at lw_m1 10 rfl) rfl
theorem q456 : (Jvm.Cond.instanceMethod ({ cls := "java/lang/RuntimeException", name := "<init>", desc := "(Ljava/lang/String;)V" } : Jvm.MethodName)) ∈ lw_all := lw_g (lw_at lw_m2 185 rfl) rfl
theorem q457 : (Jvm.Cond.code ({ cls := "java/lang/RuntimeException", name := "<init>", desc := "(Ljava/lang/String;)V" } : Jvm.MethodName) prog_27_method_2_code (2 : Nat) (Option.none : Option Jvm.ClassFile.FieldType)) ∈ lw_all := lw_g (lw_at lw_m2 186 rfl) rfl
theorem q458 : (Jvm.Cond.methodLink "java/lang/RuntimeException" (7 : Nat) ({ cls := "java/lang/Exception", name := "<init>", desc := "(Ljava/lang/String;)V" } : Jvm.MethodName)) ∈ lw_all := lw_g (lw_at lw_m2 187 rfl) rfl
theorem q503 : (Jvm.Cond.declares ({ cls := "java/lang/RuntimeException", name := "<init>", desc := "()V" } : Jvm.MethodName)) ∈ lw_tbl := lw_at lw_m2 232 rfl
theorem q504 : (Jvm.Cond.declares ({ cls := "java/lang/RuntimeException", name := "<init>", desc := "(Ljava/lang/String;)V" } : Jvm.MethodName)) ∈ lw_tbl := lw_at lw_m2 233 rfl
theorem q553 : (Jvm.Cond.instanceMethod ({ cls := "java/lang/RuntimeException", name := "<init>", desc := "()V" } : Jvm.MethodName)) ∈ lw_all := lw_g (lw_at lw_m3 42 rfl) rfl
theorem q554 : (Jvm.Cond.code ({ cls := "java/lang/RuntimeException", name := "<init>", desc := "()V" } : Jvm.MethodName) prog_27_method_1_code (1 : Nat) (Option.none : Option Jvm.ClassFile.FieldType)) ∈ lw_all := lw_g (lw_at lw_m3 43 rfl) rfl
theorem q555 : (Jvm.Cond.methodLink "java/lang/RuntimeException" (1 : Nat) ({ cls := "java/lang/Exception", name := "<init>", desc := "()V" } : Jvm.MethodName)) ∈ lw_all := lw_g (lw_at lw_m3 44 rfl) rfl
/-! java/lang/IndexOutOfBoundsException -/
set_option maxRecDepth 100000
def RJ5 : String := "java/lang/IndexOutOfBoundsException"
def TJ5 : u_T := fun k => match k with
  | 0 => ("java/lang/Throwable", "cause", "Ljava/lang/Throwable;", false)
  | 1 => ("java/lang/Throwable", "stackTrace", "[Ljava/lang/StackTraceElement;", false)
  | 2 => ("java/lang/Throwable", "suppressedExceptions", "Ljava/util/List;", false)
  | 3 => ("java/lang/Throwable", "detailMessage", "Ljava/lang/String;", false)
  | 4 => ("java/lang/Throwable", "backtrace", "Ljava/lang/Object;", false)
  | _ => ("java/lang/Throwable", "depth", "I", false)
def tyJ5 : Nat → FieldType := fun k => match k with
  | 0 => .object "java/lang/Throwable"
  | 1 => .array (.object "java/lang/StackTraceElement")
  | 2 => .object "java/util/List"
  | 3 => .object "java/lang/String"
  | 4 => .object "java/lang/Object"
  | _ => .int
abbrev wsJ50 : List Cond := u_ws RJ5 TJ5 6
theorem nmJ5 : ∀ a, a < 6 → ∀ b, b < 6 → a ≠ b → (TJ5 a).2.1 ≠ (TJ5 b).2.1 := by decide +kernel
theorem tyJ5_ok : ∀ k, k < 6 → parseFieldDescriptor (TJ5 k).2.2.1 = some (tyJ5 k) := by decide +kernel
abbrev cJ5_init : ByteArray := prog_21_method_2_code
def yJ5_init : MethodName := ⟨RJ5, "<init>", "(Ljava/lang/String;)V"⟩
def dkwJ5_init_0 : List UInt8 := [42, 43, 183, 0, 7, 177]
abbrev dktJ5_init_0 : List UInt8 := dkwJ5_init_0 ++ []
theorem dksJ5_init_0 : cJ5_init.data.toList.drop 0 = dktJ5_init_0 := by decide +kernel
theorem dJ5_init_0 : decode cJ5_init 0 = .ok (.aload_n 0, 1) := dk_42 (dk_at dksJ5_init_0 0 rfl rfl)
theorem dJ5_init_1 : decode cJ5_init 1 = .ok (.aload_n 1, 1) := dk_43 (dk_at dksJ5_init_0 1 rfl rfl)
theorem dJ5_init_2 : decode cJ5_init 2 = .ok (.invokespecial 7, 3) := dk_183 0 7 (dk_at dksJ5_init_0 2 rfl rfl)
theorem dJ5_init_5 : decode cJ5_init 5 = .ok (.return_, 1) := dk_177 (dk_at dksJ5_init_0 5 rfl rfl)
abbrev cJ5_init_2 : ByteArray := prog_21_method_1_code
def yJ5_init_2 : MethodName := ⟨RJ5, "<init>", "()V"⟩
theorem dJ5_init_2_0 : decode cJ5_init_2 0 = .ok (.aload_n 0, 1) := by decide +kernel
theorem dJ5_init_2_1 : decode cJ5_init_2 1 = .ok (.invokespecial 1, 3) := by decide +kernel
theorem dJ5_init_2_4 : decode cJ5_init_2 4 = .ok (.return_, 1) := by decide +kernel
theorem q42 : (Jvm.Cond.initialized "java/lang/IndexOutOfBoundsException") ∈ lw_all := lw_g (lw_at lw_m1 11 rfl) rfl
theorem q350 : (Jvm.Cond.selects "java/lang/IndexOutOfBoundsException" ({ cls := "java/lang/Object", name := "hashCode", desc := "()I" } : Jvm.MethodName) ({ cls := "java/lang/Object", name := "hashCode", desc := "()I" } : Jvm.MethodName)) ∈ lw_all := lw_g (lw_at lw_m2 79 rfl) rfl
theorem q374 : (Jvm.Cond.selects "java/lang/IndexOutOfBoundsException" ({ cls := "java/lang/Object", name := "equals", desc := "(Ljava/lang/Object;)Z" } : Jvm.MethodName) ({ cls := "java/lang/Object", name := "equals", desc := "(Ljava/lang/Object;)Z" } : Jvm.MethodName)) ∈ lw_all := lw_g (lw_at lw_m2 103 rfl) rfl
theorem q416 : (Jvm.Cond.selects "java/lang/IndexOutOfBoundsException" ({ cls := "java/lang/Object", name := "getClass", desc := "()Ljava/lang/Class;" } : Jvm.MethodName) ({ cls := "java/lang/Object", name := "getClass", desc := "()Ljava/lang/Class;" } : Jvm.MethodName)) ∈ lw_all := lw_g (lw_at lw_m2 145 rfl) rfl
theorem q453 : (Jvm.Cond.instanceMethod ({ cls := "java/lang/IndexOutOfBoundsException", name := "<init>", desc := "(Ljava/lang/String;)V" } : Jvm.MethodName)) ∈ lw_all := lw_g (lw_at lw_m2 182 rfl) rfl
theorem q454 : (Jvm.Cond.code ({ cls := "java/lang/IndexOutOfBoundsException", name := "<init>", desc := "(Ljava/lang/String;)V" } : Jvm.MethodName) prog_21_method_2_code (2 : Nat) (Option.none : Option Jvm.ClassFile.FieldType)) ∈ lw_all := lw_g (lw_at lw_m2 183 rfl) rfl
theorem q455 : (Jvm.Cond.methodLink "java/lang/IndexOutOfBoundsException" (7 : Nat) ({ cls := "java/lang/RuntimeException", name := "<init>", desc := "(Ljava/lang/String;)V" } : Jvm.MethodName)) ∈ lw_all := lw_g (lw_at lw_m2 184 rfl) rfl
theorem q475 : (Jvm.Cond.selects "java/lang/IndexOutOfBoundsException" ({ cls := "java/lang/Throwable", name := "fillInStackTrace", desc := "()Ljava/lang/Throwable;" } : Jvm.MethodName) ({ cls := "java/lang/Throwable", name := "fillInStackTrace", desc := "()Ljava/lang/Throwable;" } : Jvm.MethodName)) ∈ lw_all := lw_g (lw_at lw_m2 204 rfl) rfl
theorem q501 : (Jvm.Cond.declares ({ cls := "java/lang/IndexOutOfBoundsException", name := "<init>", desc := "()V" } : Jvm.MethodName)) ∈ lw_tbl := lw_at lw_m2 230 rfl
theorem q502 : (Jvm.Cond.declares ({ cls := "java/lang/IndexOutOfBoundsException", name := "<init>", desc := "(Ljava/lang/String;)V" } : Jvm.MethodName)) ∈ lw_tbl := lw_at lw_m2 231 rfl
theorem q541 : (Jvm.Cond.instantiable "java/lang/IndexOutOfBoundsException" (6 : Nat)) ∈ lw_all := lw_g (lw_at lw_m3 30 rfl) rfl
theorem q542 : (Jvm.Cond.castable "java/lang/IndexOutOfBoundsException" "java/lang/IndexOutOfBoundsException") ∈ lw_tbl := lw_at lw_m3 31 rfl
theorem q543 : (Jvm.Cond.selects "java/lang/IndexOutOfBoundsException" ({ cls := "java/lang/Throwable", name := "fillInStackTrace", desc := "(I)Ljava/lang/Throwable;" } : Jvm.MethodName) ({ cls := "java/lang/Throwable", name := "fillInStackTrace", desc := "(I)Ljava/lang/Throwable;" } : Jvm.MethodName)) ∈ lw_all := lw_g (lw_at lw_m3 32 rfl) rfl
theorem q544 : (Jvm.Cond.lays "java/lang/IndexOutOfBoundsException" "java/lang/Throwable" "cause" "Ljava/lang/Throwable;") ∈ lw_all := lw_g (lw_at lw_m3 33 rfl) rfl
theorem q545 : (Jvm.Cond.lays "java/lang/IndexOutOfBoundsException" "java/lang/Throwable" "stackTrace" "[Ljava/lang/StackTraceElement;") ∈ lw_all := lw_g (lw_at lw_m3 34 rfl) rfl
theorem q546 : (Jvm.Cond.lays "java/lang/IndexOutOfBoundsException" "java/lang/Throwable" "suppressedExceptions" "Ljava/util/List;") ∈ lw_all := lw_g (lw_at lw_m3 35 rfl) rfl
theorem q547 : (Jvm.Cond.lays "java/lang/IndexOutOfBoundsException" "java/lang/Throwable" "detailMessage" "Ljava/lang/String;") ∈ lw_all := lw_g (lw_at lw_m3 36 rfl) rfl
theorem q548 : (Jvm.Cond.lays "java/lang/IndexOutOfBoundsException" "java/lang/Throwable" "backtrace" "Ljava/lang/Object;") ∈ lw_all := lw_g (lw_at lw_m3 37 rfl) rfl
theorem q550 : (Jvm.Cond.instanceMethod ({ cls := "java/lang/IndexOutOfBoundsException", name := "<init>", desc := "()V" } : Jvm.MethodName)) ∈ lw_all := lw_g (lw_at lw_m3 39 rfl) rfl
theorem q551 : (Jvm.Cond.code ({ cls := "java/lang/IndexOutOfBoundsException", name := "<init>", desc := "()V" } : Jvm.MethodName) prog_21_method_1_code (1 : Nat) (Option.none : Option Jvm.ClassFile.FieldType)) ∈ lw_all := lw_g (lw_at lw_m3 40 rfl) rfl
theorem q552 : (Jvm.Cond.methodLink "java/lang/IndexOutOfBoundsException" (1 : Nat) ({ cls := "java/lang/RuntimeException", name := "<init>", desc := "()V" } : Jvm.MethodName)) ∈ lw_all := lw_g (lw_at lw_m3 41 rfl) rfl
theorem q559 : (Jvm.Cond.lays "java/lang/IndexOutOfBoundsException" "java/lang/Throwable" "depth" "I") ∈ lw_all := lw_g (lw_at lw_m3 48 rfl) rfl
theorem q560 : (Jvm.Cond.superclass "java/lang/IndexOutOfBoundsException" "java/lang/RuntimeException") ∈ lw_all := lw_g (lw_at lw_m3 49 rfl) rfl
theorem q1226 : (Jvm.Cond.castable "java/lang/IndexOutOfBoundsException" "java/lang/Object") ∈ lw_tbl := lw_at lw_m5 235 rfl
theorem in_J5 : ∀ w ∈ wsJ50, w ∈ lw_all := lw_in wsJ50 [544, 545, 546, 547, 548, 559] (by decide +kernel) (by decide +kernel)
/-! java/lang/ArrayIndexOutOfBoundsException -/
set_option maxRecDepth 100000
def RJ6 : String := "java/lang/ArrayIndexOutOfBoundsException"
def TJ6 : u_T := fun k => match k with
  | 0 => ("java/lang/Throwable", "backtrace", "Ljava/lang/Object;", false)
  | 1 => ("java/lang/Throwable", "detailMessage", "Ljava/lang/String;", false)
  | 2 => ("java/lang/Throwable", "cause", "Ljava/lang/Throwable;", false)
  | 3 => ("java/lang/Throwable", "stackTrace", "[Ljava/lang/StackTraceElement;", false)
  | 4 => ("java/lang/Throwable", "depth", "I", false)
  | _ => ("java/lang/Throwable", "suppressedExceptions", "Ljava/util/List;", false)
def tyJ6 : Nat → FieldType := fun k => match k with
  | 0 => .object "java/lang/Object"
  | 1 => .object "java/lang/String"
  | 2 => .object "java/lang/Throwable"
  | 3 => .array (.object "java/lang/StackTraceElement")
  | 4 => .int
  | _ => .object "java/util/List"
abbrev wsJ60 : List Cond := u_ws RJ6 TJ6 6
theorem nmJ6 : ∀ a, a < 6 → ∀ b, b < 6 → a ≠ b → (TJ6 a).2.1 ≠ (TJ6 b).2.1 := by decide +kernel
theorem tyJ6_ok : ∀ k, k < 6 → parseFieldDescriptor (TJ6 k).2.2.1 = some (tyJ6 k) := by decide +kernel
abbrev cJ6_init : ByteArray := prog_15_method_2_code
def yJ6_init : MethodName := ⟨RJ6, "<init>", "(Ljava/lang/String;)V"⟩
def dkwJ6_init_0 : List UInt8 := [42, 43, 183, 0, 7, 177]
abbrev dktJ6_init_0 : List UInt8 := dkwJ6_init_0 ++ []
theorem dksJ6_init_0 : cJ6_init.data.toList.drop 0 = dktJ6_init_0 := by decide +kernel
theorem dJ6_init_0 : decode cJ6_init 0 = .ok (.aload_n 0, 1) := dk_42 (dk_at dksJ6_init_0 0 rfl rfl)
theorem dJ6_init_1 : decode cJ6_init 1 = .ok (.aload_n 1, 1) := dk_43 (dk_at dksJ6_init_0 1 rfl rfl)
theorem dJ6_init_2 : decode cJ6_init 2 = .ok (.invokespecial 7, 3) := dk_183 0 7 (dk_at dksJ6_init_0 2 rfl rfl)
theorem dJ6_init_5 : decode cJ6_init 5 = .ok (.return_, 1) := dk_177 (dk_at dksJ6_init_0 5 rfl rfl)
theorem q43 : (Jvm.Cond.initialized "java/lang/ArrayIndexOutOfBoundsException") ∈ lw_all := lw_g (lw_at lw_m1 12 rfl) rfl
theorem q347 : (Jvm.Cond.selects "java/lang/ArrayIndexOutOfBoundsException" ({ cls := "java/lang/Object", name := "hashCode", desc := "()I" } : Jvm.MethodName) ({ cls := "java/lang/Object", name := "hashCode", desc := "()I" } : Jvm.MethodName)) ∈ lw_all := lw_g (lw_at lw_m2 76 rfl) rfl
theorem q371 : (Jvm.Cond.selects "java/lang/ArrayIndexOutOfBoundsException" ({ cls := "java/lang/Object", name := "equals", desc := "(Ljava/lang/Object;)Z" } : Jvm.MethodName) ({ cls := "java/lang/Object", name := "equals", desc := "(Ljava/lang/Object;)Z" } : Jvm.MethodName)) ∈ lw_all := lw_g (lw_at lw_m2 100 rfl) rfl
theorem q413 : (Jvm.Cond.selects "java/lang/ArrayIndexOutOfBoundsException" ({ cls := "java/lang/Object", name := "getClass", desc := "()Ljava/lang/Class;" } : Jvm.MethodName) ({ cls := "java/lang/Object", name := "getClass", desc := "()Ljava/lang/Class;" } : Jvm.MethodName)) ∈ lw_all := lw_g (lw_at lw_m2 142 rfl) rfl
theorem q449 : (Jvm.Cond.instantiable "java/lang/ArrayIndexOutOfBoundsException" (6 : Nat)) ∈ lw_all := lw_g (lw_at lw_m2 178 rfl) rfl
theorem q450 : (Jvm.Cond.instanceMethod ({ cls := "java/lang/ArrayIndexOutOfBoundsException", name := "<init>", desc := "(Ljava/lang/String;)V" } : Jvm.MethodName)) ∈ lw_all := lw_g (lw_at lw_m2 179 rfl) rfl
theorem q451 : (Jvm.Cond.code ({ cls := "java/lang/ArrayIndexOutOfBoundsException", name := "<init>", desc := "(Ljava/lang/String;)V" } : Jvm.MethodName) prog_15_method_2_code (2 : Nat) (Option.none : Option Jvm.ClassFile.FieldType)) ∈ lw_all := lw_g (lw_at lw_m2 180 rfl) rfl
theorem q452 : (Jvm.Cond.methodLink "java/lang/ArrayIndexOutOfBoundsException" (7 : Nat) ({ cls := "java/lang/IndexOutOfBoundsException", name := "<init>", desc := "(Ljava/lang/String;)V" } : Jvm.MethodName)) ∈ lw_all := lw_g (lw_at lw_m2 181 rfl) rfl
theorem q472 : (Jvm.Cond.selects "java/lang/ArrayIndexOutOfBoundsException" ({ cls := "java/lang/Throwable", name := "fillInStackTrace", desc := "()Ljava/lang/Throwable;" } : Jvm.MethodName) ({ cls := "java/lang/Throwable", name := "fillInStackTrace", desc := "()Ljava/lang/Throwable;" } : Jvm.MethodName)) ∈ lw_all := lw_g (lw_at lw_m2 201 rfl) rfl
theorem q487 : (Jvm.Cond.lays "java/lang/ArrayIndexOutOfBoundsException" "java/lang/Throwable" "backtrace" "Ljava/lang/Object;") ∈ lw_all := lw_g (lw_at lw_m2 216 rfl) rfl
theorem q489 : (Jvm.Cond.lays "java/lang/ArrayIndexOutOfBoundsException" "java/lang/Throwable" "detailMessage" "Ljava/lang/String;") ∈ lw_all := lw_g (lw_at lw_m2 218 rfl) rfl
theorem q491 : (Jvm.Cond.lays "java/lang/ArrayIndexOutOfBoundsException" "java/lang/Throwable" "cause" "Ljava/lang/Throwable;") ∈ lw_all := lw_g (lw_at lw_m2 220 rfl) rfl
theorem q493 : (Jvm.Cond.lays "java/lang/ArrayIndexOutOfBoundsException" "java/lang/Throwable" "stackTrace" "[Ljava/lang/StackTraceElement;") ∈ lw_all := lw_g (lw_at lw_m2 222 rfl) rfl
theorem q495 : (Jvm.Cond.lays "java/lang/ArrayIndexOutOfBoundsException" "java/lang/Throwable" "depth" "I") ∈ lw_all := lw_g (lw_at lw_m2 224 rfl) rfl
theorem q497 : (Jvm.Cond.lays "java/lang/ArrayIndexOutOfBoundsException" "java/lang/Throwable" "suppressedExceptions" "Ljava/util/List;") ∈ lw_all := lw_g (lw_at lw_m2 226 rfl) rfl
theorem q499 : (Jvm.Cond.superclass "java/lang/ArrayIndexOutOfBoundsException" "java/lang/IndexOutOfBoundsException") ∈ lw_all := lw_g (lw_at lw_m2 228 rfl) rfl
theorem q500 : (Jvm.Cond.castable "java/lang/ArrayIndexOutOfBoundsException" "java/lang/ArrayIndexOutOfBoundsException") ∈ lw_tbl := lw_at lw_m2 229 rfl
theorem q509 : (Jvm.Cond.selects "java/lang/ArrayIndexOutOfBoundsException" ({ cls := "java/lang/Throwable", name := "fillInStackTrace", desc := "(I)Ljava/lang/Throwable;" } : Jvm.MethodName) ({ cls := "java/lang/Throwable", name := "fillInStackTrace", desc := "(I)Ljava/lang/Throwable;" } : Jvm.MethodName)) ∈ lw_all := lw_g (lw_at lw_m2 238 rfl) rfl
theorem q1217 : (Jvm.Cond.castable "java/lang/ArrayIndexOutOfBoundsException" "java/lang/IndexOutOfBoundsException") ∈ lw_tbl := lw_at lw_m5 226 rfl
theorem q1225 : (Jvm.Cond.castable "java/lang/ArrayIndexOutOfBoundsException" "java/lang/Object") ∈ lw_tbl := lw_at lw_m5 234 rfl
theorem in_J6 : ∀ w ∈ wsJ60, w ∈ lw_all := lw_in wsJ60 [487, 489, 491, 493, 495, 497] (by decide +kernel) (by decide +kernel)
/-! java/lang/String -/
set_option maxRecDepth 100000
def RJ7 : String := "java/lang/String"
def TJ7 : u_T := fun k => match k with
  | 0 => ("java/lang/String", "value", "[B", true)
  | _ => ("java/lang/String", "coder", "B", true)
def tyJ7 : Nat → FieldType := fun k => match k with
  | 0 => .array .byte
  | _ => .byte
abbrev wsJ70 : List Cond := u_ws RJ7 TJ7 2
theorem nmJ7 : ∀ a, a < 2 → ∀ b, b < 2 → a ≠ b → (TJ7 a).2.1 ≠ (TJ7 b).2.1 := by decide +kernel
theorem tyJ7_ok : ∀ k, k < 2 → parseFieldDescriptor (TJ7 k).2.2.1 = some (tyJ7 k) := by decide +kernel
theorem q44 : (Jvm.Cond.initialized "java/lang/String") ∈ lw_all := lw_g (lw_at lw_m1 13 rfl) rfl
theorem q519 : (Jvm.Cond.instantiable "java/lang/String" (4 : Nat)) ∈ lw_all := lw_g (lw_at lw_m3 8 rfl) rfl
theorem q521 : (Jvm.Cond.laysFinal "java/lang/String" "java/lang/String" "value" "[B") ∈ lw_all := lw_g (lw_at lw_m3 10 rfl) rfl
theorem q522 : (Jvm.Cond.soleField "java/lang/String" "value") ∈ lw_all := lw_g (lw_at lw_m3 11 rfl) rfl
theorem q523 : (Jvm.Cond.laysFinal "java/lang/String" "java/lang/String" "coder" "B") ∈ lw_all := lw_g (lw_at lw_m3 12 rfl) rfl
theorem q524 : (Jvm.Cond.soleField "java/lang/String" "coder") ∈ lw_all := lw_g (lw_at lw_m3 13 rfl) rfl
theorem q1218 : (Jvm.Cond.castable "java/lang/String" "java/lang/Comparable") ∈ lw_tbl := lw_at lw_m5 227 rfl
theorem q1237 : (Jvm.Cond.castable "java/lang/String" "java/lang/Object") ∈ lw_tbl := lw_at lw_m6 6 rfl
theorem in_J7 : ∀ w ∈ wsJ70, w ∈ lw_all := lw_in wsJ70 [521, 523] (by decide +kernel) (by decide +kernel)
/-! java/lang/IllegalArgumentException -/
set_option maxRecDepth 100000
def RJ8 : String := "java/lang/IllegalArgumentException"
def TJ8 : u_T := fun k => match k with
  | 0 => ("java/lang/Throwable", "cause", "Ljava/lang/Throwable;", false)
  | 1 => ("java/lang/Throwable", "stackTrace", "[Ljava/lang/StackTraceElement;", false)
  | 2 => ("java/lang/Throwable", "suppressedExceptions", "Ljava/util/List;", false)
  | 3 => ("java/lang/Throwable", "detailMessage", "Ljava/lang/String;", false)
  | 4 => ("java/lang/Throwable", "backtrace", "Ljava/lang/Object;", false)
  | _ => ("java/lang/Throwable", "depth", "I", false)
def tyJ8 : Nat → FieldType := fun k => match k with
  | 0 => .object "java/lang/Throwable"
  | 1 => .array (.object "java/lang/StackTraceElement")
  | 2 => .object "java/util/List"
  | 3 => .object "java/lang/String"
  | 4 => .object "java/lang/Object"
  | _ => .int
abbrev wsJ80 : List Cond := u_ws RJ8 TJ8 6
theorem nmJ8 : ∀ a, a < 6 → ∀ b, b < 6 → a ≠ b → (TJ8 a).2.1 ≠ (TJ8 b).2.1 := by decide +kernel
theorem tyJ8_ok : ∀ k, k < 6 → parseFieldDescriptor (TJ8 k).2.2.1 = some (tyJ8 k) := by decide +kernel
abbrev cJ8_init : ByteArray := prog_19_method_1_code
def yJ8_init : MethodName := ⟨RJ8, "<init>", "()V"⟩
theorem dJ8_init_0 : decode cJ8_init 0 = .ok (.aload_n 0, 1) := by decide +kernel
theorem dJ8_init_1 : decode cJ8_init 1 = .ok (.invokespecial 1, 3) := by decide +kernel
theorem dJ8_init_4 : decode cJ8_init 4 = .ok (.return_, 1) := by decide +kernel
theorem q45 : (Jvm.Cond.initialized "java/lang/IllegalArgumentException") ∈ lw_all := lw_g (lw_at lw_m1 14 rfl) rfl
theorem q348 : (Jvm.Cond.selects "java/lang/IllegalArgumentException" ({ cls := "java/lang/Object", name := "hashCode", desc := "()I" } : Jvm.MethodName) ({ cls := "java/lang/Object", name := "hashCode", desc := "()I" } : Jvm.MethodName)) ∈ lw_all := lw_g (lw_at lw_m2 77 rfl) rfl
theorem q372 : (Jvm.Cond.selects "java/lang/IllegalArgumentException" ({ cls := "java/lang/Object", name := "equals", desc := "(Ljava/lang/Object;)Z" } : Jvm.MethodName) ({ cls := "java/lang/Object", name := "equals", desc := "(Ljava/lang/Object;)Z" } : Jvm.MethodName)) ∈ lw_all := lw_g (lw_at lw_m2 101 rfl) rfl
theorem q414 : (Jvm.Cond.selects "java/lang/IllegalArgumentException" ({ cls := "java/lang/Object", name := "getClass", desc := "()Ljava/lang/Class;" } : Jvm.MethodName) ({ cls := "java/lang/Object", name := "getClass", desc := "()Ljava/lang/Class;" } : Jvm.MethodName)) ∈ lw_all := lw_g (lw_at lw_m2 143 rfl) rfl
theorem q473 : (Jvm.Cond.selects "java/lang/IllegalArgumentException" ({ cls := "java/lang/Throwable", name := "fillInStackTrace", desc := "()Ljava/lang/Throwable;" } : Jvm.MethodName) ({ cls := "java/lang/Throwable", name := "fillInStackTrace", desc := "()Ljava/lang/Throwable;" } : Jvm.MethodName)) ∈ lw_all := lw_g (lw_at lw_m2 202 rfl) rfl
theorem q568 : (Jvm.Cond.instantiable "java/lang/IllegalArgumentException" (6 : Nat)) ∈ lw_all := lw_g (lw_at lw_m3 57 rfl) rfl
theorem q569 : (Jvm.Cond.castable "java/lang/IllegalArgumentException" "java/lang/IllegalArgumentException") ∈ lw_tbl := lw_at lw_m3 58 rfl
theorem q570 : (Jvm.Cond.selects "java/lang/IllegalArgumentException" ({ cls := "java/lang/Throwable", name := "fillInStackTrace", desc := "(I)Ljava/lang/Throwable;" } : Jvm.MethodName) ({ cls := "java/lang/Throwable", name := "fillInStackTrace", desc := "(I)Ljava/lang/Throwable;" } : Jvm.MethodName)) ∈ lw_all := lw_g (lw_at lw_m3 59 rfl) rfl
theorem q571 : (Jvm.Cond.lays "java/lang/IllegalArgumentException" "java/lang/Throwable" "cause" "Ljava/lang/Throwable;") ∈ lw_all := lw_g (lw_at lw_m3 60 rfl) rfl
theorem q572 : (Jvm.Cond.lays "java/lang/IllegalArgumentException" "java/lang/Throwable" "stackTrace" "[Ljava/lang/StackTraceElement;") ∈ lw_all := lw_g (lw_at lw_m3 61 rfl) rfl
theorem q573 : (Jvm.Cond.lays "java/lang/IllegalArgumentException" "java/lang/Throwable" "suppressedExceptions" "Ljava/util/List;") ∈ lw_all := lw_g (lw_at lw_m3 62 rfl) rfl
theorem q574 : (Jvm.Cond.lays "java/lang/IllegalArgumentException" "java/lang/Throwable" "detailMessage" "Ljava/lang/String;") ∈ lw_all := lw_g (lw_at lw_m3 63 rfl) rfl
theorem q575 : (Jvm.Cond.lays "java/lang/IllegalArgumentException" "java/lang/Throwable" "backtrace" "Ljava/lang/Object;") ∈ lw_all := lw_g (lw_at lw_m3 64 rfl) rfl
theorem q577 : (Jvm.Cond.instanceMethod ({ cls := "java/lang/IllegalArgumentException", name := "<init>", desc := "()V" } : Jvm.MethodName)) ∈ lw_all := lw_g (lw_at lw_m3 66 rfl) rfl
theorem q578 : (Jvm.Cond.code ({ cls := "java/lang/IllegalArgumentException", name := "<init>", desc := "()V" } : Jvm.MethodName) prog_19_method_1_code (1 : Nat) (Option.none : Option Jvm.ClassFile.FieldType)) ∈ lw_all := lw_g (lw_at lw_m3 67 rfl) rfl
theorem q579 : (Jvm.Cond.methodLink "java/lang/IllegalArgumentException" (1 : Nat) ({ cls := "java/lang/RuntimeException", name := "<init>", desc := "()V" } : Jvm.MethodName)) ∈ lw_all := lw_g (lw_at lw_m3 68 rfl) rfl
theorem q580 : (Jvm.Cond.lays "java/lang/IllegalArgumentException" "java/lang/Throwable" "depth" "I") ∈ lw_all := lw_g (lw_at lw_m3 69 rfl) rfl
theorem q581 : (Jvm.Cond.superclass "java/lang/IllegalArgumentException" "java/lang/RuntimeException") ∈ lw_all := lw_g (lw_at lw_m3 70 rfl) rfl
theorem q1227 : (Jvm.Cond.castable "java/lang/IllegalArgumentException" "java/lang/Object") ∈ lw_tbl := lw_at lw_m5 236 rfl
theorem in_J8 : ∀ w ∈ wsJ80, w ∈ lw_all := lw_in wsJ80 [571, 572, 573, 574, 575, 580] (by decide +kernel) (by decide +kernel)
/-! java/lang/IllegalStateException -/
set_option maxRecDepth 100000
def RJ9 : String := "java/lang/IllegalStateException"
def TJ9 : u_T := fun k => match k with
  | 0 => ("java/lang/Throwable", "cause", "Ljava/lang/Throwable;", false)
  | 1 => ("java/lang/Throwable", "stackTrace", "[Ljava/lang/StackTraceElement;", false)
  | 2 => ("java/lang/Throwable", "suppressedExceptions", "Ljava/util/List;", false)
  | 3 => ("java/lang/Throwable", "detailMessage", "Ljava/lang/String;", false)
  | 4 => ("java/lang/Throwable", "backtrace", "Ljava/lang/Object;", false)
  | _ => ("java/lang/Throwable", "depth", "I", false)
def tyJ9 : Nat → FieldType := fun k => match k with
  | 0 => .object "java/lang/Throwable"
  | 1 => .array (.object "java/lang/StackTraceElement")
  | 2 => .object "java/util/List"
  | 3 => .object "java/lang/String"
  | 4 => .object "java/lang/Object"
  | _ => .int
abbrev wsJ90 : List Cond := u_ws RJ9 TJ9 6
theorem nmJ9 : ∀ a, a < 6 → ∀ b, b < 6 → a ≠ b → (TJ9 a).2.1 ≠ (TJ9 b).2.1 := by decide +kernel
theorem tyJ9_ok : ∀ k, k < 6 → parseFieldDescriptor (TJ9 k).2.2.1 = some (tyJ9 k) := by decide +kernel
abbrev cJ9_init : ByteArray := prog_20_method_1_code
def yJ9_init : MethodName := ⟨RJ9, "<init>", "()V"⟩
theorem dJ9_init_0 : decode cJ9_init 0 = .ok (.aload_n 0, 1) := by decide +kernel
theorem dJ9_init_1 : decode cJ9_init 1 = .ok (.invokespecial 1, 3) := by decide +kernel
theorem dJ9_init_4 : decode cJ9_init 4 = .ok (.return_, 1) := by decide +kernel
theorem q46 : (Jvm.Cond.initialized "java/lang/IllegalStateException") ∈ lw_all := lw_g (lw_at lw_m1 15 rfl) rfl
theorem q349 : (Jvm.Cond.selects "java/lang/IllegalStateException" ({ cls := "java/lang/Object", name := "hashCode", desc := "()I" } : Jvm.MethodName) ({ cls := "java/lang/Object", name := "hashCode", desc := "()I" } : Jvm.MethodName)) ∈ lw_all := lw_g (lw_at lw_m2 78 rfl) rfl
theorem q373 : (Jvm.Cond.selects "java/lang/IllegalStateException" ({ cls := "java/lang/Object", name := "equals", desc := "(Ljava/lang/Object;)Z" } : Jvm.MethodName) ({ cls := "java/lang/Object", name := "equals", desc := "(Ljava/lang/Object;)Z" } : Jvm.MethodName)) ∈ lw_all := lw_g (lw_at lw_m2 102 rfl) rfl
theorem q415 : (Jvm.Cond.selects "java/lang/IllegalStateException" ({ cls := "java/lang/Object", name := "getClass", desc := "()Ljava/lang/Class;" } : Jvm.MethodName) ({ cls := "java/lang/Object", name := "getClass", desc := "()Ljava/lang/Class;" } : Jvm.MethodName)) ∈ lw_all := lw_g (lw_at lw_m2 144 rfl) rfl
theorem q474 : (Jvm.Cond.selects "java/lang/IllegalStateException" ({ cls := "java/lang/Throwable", name := "fillInStackTrace", desc := "()Ljava/lang/Throwable;" } : Jvm.MethodName) ({ cls := "java/lang/Throwable", name := "fillInStackTrace", desc := "()Ljava/lang/Throwable;" } : Jvm.MethodName)) ∈ lw_all := lw_g (lw_at lw_m2 203 rfl) rfl
theorem q586 : (Jvm.Cond.instantiable "java/lang/IllegalStateException" (6 : Nat)) ∈ lw_all := lw_g (lw_at lw_m3 75 rfl) rfl
theorem q587 : (Jvm.Cond.castable "java/lang/IllegalStateException" "java/lang/IllegalStateException") ∈ lw_tbl := lw_at lw_m3 76 rfl
theorem q588 : (Jvm.Cond.selects "java/lang/IllegalStateException" ({ cls := "java/lang/Throwable", name := "fillInStackTrace", desc := "(I)Ljava/lang/Throwable;" } : Jvm.MethodName) ({ cls := "java/lang/Throwable", name := "fillInStackTrace", desc := "(I)Ljava/lang/Throwable;" } : Jvm.MethodName)) ∈ lw_all := lw_g (lw_at lw_m3 77 rfl) rfl
theorem q589 : (Jvm.Cond.lays "java/lang/IllegalStateException" "java/lang/Throwable" "cause" "Ljava/lang/Throwable;") ∈ lw_all := lw_g (lw_at lw_m3 78 rfl) rfl
theorem q590 : (Jvm.Cond.lays "java/lang/IllegalStateException" "java/lang/Throwable" "stackTrace" "[Ljava/lang/StackTraceElement;") ∈ lw_all := lw_g (lw_at lw_m3 79 rfl) rfl
theorem q591 : (Jvm.Cond.lays "java/lang/IllegalStateException" "java/lang/Throwable" "suppressedExceptions" "Ljava/util/List;") ∈ lw_all := lw_g (lw_at lw_m3 80 rfl) rfl
theorem q592 : (Jvm.Cond.lays "java/lang/IllegalStateException" "java/lang/Throwable" "detailMessage" "Ljava/lang/String;") ∈ lw_all := lw_g (lw_at lw_m3 81 rfl) rfl
theorem q593 : (Jvm.Cond.lays "java/lang/IllegalStateException" "java/lang/Throwable" "backtrace" "Ljava/lang/Object;") ∈ lw_all := lw_g (lw_at lw_m3 82 rfl) rfl
theorem q595 : (Jvm.Cond.instanceMethod ({ cls := "java/lang/IllegalStateException", name := "<init>", desc := "()V" } : Jvm.MethodName)) ∈ lw_all := lw_g (lw_at lw_m3 84 rfl) rfl
theorem q596 : (Jvm.Cond.code ({ cls := "java/lang/IllegalStateException", name := "<init>", desc := "()V" } : Jvm.MethodName) prog_20_method_1_code (1 : Nat) (Option.none : Option Jvm.ClassFile.FieldType)) ∈ lw_all := lw_g (lw_at lw_m3 85 rfl) rfl
theorem q597 : (Jvm.Cond.methodLink "java/lang/IllegalStateException" (1 : Nat) ({ cls := "java/lang/RuntimeException", name := "<init>", desc := "()V" } : Jvm.MethodName)) ∈ lw_all := lw_g (lw_at lw_m3 86 rfl) rfl
theorem q598 : (Jvm.Cond.lays "java/lang/IllegalStateException" "java/lang/Throwable" "depth" "I") ∈ lw_all := lw_g (lw_at lw_m3 87 rfl) rfl
theorem q599 : (Jvm.Cond.superclass "java/lang/IllegalStateException" "java/lang/RuntimeException") ∈ lw_all := lw_g (lw_at lw_m3 88 rfl) rfl
theorem q1228 : (Jvm.Cond.castable "java/lang/IllegalStateException" "java/lang/Object") ∈ lw_tbl := lw_at lw_m5 237 rfl
theorem in_J9 : ∀ w ∈ wsJ90, w ∈ lw_all := lw_in wsJ90 [589, 590, 591, 592, 593, 598] (by decide +kernel) (by decide +kernel)
/-! java/lang/Math -/
set_option maxRecDepth 100000
def RJ10 : String := "java/lang/Math"
abbrev cJ10_floorDiv : ByteArray := prog_25_method_47_code
def yJ10_floorDiv : MethodName := ⟨RJ10, "floorDiv", "(II)I"⟩
def dkwJ10_floorDiv_0 : List UInt8 := [26, 27, 108, 61, 26, 27, 130, 156, 0, 14, 28, 27, 104, 26, 159, 0, 7, 28, 4, 100, 172, 28, 172]
abbrev dktJ10_floorDiv_0 : List UInt8 := dkwJ10_floorDiv_0 ++ []
theorem dksJ10_floorDiv_0 : cJ10_floorDiv.data.toList.drop 0 = dktJ10_floorDiv_0 := by decide +kernel
theorem dJ10_floorDiv_0 : decode cJ10_floorDiv 0 = .ok (.iload_n 0, 1) := dk_26 (dk_at dksJ10_floorDiv_0 0 rfl rfl)
theorem dJ10_floorDiv_1 : decode cJ10_floorDiv 1 = .ok (.iload_n 1, 1) := dk_27 (dk_at dksJ10_floorDiv_0 1 rfl rfl)
theorem dJ10_floorDiv_2 : decode cJ10_floorDiv 2 = .ok (.idiv, 1) := dk_108 (dk_at dksJ10_floorDiv_0 2 rfl rfl)
theorem dJ10_floorDiv_3 : decode cJ10_floorDiv 3 = .ok (.istore_n 2, 1) := dk_61 (dk_at dksJ10_floorDiv_0 3 rfl rfl)
theorem dJ10_floorDiv_4 : decode cJ10_floorDiv 4 = .ok (.iload_n 0, 1) := dk_26 (dk_at dksJ10_floorDiv_0 4 rfl rfl)
theorem dJ10_floorDiv_5 : decode cJ10_floorDiv 5 = .ok (.iload_n 1, 1) := dk_27 (dk_at dksJ10_floorDiv_0 5 rfl rfl)
theorem dJ10_floorDiv_6 : decode cJ10_floorDiv 6 = .ok (.ixor, 1) := dk_130 (dk_at dksJ10_floorDiv_0 6 rfl rfl)
theorem dJ10_floorDiv_7 : decode cJ10_floorDiv 7 = .ok (.ifCond .ge 14, 3) := dk_156 0 14 (dk_at dksJ10_floorDiv_0 7 rfl rfl)
theorem dJ10_floorDiv_10 : decode cJ10_floorDiv 10 = .ok (.iload_n 2, 1) := dk_28 (dk_at dksJ10_floorDiv_0 10 rfl rfl)
theorem dJ10_floorDiv_11 : decode cJ10_floorDiv 11 = .ok (.iload_n 1, 1) := dk_27 (dk_at dksJ10_floorDiv_0 11 rfl rfl)
theorem dJ10_floorDiv_12 : decode cJ10_floorDiv 12 = .ok (.imul, 1) := dk_104 (dk_at dksJ10_floorDiv_0 12 rfl rfl)
theorem dJ10_floorDiv_13 : decode cJ10_floorDiv 13 = .ok (.iload_n 0, 1) := dk_26 (dk_at dksJ10_floorDiv_0 13 rfl rfl)
theorem dJ10_floorDiv_14 : decode cJ10_floorDiv 14 = .ok (.if_icmp .eq 7, 3) := dk_159 0 7 (dk_at dksJ10_floorDiv_0 14 rfl rfl)
theorem dJ10_floorDiv_17 : decode cJ10_floorDiv 17 = .ok (.iload_n 2, 1) := dk_28 (dk_at dksJ10_floorDiv_0 17 rfl rfl)
theorem dJ10_floorDiv_18 : decode cJ10_floorDiv 18 = .ok (.iconst 1, 1) := dk_4 (dk_at dksJ10_floorDiv_0 18 rfl rfl)
theorem dJ10_floorDiv_19 : decode cJ10_floorDiv 19 = .ok (.isub, 1) := dk_100 (dk_at dksJ10_floorDiv_0 19 rfl rfl)
theorem dJ10_floorDiv_20 : decode cJ10_floorDiv 20 = .ok (.ireturn, 1) := dk_172 (dk_at dksJ10_floorDiv_0 20 rfl rfl)
theorem dJ10_floorDiv_21 : decode cJ10_floorDiv 21 = .ok (.iload_n 2, 1) := dk_28 (dk_at dksJ10_floorDiv_0 21 rfl rfl)
theorem dJ10_floorDiv_22 : decode cJ10_floorDiv 22 = .ok (.ireturn, 1) := dk_172 (dk_at dksJ10_floorDiv_0 22 rfl rfl)
abbrev cJ10_abs : ByteArray := prog_25_method_59_code
def yJ10_abs : MethodName := ⟨RJ10, "abs", "(I)I"⟩
def dkwJ10_abs_0 : List UInt8 := [26, 156, 0, 8, 26, 116, 167, 0, 4, 26, 172]
abbrev dktJ10_abs_0 : List UInt8 := dkwJ10_abs_0 ++ []
theorem dksJ10_abs_0 : cJ10_abs.data.toList.drop 0 = dktJ10_abs_0 := by decide +kernel
theorem dJ10_abs_0 : decode cJ10_abs 0 = .ok (.iload_n 0, 1) := dk_26 (dk_at dksJ10_abs_0 0 rfl rfl)
theorem dJ10_abs_1 : decode cJ10_abs 1 = .ok (.ifCond .ge 8, 3) := dk_156 0 8 (dk_at dksJ10_abs_0 1 rfl rfl)
theorem dJ10_abs_4 : decode cJ10_abs 4 = .ok (.iload_n 0, 1) := dk_26 (dk_at dksJ10_abs_0 4 rfl rfl)
theorem dJ10_abs_5 : decode cJ10_abs 5 = .ok (.ineg, 1) := dk_116 (dk_at dksJ10_abs_0 5 rfl rfl)
theorem dJ10_abs_6 : decode cJ10_abs 6 = .ok (.goto 4, 3) := dk_167 0 4 (dk_at dksJ10_abs_0 6 rfl rfl)
theorem dJ10_abs_9 : decode cJ10_abs 9 = .ok (.iload_n 0, 1) := dk_26 (dk_at dksJ10_abs_0 9 rfl rfl)
theorem dJ10_abs_10 : decode cJ10_abs 10 = .ok (.ireturn, 1) := dk_172 (dk_at dksJ10_abs_0 10 rfl rfl)
theorem q50 : (Jvm.Cond.initialized "java/lang/Math") ∈ lw_all := lw_g (lw_at lw_m1 19 rfl) rfl
theorem q277 : (Jvm.Cond.static ({ cls := "java/lang/Math", name := "floorDiv", desc := "(II)I" } : Jvm.MethodName)) ∈ lw_all := lw_g (lw_at lw_m2 6 rfl) rfl
theorem q278 : (Jvm.Cond.code ({ cls := "java/lang/Math", name := "floorDiv", desc := "(II)I" } : Jvm.MethodName) prog_25_method_47_code (3 : Nat) (Option.some Jvm.ClassFile.FieldType.int)) ∈ lw_all := lw_g (lw_at lw_m2 7 rfl) rfl
theorem q286 : (Jvm.Cond.static ({ cls := "java/lang/Math", name := "abs", desc := "(I)I" } : Jvm.MethodName)) ∈ lw_all := lw_g (lw_at lw_m2 15 rfl) rfl
theorem q287 : (Jvm.Cond.code ({ cls := "java/lang/Math", name := "abs", desc := "(I)I" } : Jvm.MethodName) prog_25_method_59_code (1 : Nat) (Option.some Jvm.ClassFile.FieldType.int)) ∈ lw_all := lw_g (lw_at lw_m2 16 rfl) rfl
/-! java/lang/Number -/
set_option maxRecDepth 100000
def RJ11 : String := "java/lang/Number"
abbrev cJ11_init : ByteArray := prog_26_method_1_code
def yJ11_init : MethodName := ⟨RJ11, "<init>", "()V"⟩
theorem dJ11_init_0 : decode cJ11_init 0 = .ok (.aload_n 0, 1) := by decide +kernel
theorem dJ11_init_1 : decode cJ11_init 1 = .ok (.invokespecial 1, 3) := by decide +kernel
theorem dJ11_init_4 : decode cJ11_init 4 = .ok (.return_, 1) := by decide +kernel
theorem q54 : (Jvm.Cond.initialized "java/lang/Number") ∈ lw_all := lw_g (lw_at lw_m1 23 rfl) rfl
theorem q310 : (Jvm.Cond.instanceMethod ({ cls := "java/lang/Number", name := "<init>", desc := "()V" } : Jvm.MethodName)) ∈ lw_all := lw_g (lw_at lw_m2 39 rfl) rfl
theorem q311 : (Jvm.Cond.code ({ cls := "java/lang/Number", name := "<init>", desc := "()V" } : Jvm.MethodName) prog_26_method_1_code (1 : Nat) (Option.none : Option Jvm.ClassFile.FieldType)) ∈ lw_all := lw_g (lw_at lw_m2 40 rfl) rfl
theorem q312 : (Jvm.Cond.methodLink "java/lang/Number" (1 : Nat) ({ cls := "java/lang/Object", name := "<init>", desc := "()V" } : Jvm.MethodName)) ∈ lw_all := lw_g (lw_at lw_m2 41 rfl) rfl
/-! java/lang/Integer -/
set_option maxRecDepth 100000
def RJ12 : String := "java/lang/Integer"
def TJ12 : u_T := fun k => match k with
  | _ => ("java/lang/Integer", "value", "I", true)
def tyJ12 : Nat → FieldType := fun k => match k with
  | _ => .int
abbrev wsJ120 : List Cond := u_ws RJ12 TJ12 1
theorem nmJ12 : ∀ a, a < 1 → ∀ b, b < 1 → a ≠ b → (TJ12 a).2.1 ≠ (TJ12 b).2.1 := by decide +kernel
theorem tyJ12_ok : ∀ k, k < 1 → parseFieldDescriptor (TJ12 k).2.2.1 = some (tyJ12 k) := by decide +kernel
abbrev cJ12_valueOf : ByteArray := prog_22_method_22_code
def yJ12_valueOf : MethodName := ⟨RJ12, "valueOf", "(I)Ljava/lang/Integer;"⟩
def dkwJ12_valueOf_1 : List UInt8 := [187, 0, 1, 89, 26, 183, 0, 199, 176]
abbrev dktJ12_valueOf_1 : List UInt8 := dkwJ12_valueOf_1 ++ []
def dkwJ12_valueOf_0 : List UInt8 := [26, 16, 128, 161, 0, 20, 26, 178, 0, 191, 163, 0, 13, 178, 0, 195, 26, 17, 0, 128, 96, 50, 176]
abbrev dktJ12_valueOf_0 : List UInt8 := dkwJ12_valueOf_0 ++ dktJ12_valueOf_1
theorem dksJ12_valueOf_0 : cJ12_valueOf.data.toList.drop 0 = dktJ12_valueOf_0 := by decide +kernel
theorem dksJ12_valueOf_1 : cJ12_valueOf.data.toList.drop 23 = dktJ12_valueOf_1 := dk_seg dksJ12_valueOf_0 23 rfl rfl
theorem dJ12_valueOf_0 : decode cJ12_valueOf 0 = .ok (.iload_n 0, 1) := dk_26 (dk_at dksJ12_valueOf_0 0 rfl rfl)
theorem dJ12_valueOf_1 : decode cJ12_valueOf 1 = .ok (.bipush (-128), 2) := dk_16 128 (dk_at dksJ12_valueOf_0 1 rfl rfl)
theorem dJ12_valueOf_3 : decode cJ12_valueOf 3 = .ok (.if_icmp .lt 20, 3) := dk_161 0 20 (dk_at dksJ12_valueOf_0 3 rfl rfl)
theorem dJ12_valueOf_6 : decode cJ12_valueOf 6 = .ok (.iload_n 0, 1) := dk_26 (dk_at dksJ12_valueOf_0 6 rfl rfl)
theorem dJ12_valueOf_7 : decode cJ12_valueOf 7 = .ok (.getstatic 191, 3) := dk_178 0 191 (dk_at dksJ12_valueOf_0 7 rfl rfl)
theorem dJ12_valueOf_10 : decode cJ12_valueOf 10 = .ok (.if_icmp .gt 13, 3) := dk_163 0 13 (dk_at dksJ12_valueOf_0 10 rfl rfl)
theorem dJ12_valueOf_13 : decode cJ12_valueOf 13 = .ok (.getstatic 195, 3) := dk_178 0 195 (dk_at dksJ12_valueOf_0 13 rfl rfl)
theorem dJ12_valueOf_16 : decode cJ12_valueOf 16 = .ok (.iload_n 0, 1) := dk_26 (dk_at dksJ12_valueOf_0 16 rfl rfl)
theorem dJ12_valueOf_17 : decode cJ12_valueOf 17 = .ok (.sipush 128, 3) := dk_17 0 128 (dk_at dksJ12_valueOf_0 17 rfl rfl)
theorem dJ12_valueOf_20 : decode cJ12_valueOf 20 = .ok (.iadd, 1) := dk_96 (dk_at dksJ12_valueOf_0 20 rfl rfl)
theorem dJ12_valueOf_21 : decode cJ12_valueOf 21 = .ok (.aaload, 1) := dk_50 (dk_at dksJ12_valueOf_0 21 rfl rfl)
theorem dJ12_valueOf_22 : decode cJ12_valueOf 22 = .ok (.areturn, 1) := dk_176 (dk_at dksJ12_valueOf_0 22 rfl rfl)
theorem dJ12_valueOf_23 : decode cJ12_valueOf 23 = .ok (.new 1, 3) := dk_187 0 1 (dk_at dksJ12_valueOf_1 0 rfl rfl)
theorem dJ12_valueOf_26 : decode cJ12_valueOf 26 = .ok (.dup, 1) := dk_89 (dk_at dksJ12_valueOf_1 3 rfl rfl)
theorem dJ12_valueOf_27 : decode cJ12_valueOf 27 = .ok (.iload_n 0, 1) := dk_26 (dk_at dksJ12_valueOf_1 4 rfl rfl)
theorem dJ12_valueOf_28 : decode cJ12_valueOf 28 = .ok (.invokespecial 199, 3) := dk_183 0 199 (dk_at dksJ12_valueOf_1 5 rfl rfl)
theorem dJ12_valueOf_31 : decode cJ12_valueOf 31 = .ok (.areturn, 1) := dk_176 (dk_at dksJ12_valueOf_1 8 rfl rfl)
abbrev cJ12_init : ByteArray := prog_22_method_23_code
def yJ12_init : MethodName := ⟨RJ12, "<init>", "(I)V"⟩
def dkwJ12_init_0 : List UInt8 := [42, 183, 0, 202, 42, 27, 181, 0, 205, 177]
abbrev dktJ12_init_0 : List UInt8 := dkwJ12_init_0 ++ []
theorem dksJ12_init_0 : cJ12_init.data.toList.drop 0 = dktJ12_init_0 := by decide +kernel
theorem dJ12_init_0 : decode cJ12_init 0 = .ok (.aload_n 0, 1) := dk_42 (dk_at dksJ12_init_0 0 rfl rfl)
theorem dJ12_init_1 : decode cJ12_init 1 = .ok (.invokespecial 202, 3) := dk_183 0 202 (dk_at dksJ12_init_0 1 rfl rfl)
theorem dJ12_init_4 : decode cJ12_init 4 = .ok (.aload_n 0, 1) := dk_42 (dk_at dksJ12_init_0 4 rfl rfl)
theorem dJ12_init_5 : decode cJ12_init 5 = .ok (.iload_n 1, 1) := dk_27 (dk_at dksJ12_init_0 5 rfl rfl)
theorem dJ12_init_6 : decode cJ12_init 6 = .ok (.putfield 205, 3) := dk_181 0 205 (dk_at dksJ12_init_0 6 rfl rfl)
theorem dJ12_init_9 : decode cJ12_init 9 = .ok (.return_, 1) := dk_177 (dk_at dksJ12_init_0 9 rfl rfl)
abbrev cJ12_hashCode : ByteArray := prog_22_method_32_code
def yJ12_hashCode : MethodName := ⟨RJ12, "hashCode", "()I"⟩
def dkwJ12_hashCode_0 : List UInt8 := [42, 180, 0, 205, 184, 0, 208, 172]
abbrev dktJ12_hashCode_0 : List UInt8 := dkwJ12_hashCode_0 ++ []
theorem dksJ12_hashCode_0 : cJ12_hashCode.data.toList.drop 0 = dktJ12_hashCode_0 := by decide +kernel
theorem dJ12_hashCode_0 : decode cJ12_hashCode 0 = .ok (.aload_n 0, 1) := dk_42 (dk_at dksJ12_hashCode_0 0 rfl rfl)
theorem dJ12_hashCode_1 : decode cJ12_hashCode 1 = .ok (.getfield 205, 3) := dk_180 0 205 (dk_at dksJ12_hashCode_0 1 rfl rfl)
theorem dJ12_hashCode_4 : decode cJ12_hashCode 4 = .ok (.invokestatic 208, 3) := dk_184 0 208 (dk_at dksJ12_hashCode_0 4 rfl rfl)
theorem dJ12_hashCode_7 : decode cJ12_hashCode 7 = .ok (.ireturn, 1) := dk_172 (dk_at dksJ12_hashCode_0 7 rfl rfl)
abbrev cJ12_hashCode_2 : ByteArray := prog_22_method_33_code
def yJ12_hashCode_2 : MethodName := ⟨RJ12, "hashCode", "(I)I"⟩
theorem dJ12_hashCode_2_0 : decode cJ12_hashCode_2 0 = .ok (.iload_n 0, 1) := by decide +kernel
theorem dJ12_hashCode_2_1 : decode cJ12_hashCode_2 1 = .ok (.ireturn, 1) := by decide +kernel
abbrev cJ12_equals : ByteArray := prog_22_method_34_code
def yJ12_equals : MethodName := ⟨RJ12, "equals", "(Ljava/lang/Object;)Z"⟩
def dkwJ12_equals_1 : List UInt8 := [167, 0, 4, 3, 172, 3, 172]
abbrev dktJ12_equals_1 : List UInt8 := dkwJ12_equals_1 ++ []
def dkwJ12_equals_0 : List UInt8 := [43, 193, 0, 1, 153, 0, 23, 42, 180, 0, 205, 43, 192, 0, 1, 182, 0, 211, 160, 0, 7, 4]
abbrev dktJ12_equals_0 : List UInt8 := dkwJ12_equals_0 ++ dktJ12_equals_1
theorem dksJ12_equals_0 : cJ12_equals.data.toList.drop 0 = dktJ12_equals_0 := by decide +kernel
theorem dksJ12_equals_1 : cJ12_equals.data.toList.drop 22 = dktJ12_equals_1 := dk_seg dksJ12_equals_0 22 rfl rfl
theorem dJ12_equals_0 : decode cJ12_equals 0 = .ok (.aload_n 1, 1) := dk_43 (dk_at dksJ12_equals_0 0 rfl rfl)
theorem dJ12_equals_1 : decode cJ12_equals 1 = .ok (.instanceof 1, 3) := dk_193 0 1 (dk_at dksJ12_equals_0 1 rfl rfl)
theorem dJ12_equals_4 : decode cJ12_equals 4 = .ok (.ifCond .eq 23, 3) := dk_153 0 23 (dk_at dksJ12_equals_0 4 rfl rfl)
theorem dJ12_equals_7 : decode cJ12_equals 7 = .ok (.aload_n 0, 1) := dk_42 (dk_at dksJ12_equals_0 7 rfl rfl)
theorem dJ12_equals_8 : decode cJ12_equals 8 = .ok (.getfield 205, 3) := dk_180 0 205 (dk_at dksJ12_equals_0 8 rfl rfl)
theorem dJ12_equals_11 : decode cJ12_equals 11 = .ok (.aload_n 1, 1) := dk_43 (dk_at dksJ12_equals_0 11 rfl rfl)
theorem dJ12_equals_12 : decode cJ12_equals 12 = .ok (.checkcast 1, 3) := dk_192 0 1 (dk_at dksJ12_equals_0 12 rfl rfl)
theorem dJ12_equals_15 : decode cJ12_equals 15 = .ok (.invokevirtual 211, 3) := dk_182 0 211 (dk_at dksJ12_equals_0 15 rfl rfl)
theorem dJ12_equals_18 : decode cJ12_equals 18 = .ok (.if_icmp .ne 7, 3) := dk_160 0 7 (dk_at dksJ12_equals_0 18 rfl rfl)
theorem dJ12_equals_21 : decode cJ12_equals 21 = .ok (.iconst 1, 1) := dk_4 (dk_at dksJ12_equals_0 21 rfl rfl)
theorem dJ12_equals_22 : decode cJ12_equals 22 = .ok (.goto 4, 3) := dk_167 0 4 (dk_at dksJ12_equals_1 0 rfl rfl)
theorem dJ12_equals_25 : decode cJ12_equals 25 = .ok (.iconst 0, 1) := dk_3 (dk_at dksJ12_equals_1 3 rfl rfl)
theorem dJ12_equals_26 : decode cJ12_equals 26 = .ok (.ireturn, 1) := dk_172 (dk_at dksJ12_equals_1 4 rfl rfl)
theorem dJ12_equals_27 : decode cJ12_equals 27 = .ok (.iconst 0, 1) := dk_3 (dk_at dksJ12_equals_1 5 rfl rfl)
theorem dJ12_equals_28 : decode cJ12_equals 28 = .ok (.ireturn, 1) := dk_172 (dk_at dksJ12_equals_1 6 rfl rfl)
abbrev cJ12_intValue : ByteArray := prog_22_method_27_code
def yJ12_intValue : MethodName := ⟨RJ12, "intValue", "()I"⟩
theorem dJ12_intValue_0 : decode cJ12_intValue 0 = .ok (.aload_n 0, 1) := by decide +kernel
theorem dJ12_intValue_1 : decode cJ12_intValue 1 = .ok (.getfield 205, 3) := by decide +kernel
theorem dJ12_intValue_4 : decode cJ12_intValue 4 = .ok (.ireturn, 1) := by decide +kernel
abbrev cJ12_compareTo : ByteArray := prog_22_method_63_code
def yJ12_compareTo : MethodName := ⟨RJ12, "compareTo", "(Ljava/lang/Object;)I"⟩
def dkwJ12_compareTo_0 : List UInt8 := [42, 43, 192, 0, 1, 182, 1, 28, 172]
abbrev dktJ12_compareTo_0 : List UInt8 := dkwJ12_compareTo_0 ++ []
theorem dksJ12_compareTo_0 : cJ12_compareTo.data.toList.drop 0 = dktJ12_compareTo_0 := by decide +kernel
theorem dJ12_compareTo_0 : decode cJ12_compareTo 0 = .ok (.aload_n 0, 1) := dk_42 (dk_at dksJ12_compareTo_0 0 rfl rfl)
theorem dJ12_compareTo_1 : decode cJ12_compareTo 1 = .ok (.aload_n 1, 1) := dk_43 (dk_at dksJ12_compareTo_0 1 rfl rfl)
theorem dJ12_compareTo_2 : decode cJ12_compareTo 2 = .ok (.checkcast 1, 3) := dk_192 0 1 (dk_at dksJ12_compareTo_0 2 rfl rfl)
theorem dJ12_compareTo_5 : decode cJ12_compareTo 5 = .ok (.invokevirtual 284, 3) := dk_182 1 28 (dk_at dksJ12_compareTo_0 5 rfl rfl)
theorem dJ12_compareTo_8 : decode cJ12_compareTo 8 = .ok (.ireturn, 1) := dk_172 (dk_at dksJ12_compareTo_0 8 rfl rfl)
abbrev cJ12_compareTo_2 : ByteArray := prog_22_method_39_code
def yJ12_compareTo_2 : MethodName := ⟨RJ12, "compareTo", "(Ljava/lang/Integer;)I"⟩
def dkwJ12_compareTo_2_0 : List UInt8 := [42, 180, 0, 205, 43, 180, 0, 205, 184, 1, 3, 172]
abbrev dktJ12_compareTo_2_0 : List UInt8 := dkwJ12_compareTo_2_0 ++ []
theorem dksJ12_compareTo_2_0 : cJ12_compareTo_2.data.toList.drop 0 = dktJ12_compareTo_2_0 := by decide +kernel
theorem dJ12_compareTo_2_0 : decode cJ12_compareTo_2 0 = .ok (.aload_n 0, 1) := dk_42 (dk_at dksJ12_compareTo_2_0 0 rfl rfl)
theorem dJ12_compareTo_2_1 : decode cJ12_compareTo_2 1 = .ok (.getfield 205, 3) := dk_180 0 205 (dk_at dksJ12_compareTo_2_0 1 rfl rfl)
theorem dJ12_compareTo_2_4 : decode cJ12_compareTo_2 4 = .ok (.aload_n 1, 1) := dk_43 (dk_at dksJ12_compareTo_2_0 4 rfl rfl)
theorem dJ12_compareTo_2_5 : decode cJ12_compareTo_2 5 = .ok (.getfield 205, 3) := dk_180 0 205 (dk_at dksJ12_compareTo_2_0 5 rfl rfl)
theorem dJ12_compareTo_2_8 : decode cJ12_compareTo_2 8 = .ok (.invokestatic 259, 3) := dk_184 1 3 (dk_at dksJ12_compareTo_2_0 8 rfl rfl)
theorem dJ12_compareTo_2_11 : decode cJ12_compareTo_2 11 = .ok (.ireturn, 1) := dk_172 (dk_at dksJ12_compareTo_2_0 11 rfl rfl)
abbrev cJ12_compare : ByteArray := prog_22_method_40_code
def yJ12_compare : MethodName := ⟨RJ12, "compare", "(II)I"⟩
def dkwJ12_compare_0 : List UInt8 := [26, 27, 162, 0, 7, 2, 167, 0, 13, 26, 27, 160, 0, 7, 3, 167, 0, 4, 4, 172]
abbrev dktJ12_compare_0 : List UInt8 := dkwJ12_compare_0 ++ []
theorem dksJ12_compare_0 : cJ12_compare.data.toList.drop 0 = dktJ12_compare_0 := by decide +kernel
theorem dJ12_compare_0 : decode cJ12_compare 0 = .ok (.iload_n 0, 1) := dk_26 (dk_at dksJ12_compare_0 0 rfl rfl)
theorem dJ12_compare_1 : decode cJ12_compare 1 = .ok (.iload_n 1, 1) := dk_27 (dk_at dksJ12_compare_0 1 rfl rfl)
theorem dJ12_compare_2 : decode cJ12_compare 2 = .ok (.if_icmp .ge 7, 3) := dk_162 0 7 (dk_at dksJ12_compare_0 2 rfl rfl)
theorem dJ12_compare_5 : decode cJ12_compare 5 = .ok (.iconst (-1), 1) := dk_2 (dk_at dksJ12_compare_0 5 rfl rfl)
theorem dJ12_compare_6 : decode cJ12_compare 6 = .ok (.goto 13, 3) := dk_167 0 13 (dk_at dksJ12_compare_0 6 rfl rfl)
theorem dJ12_compare_9 : decode cJ12_compare 9 = .ok (.iload_n 0, 1) := dk_26 (dk_at dksJ12_compare_0 9 rfl rfl)
theorem dJ12_compare_10 : decode cJ12_compare 10 = .ok (.iload_n 1, 1) := dk_27 (dk_at dksJ12_compare_0 10 rfl rfl)
theorem dJ12_compare_11 : decode cJ12_compare 11 = .ok (.if_icmp .ne 7, 3) := dk_160 0 7 (dk_at dksJ12_compare_0 11 rfl rfl)
theorem dJ12_compare_14 : decode cJ12_compare 14 = .ok (.iconst 0, 1) := dk_3 (dk_at dksJ12_compare_0 14 rfl rfl)
theorem dJ12_compare_15 : decode cJ12_compare 15 = .ok (.goto 4, 3) := dk_167 0 4 (dk_at dksJ12_compare_0 15 rfl rfl)
theorem dJ12_compare_18 : decode cJ12_compare 18 = .ok (.iconst 1, 1) := dk_4 (dk_at dksJ12_compare_0 18 rfl rfl)
theorem dJ12_compare_19 : decode cJ12_compare 19 = .ok (.ireturn, 1) := dk_172 (dk_at dksJ12_compare_0 19 rfl rfl)
theorem q55 : (Jvm.Cond.initialized "java/lang/Integer") ∈ lw_all := lw_g (lw_at lw_m1 24 rfl) rfl
theorem q298 : (Jvm.Cond.static ({ cls := "java/lang/Integer", name := "valueOf", desc := "(I)Ljava/lang/Integer;" } : Jvm.MethodName)) ∈ lw_all := lw_g (lw_at lw_m2 27 rfl) rfl
theorem q299 : (Jvm.Cond.code ({ cls := "java/lang/Integer", name := "valueOf", desc := "(I)Ljava/lang/Integer;" } : Jvm.MethodName) prog_22_method_22_code (1 : Nat) (Option.some (Jvm.ClassFile.FieldType.object "java/lang/Integer"))) ∈ lw_all := lw_g (lw_at lw_m2 28 rfl) rfl
theorem q300 : (Jvm.Cond.fieldLink "java/lang/Integer" (191 : Nat) "java/lang/Integer$IntegerCache" "high" "I") ∈ lw_all := lw_g (lw_at lw_m2 29 rfl) rfl
theorem q302 : (Jvm.Cond.fieldLink "java/lang/Integer" (195 : Nat) "java/lang/Integer$IntegerCache" "cache" "[Ljava/lang/Integer;") ∈ lw_all := lw_g (lw_at lw_m2 31 rfl) rfl
theorem q304 : (Jvm.Cond.classLink "java/lang/Integer" (1 : Nat) "java/lang/Integer") ∈ lw_all := lw_g (lw_at lw_m2 33 rfl) rfl
theorem q305 : (Jvm.Cond.instantiable "java/lang/Integer" (1 : Nat)) ∈ lw_all := lw_g (lw_at lw_m2 34 rfl) rfl
theorem q306 : (Jvm.Cond.methodLink "java/lang/Integer" (199 : Nat) ({ cls := "java/lang/Integer", name := "<init>", desc := "(I)V" } : Jvm.MethodName)) ∈ lw_all := lw_g (lw_at lw_m2 35 rfl) rfl
theorem q307 : (Jvm.Cond.instanceMethod ({ cls := "java/lang/Integer", name := "<init>", desc := "(I)V" } : Jvm.MethodName)) ∈ lw_all := lw_g (lw_at lw_m2 36 rfl) rfl
theorem q308 : (Jvm.Cond.code ({ cls := "java/lang/Integer", name := "<init>", desc := "(I)V" } : Jvm.MethodName) prog_22_method_23_code (2 : Nat) (Option.none : Option Jvm.ClassFile.FieldType)) ∈ lw_all := lw_g (lw_at lw_m2 37 rfl) rfl
theorem q309 : (Jvm.Cond.methodLink "java/lang/Integer" (202 : Nat) ({ cls := "java/lang/Number", name := "<init>", desc := "()V" } : Jvm.MethodName)) ∈ lw_all := lw_g (lw_at lw_m2 38 rfl) rfl
theorem q313 : (Jvm.Cond.fieldLink "java/lang/Integer" (205 : Nat) "java/lang/Integer" "value" "I") ∈ lw_all := lw_g (lw_at lw_m2 42 rfl) rfl
theorem q314 : (Jvm.Cond.laysFinal "java/lang/Integer" "java/lang/Integer" "value" "I") ∈ lw_all := lw_g (lw_at lw_m2 43 rfl) rfl
theorem q315 : (Jvm.Cond.soleField "java/lang/Integer" "value") ∈ lw_all := lw_g (lw_at lw_m2 44 rfl) rfl
theorem q316 : (Jvm.Cond.superclass "java/lang/Integer" "java/lang/Number") ∈ lw_all := lw_g (lw_at lw_m2 45 rfl) rfl
theorem q351 : (Jvm.Cond.selects "java/lang/Integer" ({ cls := "java/lang/Object", name := "hashCode", desc := "()I" } : Jvm.MethodName) ({ cls := "java/lang/Integer", name := "hashCode", desc := "()I" } : Jvm.MethodName)) ∈ lw_all := lw_g (lw_at lw_m2 80 rfl) rfl
theorem q352 : (Jvm.Cond.instanceMethod ({ cls := "java/lang/Integer", name := "hashCode", desc := "()I" } : Jvm.MethodName)) ∈ lw_all := lw_g (lw_at lw_m2 81 rfl) rfl
theorem q353 : (Jvm.Cond.code ({ cls := "java/lang/Integer", name := "hashCode", desc := "()I" } : Jvm.MethodName) prog_22_method_32_code (1 : Nat) (Option.some Jvm.ClassFile.FieldType.int)) ∈ lw_all := lw_g (lw_at lw_m2 82 rfl) rfl
theorem q354 : (Jvm.Cond.methodLink "java/lang/Integer" (208 : Nat) ({ cls := "java/lang/Integer", name := "hashCode", desc := "(I)I" } : Jvm.MethodName)) ∈ lw_all := lw_g (lw_at lw_m2 83 rfl) rfl
theorem q355 : (Jvm.Cond.static ({ cls := "java/lang/Integer", name := "hashCode", desc := "(I)I" } : Jvm.MethodName)) ∈ lw_all := lw_g (lw_at lw_m2 84 rfl) rfl
theorem q356 : (Jvm.Cond.code ({ cls := "java/lang/Integer", name := "hashCode", desc := "(I)I" } : Jvm.MethodName) prog_22_method_33_code (1 : Nat) (Option.some Jvm.ClassFile.FieldType.int)) ∈ lw_all := lw_g (lw_at lw_m2 85 rfl) rfl
theorem q375 : (Jvm.Cond.selects "java/lang/Integer" ({ cls := "java/lang/Object", name := "equals", desc := "(Ljava/lang/Object;)Z" } : Jvm.MethodName) ({ cls := "java/lang/Integer", name := "equals", desc := "(Ljava/lang/Object;)Z" } : Jvm.MethodName)) ∈ lw_all := lw_g (lw_at lw_m2 104 rfl) rfl
theorem q376 : (Jvm.Cond.instanceMethod ({ cls := "java/lang/Integer", name := "equals", desc := "(Ljava/lang/Object;)Z" } : Jvm.MethodName)) ∈ lw_all := lw_g (lw_at lw_m2 105 rfl) rfl
theorem q377 : (Jvm.Cond.code ({ cls := "java/lang/Integer", name := "equals", desc := "(Ljava/lang/Object;)Z" } : Jvm.MethodName) prog_22_method_34_code (2 : Nat) (Option.some Jvm.ClassFile.FieldType.boolean)) ∈ lw_all := lw_g (lw_at lw_m2 106 rfl) rfl
theorem q378 : (Jvm.Cond.methodLink "java/lang/Integer" (211 : Nat) ({ cls := "java/lang/Integer", name := "intValue", desc := "()I" } : Jvm.MethodName)) ∈ lw_all := lw_g (lw_at lw_m2 107 rfl) rfl
theorem q379 : (Jvm.Cond.instanceMethod ({ cls := "java/lang/Integer", name := "intValue", desc := "()I" } : Jvm.MethodName)) ∈ lw_all := lw_g (lw_at lw_m2 108 rfl) rfl
theorem q380 : (Jvm.Cond.selects "java/lang/Integer" ({ cls := "java/lang/Integer", name := "intValue", desc := "()I" } : Jvm.MethodName) ({ cls := "java/lang/Integer", name := "intValue", desc := "()I" } : Jvm.MethodName)) ∈ lw_all := lw_g (lw_at lw_m2 109 rfl) rfl
theorem q381 : (Jvm.Cond.code ({ cls := "java/lang/Integer", name := "intValue", desc := "()I" } : Jvm.MethodName) prog_22_method_27_code (1 : Nat) (Option.some Jvm.ClassFile.FieldType.int)) ∈ lw_all := lw_g (lw_at lw_m2 110 rfl) rfl
theorem q417 : (Jvm.Cond.selects "java/lang/Integer" ({ cls := "java/lang/Object", name := "getClass", desc := "()Ljava/lang/Class;" } : Jvm.MethodName) ({ cls := "java/lang/Object", name := "getClass", desc := "()Ljava/lang/Class;" } : Jvm.MethodName)) ∈ lw_all := lw_g (lw_at lw_m2 146 rfl) rfl
theorem q430 : (Jvm.Cond.castable "java/lang/Integer" "java/lang/Comparable") ∈ lw_tbl := lw_at lw_m2 159 rfl
theorem q431 : (Jvm.Cond.selects "java/lang/Integer" ({ cls := "java/lang/Comparable", name := "compareTo", desc := "(Ljava/lang/Object;)I" } : Jvm.MethodName) ({ cls := "java/lang/Integer", name := "compareTo", desc := "(Ljava/lang/Object;)I" } : Jvm.MethodName)) ∈ lw_all := lw_g (lw_at lw_m2 160 rfl) rfl
theorem q432 : (Jvm.Cond.unhidden "java/lang/Integer" "compareTo" "(Ljava/lang/Object;)I") ∈ lw_tbl := lw_at lw_m2 161 rfl
theorem q433 : (Jvm.Cond.instanceMethod ({ cls := "java/lang/Integer", name := "compareTo", desc := "(Ljava/lang/Object;)I" } : Jvm.MethodName)) ∈ lw_all := lw_g (lw_at lw_m2 162 rfl) rfl
theorem q434 : (Jvm.Cond.publicMethod ({ cls := "java/lang/Integer", name := "compareTo", desc := "(Ljava/lang/Object;)I" } : Jvm.MethodName)) ∈ lw_tbl := lw_at lw_m2 163 rfl
theorem q435 : (Jvm.Cond.code ({ cls := "java/lang/Integer", name := "compareTo", desc := "(Ljava/lang/Object;)I" } : Jvm.MethodName) prog_22_method_63_code (2 : Nat) (Option.some Jvm.ClassFile.FieldType.int)) ∈ lw_all := lw_g (lw_at lw_m2 164 rfl) rfl
theorem q436 : (Jvm.Cond.methodLink "java/lang/Integer" (284 : Nat) ({ cls := "java/lang/Integer", name := "compareTo", desc := "(Ljava/lang/Integer;)I" } : Jvm.MethodName)) ∈ lw_all := lw_g (lw_at lw_m2 165 rfl) rfl
theorem q437 : (Jvm.Cond.instanceMethod ({ cls := "java/lang/Integer", name := "compareTo", desc := "(Ljava/lang/Integer;)I" } : Jvm.MethodName)) ∈ lw_all := lw_g (lw_at lw_m2 166 rfl) rfl
theorem q438 : (Jvm.Cond.selects "java/lang/Integer" ({ cls := "java/lang/Integer", name := "compareTo", desc := "(Ljava/lang/Integer;)I" } : Jvm.MethodName) ({ cls := "java/lang/Integer", name := "compareTo", desc := "(Ljava/lang/Integer;)I" } : Jvm.MethodName)) ∈ lw_all := lw_g (lw_at lw_m2 167 rfl) rfl
theorem q439 : (Jvm.Cond.code ({ cls := "java/lang/Integer", name := "compareTo", desc := "(Ljava/lang/Integer;)I" } : Jvm.MethodName) prog_22_method_39_code (2 : Nat) (Option.some Jvm.ClassFile.FieldType.int)) ∈ lw_all := lw_g (lw_at lw_m2 168 rfl) rfl
theorem q440 : (Jvm.Cond.methodLink "java/lang/Integer" (259 : Nat) ({ cls := "java/lang/Integer", name := "compare", desc := "(II)I" } : Jvm.MethodName)) ∈ lw_all := lw_g (lw_at lw_m2 169 rfl) rfl
theorem q441 : (Jvm.Cond.static ({ cls := "java/lang/Integer", name := "compare", desc := "(II)I" } : Jvm.MethodName)) ∈ lw_all := lw_g (lw_at lw_m2 170 rfl) rfl
theorem q442 : (Jvm.Cond.code ({ cls := "java/lang/Integer", name := "compare", desc := "(II)I" } : Jvm.MethodName) prog_22_method_40_code (2 : Nat) (Option.some Jvm.ClassFile.FieldType.int)) ∈ lw_all := lw_g (lw_at lw_m2 171 rfl) rfl
theorem q1233 : (Jvm.Cond.castable "java/lang/Integer" "java/lang/Object") ∈ lw_tbl := lw_at lw_m6 2 rfl
theorem in_J12 : ∀ w ∈ wsJ120, w ∈ lw_all := lw_in wsJ120 [314] (by decide +kernel) (by decide +kernel)
/-! java/util/HashMap$Node -/
set_option maxRecDepth 100000
def RJ13 : String := "java/util/HashMap$Node"
def TJ13 : u_T := fun k => match k with
  | 0 => ("java/util/HashMap$Node", "hash", "I", true)
  | 1 => ("java/util/HashMap$Node", "key", "Ljava/lang/Object;", true)
  | 2 => ("java/util/HashMap$Node", "value", "Ljava/lang/Object;", false)
  | _ => ("java/util/HashMap$Node", "next", "Ljava/util/HashMap$Node;", false)
def tyJ13 : Nat → FieldType := fun k => match k with
  | 0 => .int
  | 1 => .object "java/lang/Object"
  | 2 => .object "java/lang/Object"
  | _ => .object "java/util/HashMap$Node"
abbrev wsJ130 : List Cond := u_ws RJ13 TJ13 4
theorem nmJ13 : ∀ a, a < 4 → ∀ b, b < 4 → a ≠ b → (TJ13 a).2.1 ≠ (TJ13 b).2.1 := by decide +kernel
theorem tyJ13_ok : ∀ k, k < 4 → parseFieldDescriptor (TJ13 k).2.2.1 = some (tyJ13 k) := by decide +kernel
abbrev cJ13_init : ByteArray := prog_39_method_1_code
def yJ13_init : MethodName := ⟨RJ13, "<init>", "(ILjava/lang/Object;Ljava/lang/Object;Ljava/util/HashMap$Node;)V"⟩
def dkwJ13_init_1 : List UInt8 := [181, 0, 20, 177]
abbrev dktJ13_init_1 : List UInt8 := dkwJ13_init_1 ++ []
def dkwJ13_init_0 : List UInt8 := [42, 183, 0, 1, 42, 27, 181, 0, 7, 42, 44, 181, 0, 13, 42, 45, 181, 0, 17, 42, 25, 4]
abbrev dktJ13_init_0 : List UInt8 := dkwJ13_init_0 ++ dktJ13_init_1
theorem dksJ13_init_0 : cJ13_init.data.toList.drop 0 = dktJ13_init_0 := by decide +kernel
theorem dksJ13_init_1 : cJ13_init.data.toList.drop 22 = dktJ13_init_1 := dk_seg dksJ13_init_0 22 rfl rfl
theorem dJ13_init_0 : decode cJ13_init 0 = .ok (.aload_n 0, 1) := dk_42 (dk_at dksJ13_init_0 0 rfl rfl)
theorem dJ13_init_1 : decode cJ13_init 1 = .ok (.invokespecial 1, 3) := dk_183 0 1 (dk_at dksJ13_init_0 1 rfl rfl)
theorem dJ13_init_4 : decode cJ13_init 4 = .ok (.aload_n 0, 1) := dk_42 (dk_at dksJ13_init_0 4 rfl rfl)
theorem dJ13_init_5 : decode cJ13_init 5 = .ok (.iload_n 1, 1) := dk_27 (dk_at dksJ13_init_0 5 rfl rfl)
theorem dJ13_init_6 : decode cJ13_init 6 = .ok (.putfield 7, 3) := dk_181 0 7 (dk_at dksJ13_init_0 6 rfl rfl)
theorem dJ13_init_9 : decode cJ13_init 9 = .ok (.aload_n 0, 1) := dk_42 (dk_at dksJ13_init_0 9 rfl rfl)
theorem dJ13_init_10 : decode cJ13_init 10 = .ok (.aload_n 2, 1) := dk_44 (dk_at dksJ13_init_0 10 rfl rfl)
theorem dJ13_init_11 : decode cJ13_init 11 = .ok (.putfield 13, 3) := dk_181 0 13 (dk_at dksJ13_init_0 11 rfl rfl)
theorem dJ13_init_14 : decode cJ13_init 14 = .ok (.aload_n 0, 1) := dk_42 (dk_at dksJ13_init_0 14 rfl rfl)
theorem dJ13_init_15 : decode cJ13_init 15 = .ok (.aload_n 3, 1) := dk_45 (dk_at dksJ13_init_0 15 rfl rfl)
theorem dJ13_init_16 : decode cJ13_init 16 = .ok (.putfield 17, 3) := dk_181 0 17 (dk_at dksJ13_init_0 16 rfl rfl)
theorem dJ13_init_19 : decode cJ13_init 19 = .ok (.aload_n 0, 1) := dk_42 (dk_at dksJ13_init_0 19 rfl rfl)
theorem dJ13_init_20 : decode cJ13_init 20 = .ok (.aload 4, 2) := dk_25 4 (dk_at dksJ13_init_0 20 rfl rfl)
theorem dJ13_init_22 : decode cJ13_init 22 = .ok (.putfield 20, 3) := dk_181 0 20 (dk_at dksJ13_init_1 0 rfl rfl)
theorem dJ13_init_25 : decode cJ13_init 25 = .ok (.return_, 1) := dk_177 (dk_at dksJ13_init_1 3 rfl rfl)
theorem q57 : (Jvm.Cond.initialized "java/util/HashMap$Node") ∈ lw_all := lw_g (lw_at lw_m1 26 rfl) rfl
theorem q419 : (Jvm.Cond.selects "java/util/HashMap$Node" ({ cls := "java/lang/Object", name := "getClass", desc := "()Ljava/lang/Class;" } : Jvm.MethodName) ({ cls := "java/lang/Object", name := "getClass", desc := "()Ljava/lang/Class;" } : Jvm.MethodName)) ∈ lw_all := lw_g (lw_at lw_m2 148 rfl) rfl
theorem q840 : (Jvm.Cond.instantiable "java/util/HashMap$Node" (4 : Nat)) ∈ lw_all := lw_g (lw_at lw_m4 89 rfl) rfl
theorem q842 : (Jvm.Cond.instanceMethod ({ cls := "java/util/HashMap$Node", name := "<init>", desc := "(ILjava/lang/Object;Ljava/lang/Object;Ljava/util/HashMap$Node;)V" } : Jvm.MethodName)) ∈ lw_all := lw_g (lw_at lw_m4 91 rfl) rfl
theorem q843 : (Jvm.Cond.code ({ cls := "java/util/HashMap$Node", name := "<init>", desc := "(ILjava/lang/Object;Ljava/lang/Object;Ljava/util/HashMap$Node;)V" } : Jvm.MethodName) prog_39_method_1_code (5 : Nat) (Option.none : Option Jvm.ClassFile.FieldType)) ∈ lw_all := lw_g (lw_at lw_m4 92 rfl) rfl
theorem q844 : (Jvm.Cond.methodLink "java/util/HashMap$Node" (1 : Nat) ({ cls := "java/lang/Object", name := "<init>", desc := "()V" } : Jvm.MethodName)) ∈ lw_all := lw_g (lw_at lw_m4 93 rfl) rfl
theorem q845 : (Jvm.Cond.fieldLink "java/util/HashMap$Node" (7 : Nat) "java/util/HashMap$Node" "hash" "I") ∈ lw_all := lw_g (lw_at lw_m4 94 rfl) rfl
theorem q849 : (Jvm.Cond.fieldLink "java/util/HashMap$Node" (13 : Nat) "java/util/HashMap$Node" "key" "Ljava/lang/Object;") ∈ lw_all := lw_g (lw_at lw_m4 98 rfl) rfl
theorem q853 : (Jvm.Cond.fieldLink "java/util/HashMap$Node" (17 : Nat) "java/util/HashMap$Node" "value" "Ljava/lang/Object;") ∈ lw_all := lw_g (lw_at lw_m4 102 rfl) rfl
theorem q855 : (Jvm.Cond.fieldLink "java/util/HashMap$Node" (20 : Nat) "java/util/HashMap$Node" "next" "Ljava/util/HashMap$Node;") ∈ lw_all := lw_g (lw_at lw_m4 104 rfl) rfl
theorem q861 : (Jvm.Cond.laysFinal "java/util/HashMap$Node" "java/util/HashMap$Node" "hash" "I") ∈ lw_all := lw_g (lw_at lw_m4 110 rfl) rfl
theorem q862 : (Jvm.Cond.soleField "java/util/HashMap$Node" "hash") ∈ lw_all := lw_g (lw_at lw_m4 111 rfl) rfl
theorem q863 : (Jvm.Cond.laysFinal "java/util/HashMap$Node" "java/util/HashMap$Node" "key" "Ljava/lang/Object;") ∈ lw_all := lw_g (lw_at lw_m4 112 rfl) rfl
theorem q864 : (Jvm.Cond.soleField "java/util/HashMap$Node" "key") ∈ lw_all := lw_g (lw_at lw_m4 113 rfl) rfl
theorem q865 : (Jvm.Cond.lays "java/util/HashMap$Node" "java/util/HashMap$Node" "value" "Ljava/lang/Object;") ∈ lw_all := lw_g (lw_at lw_m4 114 rfl) rfl
theorem q866 : (Jvm.Cond.soleField "java/util/HashMap$Node" "value") ∈ lw_all := lw_g (lw_at lw_m4 115 rfl) rfl
theorem q867 : (Jvm.Cond.lays "java/util/HashMap$Node" "java/util/HashMap$Node" "next" "Ljava/util/HashMap$Node;") ∈ lw_all := lw_g (lw_at lw_m4 116 rfl) rfl
theorem q868 : (Jvm.Cond.soleField "java/util/HashMap$Node" "next") ∈ lw_all := lw_g (lw_at lw_m4 117 rfl) rfl
theorem q869 : (Jvm.Cond.superclass "java/util/HashMap$Node" "java/lang/Object") ∈ lw_all := lw_g (lw_at lw_m4 118 rfl) rfl
theorem q1234 : (Jvm.Cond.castable "java/util/HashMap$Node" "java/lang/Object") ∈ lw_tbl := lw_at lw_m6 3 rfl
theorem in_J13 : ∀ w ∈ wsJ130, w ∈ lw_all := lw_in wsJ130 [861, 863, 865, 867] (by decide +kernel) (by decide +kernel)
/-! java/util/LinkedHashMap$Entry -/
set_option maxRecDepth 100000
def RJ14 : String := "java/util/LinkedHashMap$Entry"
abbrev cJ14_init : ByteArray := prog_42_method_1_code
def yJ14_init : MethodName := ⟨RJ14, "<init>", "(ILjava/lang/Object;Ljava/lang/Object;Ljava/util/HashMap$Node;)V"⟩
def dkwJ14_init_0 : List UInt8 := [42, 27, 44, 45, 25, 4, 183, 0, 1, 177]
abbrev dktJ14_init_0 : List UInt8 := dkwJ14_init_0 ++ []
theorem dksJ14_init_0 : cJ14_init.data.toList.drop 0 = dktJ14_init_0 := by decide +kernel
theorem dJ14_init_0 : decode cJ14_init 0 = .ok (.aload_n 0, 1) := dk_42 (dk_at dksJ14_init_0 0 rfl rfl)
theorem dJ14_init_1 : decode cJ14_init 1 = .ok (.iload_n 1, 1) := dk_27 (dk_at dksJ14_init_0 1 rfl rfl)
theorem dJ14_init_2 : decode cJ14_init 2 = .ok (.aload_n 2, 1) := dk_44 (dk_at dksJ14_init_0 2 rfl rfl)
theorem dJ14_init_3 : decode cJ14_init 3 = .ok (.aload_n 3, 1) := dk_45 (dk_at dksJ14_init_0 3 rfl rfl)
theorem dJ14_init_4 : decode cJ14_init 4 = .ok (.aload 4, 2) := dk_25 4 (dk_at dksJ14_init_0 4 rfl rfl)
theorem dJ14_init_6 : decode cJ14_init 6 = .ok (.invokespecial 1, 3) := dk_183 0 1 (dk_at dksJ14_init_0 6 rfl rfl)
theorem dJ14_init_9 : decode cJ14_init 9 = .ok (.return_, 1) := dk_177 (dk_at dksJ14_init_0 9 rfl rfl)
theorem q58 : (Jvm.Cond.initialized "java/util/LinkedHashMap$Entry") ∈ lw_all := lw_g (lw_at lw_m1 27 rfl) rfl
theorem q905 : (Jvm.Cond.instanceMethod ({ cls := "java/util/LinkedHashMap$Entry", name := "<init>", desc := "(ILjava/lang/Object;Ljava/lang/Object;Ljava/util/HashMap$Node;)V" } : Jvm.MethodName)) ∈ lw_all := lw_g (lw_at lw_m4 154 rfl) rfl
theorem q906 : (Jvm.Cond.code ({ cls := "java/util/LinkedHashMap$Entry", name := "<init>", desc := "(ILjava/lang/Object;Ljava/lang/Object;Ljava/util/HashMap$Node;)V" } : Jvm.MethodName) prog_42_method_1_code (5 : Nat) (Option.none : Option Jvm.ClassFile.FieldType)) ∈ lw_all := lw_g (lw_at lw_m4 155 rfl) rfl
theorem q907 : (Jvm.Cond.methodLink "java/util/LinkedHashMap$Entry" (1 : Nat) ({ cls := "java/util/HashMap$Node", name := "<init>", desc := "(ILjava/lang/Object;Ljava/lang/Object;Ljava/util/HashMap$Node;)V" } : Jvm.MethodName)) ∈ lw_all := lw_g (lw_at lw_m4 156 rfl) rfl
theorem q925 : (Jvm.Cond.soleField "java/util/LinkedHashMap$Entry" "before") ∈ lw_all := lw_g (lw_at lw_m4 174 rfl) rfl
theorem q927 : (Jvm.Cond.soleField "java/util/LinkedHashMap$Entry" "after") ∈ lw_all := lw_g (lw_at lw_m4 176 rfl) rfl
/-! java/util/HashMap$TreeNode -/
set_option maxRecDepth 100000
def RJ15 : String := "java/util/HashMap$TreeNode"
def TJ15 : u_T := fun k => match k with
  | 0 => ("java/util/LinkedHashMap$Entry", "before", "Ljava/util/LinkedHashMap$Entry;", false)
  | 1 => ("java/util/LinkedHashMap$Entry", "after", "Ljava/util/LinkedHashMap$Entry;", false)
  | 2 => ("java/util/HashMap$Node", "hash", "I", true)
  | 3 => ("java/util/HashMap$Node", "key", "Ljava/lang/Object;", true)
  | 4 => ("java/util/HashMap$Node", "value", "Ljava/lang/Object;", false)
  | 5 => ("java/util/HashMap$Node", "next", "Ljava/util/HashMap$Node;", false)
  | 6 => ("java/util/HashMap$TreeNode", "parent", "Ljava/util/HashMap$TreeNode;", false)
  | 7 => ("java/util/HashMap$TreeNode", "left", "Ljava/util/HashMap$TreeNode;", false)
  | 8 => ("java/util/HashMap$TreeNode", "right", "Ljava/util/HashMap$TreeNode;", false)
  | 9 => ("java/util/HashMap$TreeNode", "prev", "Ljava/util/HashMap$TreeNode;", false)
  | _ => ("java/util/HashMap$TreeNode", "red", "Z", false)
def tyJ15 : Nat → FieldType := fun k => match k with
  | 0 => .object "java/util/LinkedHashMap$Entry"
  | 1 => .object "java/util/LinkedHashMap$Entry"
  | 2 => .int
  | 3 => .object "java/lang/Object"
  | 4 => .object "java/lang/Object"
  | 5 => .object "java/util/HashMap$Node"
  | 6 => .object "java/util/HashMap$TreeNode"
  | 7 => .object "java/util/HashMap$TreeNode"
  | 8 => .object "java/util/HashMap$TreeNode"
  | 9 => .object "java/util/HashMap$TreeNode"
  | _ => .boolean
abbrev wsJ150 : List Cond := u_ws RJ15 TJ15 11
theorem nmJ15 : ∀ a, a < 11 → ∀ b, b < 11 → a ≠ b → (TJ15 a).2.1 ≠ (TJ15 b).2.1 := by decide +kernel
theorem tyJ15_ok : ∀ k, k < 11 → parseFieldDescriptor (TJ15 k).2.2.1 = some (tyJ15 k) := by decide +kernel
abbrev cJ15_getTreeNode : ByteArray := prog_40_method_5_code
def yJ15_getTreeNode : MethodName := ⟨RJ15, "getTreeNode", "(ILjava/lang/Object;)Ljava/util/HashMap$TreeNode;"⟩
def dkwJ15_getTreeNode_0 : List UInt8 := [42, 180, 0, 9, 198, 0, 10, 42, 182, 0, 67, 167, 0, 4, 42, 27, 44, 1, 182, 0, 63, 176]
abbrev dktJ15_getTreeNode_0 : List UInt8 := dkwJ15_getTreeNode_0 ++ []
theorem dksJ15_getTreeNode_0 : cJ15_getTreeNode.data.toList.drop 0 = dktJ15_getTreeNode_0 := by decide +kernel
theorem dJ15_getTreeNode_0 : decode cJ15_getTreeNode 0 = .ok (.aload_n 0, 1) := dk_42 (dk_at dksJ15_getTreeNode_0 0 rfl rfl)
theorem dJ15_getTreeNode_1 : decode cJ15_getTreeNode 1 = .ok (.getfield 9, 3) := dk_180 0 9 (dk_at dksJ15_getTreeNode_0 1 rfl rfl)
theorem dJ15_getTreeNode_4 : decode cJ15_getTreeNode 4 = .ok (.ifnull 10, 3) := dk_198 0 10 (dk_at dksJ15_getTreeNode_0 4 rfl rfl)
theorem dJ15_getTreeNode_7 : decode cJ15_getTreeNode 7 = .ok (.aload_n 0, 1) := dk_42 (dk_at dksJ15_getTreeNode_0 7 rfl rfl)
theorem dJ15_getTreeNode_8 : decode cJ15_getTreeNode 8 = .ok (.invokevirtual 67, 3) := dk_182 0 67 (dk_at dksJ15_getTreeNode_0 8 rfl rfl)
theorem dJ15_getTreeNode_11 : decode cJ15_getTreeNode 11 = .ok (.goto 4, 3) := dk_167 0 4 (dk_at dksJ15_getTreeNode_0 11 rfl rfl)
theorem dJ15_getTreeNode_14 : decode cJ15_getTreeNode 14 = .ok (.aload_n 0, 1) := dk_42 (dk_at dksJ15_getTreeNode_0 14 rfl rfl)
theorem dJ15_getTreeNode_15 : decode cJ15_getTreeNode 15 = .ok (.iload_n 1, 1) := dk_27 (dk_at dksJ15_getTreeNode_0 15 rfl rfl)
theorem dJ15_getTreeNode_16 : decode cJ15_getTreeNode 16 = .ok (.aload_n 2, 1) := dk_44 (dk_at dksJ15_getTreeNode_0 16 rfl rfl)
theorem dJ15_getTreeNode_17 : decode cJ15_getTreeNode 17 = .ok (.aconst_null, 1) := dk_1 (dk_at dksJ15_getTreeNode_0 17 rfl rfl)
theorem dJ15_getTreeNode_18 : decode cJ15_getTreeNode 18 = .ok (.invokevirtual 63, 3) := dk_182 0 63 (dk_at dksJ15_getTreeNode_0 18 rfl rfl)
theorem dJ15_getTreeNode_21 : decode cJ15_getTreeNode 21 = .ok (.areturn, 1) := dk_176 (dk_at dksJ15_getTreeNode_0 21 rfl rfl)
abbrev cJ15_root : ByteArray := prog_40_method_2_code
def yJ15_root : MethodName := ⟨RJ15, "root", "()Ljava/util/HashMap$TreeNode;"⟩
def dkwJ15_root_0 : List UInt8 := [42, 76, 43, 180, 0, 9, 89, 77, 199, 0, 5, 43, 176, 44, 76, 167, 255, 243]
abbrev dktJ15_root_0 : List UInt8 := dkwJ15_root_0 ++ []
theorem dksJ15_root_0 : cJ15_root.data.toList.drop 0 = dktJ15_root_0 := by decide +kernel
theorem dJ15_root_0 : decode cJ15_root 0 = .ok (.aload_n 0, 1) := dk_42 (dk_at dksJ15_root_0 0 rfl rfl)
theorem dJ15_root_1 : decode cJ15_root 1 = .ok (.astore_n 1, 1) := dk_76 (dk_at dksJ15_root_0 1 rfl rfl)
theorem dJ15_root_2 : decode cJ15_root 2 = .ok (.aload_n 1, 1) := dk_43 (dk_at dksJ15_root_0 2 rfl rfl)
theorem dJ15_root_3 : decode cJ15_root 3 = .ok (.getfield 9, 3) := dk_180 0 9 (dk_at dksJ15_root_0 3 rfl rfl)
theorem dJ15_root_6 : decode cJ15_root 6 = .ok (.dup, 1) := dk_89 (dk_at dksJ15_root_0 6 rfl rfl)
theorem dJ15_root_7 : decode cJ15_root 7 = .ok (.astore_n 2, 1) := dk_77 (dk_at dksJ15_root_0 7 rfl rfl)
theorem dJ15_root_8 : decode cJ15_root 8 = .ok (.ifnonnull 5, 3) := dk_199 0 5 (dk_at dksJ15_root_0 8 rfl rfl)
theorem dJ15_root_11 : decode cJ15_root 11 = .ok (.aload_n 1, 1) := dk_43 (dk_at dksJ15_root_0 11 rfl rfl)
theorem dJ15_root_12 : decode cJ15_root 12 = .ok (.areturn, 1) := dk_176 (dk_at dksJ15_root_0 12 rfl rfl)
theorem dJ15_root_13 : decode cJ15_root 13 = .ok (.aload_n 2, 1) := dk_44 (dk_at dksJ15_root_0 13 rfl rfl)
theorem dJ15_root_14 : decode cJ15_root 14 = .ok (.astore_n 1, 1) := dk_76 (dk_at dksJ15_root_0 14 rfl rfl)
theorem dJ15_root_15 : decode cJ15_root 15 = .ok (.goto (-13), 3) := dk_167 255 243 (dk_at dksJ15_root_0 15 rfl rfl)
abbrev cJ15_find : ByteArray := prog_40_method_4_code
def yJ15_find : MethodName := ⟨RJ15, "find", "(ILjava/lang/Object;Ljava/lang/Class;)Ljava/util/HashMap$TreeNode;"⟩
def dkwJ15_find_7 : List UInt8 := [58, 4, 25, 4, 199, 255, 92, 1, 176]
abbrev dktJ15_find_7 : List UInt8 := dkwJ15_find_7 ++ []
def dkwJ15_find_6 : List UInt8 := [58, 4, 167, 0, 24, 25, 9, 27, 44, 45, 182, 0, 63, 89, 58, 10, 198, 0, 6, 25, 10, 176, 25, 8]
abbrev dktJ15_find_6 : List UInt8 := dkwJ15_find_6 ++ dktJ15_find_7
def dkwJ15_find_5 : List UInt8 := [44, 25, 7, 184, 0, 59, 89, 54, 6, 153, 0, 20, 21, 6, 156, 0, 8, 25, 8, 167, 0, 5, 25, 9]
abbrev dktJ15_find_5 : List UInt8 := dkwJ15_find_5 ++ dktJ15_find_6
def dkwJ15_find_4 : List UInt8 := [199, 0, 10, 25, 8, 58, 4, 167, 0, 67, 45, 199, 0, 12, 44, 184, 0, 55, 89, 78, 198, 0, 33, 45]
abbrev dktJ15_find_4 : List UInt8 := dkwJ15_find_4 ++ dktJ15_find_5
def dkwJ15_find_3 : List UInt8 := [182, 0, 49, 153, 0, 6, 25, 4, 176, 25, 8, 199, 0, 10, 25, 9, 58, 4, 167, 0, 79, 25, 9]
abbrev dktJ15_find_3 : List UInt8 := dkwJ15_find_3 ++ dktJ15_find_4
def dkwJ15_find_2 : List UInt8 := [167, 0, 119, 25, 4, 180, 0, 45, 89, 58, 7, 44, 165, 0, 16, 44, 198, 0, 15, 44, 25, 7]
abbrev dktJ15_find_2 : List UInt8 := dkwJ15_find_2 ++ dktJ15_find_3
def dkwJ15_find_1 : List UInt8 := [54, 5, 27, 164, 0, 10, 25, 8, 58, 4, 167, 0, 132, 21, 5, 27, 162, 0, 10, 25, 9, 58, 4]
abbrev dktJ15_find_1 : List UInt8 := dkwJ15_find_1 ++ dktJ15_find_2
def dkwJ15_find_0 : List UInt8 := [42, 58, 4, 25, 4, 180, 0, 39, 58, 8, 25, 4, 180, 0, 42, 58, 9, 25, 4, 180, 0, 15, 89]
abbrev dktJ15_find_0 : List UInt8 := dkwJ15_find_0 ++ dktJ15_find_1
theorem dksJ15_find_0 : cJ15_find.data.toList.drop 0 = dktJ15_find_0 := by decide +kernel
theorem dksJ15_find_1 : cJ15_find.data.toList.drop 23 = dktJ15_find_1 := dk_seg dksJ15_find_0 23 rfl rfl
theorem dksJ15_find_2 : cJ15_find.data.toList.drop 46 = dktJ15_find_2 := dk_seg dksJ15_find_1 23 rfl rfl
theorem dksJ15_find_3 : cJ15_find.data.toList.drop 68 = dktJ15_find_3 := dk_seg dksJ15_find_2 22 rfl rfl
theorem dksJ15_find_4 : cJ15_find.data.toList.drop 91 = dktJ15_find_4 := dk_seg dksJ15_find_3 23 rfl rfl
theorem dksJ15_find_5 : cJ15_find.data.toList.drop 115 = dktJ15_find_5 := dk_seg dksJ15_find_4 24 rfl rfl
theorem dksJ15_find_6 : cJ15_find.data.toList.drop 139 = dktJ15_find_6 := dk_seg dksJ15_find_5 24 rfl rfl
theorem dksJ15_find_7 : cJ15_find.data.toList.drop 163 = dktJ15_find_7 := dk_seg dksJ15_find_6 24 rfl rfl
theorem dJ15_find_0 : decode cJ15_find 0 = .ok (.aload_n 0, 1) := dk_42 (dk_at dksJ15_find_0 0 rfl rfl)
theorem dJ15_find_1 : decode cJ15_find 1 = .ok (.astore 4, 2) := dk_58 4 (dk_at dksJ15_find_0 1 rfl rfl)
theorem dJ15_find_3 : decode cJ15_find 3 = .ok (.aload 4, 2) := dk_25 4 (dk_at dksJ15_find_0 3 rfl rfl)
theorem dJ15_find_5 : decode cJ15_find 5 = .ok (.getfield 39, 3) := dk_180 0 39 (dk_at dksJ15_find_0 5 rfl rfl)
theorem dJ15_find_8 : decode cJ15_find 8 = .ok (.astore 8, 2) := dk_58 8 (dk_at dksJ15_find_0 8 rfl rfl)
theorem dJ15_find_10 : decode cJ15_find 10 = .ok (.aload 4, 2) := dk_25 4 (dk_at dksJ15_find_0 10 rfl rfl)
theorem dJ15_find_12 : decode cJ15_find 12 = .ok (.getfield 42, 3) := dk_180 0 42 (dk_at dksJ15_find_0 12 rfl rfl)
theorem dJ15_find_15 : decode cJ15_find 15 = .ok (.astore 9, 2) := dk_58 9 (dk_at dksJ15_find_0 15 rfl rfl)
theorem dJ15_find_17 : decode cJ15_find 17 = .ok (.aload 4, 2) := dk_25 4 (dk_at dksJ15_find_0 17 rfl rfl)
theorem dJ15_find_19 : decode cJ15_find 19 = .ok (.getfield 15, 3) := dk_180 0 15 (dk_at dksJ15_find_0 19 rfl rfl)
theorem dJ15_find_22 : decode cJ15_find 22 = .ok (.dup, 1) := dk_89 (dk_at dksJ15_find_0 22 rfl rfl)
theorem dJ15_find_23 : decode cJ15_find 23 = .ok (.istore 5, 2) := dk_54 5 (dk_at dksJ15_find_1 0 rfl rfl)
theorem dJ15_find_25 : decode cJ15_find 25 = .ok (.iload_n 1, 1) := dk_27 (dk_at dksJ15_find_1 2 rfl rfl)
theorem dJ15_find_26 : decode cJ15_find 26 = .ok (.if_icmp .le 10, 3) := dk_164 0 10 (dk_at dksJ15_find_1 3 rfl rfl)
theorem dJ15_find_29 : decode cJ15_find 29 = .ok (.aload 8, 2) := dk_25 8 (dk_at dksJ15_find_1 6 rfl rfl)
theorem dJ15_find_31 : decode cJ15_find 31 = .ok (.astore 4, 2) := dk_58 4 (dk_at dksJ15_find_1 8 rfl rfl)
theorem dJ15_find_33 : decode cJ15_find 33 = .ok (.goto 132, 3) := dk_167 0 132 (dk_at dksJ15_find_1 10 rfl rfl)
theorem dJ15_find_36 : decode cJ15_find 36 = .ok (.iload 5, 2) := dk_21 5 (dk_at dksJ15_find_1 13 rfl rfl)
theorem dJ15_find_38 : decode cJ15_find 38 = .ok (.iload_n 1, 1) := dk_27 (dk_at dksJ15_find_1 15 rfl rfl)
theorem dJ15_find_39 : decode cJ15_find 39 = .ok (.if_icmp .ge 10, 3) := dk_162 0 10 (dk_at dksJ15_find_1 16 rfl rfl)
theorem dJ15_find_42 : decode cJ15_find 42 = .ok (.aload 9, 2) := dk_25 9 (dk_at dksJ15_find_1 19 rfl rfl)
theorem dJ15_find_44 : decode cJ15_find 44 = .ok (.astore 4, 2) := dk_58 4 (dk_at dksJ15_find_1 21 rfl rfl)
theorem dJ15_find_46 : decode cJ15_find 46 = .ok (.goto 119, 3) := dk_167 0 119 (dk_at dksJ15_find_2 0 rfl rfl)
theorem dJ15_find_49 : decode cJ15_find 49 = .ok (.aload 4, 2) := dk_25 4 (dk_at dksJ15_find_2 3 rfl rfl)
theorem dJ15_find_51 : decode cJ15_find 51 = .ok (.getfield 45, 3) := dk_180 0 45 (dk_at dksJ15_find_2 5 rfl rfl)
theorem dJ15_find_54 : decode cJ15_find 54 = .ok (.dup, 1) := dk_89 (dk_at dksJ15_find_2 8 rfl rfl)
theorem dJ15_find_55 : decode cJ15_find 55 = .ok (.astore 7, 2) := dk_58 7 (dk_at dksJ15_find_2 9 rfl rfl)
theorem dJ15_find_57 : decode cJ15_find 57 = .ok (.aload_n 2, 1) := dk_44 (dk_at dksJ15_find_2 11 rfl rfl)
theorem dJ15_find_58 : decode cJ15_find 58 = .ok (.if_acmp .eq 16, 3) := dk_165 0 16 (dk_at dksJ15_find_2 12 rfl rfl)
theorem dJ15_find_61 : decode cJ15_find 61 = .ok (.aload_n 2, 1) := dk_44 (dk_at dksJ15_find_2 15 rfl rfl)
theorem dJ15_find_62 : decode cJ15_find 62 = .ok (.ifnull 15, 3) := dk_198 0 15 (dk_at dksJ15_find_2 16 rfl rfl)
theorem dJ15_find_65 : decode cJ15_find 65 = .ok (.aload_n 2, 1) := dk_44 (dk_at dksJ15_find_2 19 rfl rfl)
theorem dJ15_find_66 : decode cJ15_find 66 = .ok (.aload 7, 2) := dk_25 7 (dk_at dksJ15_find_2 20 rfl rfl)
theorem dJ15_find_68 : decode cJ15_find 68 = .ok (.invokevirtual 49, 3) := dk_182 0 49 (dk_at dksJ15_find_3 0 rfl rfl)
theorem dJ15_find_71 : decode cJ15_find 71 = .ok (.ifCond .eq 6, 3) := dk_153 0 6 (dk_at dksJ15_find_3 3 rfl rfl)
theorem dJ15_find_74 : decode cJ15_find 74 = .ok (.aload 4, 2) := dk_25 4 (dk_at dksJ15_find_3 6 rfl rfl)
theorem dJ15_find_76 : decode cJ15_find 76 = .ok (.areturn, 1) := dk_176 (dk_at dksJ15_find_3 8 rfl rfl)
theorem dJ15_find_77 : decode cJ15_find 77 = .ok (.aload 8, 2) := dk_25 8 (dk_at dksJ15_find_3 9 rfl rfl)
theorem dJ15_find_79 : decode cJ15_find 79 = .ok (.ifnonnull 10, 3) := dk_199 0 10 (dk_at dksJ15_find_3 11 rfl rfl)
theorem dJ15_find_82 : decode cJ15_find 82 = .ok (.aload 9, 2) := dk_25 9 (dk_at dksJ15_find_3 14 rfl rfl)
theorem dJ15_find_84 : decode cJ15_find 84 = .ok (.astore 4, 2) := dk_58 4 (dk_at dksJ15_find_3 16 rfl rfl)
theorem dJ15_find_86 : decode cJ15_find 86 = .ok (.goto 79, 3) := dk_167 0 79 (dk_at dksJ15_find_3 18 rfl rfl)
theorem dJ15_find_89 : decode cJ15_find 89 = .ok (.aload 9, 2) := dk_25 9 (dk_at dksJ15_find_3 21 rfl rfl)
theorem dJ15_find_91 : decode cJ15_find 91 = .ok (.ifnonnull 10, 3) := dk_199 0 10 (dk_at dksJ15_find_4 0 rfl rfl)
theorem dJ15_find_94 : decode cJ15_find 94 = .ok (.aload 8, 2) := dk_25 8 (dk_at dksJ15_find_4 3 rfl rfl)
theorem dJ15_find_96 : decode cJ15_find 96 = .ok (.astore 4, 2) := dk_58 4 (dk_at dksJ15_find_4 5 rfl rfl)
theorem dJ15_find_98 : decode cJ15_find 98 = .ok (.goto 67, 3) := dk_167 0 67 (dk_at dksJ15_find_4 7 rfl rfl)
theorem dJ15_find_101 : decode cJ15_find 101 = .ok (.aload_n 3, 1) := dk_45 (dk_at dksJ15_find_4 10 rfl rfl)
theorem dJ15_find_102 : decode cJ15_find 102 = .ok (.ifnonnull 12, 3) := dk_199 0 12 (dk_at dksJ15_find_4 11 rfl rfl)
theorem dJ15_find_105 : decode cJ15_find 105 = .ok (.aload_n 2, 1) := dk_44 (dk_at dksJ15_find_4 14 rfl rfl)
theorem dJ15_find_106 : decode cJ15_find 106 = .ok (.invokestatic 55, 3) := dk_184 0 55 (dk_at dksJ15_find_4 15 rfl rfl)
theorem dJ15_find_109 : decode cJ15_find 109 = .ok (.dup, 1) := dk_89 (dk_at dksJ15_find_4 18 rfl rfl)
theorem dJ15_find_110 : decode cJ15_find 110 = .ok (.astore_n 3, 1) := dk_78 (dk_at dksJ15_find_4 19 rfl rfl)
theorem dJ15_find_111 : decode cJ15_find 111 = .ok (.ifnull 33, 3) := dk_198 0 33 (dk_at dksJ15_find_4 20 rfl rfl)
theorem dJ15_find_114 : decode cJ15_find 114 = .ok (.aload_n 3, 1) := dk_45 (dk_at dksJ15_find_4 23 rfl rfl)
theorem dJ15_find_115 : decode cJ15_find 115 = .ok (.aload_n 2, 1) := dk_44 (dk_at dksJ15_find_5 0 rfl rfl)
theorem dJ15_find_116 : decode cJ15_find 116 = .ok (.aload 7, 2) := dk_25 7 (dk_at dksJ15_find_5 1 rfl rfl)
theorem dJ15_find_118 : decode cJ15_find 118 = .ok (.invokestatic 59, 3) := dk_184 0 59 (dk_at dksJ15_find_5 3 rfl rfl)
theorem dJ15_find_121 : decode cJ15_find 121 = .ok (.dup, 1) := dk_89 (dk_at dksJ15_find_5 6 rfl rfl)
theorem dJ15_find_122 : decode cJ15_find 122 = .ok (.istore 6, 2) := dk_54 6 (dk_at dksJ15_find_5 7 rfl rfl)
theorem dJ15_find_124 : decode cJ15_find 124 = .ok (.ifCond .eq 20, 3) := dk_153 0 20 (dk_at dksJ15_find_5 9 rfl rfl)
theorem dJ15_find_127 : decode cJ15_find 127 = .ok (.iload 6, 2) := dk_21 6 (dk_at dksJ15_find_5 12 rfl rfl)
theorem dJ15_find_129 : decode cJ15_find 129 = .ok (.ifCond .ge 8, 3) := dk_156 0 8 (dk_at dksJ15_find_5 14 rfl rfl)
theorem dJ15_find_132 : decode cJ15_find 132 = .ok (.aload 8, 2) := dk_25 8 (dk_at dksJ15_find_5 17 rfl rfl)
theorem dJ15_find_134 : decode cJ15_find 134 = .ok (.goto 5, 3) := dk_167 0 5 (dk_at dksJ15_find_5 19 rfl rfl)
theorem dJ15_find_137 : decode cJ15_find 137 = .ok (.aload 9, 2) := dk_25 9 (dk_at dksJ15_find_5 22 rfl rfl)
theorem dJ15_find_139 : decode cJ15_find 139 = .ok (.astore 4, 2) := dk_58 4 (dk_at dksJ15_find_6 0 rfl rfl)
theorem dJ15_find_141 : decode cJ15_find 141 = .ok (.goto 24, 3) := dk_167 0 24 (dk_at dksJ15_find_6 2 rfl rfl)
theorem dJ15_find_144 : decode cJ15_find 144 = .ok (.aload 9, 2) := dk_25 9 (dk_at dksJ15_find_6 5 rfl rfl)
theorem dJ15_find_146 : decode cJ15_find 146 = .ok (.iload_n 1, 1) := dk_27 (dk_at dksJ15_find_6 7 rfl rfl)
theorem dJ15_find_147 : decode cJ15_find 147 = .ok (.aload_n 2, 1) := dk_44 (dk_at dksJ15_find_6 8 rfl rfl)
theorem dJ15_find_148 : decode cJ15_find 148 = .ok (.aload_n 3, 1) := dk_45 (dk_at dksJ15_find_6 9 rfl rfl)
theorem dJ15_find_149 : decode cJ15_find 149 = .ok (.invokevirtual 63, 3) := dk_182 0 63 (dk_at dksJ15_find_6 10 rfl rfl)
theorem dJ15_find_152 : decode cJ15_find 152 = .ok (.dup, 1) := dk_89 (dk_at dksJ15_find_6 13 rfl rfl)
theorem dJ15_find_153 : decode cJ15_find 153 = .ok (.astore 10, 2) := dk_58 10 (dk_at dksJ15_find_6 14 rfl rfl)
theorem dJ15_find_155 : decode cJ15_find 155 = .ok (.ifnull 6, 3) := dk_198 0 6 (dk_at dksJ15_find_6 16 rfl rfl)
theorem dJ15_find_158 : decode cJ15_find 158 = .ok (.aload 10, 2) := dk_25 10 (dk_at dksJ15_find_6 19 rfl rfl)
theorem dJ15_find_160 : decode cJ15_find 160 = .ok (.areturn, 1) := dk_176 (dk_at dksJ15_find_6 21 rfl rfl)
theorem dJ15_find_161 : decode cJ15_find 161 = .ok (.aload 8, 2) := dk_25 8 (dk_at dksJ15_find_6 22 rfl rfl)
theorem dJ15_find_163 : decode cJ15_find 163 = .ok (.astore 4, 2) := dk_58 4 (dk_at dksJ15_find_7 0 rfl rfl)
theorem dJ15_find_165 : decode cJ15_find 165 = .ok (.aload 4, 2) := dk_25 4 (dk_at dksJ15_find_7 2 rfl rfl)
theorem dJ15_find_167 : decode cJ15_find 167 = .ok (.ifnonnull (-164), 3) := dk_199 255 92 (dk_at dksJ15_find_7 4 rfl rfl)
theorem dJ15_find_170 : decode cJ15_find 170 = .ok (.aconst_null, 1) := dk_1 (dk_at dksJ15_find_7 7 rfl rfl)
theorem dJ15_find_171 : decode cJ15_find 171 = .ok (.areturn, 1) := dk_176 (dk_at dksJ15_find_7 8 rfl rfl)
abbrev cJ15_split : ByteArray := prog_40_method_11_code
def yJ15_split : MethodName := ⟨RJ15, "split", "(Ljava/util/HashMap;[Ljava/util/HashMap$Node;II)V"⟩
def dkwJ15_split_9 : List UInt8 := [198, 0, 9, 25, 8, 44, 182, 0, 126, 177]
abbrev dktJ15_split_9 : List UInt8 := dkwJ15_split_9 ++ []
def dkwJ15_split_8 : List UInt8 := [21, 4, 96, 25, 8, 43, 182, 0, 119, 83, 167, 0, 22, 44, 29, 21, 4, 96, 25, 8, 83, 25, 6]
abbrev dktJ15_split_8 : List UInt8 := dkwJ15_split_8 ++ dktJ15_split_9
def dkwJ15_split_7 : List UInt8 := [198, 0, 9, 25, 6, 44, 182, 0, 126, 25, 8, 198, 0, 44, 21, 11, 16, 6, 163, 0, 18, 44, 29]
abbrev dktJ15_split_7 : List UInt8 := dkwJ15_split_7 ++ dktJ15_split_8
def dkwJ15_split_6 : List UInt8 := [163, 0, 15, 44, 29, 25, 6, 43, 182, 0, 119, 83, 167, 0, 19, 44, 29, 25, 6, 83, 25, 8]
abbrev dktJ15_split_6 : List UInt8 := dkwJ15_split_6 ++ dktJ15_split_7
def dkwJ15_split_5 : List UInt8 := [25, 12, 58, 9, 132, 11, 1, 25, 13, 58, 12, 167, 255, 153, 25, 6, 198, 0, 38, 21, 10, 16, 6]
abbrev dktJ15_split_5 : List UInt8 := dkwJ15_split_5 ++ dktJ15_split_6
def dkwJ15_split_4 : List UInt8 := [25, 9, 90, 181, 0, 19, 199, 0, 10, 25, 12, 58, 8, 167, 0, 10, 25, 9, 25, 12, 181, 0, 22]
abbrev dktJ15_split_4 : List UInt8 := dkwJ15_split_4 ++ dktJ15_split_5
def dkwJ15_split_3 : List UInt8 := [58, 6, 167, 0, 10, 25, 7, 25, 12, 181, 0, 22, 25, 12, 58, 7, 132, 10, 1, 167, 0, 35, 25, 12]
abbrev dktJ15_split_3 : List UInt8 := dkwJ15_split_3 ++ dktJ15_split_4
def dkwJ15_split_2 : List UInt8 := [25, 12, 180, 0, 15, 21, 4, 126, 154, 0, 38, 25, 12, 25, 7, 90, 181, 0, 19, 199, 0, 10, 25, 12]
abbrev dktJ15_split_2 : List UInt8 := dkwJ15_split_2 ++ dktJ15_split_3
def dkwJ15_split_1 : List UInt8 := [58, 12, 25, 12, 198, 0, 104, 25, 12, 180, 0, 22, 192, 0, 10, 58, 13, 25, 12, 1, 181, 0, 22]
abbrev dktJ15_split_1 : List UInt8 := dkwJ15_split_1 ++ dktJ15_split_2
def dkwJ15_split_0 : List UInt8 := [42, 58, 5, 1, 58, 6, 1, 58, 7, 1, 58, 8, 1, 58, 9, 3, 54, 10, 3, 54, 11, 25, 5]
abbrev dktJ15_split_0 : List UInt8 := dkwJ15_split_0 ++ dktJ15_split_1
theorem dksJ15_split_0 : cJ15_split.data.toList.drop 0 = dktJ15_split_0 := by decide +kernel
theorem dksJ15_split_1 : cJ15_split.data.toList.drop 23 = dktJ15_split_1 := dk_seg dksJ15_split_0 23 rfl rfl
theorem dksJ15_split_2 : cJ15_split.data.toList.drop 46 = dktJ15_split_2 := dk_seg dksJ15_split_1 23 rfl rfl
theorem dksJ15_split_3 : cJ15_split.data.toList.drop 70 = dktJ15_split_3 := dk_seg dksJ15_split_2 24 rfl rfl
theorem dksJ15_split_4 : cJ15_split.data.toList.drop 94 = dktJ15_split_4 := dk_seg dksJ15_split_3 24 rfl rfl
theorem dksJ15_split_5 : cJ15_split.data.toList.drop 117 = dktJ15_split_5 := dk_seg dksJ15_split_4 23 rfl rfl
theorem dksJ15_split_6 : cJ15_split.data.toList.drop 140 = dktJ15_split_6 := dk_seg dksJ15_split_5 23 rfl rfl
theorem dksJ15_split_7 : cJ15_split.data.toList.drop 162 = dktJ15_split_7 := dk_seg dksJ15_split_6 22 rfl rfl
theorem dksJ15_split_8 : cJ15_split.data.toList.drop 185 = dktJ15_split_8 := dk_seg dksJ15_split_7 23 rfl rfl
theorem dksJ15_split_9 : cJ15_split.data.toList.drop 208 = dktJ15_split_9 := dk_seg dksJ15_split_8 23 rfl rfl
theorem dJ15_split_0 : decode cJ15_split 0 = .ok (.aload_n 0, 1) := dk_42 (dk_at dksJ15_split_0 0 rfl rfl)
theorem dJ15_split_1 : decode cJ15_split 1 = .ok (.astore 5, 2) := dk_58 5 (dk_at dksJ15_split_0 1 rfl rfl)
theorem dJ15_split_3 : decode cJ15_split 3 = .ok (.aconst_null, 1) := dk_1 (dk_at dksJ15_split_0 3 rfl rfl)
theorem dJ15_split_4 : decode cJ15_split 4 = .ok (.astore 6, 2) := dk_58 6 (dk_at dksJ15_split_0 4 rfl rfl)
theorem dJ15_split_6 : decode cJ15_split 6 = .ok (.aconst_null, 1) := dk_1 (dk_at dksJ15_split_0 6 rfl rfl)
theorem dJ15_split_7 : decode cJ15_split 7 = .ok (.astore 7, 2) := dk_58 7 (dk_at dksJ15_split_0 7 rfl rfl)
theorem dJ15_split_9 : decode cJ15_split 9 = .ok (.aconst_null, 1) := dk_1 (dk_at dksJ15_split_0 9 rfl rfl)
theorem dJ15_split_10 : decode cJ15_split 10 = .ok (.astore 8, 2) := dk_58 8 (dk_at dksJ15_split_0 10 rfl rfl)
theorem dJ15_split_12 : decode cJ15_split 12 = .ok (.aconst_null, 1) := dk_1 (dk_at dksJ15_split_0 12 rfl rfl)
theorem dJ15_split_13 : decode cJ15_split 13 = .ok (.astore 9, 2) := dk_58 9 (dk_at dksJ15_split_0 13 rfl rfl)
theorem dJ15_split_15 : decode cJ15_split 15 = .ok (.iconst 0, 1) := dk_3 (dk_at dksJ15_split_0 15 rfl rfl)
theorem dJ15_split_16 : decode cJ15_split 16 = .ok (.istore 10, 2) := dk_54 10 (dk_at dksJ15_split_0 16 rfl rfl)
theorem dJ15_split_18 : decode cJ15_split 18 = .ok (.iconst 0, 1) := dk_3 (dk_at dksJ15_split_0 18 rfl rfl)
theorem dJ15_split_19 : decode cJ15_split 19 = .ok (.istore 11, 2) := dk_54 11 (dk_at dksJ15_split_0 19 rfl rfl)
theorem dJ15_split_21 : decode cJ15_split 21 = .ok (.aload 5, 2) := dk_25 5 (dk_at dksJ15_split_0 21 rfl rfl)
theorem dJ15_split_23 : decode cJ15_split 23 = .ok (.astore 12, 2) := dk_58 12 (dk_at dksJ15_split_1 0 rfl rfl)
theorem dJ15_split_25 : decode cJ15_split 25 = .ok (.aload 12, 2) := dk_25 12 (dk_at dksJ15_split_1 2 rfl rfl)
theorem dJ15_split_27 : decode cJ15_split 27 = .ok (.ifnull 104, 3) := dk_198 0 104 (dk_at dksJ15_split_1 4 rfl rfl)
theorem dJ15_split_30 : decode cJ15_split 30 = .ok (.aload 12, 2) := dk_25 12 (dk_at dksJ15_split_1 7 rfl rfl)
theorem dJ15_split_32 : decode cJ15_split 32 = .ok (.getfield 22, 3) := dk_180 0 22 (dk_at dksJ15_split_1 9 rfl rfl)
theorem dJ15_split_35 : decode cJ15_split 35 = .ok (.checkcast 10, 3) := dk_192 0 10 (dk_at dksJ15_split_1 12 rfl rfl)
theorem dJ15_split_38 : decode cJ15_split 38 = .ok (.astore 13, 2) := dk_58 13 (dk_at dksJ15_split_1 15 rfl rfl)
theorem dJ15_split_40 : decode cJ15_split 40 = .ok (.aload 12, 2) := dk_25 12 (dk_at dksJ15_split_1 17 rfl rfl)
theorem dJ15_split_42 : decode cJ15_split 42 = .ok (.aconst_null, 1) := dk_1 (dk_at dksJ15_split_1 19 rfl rfl)
theorem dJ15_split_43 : decode cJ15_split 43 = .ok (.putfield 22, 3) := dk_181 0 22 (dk_at dksJ15_split_1 20 rfl rfl)
theorem dJ15_split_46 : decode cJ15_split 46 = .ok (.aload 12, 2) := dk_25 12 (dk_at dksJ15_split_2 0 rfl rfl)
theorem dJ15_split_48 : decode cJ15_split 48 = .ok (.getfield 15, 3) := dk_180 0 15 (dk_at dksJ15_split_2 2 rfl rfl)
theorem dJ15_split_51 : decode cJ15_split 51 = .ok (.iload 4, 2) := dk_21 4 (dk_at dksJ15_split_2 5 rfl rfl)
theorem dJ15_split_53 : decode cJ15_split 53 = .ok (.iand, 1) := dk_126 (dk_at dksJ15_split_2 7 rfl rfl)
theorem dJ15_split_54 : decode cJ15_split 54 = .ok (.ifCond .ne 38, 3) := dk_154 0 38 (dk_at dksJ15_split_2 8 rfl rfl)
theorem dJ15_split_57 : decode cJ15_split 57 = .ok (.aload 12, 2) := dk_25 12 (dk_at dksJ15_split_2 11 rfl rfl)
theorem dJ15_split_59 : decode cJ15_split 59 = .ok (.aload 7, 2) := dk_25 7 (dk_at dksJ15_split_2 13 rfl rfl)
theorem dJ15_split_61 : decode cJ15_split 61 = .ok (.dup_x1, 1) := dk_90 (dk_at dksJ15_split_2 15 rfl rfl)
theorem dJ15_split_62 : decode cJ15_split 62 = .ok (.putfield 19, 3) := dk_181 0 19 (dk_at dksJ15_split_2 16 rfl rfl)
theorem dJ15_split_65 : decode cJ15_split 65 = .ok (.ifnonnull 10, 3) := dk_199 0 10 (dk_at dksJ15_split_2 19 rfl rfl)
theorem dJ15_split_68 : decode cJ15_split 68 = .ok (.aload 12, 2) := dk_25 12 (dk_at dksJ15_split_2 22 rfl rfl)
theorem dJ15_split_70 : decode cJ15_split 70 = .ok (.astore 6, 2) := dk_58 6 (dk_at dksJ15_split_3 0 rfl rfl)
theorem dJ15_split_72 : decode cJ15_split 72 = .ok (.goto 10, 3) := dk_167 0 10 (dk_at dksJ15_split_3 2 rfl rfl)
theorem dJ15_split_75 : decode cJ15_split 75 = .ok (.aload 7, 2) := dk_25 7 (dk_at dksJ15_split_3 5 rfl rfl)
theorem dJ15_split_77 : decode cJ15_split 77 = .ok (.aload 12, 2) := dk_25 12 (dk_at dksJ15_split_3 7 rfl rfl)
theorem dJ15_split_79 : decode cJ15_split 79 = .ok (.putfield 22, 3) := dk_181 0 22 (dk_at dksJ15_split_3 9 rfl rfl)
theorem dJ15_split_82 : decode cJ15_split 82 = .ok (.aload 12, 2) := dk_25 12 (dk_at dksJ15_split_3 12 rfl rfl)
theorem dJ15_split_84 : decode cJ15_split 84 = .ok (.astore 7, 2) := dk_58 7 (dk_at dksJ15_split_3 14 rfl rfl)
theorem dJ15_split_86 : decode cJ15_split 86 = .ok (.iinc 10 1, 3) := dk_132 10 1 (dk_at dksJ15_split_3 16 rfl rfl)
theorem dJ15_split_89 : decode cJ15_split 89 = .ok (.goto 35, 3) := dk_167 0 35 (dk_at dksJ15_split_3 19 rfl rfl)
theorem dJ15_split_92 : decode cJ15_split 92 = .ok (.aload 12, 2) := dk_25 12 (dk_at dksJ15_split_3 22 rfl rfl)
theorem dJ15_split_94 : decode cJ15_split 94 = .ok (.aload 9, 2) := dk_25 9 (dk_at dksJ15_split_4 0 rfl rfl)
theorem dJ15_split_96 : decode cJ15_split 96 = .ok (.dup_x1, 1) := dk_90 (dk_at dksJ15_split_4 2 rfl rfl)
theorem dJ15_split_97 : decode cJ15_split 97 = .ok (.putfield 19, 3) := dk_181 0 19 (dk_at dksJ15_split_4 3 rfl rfl)
theorem dJ15_split_100 : decode cJ15_split 100 = .ok (.ifnonnull 10, 3) := dk_199 0 10 (dk_at dksJ15_split_4 6 rfl rfl)
theorem dJ15_split_103 : decode cJ15_split 103 = .ok (.aload 12, 2) := dk_25 12 (dk_at dksJ15_split_4 9 rfl rfl)
theorem dJ15_split_105 : decode cJ15_split 105 = .ok (.astore 8, 2) := dk_58 8 (dk_at dksJ15_split_4 11 rfl rfl)
theorem dJ15_split_107 : decode cJ15_split 107 = .ok (.goto 10, 3) := dk_167 0 10 (dk_at dksJ15_split_4 13 rfl rfl)
theorem dJ15_split_110 : decode cJ15_split 110 = .ok (.aload 9, 2) := dk_25 9 (dk_at dksJ15_split_4 16 rfl rfl)
theorem dJ15_split_112 : decode cJ15_split 112 = .ok (.aload 12, 2) := dk_25 12 (dk_at dksJ15_split_4 18 rfl rfl)
theorem dJ15_split_114 : decode cJ15_split 114 = .ok (.putfield 22, 3) := dk_181 0 22 (dk_at dksJ15_split_4 20 rfl rfl)
theorem dJ15_split_117 : decode cJ15_split 117 = .ok (.aload 12, 2) := dk_25 12 (dk_at dksJ15_split_5 0 rfl rfl)
theorem dJ15_split_119 : decode cJ15_split 119 = .ok (.astore 9, 2) := dk_58 9 (dk_at dksJ15_split_5 2 rfl rfl)
theorem dJ15_split_121 : decode cJ15_split 121 = .ok (.iinc 11 1, 3) := dk_132 11 1 (dk_at dksJ15_split_5 4 rfl rfl)
theorem dJ15_split_124 : decode cJ15_split 124 = .ok (.aload 13, 2) := dk_25 13 (dk_at dksJ15_split_5 7 rfl rfl)
theorem dJ15_split_126 : decode cJ15_split 126 = .ok (.astore 12, 2) := dk_58 12 (dk_at dksJ15_split_5 9 rfl rfl)
theorem dJ15_split_128 : decode cJ15_split 128 = .ok (.goto (-103), 3) := dk_167 255 153 (dk_at dksJ15_split_5 11 rfl rfl)
theorem dJ15_split_131 : decode cJ15_split 131 = .ok (.aload 6, 2) := dk_25 6 (dk_at dksJ15_split_5 14 rfl rfl)
theorem dJ15_split_133 : decode cJ15_split 133 = .ok (.ifnull 38, 3) := dk_198 0 38 (dk_at dksJ15_split_5 16 rfl rfl)
theorem dJ15_split_136 : decode cJ15_split 136 = .ok (.iload 10, 2) := dk_21 10 (dk_at dksJ15_split_5 19 rfl rfl)
theorem dJ15_split_138 : decode cJ15_split 138 = .ok (.bipush 6, 2) := dk_16 6 (dk_at dksJ15_split_5 21 rfl rfl)
theorem dJ15_split_140 : decode cJ15_split 140 = .ok (.if_icmp .gt 15, 3) := dk_163 0 15 (dk_at dksJ15_split_6 0 rfl rfl)
theorem dJ15_split_143 : decode cJ15_split 143 = .ok (.aload_n 2, 1) := dk_44 (dk_at dksJ15_split_6 3 rfl rfl)
theorem dJ15_split_144 : decode cJ15_split 144 = .ok (.iload_n 3, 1) := dk_29 (dk_at dksJ15_split_6 4 rfl rfl)
theorem dJ15_split_145 : decode cJ15_split 145 = .ok (.aload 6, 2) := dk_25 6 (dk_at dksJ15_split_6 5 rfl rfl)
theorem dJ15_split_147 : decode cJ15_split 147 = .ok (.aload_n 1, 1) := dk_43 (dk_at dksJ15_split_6 7 rfl rfl)
theorem dJ15_split_148 : decode cJ15_split 148 = .ok (.invokevirtual 119, 3) := dk_182 0 119 (dk_at dksJ15_split_6 8 rfl rfl)
theorem dJ15_split_151 : decode cJ15_split 151 = .ok (.aastore, 1) := dk_83 (dk_at dksJ15_split_6 11 rfl rfl)
theorem dJ15_split_152 : decode cJ15_split 152 = .ok (.goto 19, 3) := dk_167 0 19 (dk_at dksJ15_split_6 12 rfl rfl)
theorem dJ15_split_155 : decode cJ15_split 155 = .ok (.aload_n 2, 1) := dk_44 (dk_at dksJ15_split_6 15 rfl rfl)
theorem dJ15_split_156 : decode cJ15_split 156 = .ok (.iload_n 3, 1) := dk_29 (dk_at dksJ15_split_6 16 rfl rfl)
theorem dJ15_split_157 : decode cJ15_split 157 = .ok (.aload 6, 2) := dk_25 6 (dk_at dksJ15_split_6 17 rfl rfl)
theorem dJ15_split_159 : decode cJ15_split 159 = .ok (.aastore, 1) := dk_83 (dk_at dksJ15_split_6 19 rfl rfl)
theorem dJ15_split_160 : decode cJ15_split 160 = .ok (.aload 8, 2) := dk_25 8 (dk_at dksJ15_split_6 20 rfl rfl)
theorem dJ15_split_162 : decode cJ15_split 162 = .ok (.ifnull 9, 3) := dk_198 0 9 (dk_at dksJ15_split_7 0 rfl rfl)
theorem dJ15_split_165 : decode cJ15_split 165 = .ok (.aload 6, 2) := dk_25 6 (dk_at dksJ15_split_7 3 rfl rfl)
theorem dJ15_split_167 : decode cJ15_split 167 = .ok (.aload_n 2, 1) := dk_44 (dk_at dksJ15_split_7 5 rfl rfl)
theorem dJ15_split_168 : decode cJ15_split 168 = .ok (.invokevirtual 126, 3) := dk_182 0 126 (dk_at dksJ15_split_7 6 rfl rfl)
theorem dJ15_split_171 : decode cJ15_split 171 = .ok (.aload 8, 2) := dk_25 8 (dk_at dksJ15_split_7 9 rfl rfl)
theorem dJ15_split_173 : decode cJ15_split 173 = .ok (.ifnull 44, 3) := dk_198 0 44 (dk_at dksJ15_split_7 11 rfl rfl)
theorem dJ15_split_176 : decode cJ15_split 176 = .ok (.iload 11, 2) := dk_21 11 (dk_at dksJ15_split_7 14 rfl rfl)
theorem dJ15_split_178 : decode cJ15_split 178 = .ok (.bipush 6, 2) := dk_16 6 (dk_at dksJ15_split_7 16 rfl rfl)
theorem dJ15_split_180 : decode cJ15_split 180 = .ok (.if_icmp .gt 18, 3) := dk_163 0 18 (dk_at dksJ15_split_7 18 rfl rfl)
theorem dJ15_split_183 : decode cJ15_split 183 = .ok (.aload_n 2, 1) := dk_44 (dk_at dksJ15_split_7 21 rfl rfl)
theorem dJ15_split_184 : decode cJ15_split 184 = .ok (.iload_n 3, 1) := dk_29 (dk_at dksJ15_split_7 22 rfl rfl)
theorem dJ15_split_185 : decode cJ15_split 185 = .ok (.iload 4, 2) := dk_21 4 (dk_at dksJ15_split_8 0 rfl rfl)
theorem dJ15_split_187 : decode cJ15_split 187 = .ok (.iadd, 1) := dk_96 (dk_at dksJ15_split_8 2 rfl rfl)
theorem dJ15_split_188 : decode cJ15_split 188 = .ok (.aload 8, 2) := dk_25 8 (dk_at dksJ15_split_8 3 rfl rfl)
theorem dJ15_split_190 : decode cJ15_split 190 = .ok (.aload_n 1, 1) := dk_43 (dk_at dksJ15_split_8 5 rfl rfl)
theorem dJ15_split_191 : decode cJ15_split 191 = .ok (.invokevirtual 119, 3) := dk_182 0 119 (dk_at dksJ15_split_8 6 rfl rfl)
theorem dJ15_split_194 : decode cJ15_split 194 = .ok (.aastore, 1) := dk_83 (dk_at dksJ15_split_8 9 rfl rfl)
theorem dJ15_split_195 : decode cJ15_split 195 = .ok (.goto 22, 3) := dk_167 0 22 (dk_at dksJ15_split_8 10 rfl rfl)
theorem dJ15_split_198 : decode cJ15_split 198 = .ok (.aload_n 2, 1) := dk_44 (dk_at dksJ15_split_8 13 rfl rfl)
theorem dJ15_split_199 : decode cJ15_split 199 = .ok (.iload_n 3, 1) := dk_29 (dk_at dksJ15_split_8 14 rfl rfl)
theorem dJ15_split_200 : decode cJ15_split 200 = .ok (.iload 4, 2) := dk_21 4 (dk_at dksJ15_split_8 15 rfl rfl)
theorem dJ15_split_202 : decode cJ15_split 202 = .ok (.iadd, 1) := dk_96 (dk_at dksJ15_split_8 17 rfl rfl)
theorem dJ15_split_203 : decode cJ15_split 203 = .ok (.aload 8, 2) := dk_25 8 (dk_at dksJ15_split_8 18 rfl rfl)
theorem dJ15_split_205 : decode cJ15_split 205 = .ok (.aastore, 1) := dk_83 (dk_at dksJ15_split_8 20 rfl rfl)
theorem dJ15_split_206 : decode cJ15_split 206 = .ok (.aload 6, 2) := dk_25 6 (dk_at dksJ15_split_8 21 rfl rfl)
theorem dJ15_split_208 : decode cJ15_split 208 = .ok (.ifnull 9, 3) := dk_198 0 9 (dk_at dksJ15_split_9 0 rfl rfl)
theorem dJ15_split_211 : decode cJ15_split 211 = .ok (.aload 8, 2) := dk_25 8 (dk_at dksJ15_split_9 3 rfl rfl)
theorem dJ15_split_213 : decode cJ15_split 213 = .ok (.aload_n 2, 1) := dk_44 (dk_at dksJ15_split_9 5 rfl rfl)
theorem dJ15_split_214 : decode cJ15_split 214 = .ok (.invokevirtual 126, 3) := dk_182 0 126 (dk_at dksJ15_split_9 6 rfl rfl)
theorem dJ15_split_217 : decode cJ15_split 217 = .ok (.return_, 1) := dk_177 (dk_at dksJ15_split_9 9 rfl rfl)
abbrev cJ15_untreeify : ByteArray := prog_40_method_8_code
def yJ15_untreeify : MethodName := ⟨RJ15, "untreeify", "(Ljava/util/HashMap;)Ljava/util/HashMap$Node;"⟩
def dkwJ15_untreeify_2 : List UInt8 := [58, 4, 167, 255, 216, 44, 176]
abbrev dktJ15_untreeify_2 : List UInt8 := dkwJ15_untreeify_2 ++ []
def dkwJ15_untreeify_1 : List UInt8 := [199, 0, 9, 25, 5, 77, 167, 0, 9, 45, 25, 5, 181, 0, 112, 25, 5, 78, 25, 4, 180, 0, 112]
abbrev dktJ15_untreeify_1 : List UInt8 := dkwJ15_untreeify_1 ++ dktJ15_untreeify_2
def dkwJ15_untreeify_0 : List UInt8 := [1, 77, 1, 78, 42, 58, 4, 25, 4, 198, 0, 41, 43, 25, 4, 1, 182, 0, 108, 58, 5, 45]
abbrev dktJ15_untreeify_0 : List UInt8 := dkwJ15_untreeify_0 ++ dktJ15_untreeify_1
theorem dksJ15_untreeify_0 : cJ15_untreeify.data.toList.drop 0 = dktJ15_untreeify_0 := by decide +kernel
theorem dksJ15_untreeify_1 : cJ15_untreeify.data.toList.drop 22 = dktJ15_untreeify_1 := dk_seg dksJ15_untreeify_0 22 rfl rfl
theorem dksJ15_untreeify_2 : cJ15_untreeify.data.toList.drop 45 = dktJ15_untreeify_2 := dk_seg dksJ15_untreeify_1 23 rfl rfl
theorem dJ15_untreeify_0 : decode cJ15_untreeify 0 = .ok (.aconst_null, 1) := dk_1 (dk_at dksJ15_untreeify_0 0 rfl rfl)
theorem dJ15_untreeify_1 : decode cJ15_untreeify 1 = .ok (.astore_n 2, 1) := dk_77 (dk_at dksJ15_untreeify_0 1 rfl rfl)
theorem dJ15_untreeify_2 : decode cJ15_untreeify 2 = .ok (.aconst_null, 1) := dk_1 (dk_at dksJ15_untreeify_0 2 rfl rfl)
theorem dJ15_untreeify_3 : decode cJ15_untreeify 3 = .ok (.astore_n 3, 1) := dk_78 (dk_at dksJ15_untreeify_0 3 rfl rfl)
theorem dJ15_untreeify_4 : decode cJ15_untreeify 4 = .ok (.aload_n 0, 1) := dk_42 (dk_at dksJ15_untreeify_0 4 rfl rfl)
theorem dJ15_untreeify_5 : decode cJ15_untreeify 5 = .ok (.astore 4, 2) := dk_58 4 (dk_at dksJ15_untreeify_0 5 rfl rfl)
theorem dJ15_untreeify_7 : decode cJ15_untreeify 7 = .ok (.aload 4, 2) := dk_25 4 (dk_at dksJ15_untreeify_0 7 rfl rfl)
theorem dJ15_untreeify_9 : decode cJ15_untreeify 9 = .ok (.ifnull 41, 3) := dk_198 0 41 (dk_at dksJ15_untreeify_0 9 rfl rfl)
theorem dJ15_untreeify_12 : decode cJ15_untreeify 12 = .ok (.aload_n 1, 1) := dk_43 (dk_at dksJ15_untreeify_0 12 rfl rfl)
theorem dJ15_untreeify_13 : decode cJ15_untreeify 13 = .ok (.aload 4, 2) := dk_25 4 (dk_at dksJ15_untreeify_0 13 rfl rfl)
theorem dJ15_untreeify_15 : decode cJ15_untreeify 15 = .ok (.aconst_null, 1) := dk_1 (dk_at dksJ15_untreeify_0 15 rfl rfl)
theorem dJ15_untreeify_16 : decode cJ15_untreeify 16 = .ok (.invokevirtual 108, 3) := dk_182 0 108 (dk_at dksJ15_untreeify_0 16 rfl rfl)
theorem dJ15_untreeify_19 : decode cJ15_untreeify 19 = .ok (.astore 5, 2) := dk_58 5 (dk_at dksJ15_untreeify_0 19 rfl rfl)
theorem dJ15_untreeify_21 : decode cJ15_untreeify 21 = .ok (.aload_n 3, 1) := dk_45 (dk_at dksJ15_untreeify_0 21 rfl rfl)
theorem dJ15_untreeify_22 : decode cJ15_untreeify 22 = .ok (.ifnonnull 9, 3) := dk_199 0 9 (dk_at dksJ15_untreeify_1 0 rfl rfl)
theorem dJ15_untreeify_25 : decode cJ15_untreeify 25 = .ok (.aload 5, 2) := dk_25 5 (dk_at dksJ15_untreeify_1 3 rfl rfl)
theorem dJ15_untreeify_27 : decode cJ15_untreeify 27 = .ok (.astore_n 2, 1) := dk_77 (dk_at dksJ15_untreeify_1 5 rfl rfl)
theorem dJ15_untreeify_28 : decode cJ15_untreeify 28 = .ok (.goto 9, 3) := dk_167 0 9 (dk_at dksJ15_untreeify_1 6 rfl rfl)
theorem dJ15_untreeify_31 : decode cJ15_untreeify 31 = .ok (.aload_n 3, 1) := dk_45 (dk_at dksJ15_untreeify_1 9 rfl rfl)
theorem dJ15_untreeify_32 : decode cJ15_untreeify 32 = .ok (.aload 5, 2) := dk_25 5 (dk_at dksJ15_untreeify_1 10 rfl rfl)
theorem dJ15_untreeify_34 : decode cJ15_untreeify 34 = .ok (.putfield 112, 3) := dk_181 0 112 (dk_at dksJ15_untreeify_1 12 rfl rfl)
theorem dJ15_untreeify_37 : decode cJ15_untreeify 37 = .ok (.aload 5, 2) := dk_25 5 (dk_at dksJ15_untreeify_1 15 rfl rfl)
theorem dJ15_untreeify_39 : decode cJ15_untreeify 39 = .ok (.astore_n 3, 1) := dk_78 (dk_at dksJ15_untreeify_1 17 rfl rfl)
theorem dJ15_untreeify_40 : decode cJ15_untreeify 40 = .ok (.aload 4, 2) := dk_25 4 (dk_at dksJ15_untreeify_1 18 rfl rfl)
theorem dJ15_untreeify_42 : decode cJ15_untreeify 42 = .ok (.getfield 112, 3) := dk_180 0 112 (dk_at dksJ15_untreeify_1 20 rfl rfl)
theorem dJ15_untreeify_45 : decode cJ15_untreeify 45 = .ok (.astore 4, 2) := dk_58 4 (dk_at dksJ15_untreeify_2 0 rfl rfl)
theorem dJ15_untreeify_47 : decode cJ15_untreeify 47 = .ok (.goto (-40), 3) := dk_167 255 216 (dk_at dksJ15_untreeify_2 2 rfl rfl)
theorem dJ15_untreeify_50 : decode cJ15_untreeify 50 = .ok (.aload_n 2, 1) := dk_44 (dk_at dksJ15_untreeify_2 5 rfl rfl)
theorem dJ15_untreeify_51 : decode cJ15_untreeify 51 = .ok (.areturn, 1) := dk_176 (dk_at dksJ15_untreeify_2 6 rfl rfl)
abbrev cJ15_treeify : ByteArray := prog_40_method_7_code
def yJ15_treeify : MethodName := ⟨RJ15, "treeify", "([Ljava/util/HashMap$Node;)V"⟩
def dkwJ15_treeify_9 : List UInt8 := [25, 4, 78, 167, 255, 48, 43, 44, 184, 0, 104, 177]
abbrev dktJ15_treeify_9 : List UInt8 := dkwJ15_treeify_9 ++ []
def dkwJ15_treeify_8 : List UInt8 := [181, 0, 39, 167, 0, 9, 25, 12, 45, 181, 0, 42, 44, 45, 184, 0, 100, 77, 167, 0, 6, 167, 255, 114]
abbrev dktJ15_treeify_8 : List UInt8 := dkwJ15_treeify_8 ++ dktJ15_treeify_9
def dkwJ15_treeify_7 : List UInt8 := [180, 0, 42, 89, 58, 8, 199, 0, 38, 45, 25, 12, 181, 0, 9, 21, 9, 157, 0, 12, 25, 12, 45]
abbrev dktJ15_treeify_7 : List UInt8 := dkwJ15_treeify_7 ++ dktJ15_treeify_8
def dkwJ15_treeify_6 : List UInt8 := [184, 0, 96, 54, 9, 25, 8, 58, 12, 21, 9, 157, 0, 11, 25, 8, 180, 0, 39, 167, 0, 8, 25, 8]
abbrev dktJ15_treeify_6 : List UInt8 := dkwJ15_treeify_6 ++ dktJ15_treeify_7
def dkwJ15_treeify_5 : List UInt8 := [198, 0, 18, 25, 7, 25, 5, 25, 11, 184, 0, 59, 89, 54, 9, 154, 0, 12, 25, 5, 25, 11]
abbrev dktJ15_treeify_5 : List UInt8 := dkwJ15_treeify_5 ++ dktJ15_treeify_6
def dkwJ15_treeify_4 : List UInt8 := [162, 0, 9, 4, 54, 9, 167, 0, 43, 25, 7, 199, 0, 14, 25, 5, 184, 0, 55, 89, 58, 7]
abbrev dktJ15_treeify_4 : List UInt8 := dkwJ15_treeify_4 ++ dktJ15_treeify_5
def dkwJ15_treeify_3 : List UInt8 := [25, 8, 180, 0, 15, 89, 54, 10, 21, 6, 164, 0, 9, 2, 54, 9, 167, 0, 56, 21, 10, 21, 6]
abbrev dktJ15_treeify_3 : List UInt8 := dkwJ15_treeify_3 ++ dktJ15_treeify_4
def dkwJ15_treeify_2 : List UInt8 := [180, 0, 45, 58, 5, 45, 180, 0, 15, 54, 6, 1, 58, 7, 44, 58, 8, 25, 8, 180, 0, 45, 58, 11]
abbrev dktJ15_treeify_2 : List UInt8 := dkwJ15_treeify_2 ++ dktJ15_treeify_3
def dkwJ15_treeify_1 : List UInt8 := [181, 0, 39, 44, 199, 0, 18, 45, 1, 181, 0, 9, 45, 3, 181, 0, 93, 45, 77, 167, 0, 166, 45]
abbrev dktJ15_treeify_1 : List UInt8 := dkwJ15_treeify_1 ++ dktJ15_treeify_2
def dkwJ15_treeify_0 : List UInt8 := [1, 77, 42, 78, 45, 198, 0, 210, 45, 180, 0, 22, 192, 0, 10, 58, 4, 45, 45, 1, 90, 181, 0, 42]
abbrev dktJ15_treeify_0 : List UInt8 := dkwJ15_treeify_0 ++ dktJ15_treeify_1
theorem dksJ15_treeify_0 : cJ15_treeify.data.toList.drop 0 = dktJ15_treeify_0 := by decide +kernel
theorem dksJ15_treeify_1 : cJ15_treeify.data.toList.drop 24 = dktJ15_treeify_1 := dk_seg dksJ15_treeify_0 24 rfl rfl
theorem dksJ15_treeify_2 : cJ15_treeify.data.toList.drop 47 = dktJ15_treeify_2 := dk_seg dksJ15_treeify_1 23 rfl rfl
theorem dksJ15_treeify_3 : cJ15_treeify.data.toList.drop 71 = dktJ15_treeify_3 := dk_seg dksJ15_treeify_2 24 rfl rfl
theorem dksJ15_treeify_4 : cJ15_treeify.data.toList.drop 94 = dktJ15_treeify_4 := dk_seg dksJ15_treeify_3 23 rfl rfl
theorem dksJ15_treeify_5 : cJ15_treeify.data.toList.drop 116 = dktJ15_treeify_5 := dk_seg dksJ15_treeify_4 22 rfl rfl
theorem dksJ15_treeify_6 : cJ15_treeify.data.toList.drop 138 = dktJ15_treeify_6 := dk_seg dksJ15_treeify_5 22 rfl rfl
theorem dksJ15_treeify_7 : cJ15_treeify.data.toList.drop 162 = dktJ15_treeify_7 := dk_seg dksJ15_treeify_6 24 rfl rfl
theorem dksJ15_treeify_8 : cJ15_treeify.data.toList.drop 185 = dktJ15_treeify_8 := dk_seg dksJ15_treeify_7 23 rfl rfl
theorem dksJ15_treeify_9 : cJ15_treeify.data.toList.drop 209 = dktJ15_treeify_9 := dk_seg dksJ15_treeify_8 24 rfl rfl
theorem dJ15_treeify_0 : decode cJ15_treeify 0 = .ok (.aconst_null, 1) := dk_1 (dk_at dksJ15_treeify_0 0 rfl rfl)
theorem dJ15_treeify_1 : decode cJ15_treeify 1 = .ok (.astore_n 2, 1) := dk_77 (dk_at dksJ15_treeify_0 1 rfl rfl)
theorem dJ15_treeify_2 : decode cJ15_treeify 2 = .ok (.aload_n 0, 1) := dk_42 (dk_at dksJ15_treeify_0 2 rfl rfl)
theorem dJ15_treeify_3 : decode cJ15_treeify 3 = .ok (.astore_n 3, 1) := dk_78 (dk_at dksJ15_treeify_0 3 rfl rfl)
theorem dJ15_treeify_4 : decode cJ15_treeify 4 = .ok (.aload_n 3, 1) := dk_45 (dk_at dksJ15_treeify_0 4 rfl rfl)
theorem dJ15_treeify_5 : decode cJ15_treeify 5 = .ok (.ifnull 210, 3) := dk_198 0 210 (dk_at dksJ15_treeify_0 5 rfl rfl)
theorem dJ15_treeify_8 : decode cJ15_treeify 8 = .ok (.aload_n 3, 1) := dk_45 (dk_at dksJ15_treeify_0 8 rfl rfl)
theorem dJ15_treeify_9 : decode cJ15_treeify 9 = .ok (.getfield 22, 3) := dk_180 0 22 (dk_at dksJ15_treeify_0 9 rfl rfl)
theorem dJ15_treeify_12 : decode cJ15_treeify 12 = .ok (.checkcast 10, 3) := dk_192 0 10 (dk_at dksJ15_treeify_0 12 rfl rfl)
theorem dJ15_treeify_15 : decode cJ15_treeify 15 = .ok (.astore 4, 2) := dk_58 4 (dk_at dksJ15_treeify_0 15 rfl rfl)
theorem dJ15_treeify_17 : decode cJ15_treeify 17 = .ok (.aload_n 3, 1) := dk_45 (dk_at dksJ15_treeify_0 17 rfl rfl)
theorem dJ15_treeify_18 : decode cJ15_treeify 18 = .ok (.aload_n 3, 1) := dk_45 (dk_at dksJ15_treeify_0 18 rfl rfl)
theorem dJ15_treeify_19 : decode cJ15_treeify 19 = .ok (.aconst_null, 1) := dk_1 (dk_at dksJ15_treeify_0 19 rfl rfl)
theorem dJ15_treeify_20 : decode cJ15_treeify 20 = .ok (.dup_x1, 1) := dk_90 (dk_at dksJ15_treeify_0 20 rfl rfl)
theorem dJ15_treeify_21 : decode cJ15_treeify 21 = .ok (.putfield 42, 3) := dk_181 0 42 (dk_at dksJ15_treeify_0 21 rfl rfl)
theorem dJ15_treeify_24 : decode cJ15_treeify 24 = .ok (.putfield 39, 3) := dk_181 0 39 (dk_at dksJ15_treeify_1 0 rfl rfl)
theorem dJ15_treeify_27 : decode cJ15_treeify 27 = .ok (.aload_n 2, 1) := dk_44 (dk_at dksJ15_treeify_1 3 rfl rfl)
theorem dJ15_treeify_28 : decode cJ15_treeify 28 = .ok (.ifnonnull 18, 3) := dk_199 0 18 (dk_at dksJ15_treeify_1 4 rfl rfl)
theorem dJ15_treeify_31 : decode cJ15_treeify 31 = .ok (.aload_n 3, 1) := dk_45 (dk_at dksJ15_treeify_1 7 rfl rfl)
theorem dJ15_treeify_32 : decode cJ15_treeify 32 = .ok (.aconst_null, 1) := dk_1 (dk_at dksJ15_treeify_1 8 rfl rfl)
theorem dJ15_treeify_33 : decode cJ15_treeify 33 = .ok (.putfield 9, 3) := dk_181 0 9 (dk_at dksJ15_treeify_1 9 rfl rfl)
theorem dJ15_treeify_36 : decode cJ15_treeify 36 = .ok (.aload_n 3, 1) := dk_45 (dk_at dksJ15_treeify_1 12 rfl rfl)
theorem dJ15_treeify_37 : decode cJ15_treeify 37 = .ok (.iconst 0, 1) := dk_3 (dk_at dksJ15_treeify_1 13 rfl rfl)
theorem dJ15_treeify_38 : decode cJ15_treeify 38 = .ok (.putfield 93, 3) := dk_181 0 93 (dk_at dksJ15_treeify_1 14 rfl rfl)
theorem dJ15_treeify_41 : decode cJ15_treeify 41 = .ok (.aload_n 3, 1) := dk_45 (dk_at dksJ15_treeify_1 17 rfl rfl)
theorem dJ15_treeify_42 : decode cJ15_treeify 42 = .ok (.astore_n 2, 1) := dk_77 (dk_at dksJ15_treeify_1 18 rfl rfl)
theorem dJ15_treeify_43 : decode cJ15_treeify 43 = .ok (.goto 166, 3) := dk_167 0 166 (dk_at dksJ15_treeify_1 19 rfl rfl)
theorem dJ15_treeify_46 : decode cJ15_treeify 46 = .ok (.aload_n 3, 1) := dk_45 (dk_at dksJ15_treeify_1 22 rfl rfl)
theorem dJ15_treeify_47 : decode cJ15_treeify 47 = .ok (.getfield 45, 3) := dk_180 0 45 (dk_at dksJ15_treeify_2 0 rfl rfl)
theorem dJ15_treeify_50 : decode cJ15_treeify 50 = .ok (.astore 5, 2) := dk_58 5 (dk_at dksJ15_treeify_2 3 rfl rfl)
theorem dJ15_treeify_52 : decode cJ15_treeify 52 = .ok (.aload_n 3, 1) := dk_45 (dk_at dksJ15_treeify_2 5 rfl rfl)
theorem dJ15_treeify_53 : decode cJ15_treeify 53 = .ok (.getfield 15, 3) := dk_180 0 15 (dk_at dksJ15_treeify_2 6 rfl rfl)
theorem dJ15_treeify_56 : decode cJ15_treeify 56 = .ok (.istore 6, 2) := dk_54 6 (dk_at dksJ15_treeify_2 9 rfl rfl)
theorem dJ15_treeify_58 : decode cJ15_treeify 58 = .ok (.aconst_null, 1) := dk_1 (dk_at dksJ15_treeify_2 11 rfl rfl)
theorem dJ15_treeify_59 : decode cJ15_treeify 59 = .ok (.astore 7, 2) := dk_58 7 (dk_at dksJ15_treeify_2 12 rfl rfl)
theorem dJ15_treeify_61 : decode cJ15_treeify 61 = .ok (.aload_n 2, 1) := dk_44 (dk_at dksJ15_treeify_2 14 rfl rfl)
theorem dJ15_treeify_62 : decode cJ15_treeify 62 = .ok (.astore 8, 2) := dk_58 8 (dk_at dksJ15_treeify_2 15 rfl rfl)
theorem dJ15_treeify_64 : decode cJ15_treeify 64 = .ok (.aload 8, 2) := dk_25 8 (dk_at dksJ15_treeify_2 17 rfl rfl)
theorem dJ15_treeify_66 : decode cJ15_treeify 66 = .ok (.getfield 45, 3) := dk_180 0 45 (dk_at dksJ15_treeify_2 19 rfl rfl)
theorem dJ15_treeify_69 : decode cJ15_treeify 69 = .ok (.astore 11, 2) := dk_58 11 (dk_at dksJ15_treeify_2 22 rfl rfl)
theorem dJ15_treeify_71 : decode cJ15_treeify 71 = .ok (.aload 8, 2) := dk_25 8 (dk_at dksJ15_treeify_3 0 rfl rfl)
theorem dJ15_treeify_73 : decode cJ15_treeify 73 = .ok (.getfield 15, 3) := dk_180 0 15 (dk_at dksJ15_treeify_3 2 rfl rfl)
theorem dJ15_treeify_76 : decode cJ15_treeify 76 = .ok (.dup, 1) := dk_89 (dk_at dksJ15_treeify_3 5 rfl rfl)
theorem dJ15_treeify_77 : decode cJ15_treeify 77 = .ok (.istore 10, 2) := dk_54 10 (dk_at dksJ15_treeify_3 6 rfl rfl)
theorem dJ15_treeify_79 : decode cJ15_treeify 79 = .ok (.iload 6, 2) := dk_21 6 (dk_at dksJ15_treeify_3 8 rfl rfl)
theorem dJ15_treeify_81 : decode cJ15_treeify 81 = .ok (.if_icmp .le 9, 3) := dk_164 0 9 (dk_at dksJ15_treeify_3 10 rfl rfl)
theorem dJ15_treeify_84 : decode cJ15_treeify 84 = .ok (.iconst (-1), 1) := dk_2 (dk_at dksJ15_treeify_3 13 rfl rfl)
theorem dJ15_treeify_85 : decode cJ15_treeify 85 = .ok (.istore 9, 2) := dk_54 9 (dk_at dksJ15_treeify_3 14 rfl rfl)
theorem dJ15_treeify_87 : decode cJ15_treeify 87 = .ok (.goto 56, 3) := dk_167 0 56 (dk_at dksJ15_treeify_3 16 rfl rfl)
theorem dJ15_treeify_90 : decode cJ15_treeify 90 = .ok (.iload 10, 2) := dk_21 10 (dk_at dksJ15_treeify_3 19 rfl rfl)
theorem dJ15_treeify_92 : decode cJ15_treeify 92 = .ok (.iload 6, 2) := dk_21 6 (dk_at dksJ15_treeify_3 21 rfl rfl)
theorem dJ15_treeify_94 : decode cJ15_treeify 94 = .ok (.if_icmp .ge 9, 3) := dk_162 0 9 (dk_at dksJ15_treeify_4 0 rfl rfl)
theorem dJ15_treeify_97 : decode cJ15_treeify 97 = .ok (.iconst 1, 1) := dk_4 (dk_at dksJ15_treeify_4 3 rfl rfl)
theorem dJ15_treeify_98 : decode cJ15_treeify 98 = .ok (.istore 9, 2) := dk_54 9 (dk_at dksJ15_treeify_4 4 rfl rfl)
theorem dJ15_treeify_100 : decode cJ15_treeify 100 = .ok (.goto 43, 3) := dk_167 0 43 (dk_at dksJ15_treeify_4 6 rfl rfl)
theorem dJ15_treeify_103 : decode cJ15_treeify 103 = .ok (.aload 7, 2) := dk_25 7 (dk_at dksJ15_treeify_4 9 rfl rfl)
theorem dJ15_treeify_105 : decode cJ15_treeify 105 = .ok (.ifnonnull 14, 3) := dk_199 0 14 (dk_at dksJ15_treeify_4 11 rfl rfl)
theorem dJ15_treeify_108 : decode cJ15_treeify 108 = .ok (.aload 5, 2) := dk_25 5 (dk_at dksJ15_treeify_4 14 rfl rfl)
theorem dJ15_treeify_110 : decode cJ15_treeify 110 = .ok (.invokestatic 55, 3) := dk_184 0 55 (dk_at dksJ15_treeify_4 16 rfl rfl)
theorem dJ15_treeify_113 : decode cJ15_treeify 113 = .ok (.dup, 1) := dk_89 (dk_at dksJ15_treeify_4 19 rfl rfl)
theorem dJ15_treeify_114 : decode cJ15_treeify 114 = .ok (.astore 7, 2) := dk_58 7 (dk_at dksJ15_treeify_4 20 rfl rfl)
theorem dJ15_treeify_116 : decode cJ15_treeify 116 = .ok (.ifnull 18, 3) := dk_198 0 18 (dk_at dksJ15_treeify_5 0 rfl rfl)
theorem dJ15_treeify_119 : decode cJ15_treeify 119 = .ok (.aload 7, 2) := dk_25 7 (dk_at dksJ15_treeify_5 3 rfl rfl)
theorem dJ15_treeify_121 : decode cJ15_treeify 121 = .ok (.aload 5, 2) := dk_25 5 (dk_at dksJ15_treeify_5 5 rfl rfl)
theorem dJ15_treeify_123 : decode cJ15_treeify 123 = .ok (.aload 11, 2) := dk_25 11 (dk_at dksJ15_treeify_5 7 rfl rfl)
theorem dJ15_treeify_125 : decode cJ15_treeify 125 = .ok (.invokestatic 59, 3) := dk_184 0 59 (dk_at dksJ15_treeify_5 9 rfl rfl)
theorem dJ15_treeify_128 : decode cJ15_treeify 128 = .ok (.dup, 1) := dk_89 (dk_at dksJ15_treeify_5 12 rfl rfl)
theorem dJ15_treeify_129 : decode cJ15_treeify 129 = .ok (.istore 9, 2) := dk_54 9 (dk_at dksJ15_treeify_5 13 rfl rfl)
theorem dJ15_treeify_131 : decode cJ15_treeify 131 = .ok (.ifCond .ne 12, 3) := dk_154 0 12 (dk_at dksJ15_treeify_5 15 rfl rfl)
theorem dJ15_treeify_134 : decode cJ15_treeify 134 = .ok (.aload 5, 2) := dk_25 5 (dk_at dksJ15_treeify_5 18 rfl rfl)
theorem dJ15_treeify_136 : decode cJ15_treeify 136 = .ok (.aload 11, 2) := dk_25 11 (dk_at dksJ15_treeify_5 20 rfl rfl)
theorem dJ15_treeify_138 : decode cJ15_treeify 138 = .ok (.invokestatic 96, 3) := dk_184 0 96 (dk_at dksJ15_treeify_6 0 rfl rfl)
theorem dJ15_treeify_141 : decode cJ15_treeify 141 = .ok (.istore 9, 2) := dk_54 9 (dk_at dksJ15_treeify_6 3 rfl rfl)
theorem dJ15_treeify_143 : decode cJ15_treeify 143 = .ok (.aload 8, 2) := dk_25 8 (dk_at dksJ15_treeify_6 5 rfl rfl)
theorem dJ15_treeify_145 : decode cJ15_treeify 145 = .ok (.astore 12, 2) := dk_58 12 (dk_at dksJ15_treeify_6 7 rfl rfl)
theorem dJ15_treeify_147 : decode cJ15_treeify 147 = .ok (.iload 9, 2) := dk_21 9 (dk_at dksJ15_treeify_6 9 rfl rfl)
theorem dJ15_treeify_149 : decode cJ15_treeify 149 = .ok (.ifCond .gt 11, 3) := dk_157 0 11 (dk_at dksJ15_treeify_6 11 rfl rfl)
theorem dJ15_treeify_152 : decode cJ15_treeify 152 = .ok (.aload 8, 2) := dk_25 8 (dk_at dksJ15_treeify_6 14 rfl rfl)
theorem dJ15_treeify_154 : decode cJ15_treeify 154 = .ok (.getfield 39, 3) := dk_180 0 39 (dk_at dksJ15_treeify_6 16 rfl rfl)
theorem dJ15_treeify_157 : decode cJ15_treeify 157 = .ok (.goto 8, 3) := dk_167 0 8 (dk_at dksJ15_treeify_6 19 rfl rfl)
theorem dJ15_treeify_160 : decode cJ15_treeify 160 = .ok (.aload 8, 2) := dk_25 8 (dk_at dksJ15_treeify_6 22 rfl rfl)
theorem dJ15_treeify_162 : decode cJ15_treeify 162 = .ok (.getfield 42, 3) := dk_180 0 42 (dk_at dksJ15_treeify_7 0 rfl rfl)
theorem dJ15_treeify_165 : decode cJ15_treeify 165 = .ok (.dup, 1) := dk_89 (dk_at dksJ15_treeify_7 3 rfl rfl)
theorem dJ15_treeify_166 : decode cJ15_treeify 166 = .ok (.astore 8, 2) := dk_58 8 (dk_at dksJ15_treeify_7 4 rfl rfl)
theorem dJ15_treeify_168 : decode cJ15_treeify 168 = .ok (.ifnonnull 38, 3) := dk_199 0 38 (dk_at dksJ15_treeify_7 6 rfl rfl)
theorem dJ15_treeify_171 : decode cJ15_treeify 171 = .ok (.aload_n 3, 1) := dk_45 (dk_at dksJ15_treeify_7 9 rfl rfl)
theorem dJ15_treeify_172 : decode cJ15_treeify 172 = .ok (.aload 12, 2) := dk_25 12 (dk_at dksJ15_treeify_7 10 rfl rfl)
theorem dJ15_treeify_174 : decode cJ15_treeify 174 = .ok (.putfield 9, 3) := dk_181 0 9 (dk_at dksJ15_treeify_7 12 rfl rfl)
theorem dJ15_treeify_177 : decode cJ15_treeify 177 = .ok (.iload 9, 2) := dk_21 9 (dk_at dksJ15_treeify_7 15 rfl rfl)
theorem dJ15_treeify_179 : decode cJ15_treeify 179 = .ok (.ifCond .gt 12, 3) := dk_157 0 12 (dk_at dksJ15_treeify_7 17 rfl rfl)
theorem dJ15_treeify_182 : decode cJ15_treeify 182 = .ok (.aload 12, 2) := dk_25 12 (dk_at dksJ15_treeify_7 20 rfl rfl)
theorem dJ15_treeify_184 : decode cJ15_treeify 184 = .ok (.aload_n 3, 1) := dk_45 (dk_at dksJ15_treeify_7 22 rfl rfl)
theorem dJ15_treeify_185 : decode cJ15_treeify 185 = .ok (.putfield 39, 3) := dk_181 0 39 (dk_at dksJ15_treeify_8 0 rfl rfl)
theorem dJ15_treeify_188 : decode cJ15_treeify 188 = .ok (.goto 9, 3) := dk_167 0 9 (dk_at dksJ15_treeify_8 3 rfl rfl)
theorem dJ15_treeify_191 : decode cJ15_treeify 191 = .ok (.aload 12, 2) := dk_25 12 (dk_at dksJ15_treeify_8 6 rfl rfl)
theorem dJ15_treeify_193 : decode cJ15_treeify 193 = .ok (.aload_n 3, 1) := dk_45 (dk_at dksJ15_treeify_8 8 rfl rfl)
theorem dJ15_treeify_194 : decode cJ15_treeify 194 = .ok (.putfield 42, 3) := dk_181 0 42 (dk_at dksJ15_treeify_8 9 rfl rfl)
theorem dJ15_treeify_197 : decode cJ15_treeify 197 = .ok (.aload_n 2, 1) := dk_44 (dk_at dksJ15_treeify_8 12 rfl rfl)
theorem dJ15_treeify_198 : decode cJ15_treeify 198 = .ok (.aload_n 3, 1) := dk_45 (dk_at dksJ15_treeify_8 13 rfl rfl)
theorem dJ15_treeify_199 : decode cJ15_treeify 199 = .ok (.invokestatic 100, 3) := dk_184 0 100 (dk_at dksJ15_treeify_8 14 rfl rfl)
theorem dJ15_treeify_202 : decode cJ15_treeify 202 = .ok (.astore_n 2, 1) := dk_77 (dk_at dksJ15_treeify_8 17 rfl rfl)
theorem dJ15_treeify_203 : decode cJ15_treeify 203 = .ok (.goto 6, 3) := dk_167 0 6 (dk_at dksJ15_treeify_8 18 rfl rfl)
theorem dJ15_treeify_206 : decode cJ15_treeify 206 = .ok (.goto (-142), 3) := dk_167 255 114 (dk_at dksJ15_treeify_8 21 rfl rfl)
theorem dJ15_treeify_209 : decode cJ15_treeify 209 = .ok (.aload 4, 2) := dk_25 4 (dk_at dksJ15_treeify_9 0 rfl rfl)
theorem dJ15_treeify_211 : decode cJ15_treeify 211 = .ok (.astore_n 3, 1) := dk_78 (dk_at dksJ15_treeify_9 2 rfl rfl)
theorem dJ15_treeify_212 : decode cJ15_treeify 212 = .ok (.goto (-208), 3) := dk_167 255 48 (dk_at dksJ15_treeify_9 3 rfl rfl)
theorem dJ15_treeify_215 : decode cJ15_treeify 215 = .ok (.aload_n 1, 1) := dk_43 (dk_at dksJ15_treeify_9 6 rfl rfl)
theorem dJ15_treeify_216 : decode cJ15_treeify 216 = .ok (.aload_n 2, 1) := dk_44 (dk_at dksJ15_treeify_9 7 rfl rfl)
theorem dJ15_treeify_217 : decode cJ15_treeify 217 = .ok (.invokestatic 104, 3) := dk_184 0 104 (dk_at dksJ15_treeify_9 8 rfl rfl)
theorem dJ15_treeify_220 : decode cJ15_treeify 220 = .ok (.return_, 1) := dk_177 (dk_at dksJ15_treeify_9 11 rfl rfl)
abbrev cJ15_balanceInsertion : ByteArray := prog_40_method_14_code
def yJ15_balanceInsertion : MethodName := ⟨RJ15, "balanceInsertion", "(Ljava/util/HashMap$TreeNode;Ljava/util/HashMap$TreeNode;)Ljava/util/HashMap$TreeNode;"⟩
def dkwJ15_balanceInsertion_10 : List UInt8 := [198, 255, 33, 45, 4, 181, 0, 93, 42, 45, 184, 0, 130, 75, 167, 255, 19]
abbrev dktJ15_balanceInsertion_10 : List UInt8 := dkwJ15_balanceInsertion_10 ++ []
def dkwJ15_balanceInsertion_9 : List UInt8 := [199, 0, 7, 1, 167, 0, 7, 44, 180, 0, 9, 78, 44, 198, 255, 42, 44, 3, 181, 0, 93, 45]
abbrev dktJ15_balanceInsertion_9 : List UInt8 := dkwJ15_balanceInsertion_9 ++ dktJ15_balanceInsertion_10
def dkwJ15_balanceInsertion_8 : List UInt8 := [43, 44, 180, 0, 39, 166, 0, 29, 42, 44, 89, 76, 184, 0, 133, 75, 43, 180, 0, 9, 89, 77]
abbrev dktJ15_balanceInsertion_8 : List UInt8 := dkwJ15_balanceInsertion_8 ++ dktJ15_balanceInsertion_9
def dkwJ15_balanceInsertion_7 : List UInt8 := [153, 0, 24, 25, 4, 3, 181, 0, 93, 44, 3, 181, 0, 93, 45, 4, 181, 0, 93, 45, 76, 167, 255, 80]
abbrev dktJ15_balanceInsertion_7 : List UInt8 := dkwJ15_balanceInsertion_7 ++ dktJ15_balanceInsertion_8
def dkwJ15_balanceInsertion_6 : List UInt8 := [181, 0, 93, 42, 45, 184, 0, 133, 75, 167, 255, 114, 25, 4, 198, 0, 32, 25, 4, 180, 0, 93]
abbrev dktJ15_balanceInsertion_6 : List UInt8 := dkwJ15_balanceInsertion_6 ++ dktJ15_balanceInsertion_7
def dkwJ15_balanceInsertion_5 : List UInt8 := [167, 0, 7, 44, 180, 0, 9, 78, 44, 198, 255, 137, 44, 3, 181, 0, 93, 45, 198, 255, 128, 45, 4]
abbrev dktJ15_balanceInsertion_5 : List UInt8 := dkwJ15_balanceInsertion_5 ++ dktJ15_balanceInsertion_6
def dkwJ15_balanceInsertion_4 : List UInt8 := [180, 0, 42, 166, 0, 29, 42, 44, 89, 76, 184, 0, 130, 75, 43, 180, 0, 9, 89, 77, 199, 0, 7, 1]
abbrev dktJ15_balanceInsertion_4 : List UInt8 := dkwJ15_balanceInsertion_4 ++ dktJ15_balanceInsertion_5
def dkwJ15_balanceInsertion_3 : List UInt8 := [25, 5, 3, 181, 0, 93, 44, 3, 181, 0, 93, 45, 4, 181, 0, 93, 45, 76, 167, 255, 175, 43, 44]
abbrev dktJ15_balanceInsertion_3 : List UInt8 := dkwJ15_balanceInsertion_3 ++ dktJ15_balanceInsertion_4
def dkwJ15_balanceInsertion_2 : List UInt8 := [58, 4, 166, 0, 103, 45, 180, 0, 42, 89, 58, 5, 198, 0, 32, 25, 5, 180, 0, 93, 153, 0, 24]
abbrev dktJ15_balanceInsertion_2 : List UInt8 := dkwJ15_balanceInsertion_2 ++ dktJ15_balanceInsertion_3
def dkwJ15_balanceInsertion_1 : List UInt8 := [180, 0, 93, 153, 0, 12, 44, 180, 0, 9, 89, 78, 199, 0, 5, 42, 176, 44, 45, 180, 0, 39, 89]
abbrev dktJ15_balanceInsertion_1 : List UInt8 := dkwJ15_balanceInsertion_1 ++ dktJ15_balanceInsertion_2
def dkwJ15_balanceInsertion_0 : List UInt8 := [43, 4, 181, 0, 93, 43, 180, 0, 9, 89, 77, 199, 0, 10, 43, 3, 181, 0, 93, 43, 176, 44]
abbrev dktJ15_balanceInsertion_0 : List UInt8 := dkwJ15_balanceInsertion_0 ++ dktJ15_balanceInsertion_1
theorem dksJ15_balanceInsertion_0 : cJ15_balanceInsertion.data.toList.drop 0 = dktJ15_balanceInsertion_0 := by decide +kernel
theorem dksJ15_balanceInsertion_1 : cJ15_balanceInsertion.data.toList.drop 22 = dktJ15_balanceInsertion_1 := dk_seg dksJ15_balanceInsertion_0 22 rfl rfl
theorem dksJ15_balanceInsertion_2 : cJ15_balanceInsertion.data.toList.drop 45 = dktJ15_balanceInsertion_2 := dk_seg dksJ15_balanceInsertion_1 23 rfl rfl
theorem dksJ15_balanceInsertion_3 : cJ15_balanceInsertion.data.toList.drop 68 = dktJ15_balanceInsertion_3 := dk_seg dksJ15_balanceInsertion_2 23 rfl rfl
theorem dksJ15_balanceInsertion_4 : cJ15_balanceInsertion.data.toList.drop 91 = dktJ15_balanceInsertion_4 := dk_seg dksJ15_balanceInsertion_3 23 rfl rfl
theorem dksJ15_balanceInsertion_5 : cJ15_balanceInsertion.data.toList.drop 115 = dktJ15_balanceInsertion_5 := dk_seg dksJ15_balanceInsertion_4 24 rfl rfl
theorem dksJ15_balanceInsertion_6 : cJ15_balanceInsertion.data.toList.drop 138 = dktJ15_balanceInsertion_6 := dk_seg dksJ15_balanceInsertion_5 23 rfl rfl
theorem dksJ15_balanceInsertion_7 : cJ15_balanceInsertion.data.toList.drop 160 = dktJ15_balanceInsertion_7 := dk_seg dksJ15_balanceInsertion_6 22 rfl rfl
theorem dksJ15_balanceInsertion_8 : cJ15_balanceInsertion.data.toList.drop 184 = dktJ15_balanceInsertion_8 := dk_seg dksJ15_balanceInsertion_7 24 rfl rfl
theorem dksJ15_balanceInsertion_9 : cJ15_balanceInsertion.data.toList.drop 206 = dktJ15_balanceInsertion_9 := dk_seg dksJ15_balanceInsertion_8 22 rfl rfl
theorem dksJ15_balanceInsertion_10 : cJ15_balanceInsertion.data.toList.drop 228 = dktJ15_balanceInsertion_10 := dk_seg dksJ15_balanceInsertion_9 22 rfl rfl
theorem dJ15_balanceInsertion_0 : decode cJ15_balanceInsertion 0 = .ok (.aload_n 1, 1) := dk_43 (dk_at dksJ15_balanceInsertion_0 0 rfl rfl)
theorem dJ15_balanceInsertion_1 : decode cJ15_balanceInsertion 1 = .ok (.iconst 1, 1) := dk_4 (dk_at dksJ15_balanceInsertion_0 1 rfl rfl)
theorem dJ15_balanceInsertion_2 : decode cJ15_balanceInsertion 2 = .ok (.putfield 93, 3) := dk_181 0 93 (dk_at dksJ15_balanceInsertion_0 2 rfl rfl)
theorem dJ15_balanceInsertion_5 : decode cJ15_balanceInsertion 5 = .ok (.aload_n 1, 1) := dk_43 (dk_at dksJ15_balanceInsertion_0 5 rfl rfl)
theorem dJ15_balanceInsertion_6 : decode cJ15_balanceInsertion 6 = .ok (.getfield 9, 3) := dk_180 0 9 (dk_at dksJ15_balanceInsertion_0 6 rfl rfl)
theorem dJ15_balanceInsertion_9 : decode cJ15_balanceInsertion 9 = .ok (.dup, 1) := dk_89 (dk_at dksJ15_balanceInsertion_0 9 rfl rfl)
theorem dJ15_balanceInsertion_10 : decode cJ15_balanceInsertion 10 = .ok (.astore_n 2, 1) := dk_77 (dk_at dksJ15_balanceInsertion_0 10 rfl rfl)
theorem dJ15_balanceInsertion_11 : decode cJ15_balanceInsertion 11 = .ok (.ifnonnull 10, 3) := dk_199 0 10 (dk_at dksJ15_balanceInsertion_0 11 rfl rfl)
theorem dJ15_balanceInsertion_14 : decode cJ15_balanceInsertion 14 = .ok (.aload_n 1, 1) := dk_43 (dk_at dksJ15_balanceInsertion_0 14 rfl rfl)
theorem dJ15_balanceInsertion_15 : decode cJ15_balanceInsertion 15 = .ok (.iconst 0, 1) := dk_3 (dk_at dksJ15_balanceInsertion_0 15 rfl rfl)
theorem dJ15_balanceInsertion_16 : decode cJ15_balanceInsertion 16 = .ok (.putfield 93, 3) := dk_181 0 93 (dk_at dksJ15_balanceInsertion_0 16 rfl rfl)
theorem dJ15_balanceInsertion_19 : decode cJ15_balanceInsertion 19 = .ok (.aload_n 1, 1) := dk_43 (dk_at dksJ15_balanceInsertion_0 19 rfl rfl)
theorem dJ15_balanceInsertion_20 : decode cJ15_balanceInsertion 20 = .ok (.areturn, 1) := dk_176 (dk_at dksJ15_balanceInsertion_0 20 rfl rfl)
theorem dJ15_balanceInsertion_21 : decode cJ15_balanceInsertion 21 = .ok (.aload_n 2, 1) := dk_44 (dk_at dksJ15_balanceInsertion_0 21 rfl rfl)
theorem dJ15_balanceInsertion_22 : decode cJ15_balanceInsertion 22 = .ok (.getfield 93, 3) := dk_180 0 93 (dk_at dksJ15_balanceInsertion_1 0 rfl rfl)
theorem dJ15_balanceInsertion_25 : decode cJ15_balanceInsertion 25 = .ok (.ifCond .eq 12, 3) := dk_153 0 12 (dk_at dksJ15_balanceInsertion_1 3 rfl rfl)
theorem dJ15_balanceInsertion_28 : decode cJ15_balanceInsertion 28 = .ok (.aload_n 2, 1) := dk_44 (dk_at dksJ15_balanceInsertion_1 6 rfl rfl)
theorem dJ15_balanceInsertion_29 : decode cJ15_balanceInsertion 29 = .ok (.getfield 9, 3) := dk_180 0 9 (dk_at dksJ15_balanceInsertion_1 7 rfl rfl)
theorem dJ15_balanceInsertion_32 : decode cJ15_balanceInsertion 32 = .ok (.dup, 1) := dk_89 (dk_at dksJ15_balanceInsertion_1 10 rfl rfl)
theorem dJ15_balanceInsertion_33 : decode cJ15_balanceInsertion 33 = .ok (.astore_n 3, 1) := dk_78 (dk_at dksJ15_balanceInsertion_1 11 rfl rfl)
theorem dJ15_balanceInsertion_34 : decode cJ15_balanceInsertion 34 = .ok (.ifnonnull 5, 3) := dk_199 0 5 (dk_at dksJ15_balanceInsertion_1 12 rfl rfl)
theorem dJ15_balanceInsertion_37 : decode cJ15_balanceInsertion 37 = .ok (.aload_n 0, 1) := dk_42 (dk_at dksJ15_balanceInsertion_1 15 rfl rfl)
theorem dJ15_balanceInsertion_38 : decode cJ15_balanceInsertion 38 = .ok (.areturn, 1) := dk_176 (dk_at dksJ15_balanceInsertion_1 16 rfl rfl)
theorem dJ15_balanceInsertion_39 : decode cJ15_balanceInsertion 39 = .ok (.aload_n 2, 1) := dk_44 (dk_at dksJ15_balanceInsertion_1 17 rfl rfl)
theorem dJ15_balanceInsertion_40 : decode cJ15_balanceInsertion 40 = .ok (.aload_n 3, 1) := dk_45 (dk_at dksJ15_balanceInsertion_1 18 rfl rfl)
theorem dJ15_balanceInsertion_41 : decode cJ15_balanceInsertion 41 = .ok (.getfield 39, 3) := dk_180 0 39 (dk_at dksJ15_balanceInsertion_1 19 rfl rfl)
theorem dJ15_balanceInsertion_44 : decode cJ15_balanceInsertion 44 = .ok (.dup, 1) := dk_89 (dk_at dksJ15_balanceInsertion_1 22 rfl rfl)
theorem dJ15_balanceInsertion_45 : decode cJ15_balanceInsertion 45 = .ok (.astore 4, 2) := dk_58 4 (dk_at dksJ15_balanceInsertion_2 0 rfl rfl)
theorem dJ15_balanceInsertion_47 : decode cJ15_balanceInsertion 47 = .ok (.if_acmp .ne 103, 3) := dk_166 0 103 (dk_at dksJ15_balanceInsertion_2 2 rfl rfl)
theorem dJ15_balanceInsertion_50 : decode cJ15_balanceInsertion 50 = .ok (.aload_n 3, 1) := dk_45 (dk_at dksJ15_balanceInsertion_2 5 rfl rfl)
theorem dJ15_balanceInsertion_51 : decode cJ15_balanceInsertion 51 = .ok (.getfield 42, 3) := dk_180 0 42 (dk_at dksJ15_balanceInsertion_2 6 rfl rfl)
theorem dJ15_balanceInsertion_54 : decode cJ15_balanceInsertion 54 = .ok (.dup, 1) := dk_89 (dk_at dksJ15_balanceInsertion_2 9 rfl rfl)
theorem dJ15_balanceInsertion_55 : decode cJ15_balanceInsertion 55 = .ok (.astore 5, 2) := dk_58 5 (dk_at dksJ15_balanceInsertion_2 10 rfl rfl)
theorem dJ15_balanceInsertion_57 : decode cJ15_balanceInsertion 57 = .ok (.ifnull 32, 3) := dk_198 0 32 (dk_at dksJ15_balanceInsertion_2 12 rfl rfl)
theorem dJ15_balanceInsertion_60 : decode cJ15_balanceInsertion 60 = .ok (.aload 5, 2) := dk_25 5 (dk_at dksJ15_balanceInsertion_2 15 rfl rfl)
theorem dJ15_balanceInsertion_62 : decode cJ15_balanceInsertion 62 = .ok (.getfield 93, 3) := dk_180 0 93 (dk_at dksJ15_balanceInsertion_2 17 rfl rfl)
theorem dJ15_balanceInsertion_65 : decode cJ15_balanceInsertion 65 = .ok (.ifCond .eq 24, 3) := dk_153 0 24 (dk_at dksJ15_balanceInsertion_2 20 rfl rfl)
theorem dJ15_balanceInsertion_68 : decode cJ15_balanceInsertion 68 = .ok (.aload 5, 2) := dk_25 5 (dk_at dksJ15_balanceInsertion_3 0 rfl rfl)
theorem dJ15_balanceInsertion_70 : decode cJ15_balanceInsertion 70 = .ok (.iconst 0, 1) := dk_3 (dk_at dksJ15_balanceInsertion_3 2 rfl rfl)
theorem dJ15_balanceInsertion_71 : decode cJ15_balanceInsertion 71 = .ok (.putfield 93, 3) := dk_181 0 93 (dk_at dksJ15_balanceInsertion_3 3 rfl rfl)
theorem dJ15_balanceInsertion_74 : decode cJ15_balanceInsertion 74 = .ok (.aload_n 2, 1) := dk_44 (dk_at dksJ15_balanceInsertion_3 6 rfl rfl)
theorem dJ15_balanceInsertion_75 : decode cJ15_balanceInsertion 75 = .ok (.iconst 0, 1) := dk_3 (dk_at dksJ15_balanceInsertion_3 7 rfl rfl)
theorem dJ15_balanceInsertion_76 : decode cJ15_balanceInsertion 76 = .ok (.putfield 93, 3) := dk_181 0 93 (dk_at dksJ15_balanceInsertion_3 8 rfl rfl)
theorem dJ15_balanceInsertion_79 : decode cJ15_balanceInsertion 79 = .ok (.aload_n 3, 1) := dk_45 (dk_at dksJ15_balanceInsertion_3 11 rfl rfl)
theorem dJ15_balanceInsertion_80 : decode cJ15_balanceInsertion 80 = .ok (.iconst 1, 1) := dk_4 (dk_at dksJ15_balanceInsertion_3 12 rfl rfl)
theorem dJ15_balanceInsertion_81 : decode cJ15_balanceInsertion 81 = .ok (.putfield 93, 3) := dk_181 0 93 (dk_at dksJ15_balanceInsertion_3 13 rfl rfl)
theorem dJ15_balanceInsertion_84 : decode cJ15_balanceInsertion 84 = .ok (.aload_n 3, 1) := dk_45 (dk_at dksJ15_balanceInsertion_3 16 rfl rfl)
theorem dJ15_balanceInsertion_85 : decode cJ15_balanceInsertion 85 = .ok (.astore_n 1, 1) := dk_76 (dk_at dksJ15_balanceInsertion_3 17 rfl rfl)
theorem dJ15_balanceInsertion_86 : decode cJ15_balanceInsertion 86 = .ok (.goto (-81), 3) := dk_167 255 175 (dk_at dksJ15_balanceInsertion_3 18 rfl rfl)
theorem dJ15_balanceInsertion_89 : decode cJ15_balanceInsertion 89 = .ok (.aload_n 1, 1) := dk_43 (dk_at dksJ15_balanceInsertion_3 21 rfl rfl)
theorem dJ15_balanceInsertion_90 : decode cJ15_balanceInsertion 90 = .ok (.aload_n 2, 1) := dk_44 (dk_at dksJ15_balanceInsertion_3 22 rfl rfl)
theorem dJ15_balanceInsertion_91 : decode cJ15_balanceInsertion 91 = .ok (.getfield 42, 3) := dk_180 0 42 (dk_at dksJ15_balanceInsertion_4 0 rfl rfl)
theorem dJ15_balanceInsertion_94 : decode cJ15_balanceInsertion 94 = .ok (.if_acmp .ne 29, 3) := dk_166 0 29 (dk_at dksJ15_balanceInsertion_4 3 rfl rfl)
theorem dJ15_balanceInsertion_97 : decode cJ15_balanceInsertion 97 = .ok (.aload_n 0, 1) := dk_42 (dk_at dksJ15_balanceInsertion_4 6 rfl rfl)
theorem dJ15_balanceInsertion_98 : decode cJ15_balanceInsertion 98 = .ok (.aload_n 2, 1) := dk_44 (dk_at dksJ15_balanceInsertion_4 7 rfl rfl)
theorem dJ15_balanceInsertion_99 : decode cJ15_balanceInsertion 99 = .ok (.dup, 1) := dk_89 (dk_at dksJ15_balanceInsertion_4 8 rfl rfl)
theorem dJ15_balanceInsertion_100 : decode cJ15_balanceInsertion 100 = .ok (.astore_n 1, 1) := dk_76 (dk_at dksJ15_balanceInsertion_4 9 rfl rfl)
theorem dJ15_balanceInsertion_101 : decode cJ15_balanceInsertion 101 = .ok (.invokestatic 130, 3) := dk_184 0 130 (dk_at dksJ15_balanceInsertion_4 10 rfl rfl)
theorem dJ15_balanceInsertion_104 : decode cJ15_balanceInsertion 104 = .ok (.astore_n 0, 1) := dk_75 (dk_at dksJ15_balanceInsertion_4 13 rfl rfl)
theorem dJ15_balanceInsertion_105 : decode cJ15_balanceInsertion 105 = .ok (.aload_n 1, 1) := dk_43 (dk_at dksJ15_balanceInsertion_4 14 rfl rfl)
theorem dJ15_balanceInsertion_106 : decode cJ15_balanceInsertion 106 = .ok (.getfield 9, 3) := dk_180 0 9 (dk_at dksJ15_balanceInsertion_4 15 rfl rfl)
theorem dJ15_balanceInsertion_109 : decode cJ15_balanceInsertion 109 = .ok (.dup, 1) := dk_89 (dk_at dksJ15_balanceInsertion_4 18 rfl rfl)
theorem dJ15_balanceInsertion_110 : decode cJ15_balanceInsertion 110 = .ok (.astore_n 2, 1) := dk_77 (dk_at dksJ15_balanceInsertion_4 19 rfl rfl)
theorem dJ15_balanceInsertion_111 : decode cJ15_balanceInsertion 111 = .ok (.ifnonnull 7, 3) := dk_199 0 7 (dk_at dksJ15_balanceInsertion_4 20 rfl rfl)
theorem dJ15_balanceInsertion_114 : decode cJ15_balanceInsertion 114 = .ok (.aconst_null, 1) := dk_1 (dk_at dksJ15_balanceInsertion_4 23 rfl rfl)
theorem dJ15_balanceInsertion_115 : decode cJ15_balanceInsertion 115 = .ok (.goto 7, 3) := dk_167 0 7 (dk_at dksJ15_balanceInsertion_5 0 rfl rfl)
theorem dJ15_balanceInsertion_118 : decode cJ15_balanceInsertion 118 = .ok (.aload_n 2, 1) := dk_44 (dk_at dksJ15_balanceInsertion_5 3 rfl rfl)
theorem dJ15_balanceInsertion_119 : decode cJ15_balanceInsertion 119 = .ok (.getfield 9, 3) := dk_180 0 9 (dk_at dksJ15_balanceInsertion_5 4 rfl rfl)
theorem dJ15_balanceInsertion_122 : decode cJ15_balanceInsertion 122 = .ok (.astore_n 3, 1) := dk_78 (dk_at dksJ15_balanceInsertion_5 7 rfl rfl)
theorem dJ15_balanceInsertion_123 : decode cJ15_balanceInsertion 123 = .ok (.aload_n 2, 1) := dk_44 (dk_at dksJ15_balanceInsertion_5 8 rfl rfl)
theorem dJ15_balanceInsertion_124 : decode cJ15_balanceInsertion 124 = .ok (.ifnull (-119), 3) := dk_198 255 137 (dk_at dksJ15_balanceInsertion_5 9 rfl rfl)
theorem dJ15_balanceInsertion_127 : decode cJ15_balanceInsertion 127 = .ok (.aload_n 2, 1) := dk_44 (dk_at dksJ15_balanceInsertion_5 12 rfl rfl)
theorem dJ15_balanceInsertion_128 : decode cJ15_balanceInsertion 128 = .ok (.iconst 0, 1) := dk_3 (dk_at dksJ15_balanceInsertion_5 13 rfl rfl)
theorem dJ15_balanceInsertion_129 : decode cJ15_balanceInsertion 129 = .ok (.putfield 93, 3) := dk_181 0 93 (dk_at dksJ15_balanceInsertion_5 14 rfl rfl)
theorem dJ15_balanceInsertion_132 : decode cJ15_balanceInsertion 132 = .ok (.aload_n 3, 1) := dk_45 (dk_at dksJ15_balanceInsertion_5 17 rfl rfl)
theorem dJ15_balanceInsertion_133 : decode cJ15_balanceInsertion 133 = .ok (.ifnull (-128), 3) := dk_198 255 128 (dk_at dksJ15_balanceInsertion_5 18 rfl rfl)
theorem dJ15_balanceInsertion_136 : decode cJ15_balanceInsertion 136 = .ok (.aload_n 3, 1) := dk_45 (dk_at dksJ15_balanceInsertion_5 21 rfl rfl)
theorem dJ15_balanceInsertion_137 : decode cJ15_balanceInsertion 137 = .ok (.iconst 1, 1) := dk_4 (dk_at dksJ15_balanceInsertion_5 22 rfl rfl)
theorem dJ15_balanceInsertion_138 : decode cJ15_balanceInsertion 138 = .ok (.putfield 93, 3) := dk_181 0 93 (dk_at dksJ15_balanceInsertion_6 0 rfl rfl)
theorem dJ15_balanceInsertion_141 : decode cJ15_balanceInsertion 141 = .ok (.aload_n 0, 1) := dk_42 (dk_at dksJ15_balanceInsertion_6 3 rfl rfl)
theorem dJ15_balanceInsertion_142 : decode cJ15_balanceInsertion 142 = .ok (.aload_n 3, 1) := dk_45 (dk_at dksJ15_balanceInsertion_6 4 rfl rfl)
theorem dJ15_balanceInsertion_143 : decode cJ15_balanceInsertion 143 = .ok (.invokestatic 133, 3) := dk_184 0 133 (dk_at dksJ15_balanceInsertion_6 5 rfl rfl)
theorem dJ15_balanceInsertion_146 : decode cJ15_balanceInsertion 146 = .ok (.astore_n 0, 1) := dk_75 (dk_at dksJ15_balanceInsertion_6 8 rfl rfl)
theorem dJ15_balanceInsertion_147 : decode cJ15_balanceInsertion 147 = .ok (.goto (-142), 3) := dk_167 255 114 (dk_at dksJ15_balanceInsertion_6 9 rfl rfl)
theorem dJ15_balanceInsertion_150 : decode cJ15_balanceInsertion 150 = .ok (.aload 4, 2) := dk_25 4 (dk_at dksJ15_balanceInsertion_6 12 rfl rfl)
theorem dJ15_balanceInsertion_152 : decode cJ15_balanceInsertion 152 = .ok (.ifnull 32, 3) := dk_198 0 32 (dk_at dksJ15_balanceInsertion_6 14 rfl rfl)
theorem dJ15_balanceInsertion_155 : decode cJ15_balanceInsertion 155 = .ok (.aload 4, 2) := dk_25 4 (dk_at dksJ15_balanceInsertion_6 17 rfl rfl)
theorem dJ15_balanceInsertion_157 : decode cJ15_balanceInsertion 157 = .ok (.getfield 93, 3) := dk_180 0 93 (dk_at dksJ15_balanceInsertion_6 19 rfl rfl)
theorem dJ15_balanceInsertion_160 : decode cJ15_balanceInsertion 160 = .ok (.ifCond .eq 24, 3) := dk_153 0 24 (dk_at dksJ15_balanceInsertion_7 0 rfl rfl)
theorem dJ15_balanceInsertion_163 : decode cJ15_balanceInsertion 163 = .ok (.aload 4, 2) := dk_25 4 (dk_at dksJ15_balanceInsertion_7 3 rfl rfl)
theorem dJ15_balanceInsertion_165 : decode cJ15_balanceInsertion 165 = .ok (.iconst 0, 1) := dk_3 (dk_at dksJ15_balanceInsertion_7 5 rfl rfl)
theorem dJ15_balanceInsertion_166 : decode cJ15_balanceInsertion 166 = .ok (.putfield 93, 3) := dk_181 0 93 (dk_at dksJ15_balanceInsertion_7 6 rfl rfl)
theorem dJ15_balanceInsertion_169 : decode cJ15_balanceInsertion 169 = .ok (.aload_n 2, 1) := dk_44 (dk_at dksJ15_balanceInsertion_7 9 rfl rfl)
theorem dJ15_balanceInsertion_170 : decode cJ15_balanceInsertion 170 = .ok (.iconst 0, 1) := dk_3 (dk_at dksJ15_balanceInsertion_7 10 rfl rfl)
theorem dJ15_balanceInsertion_171 : decode cJ15_balanceInsertion 171 = .ok (.putfield 93, 3) := dk_181 0 93 (dk_at dksJ15_balanceInsertion_7 11 rfl rfl)
theorem dJ15_balanceInsertion_174 : decode cJ15_balanceInsertion 174 = .ok (.aload_n 3, 1) := dk_45 (dk_at dksJ15_balanceInsertion_7 14 rfl rfl)
theorem dJ15_balanceInsertion_175 : decode cJ15_balanceInsertion 175 = .ok (.iconst 1, 1) := dk_4 (dk_at dksJ15_balanceInsertion_7 15 rfl rfl)
theorem dJ15_balanceInsertion_176 : decode cJ15_balanceInsertion 176 = .ok (.putfield 93, 3) := dk_181 0 93 (dk_at dksJ15_balanceInsertion_7 16 rfl rfl)
theorem dJ15_balanceInsertion_179 : decode cJ15_balanceInsertion 179 = .ok (.aload_n 3, 1) := dk_45 (dk_at dksJ15_balanceInsertion_7 19 rfl rfl)
theorem dJ15_balanceInsertion_180 : decode cJ15_balanceInsertion 180 = .ok (.astore_n 1, 1) := dk_76 (dk_at dksJ15_balanceInsertion_7 20 rfl rfl)
theorem dJ15_balanceInsertion_181 : decode cJ15_balanceInsertion 181 = .ok (.goto (-176), 3) := dk_167 255 80 (dk_at dksJ15_balanceInsertion_7 21 rfl rfl)
theorem dJ15_balanceInsertion_184 : decode cJ15_balanceInsertion 184 = .ok (.aload_n 1, 1) := dk_43 (dk_at dksJ15_balanceInsertion_8 0 rfl rfl)
theorem dJ15_balanceInsertion_185 : decode cJ15_balanceInsertion 185 = .ok (.aload_n 2, 1) := dk_44 (dk_at dksJ15_balanceInsertion_8 1 rfl rfl)
theorem dJ15_balanceInsertion_186 : decode cJ15_balanceInsertion 186 = .ok (.getfield 39, 3) := dk_180 0 39 (dk_at dksJ15_balanceInsertion_8 2 rfl rfl)
theorem dJ15_balanceInsertion_189 : decode cJ15_balanceInsertion 189 = .ok (.if_acmp .ne 29, 3) := dk_166 0 29 (dk_at dksJ15_balanceInsertion_8 5 rfl rfl)
theorem dJ15_balanceInsertion_192 : decode cJ15_balanceInsertion 192 = .ok (.aload_n 0, 1) := dk_42 (dk_at dksJ15_balanceInsertion_8 8 rfl rfl)
theorem dJ15_balanceInsertion_193 : decode cJ15_balanceInsertion 193 = .ok (.aload_n 2, 1) := dk_44 (dk_at dksJ15_balanceInsertion_8 9 rfl rfl)
theorem dJ15_balanceInsertion_194 : decode cJ15_balanceInsertion 194 = .ok (.dup, 1) := dk_89 (dk_at dksJ15_balanceInsertion_8 10 rfl rfl)
theorem dJ15_balanceInsertion_195 : decode cJ15_balanceInsertion 195 = .ok (.astore_n 1, 1) := dk_76 (dk_at dksJ15_balanceInsertion_8 11 rfl rfl)
theorem dJ15_balanceInsertion_196 : decode cJ15_balanceInsertion 196 = .ok (.invokestatic 133, 3) := dk_184 0 133 (dk_at dksJ15_balanceInsertion_8 12 rfl rfl)
theorem dJ15_balanceInsertion_199 : decode cJ15_balanceInsertion 199 = .ok (.astore_n 0, 1) := dk_75 (dk_at dksJ15_balanceInsertion_8 15 rfl rfl)
theorem dJ15_balanceInsertion_200 : decode cJ15_balanceInsertion 200 = .ok (.aload_n 1, 1) := dk_43 (dk_at dksJ15_balanceInsertion_8 16 rfl rfl)
theorem dJ15_balanceInsertion_201 : decode cJ15_balanceInsertion 201 = .ok (.getfield 9, 3) := dk_180 0 9 (dk_at dksJ15_balanceInsertion_8 17 rfl rfl)
theorem dJ15_balanceInsertion_204 : decode cJ15_balanceInsertion 204 = .ok (.dup, 1) := dk_89 (dk_at dksJ15_balanceInsertion_8 20 rfl rfl)
theorem dJ15_balanceInsertion_205 : decode cJ15_balanceInsertion 205 = .ok (.astore_n 2, 1) := dk_77 (dk_at dksJ15_balanceInsertion_8 21 rfl rfl)
theorem dJ15_balanceInsertion_206 : decode cJ15_balanceInsertion 206 = .ok (.ifnonnull 7, 3) := dk_199 0 7 (dk_at dksJ15_balanceInsertion_9 0 rfl rfl)
theorem dJ15_balanceInsertion_209 : decode cJ15_balanceInsertion 209 = .ok (.aconst_null, 1) := dk_1 (dk_at dksJ15_balanceInsertion_9 3 rfl rfl)
theorem dJ15_balanceInsertion_210 : decode cJ15_balanceInsertion 210 = .ok (.goto 7, 3) := dk_167 0 7 (dk_at dksJ15_balanceInsertion_9 4 rfl rfl)
theorem dJ15_balanceInsertion_213 : decode cJ15_balanceInsertion 213 = .ok (.aload_n 2, 1) := dk_44 (dk_at dksJ15_balanceInsertion_9 7 rfl rfl)
theorem dJ15_balanceInsertion_214 : decode cJ15_balanceInsertion 214 = .ok (.getfield 9, 3) := dk_180 0 9 (dk_at dksJ15_balanceInsertion_9 8 rfl rfl)
theorem dJ15_balanceInsertion_217 : decode cJ15_balanceInsertion 217 = .ok (.astore_n 3, 1) := dk_78 (dk_at dksJ15_balanceInsertion_9 11 rfl rfl)
theorem dJ15_balanceInsertion_218 : decode cJ15_balanceInsertion 218 = .ok (.aload_n 2, 1) := dk_44 (dk_at dksJ15_balanceInsertion_9 12 rfl rfl)
theorem dJ15_balanceInsertion_219 : decode cJ15_balanceInsertion 219 = .ok (.ifnull (-214), 3) := dk_198 255 42 (dk_at dksJ15_balanceInsertion_9 13 rfl rfl)
theorem dJ15_balanceInsertion_222 : decode cJ15_balanceInsertion 222 = .ok (.aload_n 2, 1) := dk_44 (dk_at dksJ15_balanceInsertion_9 16 rfl rfl)
theorem dJ15_balanceInsertion_223 : decode cJ15_balanceInsertion 223 = .ok (.iconst 0, 1) := dk_3 (dk_at dksJ15_balanceInsertion_9 17 rfl rfl)
theorem dJ15_balanceInsertion_224 : decode cJ15_balanceInsertion 224 = .ok (.putfield 93, 3) := dk_181 0 93 (dk_at dksJ15_balanceInsertion_9 18 rfl rfl)
theorem dJ15_balanceInsertion_227 : decode cJ15_balanceInsertion 227 = .ok (.aload_n 3, 1) := dk_45 (dk_at dksJ15_balanceInsertion_9 21 rfl rfl)
theorem dJ15_balanceInsertion_228 : decode cJ15_balanceInsertion 228 = .ok (.ifnull (-223), 3) := dk_198 255 33 (dk_at dksJ15_balanceInsertion_10 0 rfl rfl)
theorem dJ15_balanceInsertion_231 : decode cJ15_balanceInsertion 231 = .ok (.aload_n 3, 1) := dk_45 (dk_at dksJ15_balanceInsertion_10 3 rfl rfl)
theorem dJ15_balanceInsertion_232 : decode cJ15_balanceInsertion 232 = .ok (.iconst 1, 1) := dk_4 (dk_at dksJ15_balanceInsertion_10 4 rfl rfl)
theorem dJ15_balanceInsertion_233 : decode cJ15_balanceInsertion 233 = .ok (.putfield 93, 3) := dk_181 0 93 (dk_at dksJ15_balanceInsertion_10 5 rfl rfl)
theorem dJ15_balanceInsertion_236 : decode cJ15_balanceInsertion 236 = .ok (.aload_n 0, 1) := dk_42 (dk_at dksJ15_balanceInsertion_10 8 rfl rfl)
theorem dJ15_balanceInsertion_237 : decode cJ15_balanceInsertion 237 = .ok (.aload_n 3, 1) := dk_45 (dk_at dksJ15_balanceInsertion_10 9 rfl rfl)
theorem dJ15_balanceInsertion_238 : decode cJ15_balanceInsertion 238 = .ok (.invokestatic 130, 3) := dk_184 0 130 (dk_at dksJ15_balanceInsertion_10 10 rfl rfl)
theorem dJ15_balanceInsertion_241 : decode cJ15_balanceInsertion 241 = .ok (.astore_n 0, 1) := dk_75 (dk_at dksJ15_balanceInsertion_10 13 rfl rfl)
theorem dJ15_balanceInsertion_242 : decode cJ15_balanceInsertion 242 = .ok (.goto (-237), 3) := dk_167 255 19 (dk_at dksJ15_balanceInsertion_10 14 rfl rfl)
abbrev cJ15_rotateLeft : ByteArray := prog_40_method_12_code
def yJ15_rotateLeft : MethodName := ⟨RJ15, "rotateLeft", "(Ljava/util/HashMap$TreeNode;Ljava/util/HashMap$TreeNode;)Ljava/util/HashMap$TreeNode;"⟩
def dkwJ15_rotateLeft_3 : List UInt8 := [181, 0, 39, 167, 0, 8, 45, 44, 181, 0, 42, 44, 43, 181, 0, 39, 43, 44, 181, 0, 9, 42, 176]
abbrev dktJ15_rotateLeft_3 : List UInt8 := dkwJ15_rotateLeft_3 ++ []
def dkwJ15_rotateLeft_2 : List UInt8 := [199, 0, 13, 44, 89, 75, 3, 181, 0, 93, 167, 0, 24, 45, 180, 0, 39, 43, 166, 0, 11, 45, 44]
abbrev dktJ15_rotateLeft_2 : List UInt8 := dkwJ15_rotateLeft_2 ++ dktJ15_rotateLeft_3
def dkwJ15_rotateLeft_1 : List UInt8 := [58, 4, 198, 0, 9, 25, 4, 43, 181, 0, 9, 44, 43, 180, 0, 9, 90, 181, 0, 9, 89, 78]
abbrev dktJ15_rotateLeft_1 : List UInt8 := dkwJ15_rotateLeft_1 ++ dktJ15_rotateLeft_2
def dkwJ15_rotateLeft_0 : List UInt8 := [43, 198, 0, 88, 43, 180, 0, 42, 89, 77, 198, 0, 79, 43, 44, 180, 0, 39, 90, 181, 0, 42, 89]
abbrev dktJ15_rotateLeft_0 : List UInt8 := dkwJ15_rotateLeft_0 ++ dktJ15_rotateLeft_1
theorem dksJ15_rotateLeft_0 : cJ15_rotateLeft.data.toList.drop 0 = dktJ15_rotateLeft_0 := by decide +kernel
theorem dksJ15_rotateLeft_1 : cJ15_rotateLeft.data.toList.drop 23 = dktJ15_rotateLeft_1 := dk_seg dksJ15_rotateLeft_0 23 rfl rfl
theorem dksJ15_rotateLeft_2 : cJ15_rotateLeft.data.toList.drop 45 = dktJ15_rotateLeft_2 := dk_seg dksJ15_rotateLeft_1 22 rfl rfl
theorem dksJ15_rotateLeft_3 : cJ15_rotateLeft.data.toList.drop 68 = dktJ15_rotateLeft_3 := dk_seg dksJ15_rotateLeft_2 23 rfl rfl
theorem dJ15_rotateLeft_0 : decode cJ15_rotateLeft 0 = .ok (.aload_n 1, 1) := dk_43 (dk_at dksJ15_rotateLeft_0 0 rfl rfl)
theorem dJ15_rotateLeft_1 : decode cJ15_rotateLeft 1 = .ok (.ifnull 88, 3) := dk_198 0 88 (dk_at dksJ15_rotateLeft_0 1 rfl rfl)
theorem dJ15_rotateLeft_4 : decode cJ15_rotateLeft 4 = .ok (.aload_n 1, 1) := dk_43 (dk_at dksJ15_rotateLeft_0 4 rfl rfl)
theorem dJ15_rotateLeft_5 : decode cJ15_rotateLeft 5 = .ok (.getfield 42, 3) := dk_180 0 42 (dk_at dksJ15_rotateLeft_0 5 rfl rfl)
theorem dJ15_rotateLeft_8 : decode cJ15_rotateLeft 8 = .ok (.dup, 1) := dk_89 (dk_at dksJ15_rotateLeft_0 8 rfl rfl)
theorem dJ15_rotateLeft_9 : decode cJ15_rotateLeft 9 = .ok (.astore_n 2, 1) := dk_77 (dk_at dksJ15_rotateLeft_0 9 rfl rfl)
theorem dJ15_rotateLeft_10 : decode cJ15_rotateLeft 10 = .ok (.ifnull 79, 3) := dk_198 0 79 (dk_at dksJ15_rotateLeft_0 10 rfl rfl)
theorem dJ15_rotateLeft_13 : decode cJ15_rotateLeft 13 = .ok (.aload_n 1, 1) := dk_43 (dk_at dksJ15_rotateLeft_0 13 rfl rfl)
theorem dJ15_rotateLeft_14 : decode cJ15_rotateLeft 14 = .ok (.aload_n 2, 1) := dk_44 (dk_at dksJ15_rotateLeft_0 14 rfl rfl)
theorem dJ15_rotateLeft_15 : decode cJ15_rotateLeft 15 = .ok (.getfield 39, 3) := dk_180 0 39 (dk_at dksJ15_rotateLeft_0 15 rfl rfl)
theorem dJ15_rotateLeft_18 : decode cJ15_rotateLeft 18 = .ok (.dup_x1, 1) := dk_90 (dk_at dksJ15_rotateLeft_0 18 rfl rfl)
theorem dJ15_rotateLeft_19 : decode cJ15_rotateLeft 19 = .ok (.putfield 42, 3) := dk_181 0 42 (dk_at dksJ15_rotateLeft_0 19 rfl rfl)
theorem dJ15_rotateLeft_22 : decode cJ15_rotateLeft 22 = .ok (.dup, 1) := dk_89 (dk_at dksJ15_rotateLeft_0 22 rfl rfl)
theorem dJ15_rotateLeft_23 : decode cJ15_rotateLeft 23 = .ok (.astore 4, 2) := dk_58 4 (dk_at dksJ15_rotateLeft_1 0 rfl rfl)
theorem dJ15_rotateLeft_25 : decode cJ15_rotateLeft 25 = .ok (.ifnull 9, 3) := dk_198 0 9 (dk_at dksJ15_rotateLeft_1 2 rfl rfl)
theorem dJ15_rotateLeft_28 : decode cJ15_rotateLeft 28 = .ok (.aload 4, 2) := dk_25 4 (dk_at dksJ15_rotateLeft_1 5 rfl rfl)
theorem dJ15_rotateLeft_30 : decode cJ15_rotateLeft 30 = .ok (.aload_n 1, 1) := dk_43 (dk_at dksJ15_rotateLeft_1 7 rfl rfl)
theorem dJ15_rotateLeft_31 : decode cJ15_rotateLeft 31 = .ok (.putfield 9, 3) := dk_181 0 9 (dk_at dksJ15_rotateLeft_1 8 rfl rfl)
theorem dJ15_rotateLeft_34 : decode cJ15_rotateLeft 34 = .ok (.aload_n 2, 1) := dk_44 (dk_at dksJ15_rotateLeft_1 11 rfl rfl)
theorem dJ15_rotateLeft_35 : decode cJ15_rotateLeft 35 = .ok (.aload_n 1, 1) := dk_43 (dk_at dksJ15_rotateLeft_1 12 rfl rfl)
theorem dJ15_rotateLeft_36 : decode cJ15_rotateLeft 36 = .ok (.getfield 9, 3) := dk_180 0 9 (dk_at dksJ15_rotateLeft_1 13 rfl rfl)
theorem dJ15_rotateLeft_39 : decode cJ15_rotateLeft 39 = .ok (.dup_x1, 1) := dk_90 (dk_at dksJ15_rotateLeft_1 16 rfl rfl)
theorem dJ15_rotateLeft_40 : decode cJ15_rotateLeft 40 = .ok (.putfield 9, 3) := dk_181 0 9 (dk_at dksJ15_rotateLeft_1 17 rfl rfl)
theorem dJ15_rotateLeft_43 : decode cJ15_rotateLeft 43 = .ok (.dup, 1) := dk_89 (dk_at dksJ15_rotateLeft_1 20 rfl rfl)
theorem dJ15_rotateLeft_44 : decode cJ15_rotateLeft 44 = .ok (.astore_n 3, 1) := dk_78 (dk_at dksJ15_rotateLeft_1 21 rfl rfl)
theorem dJ15_rotateLeft_45 : decode cJ15_rotateLeft 45 = .ok (.ifnonnull 13, 3) := dk_199 0 13 (dk_at dksJ15_rotateLeft_2 0 rfl rfl)
theorem dJ15_rotateLeft_48 : decode cJ15_rotateLeft 48 = .ok (.aload_n 2, 1) := dk_44 (dk_at dksJ15_rotateLeft_2 3 rfl rfl)
theorem dJ15_rotateLeft_49 : decode cJ15_rotateLeft 49 = .ok (.dup, 1) := dk_89 (dk_at dksJ15_rotateLeft_2 4 rfl rfl)
theorem dJ15_rotateLeft_50 : decode cJ15_rotateLeft 50 = .ok (.astore_n 0, 1) := dk_75 (dk_at dksJ15_rotateLeft_2 5 rfl rfl)
theorem dJ15_rotateLeft_51 : decode cJ15_rotateLeft 51 = .ok (.iconst 0, 1) := dk_3 (dk_at dksJ15_rotateLeft_2 6 rfl rfl)
theorem dJ15_rotateLeft_52 : decode cJ15_rotateLeft 52 = .ok (.putfield 93, 3) := dk_181 0 93 (dk_at dksJ15_rotateLeft_2 7 rfl rfl)
theorem dJ15_rotateLeft_55 : decode cJ15_rotateLeft 55 = .ok (.goto 24, 3) := dk_167 0 24 (dk_at dksJ15_rotateLeft_2 10 rfl rfl)
theorem dJ15_rotateLeft_58 : decode cJ15_rotateLeft 58 = .ok (.aload_n 3, 1) := dk_45 (dk_at dksJ15_rotateLeft_2 13 rfl rfl)
theorem dJ15_rotateLeft_59 : decode cJ15_rotateLeft 59 = .ok (.getfield 39, 3) := dk_180 0 39 (dk_at dksJ15_rotateLeft_2 14 rfl rfl)
theorem dJ15_rotateLeft_62 : decode cJ15_rotateLeft 62 = .ok (.aload_n 1, 1) := dk_43 (dk_at dksJ15_rotateLeft_2 17 rfl rfl)
theorem dJ15_rotateLeft_63 : decode cJ15_rotateLeft 63 = .ok (.if_acmp .ne 11, 3) := dk_166 0 11 (dk_at dksJ15_rotateLeft_2 18 rfl rfl)
theorem dJ15_rotateLeft_66 : decode cJ15_rotateLeft 66 = .ok (.aload_n 3, 1) := dk_45 (dk_at dksJ15_rotateLeft_2 21 rfl rfl)
theorem dJ15_rotateLeft_67 : decode cJ15_rotateLeft 67 = .ok (.aload_n 2, 1) := dk_44 (dk_at dksJ15_rotateLeft_2 22 rfl rfl)
theorem dJ15_rotateLeft_68 : decode cJ15_rotateLeft 68 = .ok (.putfield 39, 3) := dk_181 0 39 (dk_at dksJ15_rotateLeft_3 0 rfl rfl)
theorem dJ15_rotateLeft_71 : decode cJ15_rotateLeft 71 = .ok (.goto 8, 3) := dk_167 0 8 (dk_at dksJ15_rotateLeft_3 3 rfl rfl)
theorem dJ15_rotateLeft_74 : decode cJ15_rotateLeft 74 = .ok (.aload_n 3, 1) := dk_45 (dk_at dksJ15_rotateLeft_3 6 rfl rfl)
theorem dJ15_rotateLeft_75 : decode cJ15_rotateLeft 75 = .ok (.aload_n 2, 1) := dk_44 (dk_at dksJ15_rotateLeft_3 7 rfl rfl)
theorem dJ15_rotateLeft_76 : decode cJ15_rotateLeft 76 = .ok (.putfield 42, 3) := dk_181 0 42 (dk_at dksJ15_rotateLeft_3 8 rfl rfl)
theorem dJ15_rotateLeft_79 : decode cJ15_rotateLeft 79 = .ok (.aload_n 2, 1) := dk_44 (dk_at dksJ15_rotateLeft_3 11 rfl rfl)
theorem dJ15_rotateLeft_80 : decode cJ15_rotateLeft 80 = .ok (.aload_n 1, 1) := dk_43 (dk_at dksJ15_rotateLeft_3 12 rfl rfl)
theorem dJ15_rotateLeft_81 : decode cJ15_rotateLeft 81 = .ok (.putfield 39, 3) := dk_181 0 39 (dk_at dksJ15_rotateLeft_3 13 rfl rfl)
theorem dJ15_rotateLeft_84 : decode cJ15_rotateLeft 84 = .ok (.aload_n 1, 1) := dk_43 (dk_at dksJ15_rotateLeft_3 16 rfl rfl)
theorem dJ15_rotateLeft_85 : decode cJ15_rotateLeft 85 = .ok (.aload_n 2, 1) := dk_44 (dk_at dksJ15_rotateLeft_3 17 rfl rfl)
theorem dJ15_rotateLeft_86 : decode cJ15_rotateLeft 86 = .ok (.putfield 9, 3) := dk_181 0 9 (dk_at dksJ15_rotateLeft_3 18 rfl rfl)
theorem dJ15_rotateLeft_89 : decode cJ15_rotateLeft 89 = .ok (.aload_n 0, 1) := dk_42 (dk_at dksJ15_rotateLeft_3 21 rfl rfl)
theorem dJ15_rotateLeft_90 : decode cJ15_rotateLeft 90 = .ok (.areturn, 1) := dk_176 (dk_at dksJ15_rotateLeft_3 22 rfl rfl)
abbrev cJ15_rotateRight : ByteArray := prog_40_method_13_code
def yJ15_rotateRight : MethodName := ⟨RJ15, "rotateRight", "(Ljava/util/HashMap$TreeNode;Ljava/util/HashMap$TreeNode;)Ljava/util/HashMap$TreeNode;"⟩
def dkwJ15_rotateRight_3 : List UInt8 := [181, 0, 42, 167, 0, 8, 45, 44, 181, 0, 39, 44, 43, 181, 0, 42, 43, 44, 181, 0, 9, 42, 176]
abbrev dktJ15_rotateRight_3 : List UInt8 := dkwJ15_rotateRight_3 ++ []
def dkwJ15_rotateRight_2 : List UInt8 := [199, 0, 13, 44, 89, 75, 3, 181, 0, 93, 167, 0, 24, 45, 180, 0, 42, 43, 166, 0, 11, 45, 44]
abbrev dktJ15_rotateRight_2 : List UInt8 := dkwJ15_rotateRight_2 ++ dktJ15_rotateRight_3
def dkwJ15_rotateRight_1 : List UInt8 := [58, 4, 198, 0, 9, 25, 4, 43, 181, 0, 9, 44, 43, 180, 0, 9, 90, 181, 0, 9, 89, 78]
abbrev dktJ15_rotateRight_1 : List UInt8 := dkwJ15_rotateRight_1 ++ dktJ15_rotateRight_2
def dkwJ15_rotateRight_0 : List UInt8 := [43, 198, 0, 88, 43, 180, 0, 39, 89, 77, 198, 0, 79, 43, 44, 180, 0, 42, 90, 181, 0, 39, 89]
abbrev dktJ15_rotateRight_0 : List UInt8 := dkwJ15_rotateRight_0 ++ dktJ15_rotateRight_1
theorem dksJ15_rotateRight_0 : cJ15_rotateRight.data.toList.drop 0 = dktJ15_rotateRight_0 := by decide +kernel
theorem dksJ15_rotateRight_1 : cJ15_rotateRight.data.toList.drop 23 = dktJ15_rotateRight_1 := dk_seg dksJ15_rotateRight_0 23 rfl rfl
theorem dksJ15_rotateRight_2 : cJ15_rotateRight.data.toList.drop 45 = dktJ15_rotateRight_2 := dk_seg dksJ15_rotateRight_1 22 rfl rfl
theorem dksJ15_rotateRight_3 : cJ15_rotateRight.data.toList.drop 68 = dktJ15_rotateRight_3 := dk_seg dksJ15_rotateRight_2 23 rfl rfl
theorem dJ15_rotateRight_0 : decode cJ15_rotateRight 0 = .ok (.aload_n 1, 1) := dk_43 (dk_at dksJ15_rotateRight_0 0 rfl rfl)
theorem dJ15_rotateRight_1 : decode cJ15_rotateRight 1 = .ok (.ifnull 88, 3) := dk_198 0 88 (dk_at dksJ15_rotateRight_0 1 rfl rfl)
theorem dJ15_rotateRight_4 : decode cJ15_rotateRight 4 = .ok (.aload_n 1, 1) := dk_43 (dk_at dksJ15_rotateRight_0 4 rfl rfl)
theorem dJ15_rotateRight_5 : decode cJ15_rotateRight 5 = .ok (.getfield 39, 3) := dk_180 0 39 (dk_at dksJ15_rotateRight_0 5 rfl rfl)
theorem dJ15_rotateRight_8 : decode cJ15_rotateRight 8 = .ok (.dup, 1) := dk_89 (dk_at dksJ15_rotateRight_0 8 rfl rfl)
theorem dJ15_rotateRight_9 : decode cJ15_rotateRight 9 = .ok (.astore_n 2, 1) := dk_77 (dk_at dksJ15_rotateRight_0 9 rfl rfl)
theorem dJ15_rotateRight_10 : decode cJ15_rotateRight 10 = .ok (.ifnull 79, 3) := dk_198 0 79 (dk_at dksJ15_rotateRight_0 10 rfl rfl)
theorem dJ15_rotateRight_13 : decode cJ15_rotateRight 13 = .ok (.aload_n 1, 1) := dk_43 (dk_at dksJ15_rotateRight_0 13 rfl rfl)
theorem dJ15_rotateRight_14 : decode cJ15_rotateRight 14 = .ok (.aload_n 2, 1) := dk_44 (dk_at dksJ15_rotateRight_0 14 rfl rfl)
theorem dJ15_rotateRight_15 : decode cJ15_rotateRight 15 = .ok (.getfield 42, 3) := dk_180 0 42 (dk_at dksJ15_rotateRight_0 15 rfl rfl)
theorem dJ15_rotateRight_18 : decode cJ15_rotateRight 18 = .ok (.dup_x1, 1) := dk_90 (dk_at dksJ15_rotateRight_0 18 rfl rfl)
theorem dJ15_rotateRight_19 : decode cJ15_rotateRight 19 = .ok (.putfield 39, 3) := dk_181 0 39 (dk_at dksJ15_rotateRight_0 19 rfl rfl)
theorem dJ15_rotateRight_22 : decode cJ15_rotateRight 22 = .ok (.dup, 1) := dk_89 (dk_at dksJ15_rotateRight_0 22 rfl rfl)
theorem dJ15_rotateRight_23 : decode cJ15_rotateRight 23 = .ok (.astore 4, 2) := dk_58 4 (dk_at dksJ15_rotateRight_1 0 rfl rfl)
theorem dJ15_rotateRight_25 : decode cJ15_rotateRight 25 = .ok (.ifnull 9, 3) := dk_198 0 9 (dk_at dksJ15_rotateRight_1 2 rfl rfl)
theorem dJ15_rotateRight_28 : decode cJ15_rotateRight 28 = .ok (.aload 4, 2) := dk_25 4 (dk_at dksJ15_rotateRight_1 5 rfl rfl)
theorem dJ15_rotateRight_30 : decode cJ15_rotateRight 30 = .ok (.aload_n 1, 1) := dk_43 (dk_at dksJ15_rotateRight_1 7 rfl rfl)
theorem dJ15_rotateRight_31 : decode cJ15_rotateRight 31 = .ok (.putfield 9, 3) := dk_181 0 9 (dk_at dksJ15_rotateRight_1 8 rfl rfl)
theorem dJ15_rotateRight_34 : decode cJ15_rotateRight 34 = .ok (.aload_n 2, 1) := dk_44 (dk_at dksJ15_rotateRight_1 11 rfl rfl)
theorem dJ15_rotateRight_35 : decode cJ15_rotateRight 35 = .ok (.aload_n 1, 1) := dk_43 (dk_at dksJ15_rotateRight_1 12 rfl rfl)
theorem dJ15_rotateRight_36 : decode cJ15_rotateRight 36 = .ok (.getfield 9, 3) := dk_180 0 9 (dk_at dksJ15_rotateRight_1 13 rfl rfl)
theorem dJ15_rotateRight_39 : decode cJ15_rotateRight 39 = .ok (.dup_x1, 1) := dk_90 (dk_at dksJ15_rotateRight_1 16 rfl rfl)
theorem dJ15_rotateRight_40 : decode cJ15_rotateRight 40 = .ok (.putfield 9, 3) := dk_181 0 9 (dk_at dksJ15_rotateRight_1 17 rfl rfl)
theorem dJ15_rotateRight_43 : decode cJ15_rotateRight 43 = .ok (.dup, 1) := dk_89 (dk_at dksJ15_rotateRight_1 20 rfl rfl)
theorem dJ15_rotateRight_44 : decode cJ15_rotateRight 44 = .ok (.astore_n 3, 1) := dk_78 (dk_at dksJ15_rotateRight_1 21 rfl rfl)
theorem dJ15_rotateRight_45 : decode cJ15_rotateRight 45 = .ok (.ifnonnull 13, 3) := dk_199 0 13 (dk_at dksJ15_rotateRight_2 0 rfl rfl)
theorem dJ15_rotateRight_48 : decode cJ15_rotateRight 48 = .ok (.aload_n 2, 1) := dk_44 (dk_at dksJ15_rotateRight_2 3 rfl rfl)
theorem dJ15_rotateRight_49 : decode cJ15_rotateRight 49 = .ok (.dup, 1) := dk_89 (dk_at dksJ15_rotateRight_2 4 rfl rfl)
theorem dJ15_rotateRight_50 : decode cJ15_rotateRight 50 = .ok (.astore_n 0, 1) := dk_75 (dk_at dksJ15_rotateRight_2 5 rfl rfl)
theorem dJ15_rotateRight_51 : decode cJ15_rotateRight 51 = .ok (.iconst 0, 1) := dk_3 (dk_at dksJ15_rotateRight_2 6 rfl rfl)
theorem dJ15_rotateRight_52 : decode cJ15_rotateRight 52 = .ok (.putfield 93, 3) := dk_181 0 93 (dk_at dksJ15_rotateRight_2 7 rfl rfl)
theorem dJ15_rotateRight_55 : decode cJ15_rotateRight 55 = .ok (.goto 24, 3) := dk_167 0 24 (dk_at dksJ15_rotateRight_2 10 rfl rfl)
theorem dJ15_rotateRight_58 : decode cJ15_rotateRight 58 = .ok (.aload_n 3, 1) := dk_45 (dk_at dksJ15_rotateRight_2 13 rfl rfl)
theorem dJ15_rotateRight_59 : decode cJ15_rotateRight 59 = .ok (.getfield 42, 3) := dk_180 0 42 (dk_at dksJ15_rotateRight_2 14 rfl rfl)
theorem dJ15_rotateRight_62 : decode cJ15_rotateRight 62 = .ok (.aload_n 1, 1) := dk_43 (dk_at dksJ15_rotateRight_2 17 rfl rfl)
theorem dJ15_rotateRight_63 : decode cJ15_rotateRight 63 = .ok (.if_acmp .ne 11, 3) := dk_166 0 11 (dk_at dksJ15_rotateRight_2 18 rfl rfl)
theorem dJ15_rotateRight_66 : decode cJ15_rotateRight 66 = .ok (.aload_n 3, 1) := dk_45 (dk_at dksJ15_rotateRight_2 21 rfl rfl)
theorem dJ15_rotateRight_67 : decode cJ15_rotateRight 67 = .ok (.aload_n 2, 1) := dk_44 (dk_at dksJ15_rotateRight_2 22 rfl rfl)
theorem dJ15_rotateRight_68 : decode cJ15_rotateRight 68 = .ok (.putfield 42, 3) := dk_181 0 42 (dk_at dksJ15_rotateRight_3 0 rfl rfl)
theorem dJ15_rotateRight_71 : decode cJ15_rotateRight 71 = .ok (.goto 8, 3) := dk_167 0 8 (dk_at dksJ15_rotateRight_3 3 rfl rfl)
theorem dJ15_rotateRight_74 : decode cJ15_rotateRight 74 = .ok (.aload_n 3, 1) := dk_45 (dk_at dksJ15_rotateRight_3 6 rfl rfl)
theorem dJ15_rotateRight_75 : decode cJ15_rotateRight 75 = .ok (.aload_n 2, 1) := dk_44 (dk_at dksJ15_rotateRight_3 7 rfl rfl)
theorem dJ15_rotateRight_76 : decode cJ15_rotateRight 76 = .ok (.putfield 39, 3) := dk_181 0 39 (dk_at dksJ15_rotateRight_3 8 rfl rfl)
theorem dJ15_rotateRight_79 : decode cJ15_rotateRight 79 = .ok (.aload_n 2, 1) := dk_44 (dk_at dksJ15_rotateRight_3 11 rfl rfl)
theorem dJ15_rotateRight_80 : decode cJ15_rotateRight 80 = .ok (.aload_n 1, 1) := dk_43 (dk_at dksJ15_rotateRight_3 12 rfl rfl)
theorem dJ15_rotateRight_81 : decode cJ15_rotateRight 81 = .ok (.putfield 42, 3) := dk_181 0 42 (dk_at dksJ15_rotateRight_3 13 rfl rfl)
theorem dJ15_rotateRight_84 : decode cJ15_rotateRight 84 = .ok (.aload_n 1, 1) := dk_43 (dk_at dksJ15_rotateRight_3 16 rfl rfl)
theorem dJ15_rotateRight_85 : decode cJ15_rotateRight 85 = .ok (.aload_n 2, 1) := dk_44 (dk_at dksJ15_rotateRight_3 17 rfl rfl)
theorem dJ15_rotateRight_86 : decode cJ15_rotateRight 86 = .ok (.putfield 9, 3) := dk_181 0 9 (dk_at dksJ15_rotateRight_3 18 rfl rfl)
theorem dJ15_rotateRight_89 : decode cJ15_rotateRight 89 = .ok (.aload_n 0, 1) := dk_42 (dk_at dksJ15_rotateRight_3 21 rfl rfl)
theorem dJ15_rotateRight_90 : decode cJ15_rotateRight 90 = .ok (.areturn, 1) := dk_176 (dk_at dksJ15_rotateRight_3 22 rfl rfl)
abbrev cJ15_moveRootToFront : ByteArray := prog_40_method_3_code
def yJ15_moveRootToFront : MethodName := ⟨RJ15, "moveRootToFront", "([Ljava/util/HashMap$Node;Ljava/util/HashMap$TreeNode;)V"⟩
def dkwJ15_moveRootToFront_5 : List UInt8 := [89, 183, 0, 36, 191, 177]
abbrev dktJ15_moveRootToFront_5 : List UInt8 := dkwJ15_moveRootToFront_5 ++ []
def dkwJ15_moveRootToFront_4 : List UInt8 := [181, 0, 22, 43, 1, 181, 0, 19, 178, 0, 26, 154, 0, 18, 43, 184, 0, 30, 154, 0, 11, 187, 0, 34]
abbrev dktJ15_moveRootToFront_4 : List UInt8 := dkwJ15_moveRootToFront_4 ++ dktJ15_moveRootToFront_5
def dkwJ15_moveRootToFront_3 : List UInt8 := [198, 0, 10, 25, 6, 25, 5, 181, 0, 22, 25, 4, 198, 0, 9, 25, 4, 43, 181, 0, 19, 43, 25, 4]
abbrev dktJ15_moveRootToFront_3 : List UInt8 := dkwJ15_moveRootToFront_3 ++ dktJ15_moveRootToFront_4
def dkwJ15_moveRootToFront_2 : List UInt8 := [43, 180, 0, 22, 89, 58, 5, 198, 0, 13, 25, 5, 192, 0, 10, 25, 6, 181, 0, 19, 25, 6]
abbrev dktJ15_moveRootToFront_2 : List UInt8 := dkwJ15_moveRootToFront_2 ++ dktJ15_moveRootToFront_3
def dkwJ15_moveRootToFront_1 : List UInt8 := [42, 29, 50, 192, 0, 10, 58, 4, 43, 25, 4, 165, 0, 67, 42, 29, 43, 83, 43, 180, 0, 19, 58, 6]
abbrev dktJ15_moveRootToFront_1 : List UInt8 := dkwJ15_moveRootToFront_1 ++ dktJ15_moveRootToFront_2
def dkwJ15_moveRootToFront_0 : List UInt8 := [43, 198, 0, 122, 42, 198, 0, 118, 42, 190, 89, 61, 158, 0, 111, 28, 4, 100, 43, 180, 0, 15, 126, 62]
abbrev dktJ15_moveRootToFront_0 : List UInt8 := dkwJ15_moveRootToFront_0 ++ dktJ15_moveRootToFront_1
theorem dksJ15_moveRootToFront_0 : cJ15_moveRootToFront.data.toList.drop 0 = dktJ15_moveRootToFront_0 := by decide +kernel
theorem dksJ15_moveRootToFront_1 : cJ15_moveRootToFront.data.toList.drop 24 = dktJ15_moveRootToFront_1 := dk_seg dksJ15_moveRootToFront_0 24 rfl rfl
theorem dksJ15_moveRootToFront_2 : cJ15_moveRootToFront.data.toList.drop 48 = dktJ15_moveRootToFront_2 := dk_seg dksJ15_moveRootToFront_1 24 rfl rfl
theorem dksJ15_moveRootToFront_3 : cJ15_moveRootToFront.data.toList.drop 70 = dktJ15_moveRootToFront_3 := dk_seg dksJ15_moveRootToFront_2 22 rfl rfl
theorem dksJ15_moveRootToFront_4 : cJ15_moveRootToFront.data.toList.drop 94 = dktJ15_moveRootToFront_4 := dk_seg dksJ15_moveRootToFront_3 24 rfl rfl
theorem dksJ15_moveRootToFront_5 : cJ15_moveRootToFront.data.toList.drop 118 = dktJ15_moveRootToFront_5 := dk_seg dksJ15_moveRootToFront_4 24 rfl rfl
theorem dJ15_moveRootToFront_0 : decode cJ15_moveRootToFront 0 = .ok (.aload_n 1, 1) := dk_43 (dk_at dksJ15_moveRootToFront_0 0 rfl rfl)
theorem dJ15_moveRootToFront_1 : decode cJ15_moveRootToFront 1 = .ok (.ifnull 122, 3) := dk_198 0 122 (dk_at dksJ15_moveRootToFront_0 1 rfl rfl)
theorem dJ15_moveRootToFront_4 : decode cJ15_moveRootToFront 4 = .ok (.aload_n 0, 1) := dk_42 (dk_at dksJ15_moveRootToFront_0 4 rfl rfl)
theorem dJ15_moveRootToFront_5 : decode cJ15_moveRootToFront 5 = .ok (.ifnull 118, 3) := dk_198 0 118 (dk_at dksJ15_moveRootToFront_0 5 rfl rfl)
theorem dJ15_moveRootToFront_8 : decode cJ15_moveRootToFront 8 = .ok (.aload_n 0, 1) := dk_42 (dk_at dksJ15_moveRootToFront_0 8 rfl rfl)
theorem dJ15_moveRootToFront_9 : decode cJ15_moveRootToFront 9 = .ok (.arraylength, 1) := dk_190 (dk_at dksJ15_moveRootToFront_0 9 rfl rfl)
theorem dJ15_moveRootToFront_10 : decode cJ15_moveRootToFront 10 = .ok (.dup, 1) := dk_89 (dk_at dksJ15_moveRootToFront_0 10 rfl rfl)
theorem dJ15_moveRootToFront_11 : decode cJ15_moveRootToFront 11 = .ok (.istore_n 2, 1) := dk_61 (dk_at dksJ15_moveRootToFront_0 11 rfl rfl)
theorem dJ15_moveRootToFront_12 : decode cJ15_moveRootToFront 12 = .ok (.ifCond .le 111, 3) := dk_158 0 111 (dk_at dksJ15_moveRootToFront_0 12 rfl rfl)
theorem dJ15_moveRootToFront_15 : decode cJ15_moveRootToFront 15 = .ok (.iload_n 2, 1) := dk_28 (dk_at dksJ15_moveRootToFront_0 15 rfl rfl)
theorem dJ15_moveRootToFront_16 : decode cJ15_moveRootToFront 16 = .ok (.iconst 1, 1) := dk_4 (dk_at dksJ15_moveRootToFront_0 16 rfl rfl)
theorem dJ15_moveRootToFront_17 : decode cJ15_moveRootToFront 17 = .ok (.isub, 1) := dk_100 (dk_at dksJ15_moveRootToFront_0 17 rfl rfl)
theorem dJ15_moveRootToFront_18 : decode cJ15_moveRootToFront 18 = .ok (.aload_n 1, 1) := dk_43 (dk_at dksJ15_moveRootToFront_0 18 rfl rfl)
theorem dJ15_moveRootToFront_19 : decode cJ15_moveRootToFront 19 = .ok (.getfield 15, 3) := dk_180 0 15 (dk_at dksJ15_moveRootToFront_0 19 rfl rfl)
theorem dJ15_moveRootToFront_22 : decode cJ15_moveRootToFront 22 = .ok (.iand, 1) := dk_126 (dk_at dksJ15_moveRootToFront_0 22 rfl rfl)
theorem dJ15_moveRootToFront_23 : decode cJ15_moveRootToFront 23 = .ok (.istore_n 3, 1) := dk_62 (dk_at dksJ15_moveRootToFront_0 23 rfl rfl)
theorem dJ15_moveRootToFront_24 : decode cJ15_moveRootToFront 24 = .ok (.aload_n 0, 1) := dk_42 (dk_at dksJ15_moveRootToFront_1 0 rfl rfl)
theorem dJ15_moveRootToFront_25 : decode cJ15_moveRootToFront 25 = .ok (.iload_n 3, 1) := dk_29 (dk_at dksJ15_moveRootToFront_1 1 rfl rfl)
theorem dJ15_moveRootToFront_26 : decode cJ15_moveRootToFront 26 = .ok (.aaload, 1) := dk_50 (dk_at dksJ15_moveRootToFront_1 2 rfl rfl)
theorem dJ15_moveRootToFront_27 : decode cJ15_moveRootToFront 27 = .ok (.checkcast 10, 3) := dk_192 0 10 (dk_at dksJ15_moveRootToFront_1 3 rfl rfl)
theorem dJ15_moveRootToFront_30 : decode cJ15_moveRootToFront 30 = .ok (.astore 4, 2) := dk_58 4 (dk_at dksJ15_moveRootToFront_1 6 rfl rfl)
theorem dJ15_moveRootToFront_32 : decode cJ15_moveRootToFront 32 = .ok (.aload_n 1, 1) := dk_43 (dk_at dksJ15_moveRootToFront_1 8 rfl rfl)
theorem dJ15_moveRootToFront_33 : decode cJ15_moveRootToFront 33 = .ok (.aload 4, 2) := dk_25 4 (dk_at dksJ15_moveRootToFront_1 9 rfl rfl)
theorem dJ15_moveRootToFront_35 : decode cJ15_moveRootToFront 35 = .ok (.if_acmp .eq 67, 3) := dk_165 0 67 (dk_at dksJ15_moveRootToFront_1 11 rfl rfl)
theorem dJ15_moveRootToFront_38 : decode cJ15_moveRootToFront 38 = .ok (.aload_n 0, 1) := dk_42 (dk_at dksJ15_moveRootToFront_1 14 rfl rfl)
theorem dJ15_moveRootToFront_39 : decode cJ15_moveRootToFront 39 = .ok (.iload_n 3, 1) := dk_29 (dk_at dksJ15_moveRootToFront_1 15 rfl rfl)
theorem dJ15_moveRootToFront_40 : decode cJ15_moveRootToFront 40 = .ok (.aload_n 1, 1) := dk_43 (dk_at dksJ15_moveRootToFront_1 16 rfl rfl)
theorem dJ15_moveRootToFront_41 : decode cJ15_moveRootToFront 41 = .ok (.aastore, 1) := dk_83 (dk_at dksJ15_moveRootToFront_1 17 rfl rfl)
theorem dJ15_moveRootToFront_42 : decode cJ15_moveRootToFront 42 = .ok (.aload_n 1, 1) := dk_43 (dk_at dksJ15_moveRootToFront_1 18 rfl rfl)
theorem dJ15_moveRootToFront_43 : decode cJ15_moveRootToFront 43 = .ok (.getfield 19, 3) := dk_180 0 19 (dk_at dksJ15_moveRootToFront_1 19 rfl rfl)
theorem dJ15_moveRootToFront_46 : decode cJ15_moveRootToFront 46 = .ok (.astore 6, 2) := dk_58 6 (dk_at dksJ15_moveRootToFront_1 22 rfl rfl)
theorem dJ15_moveRootToFront_48 : decode cJ15_moveRootToFront 48 = .ok (.aload_n 1, 1) := dk_43 (dk_at dksJ15_moveRootToFront_2 0 rfl rfl)
theorem dJ15_moveRootToFront_49 : decode cJ15_moveRootToFront 49 = .ok (.getfield 22, 3) := dk_180 0 22 (dk_at dksJ15_moveRootToFront_2 1 rfl rfl)
theorem dJ15_moveRootToFront_52 : decode cJ15_moveRootToFront 52 = .ok (.dup, 1) := dk_89 (dk_at dksJ15_moveRootToFront_2 4 rfl rfl)
theorem dJ15_moveRootToFront_53 : decode cJ15_moveRootToFront 53 = .ok (.astore 5, 2) := dk_58 5 (dk_at dksJ15_moveRootToFront_2 5 rfl rfl)
theorem dJ15_moveRootToFront_55 : decode cJ15_moveRootToFront 55 = .ok (.ifnull 13, 3) := dk_198 0 13 (dk_at dksJ15_moveRootToFront_2 7 rfl rfl)
theorem dJ15_moveRootToFront_58 : decode cJ15_moveRootToFront 58 = .ok (.aload 5, 2) := dk_25 5 (dk_at dksJ15_moveRootToFront_2 10 rfl rfl)
theorem dJ15_moveRootToFront_60 : decode cJ15_moveRootToFront 60 = .ok (.checkcast 10, 3) := dk_192 0 10 (dk_at dksJ15_moveRootToFront_2 12 rfl rfl)
theorem dJ15_moveRootToFront_63 : decode cJ15_moveRootToFront 63 = .ok (.aload 6, 2) := dk_25 6 (dk_at dksJ15_moveRootToFront_2 15 rfl rfl)
theorem dJ15_moveRootToFront_65 : decode cJ15_moveRootToFront 65 = .ok (.putfield 19, 3) := dk_181 0 19 (dk_at dksJ15_moveRootToFront_2 17 rfl rfl)
theorem dJ15_moveRootToFront_68 : decode cJ15_moveRootToFront 68 = .ok (.aload 6, 2) := dk_25 6 (dk_at dksJ15_moveRootToFront_2 20 rfl rfl)
theorem dJ15_moveRootToFront_70 : decode cJ15_moveRootToFront 70 = .ok (.ifnull 10, 3) := dk_198 0 10 (dk_at dksJ15_moveRootToFront_3 0 rfl rfl)
theorem dJ15_moveRootToFront_73 : decode cJ15_moveRootToFront 73 = .ok (.aload 6, 2) := dk_25 6 (dk_at dksJ15_moveRootToFront_3 3 rfl rfl)
theorem dJ15_moveRootToFront_75 : decode cJ15_moveRootToFront 75 = .ok (.aload 5, 2) := dk_25 5 (dk_at dksJ15_moveRootToFront_3 5 rfl rfl)
theorem dJ15_moveRootToFront_77 : decode cJ15_moveRootToFront 77 = .ok (.putfield 22, 3) := dk_181 0 22 (dk_at dksJ15_moveRootToFront_3 7 rfl rfl)
theorem dJ15_moveRootToFront_80 : decode cJ15_moveRootToFront 80 = .ok (.aload 4, 2) := dk_25 4 (dk_at dksJ15_moveRootToFront_3 10 rfl rfl)
theorem dJ15_moveRootToFront_82 : decode cJ15_moveRootToFront 82 = .ok (.ifnull 9, 3) := dk_198 0 9 (dk_at dksJ15_moveRootToFront_3 12 rfl rfl)
theorem dJ15_moveRootToFront_85 : decode cJ15_moveRootToFront 85 = .ok (.aload 4, 2) := dk_25 4 (dk_at dksJ15_moveRootToFront_3 15 rfl rfl)
theorem dJ15_moveRootToFront_87 : decode cJ15_moveRootToFront 87 = .ok (.aload_n 1, 1) := dk_43 (dk_at dksJ15_moveRootToFront_3 17 rfl rfl)
theorem dJ15_moveRootToFront_88 : decode cJ15_moveRootToFront 88 = .ok (.putfield 19, 3) := dk_181 0 19 (dk_at dksJ15_moveRootToFront_3 18 rfl rfl)
theorem dJ15_moveRootToFront_91 : decode cJ15_moveRootToFront 91 = .ok (.aload_n 1, 1) := dk_43 (dk_at dksJ15_moveRootToFront_3 21 rfl rfl)
theorem dJ15_moveRootToFront_92 : decode cJ15_moveRootToFront 92 = .ok (.aload 4, 2) := dk_25 4 (dk_at dksJ15_moveRootToFront_3 22 rfl rfl)
theorem dJ15_moveRootToFront_94 : decode cJ15_moveRootToFront 94 = .ok (.putfield 22, 3) := dk_181 0 22 (dk_at dksJ15_moveRootToFront_4 0 rfl rfl)
theorem dJ15_moveRootToFront_97 : decode cJ15_moveRootToFront 97 = .ok (.aload_n 1, 1) := dk_43 (dk_at dksJ15_moveRootToFront_4 3 rfl rfl)
theorem dJ15_moveRootToFront_98 : decode cJ15_moveRootToFront 98 = .ok (.aconst_null, 1) := dk_1 (dk_at dksJ15_moveRootToFront_4 4 rfl rfl)
theorem dJ15_moveRootToFront_99 : decode cJ15_moveRootToFront 99 = .ok (.putfield 19, 3) := dk_181 0 19 (dk_at dksJ15_moveRootToFront_4 5 rfl rfl)
theorem dJ15_moveRootToFront_102 : decode cJ15_moveRootToFront 102 = .ok (.getstatic 26, 3) := dk_178 0 26 (dk_at dksJ15_moveRootToFront_4 8 rfl rfl)
theorem dJ15_moveRootToFront_105 : decode cJ15_moveRootToFront 105 = .ok (.ifCond .ne 18, 3) := dk_154 0 18 (dk_at dksJ15_moveRootToFront_4 11 rfl rfl)
theorem dJ15_moveRootToFront_108 : decode cJ15_moveRootToFront 108 = .ok (.aload_n 1, 1) := dk_43 (dk_at dksJ15_moveRootToFront_4 14 rfl rfl)
theorem dJ15_moveRootToFront_109 : decode cJ15_moveRootToFront 109 = .ok (.invokestatic 30, 3) := dk_184 0 30 (dk_at dksJ15_moveRootToFront_4 15 rfl rfl)
theorem dJ15_moveRootToFront_112 : decode cJ15_moveRootToFront 112 = .ok (.ifCond .ne 11, 3) := dk_154 0 11 (dk_at dksJ15_moveRootToFront_4 18 rfl rfl)
theorem dJ15_moveRootToFront_115 : decode cJ15_moveRootToFront 115 = .ok (.new 34, 3) := dk_187 0 34 (dk_at dksJ15_moveRootToFront_4 21 rfl rfl)
theorem dJ15_moveRootToFront_118 : decode cJ15_moveRootToFront 118 = .ok (.dup, 1) := dk_89 (dk_at dksJ15_moveRootToFront_5 0 rfl rfl)
theorem dJ15_moveRootToFront_119 : decode cJ15_moveRootToFront 119 = .ok (.invokespecial 36, 3) := dk_183 0 36 (dk_at dksJ15_moveRootToFront_5 1 rfl rfl)
theorem dJ15_moveRootToFront_122 : decode cJ15_moveRootToFront 122 = .ok (.athrow, 1) := dk_191 (dk_at dksJ15_moveRootToFront_5 4 rfl rfl)
theorem dJ15_moveRootToFront_123 : decode cJ15_moveRootToFront 123 = .ok (.return_, 1) := dk_177 (dk_at dksJ15_moveRootToFront_5 5 rfl rfl)
abbrev cJ15_putTreeVal : ByteArray := prog_40_method_9_code
def yJ15_putTreeVal : MethodName := ⟨RJ15, "putTreeVal", "(Ljava/util/HashMap;[Ljava/util/HashMap$Node;ILjava/lang/Object;Ljava/lang/Object;)Ljava/util/HashMap$TreeNode;"⟩
def dkwJ15_putTreeVal_13 : List UInt8 := [184, 0, 100, 184, 0, 104, 1, 176, 167, 254, 228]
abbrev dktJ15_putTreeVal_13 : List UInt8 := dkwJ15_putTreeVal_13 ++ []
def dkwJ15_putTreeVal_12 : List UInt8 := [181, 0, 9, 25, 14, 198, 0, 13, 25, 14, 192, 0, 10, 25, 15, 181, 0, 19, 44, 25, 8, 25, 15]
abbrev dktJ15_putTreeVal_12 : List UInt8 := dkwJ15_putTreeVal_12 ++ dktJ15_putTreeVal_13
def dkwJ15_putTreeVal_11 : List UInt8 := [25, 15, 181, 0, 42, 25, 13, 25, 15, 181, 0, 22, 25, 15, 25, 15, 25, 13, 90, 181, 0, 19]
abbrev dktJ15_putTreeVal_11 : List UInt8 := dkwJ15_putTreeVal_11 ++ dktJ15_putTreeVal_12
def dkwJ15_putTreeVal_10 : List UInt8 := [25, 14, 182, 0, 115, 58, 15, 21, 10, 157, 0, 13, 25, 13, 25, 15, 181, 0, 39, 167, 0, 10, 25, 13]
abbrev dktJ15_putTreeVal_10 : List UInt8 := dkwJ15_putTreeVal_10 ++ dktJ15_putTreeVal_11
def dkwJ15_putTreeVal_9 : List UInt8 := [25, 9, 180, 0, 42, 89, 58, 9, 199, 0, 93, 25, 13, 180, 0, 22, 58, 14, 43, 29, 25, 4, 25, 5]
abbrev dktJ15_putTreeVal_9 : List UInt8 := dkwJ15_putTreeVal_9 ++ dktJ15_putTreeVal_10
def dkwJ15_putTreeVal_8 : List UInt8 := [25, 12, 184, 0, 96, 54, 10, 25, 9, 58, 13, 21, 10, 157, 0, 11, 25, 9, 180, 0, 39, 167, 0, 8]
abbrev dktJ15_putTreeVal_8 : List UInt8 := dkwJ15_putTreeVal_8 ++ dktJ15_putTreeVal_9
def dkwJ15_putTreeVal_7 : List UInt8 := [198, 0, 22, 25, 14, 29, 25, 4, 25, 6, 182, 0, 63, 89, 58, 13, 198, 0, 6, 25, 13, 176, 25, 4]
abbrev dktJ15_putTreeVal_7 : List UInt8 := dkwJ15_putTreeVal_7 ++ dktJ15_putTreeVal_8
def dkwJ15_putTreeVal_6 : List UInt8 := [29, 25, 4, 25, 6, 182, 0, 63, 89, 58, 13, 199, 0, 30, 25, 9, 180, 0, 42, 89, 58, 14]
abbrev dktJ15_putTreeVal_6 : List UInt8 := dkwJ15_putTreeVal_6 ++ dktJ15_putTreeVal_7
def dkwJ15_putTreeVal_5 : List UInt8 := [154, 0, 77, 21, 7, 154, 0, 63, 4, 54, 7, 25, 9, 180, 0, 39, 89, 58, 14, 198, 0, 19, 25, 14]
abbrev dktJ15_putTreeVal_5 : List UInt8 := dkwJ15_putTreeVal_5 ++ dktJ15_putTreeVal_6
def dkwJ15_putTreeVal_4 : List UInt8 := [25, 4, 184, 0, 55, 89, 58, 6, 198, 0, 18, 25, 6, 25, 4, 25, 12, 184, 0, 59, 89, 54, 10]
abbrev dktJ15_putTreeVal_4 : List UInt8 := dkwJ15_putTreeVal_4 ++ dktJ15_putTreeVal_5
def dkwJ15_putTreeVal_3 : List UInt8 := [25, 4, 198, 0, 16, 25, 4, 25, 12, 182, 0, 49, 153, 0, 6, 25, 9, 176, 25, 6, 199, 0, 14]
abbrev dktJ15_putTreeVal_3 : List UInt8 := dkwJ15_putTreeVal_3 ++ dktJ15_putTreeVal_4
def dkwJ15_putTreeVal_2 : List UInt8 := [29, 162, 0, 9, 4, 54, 10, 167, 0, 139, 25, 9, 180, 0, 45, 89, 58, 12, 25, 4, 165, 0, 18]
abbrev dktJ15_putTreeVal_2 : List UInt8 := dkwJ15_putTreeVal_2 ++ dktJ15_putTreeVal_3
def dkwJ15_putTreeVal_1 : List UInt8 := [25, 8, 58, 9, 25, 9, 180, 0, 15, 89, 54, 11, 29, 164, 0, 9, 2, 54, 10, 167, 0, 151, 21, 11]
abbrev dktJ15_putTreeVal_1 : List UInt8 := dkwJ15_putTreeVal_1 ++ dktJ15_putTreeVal_2
def dkwJ15_putTreeVal_0 : List UInt8 := [1, 58, 6, 3, 54, 7, 42, 180, 0, 9, 198, 0, 10, 42, 182, 0, 67, 167, 0, 4, 42, 58, 8]
abbrev dktJ15_putTreeVal_0 : List UInt8 := dkwJ15_putTreeVal_0 ++ dktJ15_putTreeVal_1
theorem dksJ15_putTreeVal_0 : cJ15_putTreeVal.data.toList.drop 0 = dktJ15_putTreeVal_0 := by decide +kernel
theorem dksJ15_putTreeVal_1 : cJ15_putTreeVal.data.toList.drop 23 = dktJ15_putTreeVal_1 := dk_seg dksJ15_putTreeVal_0 23 rfl rfl
theorem dksJ15_putTreeVal_2 : cJ15_putTreeVal.data.toList.drop 47 = dktJ15_putTreeVal_2 := dk_seg dksJ15_putTreeVal_1 24 rfl rfl
theorem dksJ15_putTreeVal_3 : cJ15_putTreeVal.data.toList.drop 70 = dktJ15_putTreeVal_3 := dk_seg dksJ15_putTreeVal_2 23 rfl rfl
theorem dksJ15_putTreeVal_4 : cJ15_putTreeVal.data.toList.drop 93 = dktJ15_putTreeVal_4 := dk_seg dksJ15_putTreeVal_3 23 rfl rfl
theorem dksJ15_putTreeVal_5 : cJ15_putTreeVal.data.toList.drop 116 = dktJ15_putTreeVal_5 := dk_seg dksJ15_putTreeVal_4 23 rfl rfl
theorem dksJ15_putTreeVal_6 : cJ15_putTreeVal.data.toList.drop 140 = dktJ15_putTreeVal_6 := dk_seg dksJ15_putTreeVal_5 24 rfl rfl
theorem dksJ15_putTreeVal_7 : cJ15_putTreeVal.data.toList.drop 162 = dktJ15_putTreeVal_7 := dk_seg dksJ15_putTreeVal_6 22 rfl rfl
theorem dksJ15_putTreeVal_8 : cJ15_putTreeVal.data.toList.drop 186 = dktJ15_putTreeVal_8 := dk_seg dksJ15_putTreeVal_7 24 rfl rfl
theorem dksJ15_putTreeVal_9 : cJ15_putTreeVal.data.toList.drop 210 = dktJ15_putTreeVal_9 := dk_seg dksJ15_putTreeVal_8 24 rfl rfl
theorem dksJ15_putTreeVal_10 : cJ15_putTreeVal.data.toList.drop 234 = dktJ15_putTreeVal_10 := dk_seg dksJ15_putTreeVal_9 24 rfl rfl
theorem dksJ15_putTreeVal_11 : cJ15_putTreeVal.data.toList.drop 258 = dktJ15_putTreeVal_11 := dk_seg dksJ15_putTreeVal_10 24 rfl rfl
theorem dksJ15_putTreeVal_12 : cJ15_putTreeVal.data.toList.drop 280 = dktJ15_putTreeVal_12 := dk_seg dksJ15_putTreeVal_11 22 rfl rfl
theorem dksJ15_putTreeVal_13 : cJ15_putTreeVal.data.toList.drop 303 = dktJ15_putTreeVal_13 := dk_seg dksJ15_putTreeVal_12 23 rfl rfl
theorem dJ15_putTreeVal_0 : decode cJ15_putTreeVal 0 = .ok (.aconst_null, 1) := dk_1 (dk_at dksJ15_putTreeVal_0 0 rfl rfl)
theorem dJ15_putTreeVal_1 : decode cJ15_putTreeVal 1 = .ok (.astore 6, 2) := dk_58 6 (dk_at dksJ15_putTreeVal_0 1 rfl rfl)
theorem dJ15_putTreeVal_3 : decode cJ15_putTreeVal 3 = .ok (.iconst 0, 1) := dk_3 (dk_at dksJ15_putTreeVal_0 3 rfl rfl)
theorem dJ15_putTreeVal_4 : decode cJ15_putTreeVal 4 = .ok (.istore 7, 2) := dk_54 7 (dk_at dksJ15_putTreeVal_0 4 rfl rfl)
theorem dJ15_putTreeVal_6 : decode cJ15_putTreeVal 6 = .ok (.aload_n 0, 1) := dk_42 (dk_at dksJ15_putTreeVal_0 6 rfl rfl)
theorem dJ15_putTreeVal_7 : decode cJ15_putTreeVal 7 = .ok (.getfield 9, 3) := dk_180 0 9 (dk_at dksJ15_putTreeVal_0 7 rfl rfl)
theorem dJ15_putTreeVal_10 : decode cJ15_putTreeVal 10 = .ok (.ifnull 10, 3) := dk_198 0 10 (dk_at dksJ15_putTreeVal_0 10 rfl rfl)
theorem dJ15_putTreeVal_13 : decode cJ15_putTreeVal 13 = .ok (.aload_n 0, 1) := dk_42 (dk_at dksJ15_putTreeVal_0 13 rfl rfl)
theorem dJ15_putTreeVal_14 : decode cJ15_putTreeVal 14 = .ok (.invokevirtual 67, 3) := dk_182 0 67 (dk_at dksJ15_putTreeVal_0 14 rfl rfl)
theorem dJ15_putTreeVal_17 : decode cJ15_putTreeVal 17 = .ok (.goto 4, 3) := dk_167 0 4 (dk_at dksJ15_putTreeVal_0 17 rfl rfl)
theorem dJ15_putTreeVal_20 : decode cJ15_putTreeVal 20 = .ok (.aload_n 0, 1) := dk_42 (dk_at dksJ15_putTreeVal_0 20 rfl rfl)
theorem dJ15_putTreeVal_21 : decode cJ15_putTreeVal 21 = .ok (.astore 8, 2) := dk_58 8 (dk_at dksJ15_putTreeVal_0 21 rfl rfl)
theorem dJ15_putTreeVal_23 : decode cJ15_putTreeVal 23 = .ok (.aload 8, 2) := dk_25 8 (dk_at dksJ15_putTreeVal_1 0 rfl rfl)
theorem dJ15_putTreeVal_25 : decode cJ15_putTreeVal 25 = .ok (.astore 9, 2) := dk_58 9 (dk_at dksJ15_putTreeVal_1 2 rfl rfl)
theorem dJ15_putTreeVal_27 : decode cJ15_putTreeVal 27 = .ok (.aload 9, 2) := dk_25 9 (dk_at dksJ15_putTreeVal_1 4 rfl rfl)
theorem dJ15_putTreeVal_29 : decode cJ15_putTreeVal 29 = .ok (.getfield 15, 3) := dk_180 0 15 (dk_at dksJ15_putTreeVal_1 6 rfl rfl)
theorem dJ15_putTreeVal_32 : decode cJ15_putTreeVal 32 = .ok (.dup, 1) := dk_89 (dk_at dksJ15_putTreeVal_1 9 rfl rfl)
theorem dJ15_putTreeVal_33 : decode cJ15_putTreeVal 33 = .ok (.istore 11, 2) := dk_54 11 (dk_at dksJ15_putTreeVal_1 10 rfl rfl)
theorem dJ15_putTreeVal_35 : decode cJ15_putTreeVal 35 = .ok (.iload_n 3, 1) := dk_29 (dk_at dksJ15_putTreeVal_1 12 rfl rfl)
theorem dJ15_putTreeVal_36 : decode cJ15_putTreeVal 36 = .ok (.if_icmp .le 9, 3) := dk_164 0 9 (dk_at dksJ15_putTreeVal_1 13 rfl rfl)
theorem dJ15_putTreeVal_39 : decode cJ15_putTreeVal 39 = .ok (.iconst (-1), 1) := dk_2 (dk_at dksJ15_putTreeVal_1 16 rfl rfl)
theorem dJ15_putTreeVal_40 : decode cJ15_putTreeVal 40 = .ok (.istore 10, 2) := dk_54 10 (dk_at dksJ15_putTreeVal_1 17 rfl rfl)
theorem dJ15_putTreeVal_42 : decode cJ15_putTreeVal 42 = .ok (.goto 151, 3) := dk_167 0 151 (dk_at dksJ15_putTreeVal_1 19 rfl rfl)
theorem dJ15_putTreeVal_45 : decode cJ15_putTreeVal 45 = .ok (.iload 11, 2) := dk_21 11 (dk_at dksJ15_putTreeVal_1 22 rfl rfl)
theorem dJ15_putTreeVal_47 : decode cJ15_putTreeVal 47 = .ok (.iload_n 3, 1) := dk_29 (dk_at dksJ15_putTreeVal_2 0 rfl rfl)
theorem dJ15_putTreeVal_48 : decode cJ15_putTreeVal 48 = .ok (.if_icmp .ge 9, 3) := dk_162 0 9 (dk_at dksJ15_putTreeVal_2 1 rfl rfl)
theorem dJ15_putTreeVal_51 : decode cJ15_putTreeVal 51 = .ok (.iconst 1, 1) := dk_4 (dk_at dksJ15_putTreeVal_2 4 rfl rfl)
theorem dJ15_putTreeVal_52 : decode cJ15_putTreeVal 52 = .ok (.istore 10, 2) := dk_54 10 (dk_at dksJ15_putTreeVal_2 5 rfl rfl)
theorem dJ15_putTreeVal_54 : decode cJ15_putTreeVal 54 = .ok (.goto 139, 3) := dk_167 0 139 (dk_at dksJ15_putTreeVal_2 7 rfl rfl)
theorem dJ15_putTreeVal_57 : decode cJ15_putTreeVal 57 = .ok (.aload 9, 2) := dk_25 9 (dk_at dksJ15_putTreeVal_2 10 rfl rfl)
theorem dJ15_putTreeVal_59 : decode cJ15_putTreeVal 59 = .ok (.getfield 45, 3) := dk_180 0 45 (dk_at dksJ15_putTreeVal_2 12 rfl rfl)
theorem dJ15_putTreeVal_62 : decode cJ15_putTreeVal 62 = .ok (.dup, 1) := dk_89 (dk_at dksJ15_putTreeVal_2 15 rfl rfl)
theorem dJ15_putTreeVal_63 : decode cJ15_putTreeVal 63 = .ok (.astore 12, 2) := dk_58 12 (dk_at dksJ15_putTreeVal_2 16 rfl rfl)
theorem dJ15_putTreeVal_65 : decode cJ15_putTreeVal 65 = .ok (.aload 4, 2) := dk_25 4 (dk_at dksJ15_putTreeVal_2 18 rfl rfl)
theorem dJ15_putTreeVal_67 : decode cJ15_putTreeVal 67 = .ok (.if_acmp .eq 18, 3) := dk_165 0 18 (dk_at dksJ15_putTreeVal_2 20 rfl rfl)
theorem dJ15_putTreeVal_70 : decode cJ15_putTreeVal 70 = .ok (.aload 4, 2) := dk_25 4 (dk_at dksJ15_putTreeVal_3 0 rfl rfl)
theorem dJ15_putTreeVal_72 : decode cJ15_putTreeVal 72 = .ok (.ifnull 16, 3) := dk_198 0 16 (dk_at dksJ15_putTreeVal_3 2 rfl rfl)
theorem dJ15_putTreeVal_75 : decode cJ15_putTreeVal 75 = .ok (.aload 4, 2) := dk_25 4 (dk_at dksJ15_putTreeVal_3 5 rfl rfl)
theorem dJ15_putTreeVal_77 : decode cJ15_putTreeVal 77 = .ok (.aload 12, 2) := dk_25 12 (dk_at dksJ15_putTreeVal_3 7 rfl rfl)
theorem dJ15_putTreeVal_79 : decode cJ15_putTreeVal 79 = .ok (.invokevirtual 49, 3) := dk_182 0 49 (dk_at dksJ15_putTreeVal_3 9 rfl rfl)
theorem dJ15_putTreeVal_82 : decode cJ15_putTreeVal 82 = .ok (.ifCond .eq 6, 3) := dk_153 0 6 (dk_at dksJ15_putTreeVal_3 12 rfl rfl)
theorem dJ15_putTreeVal_85 : decode cJ15_putTreeVal 85 = .ok (.aload 9, 2) := dk_25 9 (dk_at dksJ15_putTreeVal_3 15 rfl rfl)
theorem dJ15_putTreeVal_87 : decode cJ15_putTreeVal 87 = .ok (.areturn, 1) := dk_176 (dk_at dksJ15_putTreeVal_3 17 rfl rfl)
theorem dJ15_putTreeVal_88 : decode cJ15_putTreeVal 88 = .ok (.aload 6, 2) := dk_25 6 (dk_at dksJ15_putTreeVal_3 18 rfl rfl)
theorem dJ15_putTreeVal_90 : decode cJ15_putTreeVal 90 = .ok (.ifnonnull 14, 3) := dk_199 0 14 (dk_at dksJ15_putTreeVal_3 20 rfl rfl)
theorem dJ15_putTreeVal_93 : decode cJ15_putTreeVal 93 = .ok (.aload 4, 2) := dk_25 4 (dk_at dksJ15_putTreeVal_4 0 rfl rfl)
theorem dJ15_putTreeVal_95 : decode cJ15_putTreeVal 95 = .ok (.invokestatic 55, 3) := dk_184 0 55 (dk_at dksJ15_putTreeVal_4 2 rfl rfl)
theorem dJ15_putTreeVal_98 : decode cJ15_putTreeVal 98 = .ok (.dup, 1) := dk_89 (dk_at dksJ15_putTreeVal_4 5 rfl rfl)
theorem dJ15_putTreeVal_99 : decode cJ15_putTreeVal 99 = .ok (.astore 6, 2) := dk_58 6 (dk_at dksJ15_putTreeVal_4 6 rfl rfl)
theorem dJ15_putTreeVal_101 : decode cJ15_putTreeVal 101 = .ok (.ifnull 18, 3) := dk_198 0 18 (dk_at dksJ15_putTreeVal_4 8 rfl rfl)
theorem dJ15_putTreeVal_104 : decode cJ15_putTreeVal 104 = .ok (.aload 6, 2) := dk_25 6 (dk_at dksJ15_putTreeVal_4 11 rfl rfl)
theorem dJ15_putTreeVal_106 : decode cJ15_putTreeVal 106 = .ok (.aload 4, 2) := dk_25 4 (dk_at dksJ15_putTreeVal_4 13 rfl rfl)
theorem dJ15_putTreeVal_108 : decode cJ15_putTreeVal 108 = .ok (.aload 12, 2) := dk_25 12 (dk_at dksJ15_putTreeVal_4 15 rfl rfl)
theorem dJ15_putTreeVal_110 : decode cJ15_putTreeVal 110 = .ok (.invokestatic 59, 3) := dk_184 0 59 (dk_at dksJ15_putTreeVal_4 17 rfl rfl)
theorem dJ15_putTreeVal_113 : decode cJ15_putTreeVal 113 = .ok (.dup, 1) := dk_89 (dk_at dksJ15_putTreeVal_4 20 rfl rfl)
theorem dJ15_putTreeVal_114 : decode cJ15_putTreeVal 114 = .ok (.istore 10, 2) := dk_54 10 (dk_at dksJ15_putTreeVal_4 21 rfl rfl)
theorem dJ15_putTreeVal_116 : decode cJ15_putTreeVal 116 = .ok (.ifCond .ne 77, 3) := dk_154 0 77 (dk_at dksJ15_putTreeVal_5 0 rfl rfl)
theorem dJ15_putTreeVal_119 : decode cJ15_putTreeVal 119 = .ok (.iload 7, 2) := dk_21 7 (dk_at dksJ15_putTreeVal_5 3 rfl rfl)
theorem dJ15_putTreeVal_121 : decode cJ15_putTreeVal 121 = .ok (.ifCond .ne 63, 3) := dk_154 0 63 (dk_at dksJ15_putTreeVal_5 5 rfl rfl)
theorem dJ15_putTreeVal_124 : decode cJ15_putTreeVal 124 = .ok (.iconst 1, 1) := dk_4 (dk_at dksJ15_putTreeVal_5 8 rfl rfl)
theorem dJ15_putTreeVal_125 : decode cJ15_putTreeVal 125 = .ok (.istore 7, 2) := dk_54 7 (dk_at dksJ15_putTreeVal_5 9 rfl rfl)
theorem dJ15_putTreeVal_127 : decode cJ15_putTreeVal 127 = .ok (.aload 9, 2) := dk_25 9 (dk_at dksJ15_putTreeVal_5 11 rfl rfl)
theorem dJ15_putTreeVal_129 : decode cJ15_putTreeVal 129 = .ok (.getfield 39, 3) := dk_180 0 39 (dk_at dksJ15_putTreeVal_5 13 rfl rfl)
theorem dJ15_putTreeVal_132 : decode cJ15_putTreeVal 132 = .ok (.dup, 1) := dk_89 (dk_at dksJ15_putTreeVal_5 16 rfl rfl)
theorem dJ15_putTreeVal_133 : decode cJ15_putTreeVal 133 = .ok (.astore 14, 2) := dk_58 14 (dk_at dksJ15_putTreeVal_5 17 rfl rfl)
theorem dJ15_putTreeVal_135 : decode cJ15_putTreeVal 135 = .ok (.ifnull 19, 3) := dk_198 0 19 (dk_at dksJ15_putTreeVal_5 19 rfl rfl)
theorem dJ15_putTreeVal_138 : decode cJ15_putTreeVal 138 = .ok (.aload 14, 2) := dk_25 14 (dk_at dksJ15_putTreeVal_5 22 rfl rfl)
theorem dJ15_putTreeVal_140 : decode cJ15_putTreeVal 140 = .ok (.iload_n 3, 1) := dk_29 (dk_at dksJ15_putTreeVal_6 0 rfl rfl)
theorem dJ15_putTreeVal_141 : decode cJ15_putTreeVal 141 = .ok (.aload 4, 2) := dk_25 4 (dk_at dksJ15_putTreeVal_6 1 rfl rfl)
theorem dJ15_putTreeVal_143 : decode cJ15_putTreeVal 143 = .ok (.aload 6, 2) := dk_25 6 (dk_at dksJ15_putTreeVal_6 3 rfl rfl)
theorem dJ15_putTreeVal_145 : decode cJ15_putTreeVal 145 = .ok (.invokevirtual 63, 3) := dk_182 0 63 (dk_at dksJ15_putTreeVal_6 5 rfl rfl)
theorem dJ15_putTreeVal_148 : decode cJ15_putTreeVal 148 = .ok (.dup, 1) := dk_89 (dk_at dksJ15_putTreeVal_6 8 rfl rfl)
theorem dJ15_putTreeVal_149 : decode cJ15_putTreeVal 149 = .ok (.astore 13, 2) := dk_58 13 (dk_at dksJ15_putTreeVal_6 9 rfl rfl)
theorem dJ15_putTreeVal_151 : decode cJ15_putTreeVal 151 = .ok (.ifnonnull 30, 3) := dk_199 0 30 (dk_at dksJ15_putTreeVal_6 11 rfl rfl)
theorem dJ15_putTreeVal_154 : decode cJ15_putTreeVal 154 = .ok (.aload 9, 2) := dk_25 9 (dk_at dksJ15_putTreeVal_6 14 rfl rfl)
theorem dJ15_putTreeVal_156 : decode cJ15_putTreeVal 156 = .ok (.getfield 42, 3) := dk_180 0 42 (dk_at dksJ15_putTreeVal_6 16 rfl rfl)
theorem dJ15_putTreeVal_159 : decode cJ15_putTreeVal 159 = .ok (.dup, 1) := dk_89 (dk_at dksJ15_putTreeVal_6 19 rfl rfl)
theorem dJ15_putTreeVal_160 : decode cJ15_putTreeVal 160 = .ok (.astore 14, 2) := dk_58 14 (dk_at dksJ15_putTreeVal_6 20 rfl rfl)
theorem dJ15_putTreeVal_162 : decode cJ15_putTreeVal 162 = .ok (.ifnull 22, 3) := dk_198 0 22 (dk_at dksJ15_putTreeVal_7 0 rfl rfl)
theorem dJ15_putTreeVal_165 : decode cJ15_putTreeVal 165 = .ok (.aload 14, 2) := dk_25 14 (dk_at dksJ15_putTreeVal_7 3 rfl rfl)
theorem dJ15_putTreeVal_167 : decode cJ15_putTreeVal 167 = .ok (.iload_n 3, 1) := dk_29 (dk_at dksJ15_putTreeVal_7 5 rfl rfl)
theorem dJ15_putTreeVal_168 : decode cJ15_putTreeVal 168 = .ok (.aload 4, 2) := dk_25 4 (dk_at dksJ15_putTreeVal_7 6 rfl rfl)
theorem dJ15_putTreeVal_170 : decode cJ15_putTreeVal 170 = .ok (.aload 6, 2) := dk_25 6 (dk_at dksJ15_putTreeVal_7 8 rfl rfl)
theorem dJ15_putTreeVal_172 : decode cJ15_putTreeVal 172 = .ok (.invokevirtual 63, 3) := dk_182 0 63 (dk_at dksJ15_putTreeVal_7 10 rfl rfl)
theorem dJ15_putTreeVal_175 : decode cJ15_putTreeVal 175 = .ok (.dup, 1) := dk_89 (dk_at dksJ15_putTreeVal_7 13 rfl rfl)
theorem dJ15_putTreeVal_176 : decode cJ15_putTreeVal 176 = .ok (.astore 13, 2) := dk_58 13 (dk_at dksJ15_putTreeVal_7 14 rfl rfl)
theorem dJ15_putTreeVal_178 : decode cJ15_putTreeVal 178 = .ok (.ifnull 6, 3) := dk_198 0 6 (dk_at dksJ15_putTreeVal_7 16 rfl rfl)
theorem dJ15_putTreeVal_181 : decode cJ15_putTreeVal 181 = .ok (.aload 13, 2) := dk_25 13 (dk_at dksJ15_putTreeVal_7 19 rfl rfl)
theorem dJ15_putTreeVal_183 : decode cJ15_putTreeVal 183 = .ok (.areturn, 1) := dk_176 (dk_at dksJ15_putTreeVal_7 21 rfl rfl)
theorem dJ15_putTreeVal_184 : decode cJ15_putTreeVal 184 = .ok (.aload 4, 2) := dk_25 4 (dk_at dksJ15_putTreeVal_7 22 rfl rfl)
theorem dJ15_putTreeVal_186 : decode cJ15_putTreeVal 186 = .ok (.aload 12, 2) := dk_25 12 (dk_at dksJ15_putTreeVal_8 0 rfl rfl)
theorem dJ15_putTreeVal_188 : decode cJ15_putTreeVal 188 = .ok (.invokestatic 96, 3) := dk_184 0 96 (dk_at dksJ15_putTreeVal_8 2 rfl rfl)
theorem dJ15_putTreeVal_191 : decode cJ15_putTreeVal 191 = .ok (.istore 10, 2) := dk_54 10 (dk_at dksJ15_putTreeVal_8 5 rfl rfl)
theorem dJ15_putTreeVal_193 : decode cJ15_putTreeVal 193 = .ok (.aload 9, 2) := dk_25 9 (dk_at dksJ15_putTreeVal_8 7 rfl rfl)
theorem dJ15_putTreeVal_195 : decode cJ15_putTreeVal 195 = .ok (.astore 13, 2) := dk_58 13 (dk_at dksJ15_putTreeVal_8 9 rfl rfl)
theorem dJ15_putTreeVal_197 : decode cJ15_putTreeVal 197 = .ok (.iload 10, 2) := dk_21 10 (dk_at dksJ15_putTreeVal_8 11 rfl rfl)
theorem dJ15_putTreeVal_199 : decode cJ15_putTreeVal 199 = .ok (.ifCond .gt 11, 3) := dk_157 0 11 (dk_at dksJ15_putTreeVal_8 13 rfl rfl)
theorem dJ15_putTreeVal_202 : decode cJ15_putTreeVal 202 = .ok (.aload 9, 2) := dk_25 9 (dk_at dksJ15_putTreeVal_8 16 rfl rfl)
theorem dJ15_putTreeVal_204 : decode cJ15_putTreeVal 204 = .ok (.getfield 39, 3) := dk_180 0 39 (dk_at dksJ15_putTreeVal_8 18 rfl rfl)
theorem dJ15_putTreeVal_207 : decode cJ15_putTreeVal 207 = .ok (.goto 8, 3) := dk_167 0 8 (dk_at dksJ15_putTreeVal_8 21 rfl rfl)
theorem dJ15_putTreeVal_210 : decode cJ15_putTreeVal 210 = .ok (.aload 9, 2) := dk_25 9 (dk_at dksJ15_putTreeVal_9 0 rfl rfl)
theorem dJ15_putTreeVal_212 : decode cJ15_putTreeVal 212 = .ok (.getfield 42, 3) := dk_180 0 42 (dk_at dksJ15_putTreeVal_9 2 rfl rfl)
theorem dJ15_putTreeVal_215 : decode cJ15_putTreeVal 215 = .ok (.dup, 1) := dk_89 (dk_at dksJ15_putTreeVal_9 5 rfl rfl)
theorem dJ15_putTreeVal_216 : decode cJ15_putTreeVal 216 = .ok (.astore 9, 2) := dk_58 9 (dk_at dksJ15_putTreeVal_9 6 rfl rfl)
theorem dJ15_putTreeVal_218 : decode cJ15_putTreeVal 218 = .ok (.ifnonnull 93, 3) := dk_199 0 93 (dk_at dksJ15_putTreeVal_9 8 rfl rfl)
theorem dJ15_putTreeVal_221 : decode cJ15_putTreeVal 221 = .ok (.aload 13, 2) := dk_25 13 (dk_at dksJ15_putTreeVal_9 11 rfl rfl)
theorem dJ15_putTreeVal_223 : decode cJ15_putTreeVal 223 = .ok (.getfield 22, 3) := dk_180 0 22 (dk_at dksJ15_putTreeVal_9 13 rfl rfl)
theorem dJ15_putTreeVal_226 : decode cJ15_putTreeVal 226 = .ok (.astore 14, 2) := dk_58 14 (dk_at dksJ15_putTreeVal_9 16 rfl rfl)
theorem dJ15_putTreeVal_228 : decode cJ15_putTreeVal 228 = .ok (.aload_n 1, 1) := dk_43 (dk_at dksJ15_putTreeVal_9 18 rfl rfl)
theorem dJ15_putTreeVal_229 : decode cJ15_putTreeVal 229 = .ok (.iload_n 3, 1) := dk_29 (dk_at dksJ15_putTreeVal_9 19 rfl rfl)
theorem dJ15_putTreeVal_230 : decode cJ15_putTreeVal 230 = .ok (.aload 4, 2) := dk_25 4 (dk_at dksJ15_putTreeVal_9 20 rfl rfl)
theorem dJ15_putTreeVal_232 : decode cJ15_putTreeVal 232 = .ok (.aload 5, 2) := dk_25 5 (dk_at dksJ15_putTreeVal_9 22 rfl rfl)
theorem dJ15_putTreeVal_234 : decode cJ15_putTreeVal 234 = .ok (.aload 14, 2) := dk_25 14 (dk_at dksJ15_putTreeVal_10 0 rfl rfl)
theorem dJ15_putTreeVal_236 : decode cJ15_putTreeVal 236 = .ok (.invokevirtual 115, 3) := dk_182 0 115 (dk_at dksJ15_putTreeVal_10 2 rfl rfl)
theorem dJ15_putTreeVal_239 : decode cJ15_putTreeVal 239 = .ok (.astore 15, 2) := dk_58 15 (dk_at dksJ15_putTreeVal_10 5 rfl rfl)
theorem dJ15_putTreeVal_241 : decode cJ15_putTreeVal 241 = .ok (.iload 10, 2) := dk_21 10 (dk_at dksJ15_putTreeVal_10 7 rfl rfl)
theorem dJ15_putTreeVal_243 : decode cJ15_putTreeVal 243 = .ok (.ifCond .gt 13, 3) := dk_157 0 13 (dk_at dksJ15_putTreeVal_10 9 rfl rfl)
theorem dJ15_putTreeVal_246 : decode cJ15_putTreeVal 246 = .ok (.aload 13, 2) := dk_25 13 (dk_at dksJ15_putTreeVal_10 12 rfl rfl)
theorem dJ15_putTreeVal_248 : decode cJ15_putTreeVal 248 = .ok (.aload 15, 2) := dk_25 15 (dk_at dksJ15_putTreeVal_10 14 rfl rfl)
theorem dJ15_putTreeVal_250 : decode cJ15_putTreeVal 250 = .ok (.putfield 39, 3) := dk_181 0 39 (dk_at dksJ15_putTreeVal_10 16 rfl rfl)
theorem dJ15_putTreeVal_253 : decode cJ15_putTreeVal 253 = .ok (.goto 10, 3) := dk_167 0 10 (dk_at dksJ15_putTreeVal_10 19 rfl rfl)
theorem dJ15_putTreeVal_256 : decode cJ15_putTreeVal 256 = .ok (.aload 13, 2) := dk_25 13 (dk_at dksJ15_putTreeVal_10 22 rfl rfl)
theorem dJ15_putTreeVal_258 : decode cJ15_putTreeVal 258 = .ok (.aload 15, 2) := dk_25 15 (dk_at dksJ15_putTreeVal_11 0 rfl rfl)
theorem dJ15_putTreeVal_260 : decode cJ15_putTreeVal 260 = .ok (.putfield 42, 3) := dk_181 0 42 (dk_at dksJ15_putTreeVal_11 2 rfl rfl)
theorem dJ15_putTreeVal_263 : decode cJ15_putTreeVal 263 = .ok (.aload 13, 2) := dk_25 13 (dk_at dksJ15_putTreeVal_11 5 rfl rfl)
theorem dJ15_putTreeVal_265 : decode cJ15_putTreeVal 265 = .ok (.aload 15, 2) := dk_25 15 (dk_at dksJ15_putTreeVal_11 7 rfl rfl)
theorem dJ15_putTreeVal_267 : decode cJ15_putTreeVal 267 = .ok (.putfield 22, 3) := dk_181 0 22 (dk_at dksJ15_putTreeVal_11 9 rfl rfl)
theorem dJ15_putTreeVal_270 : decode cJ15_putTreeVal 270 = .ok (.aload 15, 2) := dk_25 15 (dk_at dksJ15_putTreeVal_11 12 rfl rfl)
theorem dJ15_putTreeVal_272 : decode cJ15_putTreeVal 272 = .ok (.aload 15, 2) := dk_25 15 (dk_at dksJ15_putTreeVal_11 14 rfl rfl)
theorem dJ15_putTreeVal_274 : decode cJ15_putTreeVal 274 = .ok (.aload 13, 2) := dk_25 13 (dk_at dksJ15_putTreeVal_11 16 rfl rfl)
theorem dJ15_putTreeVal_276 : decode cJ15_putTreeVal 276 = .ok (.dup_x1, 1) := dk_90 (dk_at dksJ15_putTreeVal_11 18 rfl rfl)
theorem dJ15_putTreeVal_277 : decode cJ15_putTreeVal 277 = .ok (.putfield 19, 3) := dk_181 0 19 (dk_at dksJ15_putTreeVal_11 19 rfl rfl)
theorem dJ15_putTreeVal_280 : decode cJ15_putTreeVal 280 = .ok (.putfield 9, 3) := dk_181 0 9 (dk_at dksJ15_putTreeVal_12 0 rfl rfl)
theorem dJ15_putTreeVal_283 : decode cJ15_putTreeVal 283 = .ok (.aload 14, 2) := dk_25 14 (dk_at dksJ15_putTreeVal_12 3 rfl rfl)
theorem dJ15_putTreeVal_285 : decode cJ15_putTreeVal 285 = .ok (.ifnull 13, 3) := dk_198 0 13 (dk_at dksJ15_putTreeVal_12 5 rfl rfl)
theorem dJ15_putTreeVal_288 : decode cJ15_putTreeVal 288 = .ok (.aload 14, 2) := dk_25 14 (dk_at dksJ15_putTreeVal_12 8 rfl rfl)
theorem dJ15_putTreeVal_290 : decode cJ15_putTreeVal 290 = .ok (.checkcast 10, 3) := dk_192 0 10 (dk_at dksJ15_putTreeVal_12 10 rfl rfl)
theorem dJ15_putTreeVal_293 : decode cJ15_putTreeVal 293 = .ok (.aload 15, 2) := dk_25 15 (dk_at dksJ15_putTreeVal_12 13 rfl rfl)
theorem dJ15_putTreeVal_295 : decode cJ15_putTreeVal 295 = .ok (.putfield 19, 3) := dk_181 0 19 (dk_at dksJ15_putTreeVal_12 15 rfl rfl)
theorem dJ15_putTreeVal_298 : decode cJ15_putTreeVal 298 = .ok (.aload_n 2, 1) := dk_44 (dk_at dksJ15_putTreeVal_12 18 rfl rfl)
theorem dJ15_putTreeVal_299 : decode cJ15_putTreeVal 299 = .ok (.aload 8, 2) := dk_25 8 (dk_at dksJ15_putTreeVal_12 19 rfl rfl)
theorem dJ15_putTreeVal_301 : decode cJ15_putTreeVal 301 = .ok (.aload 15, 2) := dk_25 15 (dk_at dksJ15_putTreeVal_12 21 rfl rfl)
theorem dJ15_putTreeVal_303 : decode cJ15_putTreeVal 303 = .ok (.invokestatic 100, 3) := dk_184 0 100 (dk_at dksJ15_putTreeVal_13 0 rfl rfl)
theorem dJ15_putTreeVal_306 : decode cJ15_putTreeVal 306 = .ok (.invokestatic 104, 3) := dk_184 0 104 (dk_at dksJ15_putTreeVal_13 3 rfl rfl)
theorem dJ15_putTreeVal_309 : decode cJ15_putTreeVal 309 = .ok (.aconst_null, 1) := dk_1 (dk_at dksJ15_putTreeVal_13 6 rfl rfl)
theorem dJ15_putTreeVal_310 : decode cJ15_putTreeVal 310 = .ok (.areturn, 1) := dk_176 (dk_at dksJ15_putTreeVal_13 7 rfl rfl)
theorem dJ15_putTreeVal_311 : decode cJ15_putTreeVal 311 = .ok (.goto (-284), 3) := dk_167 254 228 (dk_at dksJ15_putTreeVal_13 8 rfl rfl)
abbrev cJ15_init : ByteArray := prog_40_method_1_code
def yJ15_init : MethodName := ⟨RJ15, "<init>", "(ILjava/lang/Object;Ljava/lang/Object;Ljava/util/HashMap$Node;)V"⟩
def dkwJ15_init_0 : List UInt8 := [42, 27, 44, 45, 25, 4, 183, 0, 3, 177]
abbrev dktJ15_init_0 : List UInt8 := dkwJ15_init_0 ++ []
theorem dksJ15_init_0 : cJ15_init.data.toList.drop 0 = dktJ15_init_0 := by decide +kernel
theorem dJ15_init_0 : decode cJ15_init 0 = .ok (.aload_n 0, 1) := dk_42 (dk_at dksJ15_init_0 0 rfl rfl)
theorem dJ15_init_1 : decode cJ15_init 1 = .ok (.iload_n 1, 1) := dk_27 (dk_at dksJ15_init_0 1 rfl rfl)
theorem dJ15_init_2 : decode cJ15_init 2 = .ok (.aload_n 2, 1) := dk_44 (dk_at dksJ15_init_0 2 rfl rfl)
theorem dJ15_init_3 : decode cJ15_init 3 = .ok (.aload_n 3, 1) := dk_45 (dk_at dksJ15_init_0 3 rfl rfl)
theorem dJ15_init_4 : decode cJ15_init 4 = .ok (.aload 4, 2) := dk_25 4 (dk_at dksJ15_init_0 4 rfl rfl)
theorem dJ15_init_6 : decode cJ15_init 6 = .ok (.invokespecial 3, 3) := dk_183 0 3 (dk_at dksJ15_init_0 6 rfl rfl)
theorem dJ15_init_9 : decode cJ15_init 9 = .ok (.return_, 1) := dk_177 (dk_at dksJ15_init_0 9 rfl rfl)
theorem q59 : (Jvm.Cond.initialized "java/util/HashMap$TreeNode") ∈ lw_all := lw_g (lw_at lw_m1 28 rfl) rfl
theorem q385 : (Jvm.Cond.instanceMethod ({ cls := "java/util/HashMap$TreeNode", name := "getTreeNode", desc := "(ILjava/lang/Object;)Ljava/util/HashMap$TreeNode;" } : Jvm.MethodName)) ∈ lw_all := lw_g (lw_at lw_m2 114 rfl) rfl
theorem q386 : (Jvm.Cond.selects "java/util/HashMap$TreeNode" ({ cls := "java/util/HashMap$TreeNode", name := "getTreeNode", desc := "(ILjava/lang/Object;)Ljava/util/HashMap$TreeNode;" } : Jvm.MethodName) ({ cls := "java/util/HashMap$TreeNode", name := "getTreeNode", desc := "(ILjava/lang/Object;)Ljava/util/HashMap$TreeNode;" } : Jvm.MethodName)) ∈ lw_all := lw_g (lw_at lw_m2 115 rfl) rfl
theorem q387 : (Jvm.Cond.code ({ cls := "java/util/HashMap$TreeNode", name := "getTreeNode", desc := "(ILjava/lang/Object;)Ljava/util/HashMap$TreeNode;" } : Jvm.MethodName) prog_40_method_5_code (3 : Nat) (Option.some (Jvm.ClassFile.FieldType.object "java/util/HashMap$TreeNode"))) ∈ lw_all := lw_g (lw_at lw_m2 116 rfl) rfl
theorem q388 : (Jvm.Cond.methodLink "java/util/HashMap$TreeNode" (67 : Nat) ({ cls := "java/util/HashMap$TreeNode", name := "root", desc := "()Ljava/util/HashMap$TreeNode;" } : Jvm.MethodName)) ∈ lw_all := lw_g (lw_at lw_m2 117 rfl) rfl
theorem q389 : (Jvm.Cond.instanceMethod ({ cls := "java/util/HashMap$TreeNode", name := "root", desc := "()Ljava/util/HashMap$TreeNode;" } : Jvm.MethodName)) ∈ lw_all := lw_g (lw_at lw_m2 118 rfl) rfl
theorem q390 : (Jvm.Cond.selects "java/util/HashMap$TreeNode" ({ cls := "java/util/HashMap$TreeNode", name := "root", desc := "()Ljava/util/HashMap$TreeNode;" } : Jvm.MethodName) ({ cls := "java/util/HashMap$TreeNode", name := "root", desc := "()Ljava/util/HashMap$TreeNode;" } : Jvm.MethodName)) ∈ lw_all := lw_g (lw_at lw_m2 119 rfl) rfl
theorem q391 : (Jvm.Cond.code ({ cls := "java/util/HashMap$TreeNode", name := "root", desc := "()Ljava/util/HashMap$TreeNode;" } : Jvm.MethodName) prog_40_method_2_code (3 : Nat) (Option.some (Jvm.ClassFile.FieldType.object "java/util/HashMap$TreeNode"))) ∈ lw_all := lw_g (lw_at lw_m2 120 rfl) rfl
theorem q392 : (Jvm.Cond.methodLink "java/util/HashMap$TreeNode" (63 : Nat) ({ cls := "java/util/HashMap$TreeNode", name := "find", desc := "(ILjava/lang/Object;Ljava/lang/Class;)Ljava/util/HashMap$TreeNode;" } : Jvm.MethodName)) ∈ lw_all := lw_g (lw_at lw_m2 121 rfl) rfl
theorem q393 : (Jvm.Cond.instanceMethod ({ cls := "java/util/HashMap$TreeNode", name := "find", desc := "(ILjava/lang/Object;Ljava/lang/Class;)Ljava/util/HashMap$TreeNode;" } : Jvm.MethodName)) ∈ lw_all := lw_g (lw_at lw_m2 122 rfl) rfl
theorem q394 : (Jvm.Cond.selects "java/util/HashMap$TreeNode" ({ cls := "java/util/HashMap$TreeNode", name := "find", desc := "(ILjava/lang/Object;Ljava/lang/Class;)Ljava/util/HashMap$TreeNode;" } : Jvm.MethodName) ({ cls := "java/util/HashMap$TreeNode", name := "find", desc := "(ILjava/lang/Object;Ljava/lang/Class;)Ljava/util/HashMap$TreeNode;" } : Jvm.MethodName)) ∈ lw_all := lw_g (lw_at lw_m2 123 rfl) rfl
theorem q395 : (Jvm.Cond.code ({ cls := "java/util/HashMap$TreeNode", name := "find", desc := "(ILjava/lang/Object;Ljava/lang/Class;)Ljava/util/HashMap$TreeNode;" } : Jvm.MethodName) prog_40_method_4_code (11 : Nat) (Option.some (Jvm.ClassFile.FieldType.object "java/util/HashMap$TreeNode"))) ∈ lw_all := lw_g (lw_at lw_m2 124 rfl) rfl
theorem q396 : (Jvm.Cond.methodLink "java/util/HashMap$TreeNode" (49 : Nat) ({ cls := "java/lang/Object", name := "equals", desc := "(Ljava/lang/Object;)Z" } : Jvm.MethodName)) ∈ lw_all := lw_g (lw_at lw_m2 125 rfl) rfl
theorem q397 : (Jvm.Cond.methodLink "java/util/HashMap$TreeNode" (55 : Nat) ({ cls := "java/util/HashMap", name := "comparableClassFor", desc := "(Ljava/lang/Object;)Ljava/lang/Class;" } : Jvm.MethodName)) ∈ lw_all := lw_g (lw_at lw_m2 126 rfl) rfl
theorem q420 : (Jvm.Cond.selects "java/util/HashMap$TreeNode" ({ cls := "java/lang/Object", name := "getClass", desc := "()Ljava/lang/Class;" } : Jvm.MethodName) ({ cls := "java/lang/Object", name := "getClass", desc := "()Ljava/lang/Class;" } : Jvm.MethodName)) ∈ lw_all := lw_g (lw_at lw_m2 149 rfl) rfl
theorem q423 : (Jvm.Cond.methodLink "java/util/HashMap$TreeNode" (59 : Nat) ({ cls := "java/util/HashMap", name := "compareComparables", desc := "(Ljava/lang/Class;Ljava/lang/Object;Ljava/lang/Object;)I" } : Jvm.MethodName)) ∈ lw_all := lw_g (lw_at lw_m2 152 rfl) rfl
theorem q828 : (Jvm.Cond.instanceMethod ({ cls := "java/util/HashMap$TreeNode", name := "split", desc := "(Ljava/util/HashMap;[Ljava/util/HashMap$Node;II)V" } : Jvm.MethodName)) ∈ lw_all := lw_g (lw_at lw_m4 77 rfl) rfl
theorem q829 : (Jvm.Cond.selects "java/util/HashMap$TreeNode" ({ cls := "java/util/HashMap$TreeNode", name := "split", desc := "(Ljava/util/HashMap;[Ljava/util/HashMap$Node;II)V" } : Jvm.MethodName) ({ cls := "java/util/HashMap$TreeNode", name := "split", desc := "(Ljava/util/HashMap;[Ljava/util/HashMap$Node;II)V" } : Jvm.MethodName)) ∈ lw_all := lw_g (lw_at lw_m4 78 rfl) rfl
theorem q830 : (Jvm.Cond.code ({ cls := "java/util/HashMap$TreeNode", name := "split", desc := "(Ljava/util/HashMap;[Ljava/util/HashMap$Node;II)V" } : Jvm.MethodName) prog_40_method_11_code (14 : Nat) (Option.none : Option Jvm.ClassFile.FieldType)) ∈ lw_all := lw_g (lw_at lw_m4 79 rfl) rfl
theorem q831 : (Jvm.Cond.classLink "java/util/HashMap$TreeNode" (10 : Nat) "java/util/HashMap$TreeNode") ∈ lw_all := lw_g (lw_at lw_m4 80 rfl) rfl
theorem q832 : (Jvm.Cond.methodLink "java/util/HashMap$TreeNode" (119 : Nat) ({ cls := "java/util/HashMap$TreeNode", name := "untreeify", desc := "(Ljava/util/HashMap;)Ljava/util/HashMap$Node;" } : Jvm.MethodName)) ∈ lw_all := lw_g (lw_at lw_m4 81 rfl) rfl
theorem q833 : (Jvm.Cond.instanceMethod ({ cls := "java/util/HashMap$TreeNode", name := "untreeify", desc := "(Ljava/util/HashMap;)Ljava/util/HashMap$Node;" } : Jvm.MethodName)) ∈ lw_all := lw_g (lw_at lw_m4 82 rfl) rfl
theorem q834 : (Jvm.Cond.selects "java/util/HashMap$TreeNode" ({ cls := "java/util/HashMap$TreeNode", name := "untreeify", desc := "(Ljava/util/HashMap;)Ljava/util/HashMap$Node;" } : Jvm.MethodName) ({ cls := "java/util/HashMap$TreeNode", name := "untreeify", desc := "(Ljava/util/HashMap;)Ljava/util/HashMap$Node;" } : Jvm.MethodName)) ∈ lw_all := lw_g (lw_at lw_m4 83 rfl) rfl
theorem q835 : (Jvm.Cond.code ({ cls := "java/util/HashMap$TreeNode", name := "untreeify", desc := "(Ljava/util/HashMap;)Ljava/util/HashMap$Node;" } : Jvm.MethodName) prog_40_method_8_code (6 : Nat) (Option.some (Jvm.ClassFile.FieldType.object "java/util/HashMap$Node"))) ∈ lw_all := lw_g (lw_at lw_m4 84 rfl) rfl
theorem q836 : (Jvm.Cond.methodLink "java/util/HashMap$TreeNode" (108 : Nat) ({ cls := "java/util/HashMap", name := "replacementNode", desc := "(Ljava/util/HashMap$Node;Ljava/util/HashMap$Node;)Ljava/util/HashMap$Node;" } : Jvm.MethodName)) ∈ lw_all := lw_g (lw_at lw_m4 85 rfl) rfl
theorem q846 : (Jvm.Cond.fieldLink "java/util/HashMap$TreeNode" (15 : Nat) "java/util/HashMap$TreeNode" "hash" "I") ∈ lw_all := lw_g (lw_at lw_m4 95 rfl) rfl
theorem q847 : (Jvm.Cond.sameField "java/util/HashMap$TreeNode" "java/util/HashMap$Node" "hash" "I") ∈ lw_all := lw_g (lw_at lw_m4 96 rfl) rfl
theorem q850 : (Jvm.Cond.fieldLink "java/util/HashMap$TreeNode" (45 : Nat) "java/util/HashMap$TreeNode" "key" "Ljava/lang/Object;") ∈ lw_all := lw_g (lw_at lw_m4 99 rfl) rfl
theorem q851 : (Jvm.Cond.sameField "java/util/HashMap$TreeNode" "java/util/HashMap$Node" "key" "Ljava/lang/Object;") ∈ lw_all := lw_g (lw_at lw_m4 100 rfl) rfl
theorem q856 : (Jvm.Cond.fieldLink "java/util/HashMap$TreeNode" (22 : Nat) "java/util/HashMap$TreeNode" "next" "Ljava/util/HashMap$Node;") ∈ lw_all := lw_g (lw_at lw_m4 105 rfl) rfl
theorem q857 : (Jvm.Cond.sameField "java/util/HashMap$TreeNode" "java/util/HashMap$Node" "next" "Ljava/util/HashMap$Node;") ∈ lw_all := lw_g (lw_at lw_m4 106 rfl) rfl
theorem q858 : (Jvm.Cond.fieldLink "java/util/HashMap$TreeNode" (112 : Nat) "java/util/HashMap$Node" "next" "Ljava/util/HashMap$Node;") ∈ lw_all := lw_g (lw_at lw_m4 107 rfl) rfl
theorem q870 : (Jvm.Cond.methodLink "java/util/HashMap$TreeNode" (126 : Nat) ({ cls := "java/util/HashMap$TreeNode", name := "treeify", desc := "([Ljava/util/HashMap$Node;)V" } : Jvm.MethodName)) ∈ lw_all := lw_g (lw_at lw_m4 119 rfl) rfl
theorem q871 : (Jvm.Cond.instanceMethod ({ cls := "java/util/HashMap$TreeNode", name := "treeify", desc := "([Ljava/util/HashMap$Node;)V" } : Jvm.MethodName)) ∈ lw_all := lw_g (lw_at lw_m4 120 rfl) rfl
theorem q872 : (Jvm.Cond.selects "java/util/HashMap$TreeNode" ({ cls := "java/util/HashMap$TreeNode", name := "treeify", desc := "([Ljava/util/HashMap$Node;)V" } : Jvm.MethodName) ({ cls := "java/util/HashMap$TreeNode", name := "treeify", desc := "([Ljava/util/HashMap$Node;)V" } : Jvm.MethodName)) ∈ lw_all := lw_g (lw_at lw_m4 121 rfl) rfl
theorem q873 : (Jvm.Cond.code ({ cls := "java/util/HashMap$TreeNode", name := "treeify", desc := "([Ljava/util/HashMap$Node;)V" } : Jvm.MethodName) prog_40_method_7_code (13 : Nat) (Option.none : Option Jvm.ClassFile.FieldType)) ∈ lw_all := lw_g (lw_at lw_m4 122 rfl) rfl
theorem q874 : (Jvm.Cond.methodLink "java/util/HashMap$TreeNode" (100 : Nat) ({ cls := "java/util/HashMap$TreeNode", name := "balanceInsertion", desc := "(Ljava/util/HashMap$TreeNode;Ljava/util/HashMap$TreeNode;)Ljava/util/HashMap$TreeNode;" } : Jvm.MethodName)) ∈ lw_all := lw_g (lw_at lw_m4 123 rfl) rfl
theorem q875 : (Jvm.Cond.static ({ cls := "java/util/HashMap$TreeNode", name := "balanceInsertion", desc := "(Ljava/util/HashMap$TreeNode;Ljava/util/HashMap$TreeNode;)Ljava/util/HashMap$TreeNode;" } : Jvm.MethodName)) ∈ lw_all := lw_g (lw_at lw_m4 124 rfl) rfl
theorem q876 : (Jvm.Cond.code ({ cls := "java/util/HashMap$TreeNode", name := "balanceInsertion", desc := "(Ljava/util/HashMap$TreeNode;Ljava/util/HashMap$TreeNode;)Ljava/util/HashMap$TreeNode;" } : Jvm.MethodName) prog_40_method_14_code (6 : Nat) (Option.some (Jvm.ClassFile.FieldType.object "java/util/HashMap$TreeNode"))) ∈ lw_all := lw_g (lw_at lw_m4 125 rfl) rfl
theorem q877 : (Jvm.Cond.methodLink "java/util/HashMap$TreeNode" (130 : Nat) ({ cls := "java/util/HashMap$TreeNode", name := "rotateLeft", desc := "(Ljava/util/HashMap$TreeNode;Ljava/util/HashMap$TreeNode;)Ljava/util/HashMap$TreeNode;" } : Jvm.MethodName)) ∈ lw_all := lw_g (lw_at lw_m4 126 rfl) rfl
theorem q878 : (Jvm.Cond.static ({ cls := "java/util/HashMap$TreeNode", name := "rotateLeft", desc := "(Ljava/util/HashMap$TreeNode;Ljava/util/HashMap$TreeNode;)Ljava/util/HashMap$TreeNode;" } : Jvm.MethodName)) ∈ lw_all := lw_g (lw_at lw_m4 127 rfl) rfl
theorem q879 : (Jvm.Cond.code ({ cls := "java/util/HashMap$TreeNode", name := "rotateLeft", desc := "(Ljava/util/HashMap$TreeNode;Ljava/util/HashMap$TreeNode;)Ljava/util/HashMap$TreeNode;" } : Jvm.MethodName) prog_40_method_12_code (5 : Nat) (Option.some (Jvm.ClassFile.FieldType.object "java/util/HashMap$TreeNode"))) ∈ lw_all := lw_g (lw_at lw_m4 128 rfl) rfl
theorem q880 : (Jvm.Cond.methodLink "java/util/HashMap$TreeNode" (133 : Nat) ({ cls := "java/util/HashMap$TreeNode", name := "rotateRight", desc := "(Ljava/util/HashMap$TreeNode;Ljava/util/HashMap$TreeNode;)Ljava/util/HashMap$TreeNode;" } : Jvm.MethodName)) ∈ lw_all := lw_g (lw_at lw_m4 129 rfl) rfl
theorem q881 : (Jvm.Cond.static ({ cls := "java/util/HashMap$TreeNode", name := "rotateRight", desc := "(Ljava/util/HashMap$TreeNode;Ljava/util/HashMap$TreeNode;)Ljava/util/HashMap$TreeNode;" } : Jvm.MethodName)) ∈ lw_all := lw_g (lw_at lw_m4 130 rfl) rfl
theorem q882 : (Jvm.Cond.code ({ cls := "java/util/HashMap$TreeNode", name := "rotateRight", desc := "(Ljava/util/HashMap$TreeNode;Ljava/util/HashMap$TreeNode;)Ljava/util/HashMap$TreeNode;" } : Jvm.MethodName) prog_40_method_13_code (5 : Nat) (Option.some (Jvm.ClassFile.FieldType.object "java/util/HashMap$TreeNode"))) ∈ lw_all := lw_g (lw_at lw_m4 131 rfl) rfl
theorem q883 : (Jvm.Cond.methodLink "java/util/HashMap$TreeNode" (104 : Nat) ({ cls := "java/util/HashMap$TreeNode", name := "moveRootToFront", desc := "([Ljava/util/HashMap$Node;Ljava/util/HashMap$TreeNode;)V" } : Jvm.MethodName)) ∈ lw_all := lw_g (lw_at lw_m4 132 rfl) rfl
theorem q884 : (Jvm.Cond.static ({ cls := "java/util/HashMap$TreeNode", name := "moveRootToFront", desc := "([Ljava/util/HashMap$Node;Ljava/util/HashMap$TreeNode;)V" } : Jvm.MethodName)) ∈ lw_all := lw_g (lw_at lw_m4 133 rfl) rfl
theorem q885 : (Jvm.Cond.code ({ cls := "java/util/HashMap$TreeNode", name := "moveRootToFront", desc := "([Ljava/util/HashMap$Node;Ljava/util/HashMap$TreeNode;)V" } : Jvm.MethodName) prog_40_method_3_code (7 : Nat) (Option.none : Option Jvm.ClassFile.FieldType)) ∈ lw_all := lw_g (lw_at lw_m4 134 rfl) rfl
theorem q886 : (Jvm.Cond.fieldLink "java/util/HashMap$TreeNode" (26 : Nat) "java/util/HashMap$TreeNode" "$assertionsDisabled" "Z") ∈ lw_all := lw_g (lw_at lw_m4 135 rfl) rfl
theorem q887 : (Jvm.Cond.laysStatic "java/util/HashMap$TreeNode" "$assertionsDisabled" "Z") ∈ lw_tbl := lw_at lw_m4 136 rfl
theorem q893 : (Jvm.Cond.instanceMethod ({ cls := "java/util/HashMap$TreeNode", name := "putTreeVal", desc := "(Ljava/util/HashMap;[Ljava/util/HashMap$Node;ILjava/lang/Object;Ljava/lang/Object;)Ljava/util/HashMap$TreeNode;" } : Jvm.MethodName)) ∈ lw_all := lw_g (lw_at lw_m4 142 rfl) rfl
theorem q894 : (Jvm.Cond.selects "java/util/HashMap$TreeNode" ({ cls := "java/util/HashMap$TreeNode", name := "putTreeVal", desc := "(Ljava/util/HashMap;[Ljava/util/HashMap$Node;ILjava/lang/Object;Ljava/lang/Object;)Ljava/util/HashMap$TreeNode;" } : Jvm.MethodName) ({ cls := "java/util/HashMap$TreeNode", name := "putTreeVal", desc := "(Ljava/util/HashMap;[Ljava/util/HashMap$Node;ILjava/lang/Object;Ljava/lang/Object;)Ljava/util/HashMap$TreeNode;" } : Jvm.MethodName)) ∈ lw_all := lw_g (lw_at lw_m4 143 rfl) rfl
theorem q895 : (Jvm.Cond.code ({ cls := "java/util/HashMap$TreeNode", name := "putTreeVal", desc := "(Ljava/util/HashMap;[Ljava/util/HashMap$Node;ILjava/lang/Object;Ljava/lang/Object;)Ljava/util/HashMap$TreeNode;" } : Jvm.MethodName) prog_40_method_9_code (16 : Nat) (Option.some (Jvm.ClassFile.FieldType.object "java/util/HashMap$TreeNode"))) ∈ lw_all := lw_g (lw_at lw_m4 144 rfl) rfl
theorem q896 : (Jvm.Cond.methodLink "java/util/HashMap$TreeNode" (115 : Nat) ({ cls := "java/util/HashMap", name := "newTreeNode", desc := "(ILjava/lang/Object;Ljava/lang/Object;Ljava/util/HashMap$Node;)Ljava/util/HashMap$TreeNode;" } : Jvm.MethodName)) ∈ lw_all := lw_g (lw_at lw_m4 145 rfl) rfl
theorem q900 : (Jvm.Cond.instantiable "java/util/HashMap$TreeNode" (11 : Nat)) ∈ lw_all := lw_g (lw_at lw_m4 149 rfl) rfl
theorem q902 : (Jvm.Cond.instanceMethod ({ cls := "java/util/HashMap$TreeNode", name := "<init>", desc := "(ILjava/lang/Object;Ljava/lang/Object;Ljava/util/HashMap$Node;)V" } : Jvm.MethodName)) ∈ lw_all := lw_g (lw_at lw_m4 151 rfl) rfl
theorem q903 : (Jvm.Cond.code ({ cls := "java/util/HashMap$TreeNode", name := "<init>", desc := "(ILjava/lang/Object;Ljava/lang/Object;Ljava/util/HashMap$Node;)V" } : Jvm.MethodName) prog_40_method_1_code (5 : Nat) (Option.none : Option Jvm.ClassFile.FieldType)) ∈ lw_all := lw_g (lw_at lw_m4 152 rfl) rfl
theorem q904 : (Jvm.Cond.methodLink "java/util/HashMap$TreeNode" (3 : Nat) ({ cls := "java/util/LinkedHashMap$Entry", name := "<init>", desc := "(ILjava/lang/Object;Ljava/lang/Object;Ljava/util/HashMap$Node;)V" } : Jvm.MethodName)) ∈ lw_all := lw_g (lw_at lw_m4 153 rfl) rfl
theorem q908 : (Jvm.Cond.fieldLink "java/util/HashMap$TreeNode" (9 : Nat) "java/util/HashMap$TreeNode" "parent" "Ljava/util/HashMap$TreeNode;") ∈ lw_all := lw_g (lw_at lw_m4 157 rfl) rfl
theorem q909 : (Jvm.Cond.fieldLink "java/util/HashMap$TreeNode" (39 : Nat) "java/util/HashMap$TreeNode" "left" "Ljava/util/HashMap$TreeNode;") ∈ lw_all := lw_g (lw_at lw_m4 158 rfl) rfl
theorem q910 : (Jvm.Cond.fieldLink "java/util/HashMap$TreeNode" (42 : Nat) "java/util/HashMap$TreeNode" "right" "Ljava/util/HashMap$TreeNode;") ∈ lw_all := lw_g (lw_at lw_m4 159 rfl) rfl
theorem q911 : (Jvm.Cond.fieldLink "java/util/HashMap$TreeNode" (19 : Nat) "java/util/HashMap$TreeNode" "prev" "Ljava/util/HashMap$TreeNode;") ∈ lw_all := lw_g (lw_at lw_m4 160 rfl) rfl
theorem q913 : (Jvm.Cond.fieldLink "java/util/HashMap$TreeNode" (93 : Nat) "java/util/HashMap$TreeNode" "red" "Z") ∈ lw_all := lw_g (lw_at lw_m4 162 rfl) rfl
theorem q914 : (Jvm.Cond.lays "java/util/HashMap$TreeNode" "java/util/HashMap$TreeNode" "parent" "Ljava/util/HashMap$TreeNode;") ∈ lw_all := lw_g (lw_at lw_m4 163 rfl) rfl
theorem q915 : (Jvm.Cond.soleField "java/util/HashMap$TreeNode" "parent") ∈ lw_all := lw_g (lw_at lw_m4 164 rfl) rfl
theorem q916 : (Jvm.Cond.lays "java/util/HashMap$TreeNode" "java/util/HashMap$TreeNode" "left" "Ljava/util/HashMap$TreeNode;") ∈ lw_all := lw_g (lw_at lw_m4 165 rfl) rfl
theorem q917 : (Jvm.Cond.soleField "java/util/HashMap$TreeNode" "left") ∈ lw_all := lw_g (lw_at lw_m4 166 rfl) rfl
theorem q918 : (Jvm.Cond.lays "java/util/HashMap$TreeNode" "java/util/HashMap$TreeNode" "right" "Ljava/util/HashMap$TreeNode;") ∈ lw_all := lw_g (lw_at lw_m4 167 rfl) rfl
theorem q919 : (Jvm.Cond.soleField "java/util/HashMap$TreeNode" "right") ∈ lw_all := lw_g (lw_at lw_m4 168 rfl) rfl
theorem q920 : (Jvm.Cond.lays "java/util/HashMap$TreeNode" "java/util/HashMap$TreeNode" "prev" "Ljava/util/HashMap$TreeNode;") ∈ lw_all := lw_g (lw_at lw_m4 169 rfl) rfl
theorem q921 : (Jvm.Cond.soleField "java/util/HashMap$TreeNode" "prev") ∈ lw_all := lw_g (lw_at lw_m4 170 rfl) rfl
theorem q922 : (Jvm.Cond.lays "java/util/HashMap$TreeNode" "java/util/HashMap$TreeNode" "red" "Z") ∈ lw_all := lw_g (lw_at lw_m4 171 rfl) rfl
theorem q923 : (Jvm.Cond.soleField "java/util/HashMap$TreeNode" "red") ∈ lw_all := lw_g (lw_at lw_m4 172 rfl) rfl
theorem q924 : (Jvm.Cond.lays "java/util/HashMap$TreeNode" "java/util/LinkedHashMap$Entry" "before" "Ljava/util/LinkedHashMap$Entry;") ∈ lw_all := lw_g (lw_at lw_m4 173 rfl) rfl
theorem q926 : (Jvm.Cond.lays "java/util/HashMap$TreeNode" "java/util/LinkedHashMap$Entry" "after" "Ljava/util/LinkedHashMap$Entry;") ∈ lw_all := lw_g (lw_at lw_m4 175 rfl) rfl
theorem q928 : (Jvm.Cond.laysFinal "java/util/HashMap$TreeNode" "java/util/HashMap$Node" "hash" "I") ∈ lw_all := lw_g (lw_at lw_m4 177 rfl) rfl
theorem q929 : (Jvm.Cond.laysFinal "java/util/HashMap$TreeNode" "java/util/HashMap$Node" "key" "Ljava/lang/Object;") ∈ lw_all := lw_g (lw_at lw_m4 178 rfl) rfl
theorem q930 : (Jvm.Cond.lays "java/util/HashMap$TreeNode" "java/util/HashMap$Node" "value" "Ljava/lang/Object;") ∈ lw_all := lw_g (lw_at lw_m4 179 rfl) rfl
theorem q931 : (Jvm.Cond.lays "java/util/HashMap$TreeNode" "java/util/HashMap$Node" "next" "Ljava/util/HashMap$Node;") ∈ lw_all := lw_g (lw_at lw_m4 180 rfl) rfl
theorem q932 : (Jvm.Cond.superclass "java/util/HashMap$TreeNode" "java/util/LinkedHashMap$Entry") ∈ lw_all := lw_g (lw_at lw_m4 181 rfl) rfl
theorem q1235 : (Jvm.Cond.castable "java/util/HashMap$TreeNode" "java/lang/Object") ∈ lw_tbl := lw_at lw_m6 4 rfl
theorem q1238 : (Jvm.Cond.castable "java/util/HashMap$TreeNode" "java/util/HashMap$Node") ∈ lw_tbl := lw_at lw_m6 7 rfl
theorem in_J15 : ∀ w ∈ wsJ150, w ∈ lw_all := lw_in wsJ150 [924, 926, 928, 929, 930, 931, 914, 916, 918, 920, 922] (by decide +kernel) (by decide +kernel)
/-! java/lang/Object -/
set_option maxRecDepth 100000
def RJ16 : String := "java/lang/Object"
abbrev cJ16_init : ByteArray := object_method_1_code
def yJ16_init : MethodName := ⟨RJ16, "<init>", "()V"⟩
theorem dJ16_init_0 : decode cJ16_init 0 = .ok (.return_, 1) := by decide +kernel
abbrev cJ16_equals : ByteArray := object_method_4_code
def yJ16_equals : MethodName := ⟨RJ16, "equals", "(Ljava/lang/Object;)Z"⟩
def dkwJ16_equals_0 : List UInt8 := [42, 43, 166, 0, 7, 4, 167, 0, 4, 3, 172]
abbrev dktJ16_equals_0 : List UInt8 := dkwJ16_equals_0 ++ []
theorem dksJ16_equals_0 : cJ16_equals.data.toList.drop 0 = dktJ16_equals_0 := by decide +kernel
theorem dJ16_equals_0 : decode cJ16_equals 0 = .ok (.aload_n 0, 1) := dk_42 (dk_at dksJ16_equals_0 0 rfl rfl)
theorem dJ16_equals_1 : decode cJ16_equals 1 = .ok (.aload_n 1, 1) := dk_43 (dk_at dksJ16_equals_0 1 rfl rfl)
theorem dJ16_equals_2 : decode cJ16_equals 2 = .ok (.if_acmp .ne 7, 3) := dk_166 0 7 (dk_at dksJ16_equals_0 2 rfl rfl)
theorem dJ16_equals_5 : decode cJ16_equals 5 = .ok (.iconst 1, 1) := dk_4 (dk_at dksJ16_equals_0 5 rfl rfl)
theorem dJ16_equals_6 : decode cJ16_equals 6 = .ok (.goto 4, 3) := dk_167 0 4 (dk_at dksJ16_equals_0 6 rfl rfl)
theorem dJ16_equals_9 : decode cJ16_equals 9 = .ok (.iconst 0, 1) := dk_3 (dk_at dksJ16_equals_0 9 rfl rfl)
theorem dJ16_equals_10 : decode cJ16_equals 10 = .ok (.ireturn, 1) := dk_172 (dk_at dksJ16_equals_0 10 rfl rfl)
theorem q66 : (Jvm.Cond.instanceMethod ({ cls := "java/lang/Object", name := "<init>", desc := "()V" } : Jvm.MethodName)) ∈ lw_all := lw_g (lw_at lw_m1 35 rfl) rfl
theorem q67 : (Jvm.Cond.code ({ cls := "java/lang/Object", name := "<init>", desc := "()V" } : Jvm.MethodName) object_method_1_code (1 : Nat) (Option.none : Option Jvm.ClassFile.FieldType)) ∈ lw_all := lw_g (lw_at lw_m1 36 rfl) rfl
theorem q334 : (Jvm.Cond.declares ({ cls := "java/lang/Object", name := "hashCode", desc := "()I" } : Jvm.MethodName)) ∈ lw_tbl := lw_at lw_m2 63 rfl
theorem q336 : (Jvm.Cond.instanceMethod ({ cls := "java/lang/Object", name := "hashCode", desc := "()I" } : Jvm.MethodName)) ∈ lw_all := lw_g (lw_at lw_m2 65 rfl) rfl
theorem q337 : (Jvm.Cond.sameMethod "java/lang/Object" "java/lang/Object" "hashCode" "()I") ∈ lw_all := lw_g (lw_at lw_m2 66 rfl) rfl
theorem q357 : (Jvm.Cond.native ({ cls := "java/lang/Object", name := "hashCode", desc := "()I" } : Jvm.MethodName)) ∈ lw_all := lw_g (lw_at lw_m2 86 rfl) rfl
theorem q358 : (Jvm.Cond.declares ({ cls := "java/lang/Object", name := "equals", desc := "(Ljava/lang/Object;)Z" } : Jvm.MethodName)) ∈ lw_tbl := lw_at lw_m2 87 rfl
theorem q360 : (Jvm.Cond.instanceMethod ({ cls := "java/lang/Object", name := "equals", desc := "(Ljava/lang/Object;)Z" } : Jvm.MethodName)) ∈ lw_all := lw_g (lw_at lw_m2 89 rfl) rfl
theorem q361 : (Jvm.Cond.sameMethod "java/lang/Object" "java/lang/Object" "equals" "(Ljava/lang/Object;)Z") ∈ lw_all := lw_g (lw_at lw_m2 90 rfl) rfl
theorem q382 : (Jvm.Cond.code ({ cls := "java/lang/Object", name := "equals", desc := "(Ljava/lang/Object;)Z" } : Jvm.MethodName) object_method_4_code (2 : Nat) (Option.some Jvm.ClassFile.FieldType.boolean)) ∈ lw_all := lw_g (lw_at lw_m2 111 rfl) rfl
theorem q402 : (Jvm.Cond.instanceMethod ({ cls := "java/lang/Object", name := "getClass", desc := "()Ljava/lang/Class;" } : Jvm.MethodName)) ∈ lw_all := lw_g (lw_at lw_m2 131 rfl) rfl
theorem q403 : (Jvm.Cond.sameMethod "java/lang/Object" "java/lang/Object" "getClass" "()Ljava/lang/Class;") ∈ lw_all := lw_g (lw_at lw_m2 132 rfl) rfl
theorem q421 : (Jvm.Cond.native ({ cls := "java/lang/Object", name := "getClass", desc := "()Ljava/lang/Class;" } : Jvm.MethodName)) ∈ lw_all := lw_g (lw_at lw_m2 150 rfl) rfl
theorem q1215 : (Jvm.Cond.initialized "java/lang/Object") ∈ lw_all := lw_g (lw_at lw_m5 224 rfl) rfl
theorem q1242 : (Jvm.Cond.declares ({ cls := "java/lang/Object", name := "getClass", desc := "()Ljava/lang/Class;" } : Jvm.MethodName)) ∈ lw_tbl := lw_at lw_m6 11 rfl
theorem q1251 : (Jvm.Cond.instantiable "java/lang/Object" (0 : Nat)) ∈ lw_all := lw_g (lw_at lw_m6 20 rfl) rfl
