/-! CueStack$Show -/
set_option maxRecDepth 100000
def RX2 : String := "CueStack$Show"
def TX2 : u_T := fun k => match k with
  | 0 => ("CueStack$Show", "cues", "Ljava/util/ArrayList;", true)
  | 1 => ("CueStack$Show", "instructions", "Ljava/util/LinkedHashMap;", true)
  | 2 => ("CueStack$Show", "homes", "[I", true)
  | 3 => ("CueStack$Show", "fades", "Ljava/util/ArrayList;", true)
  | 4 => ("CueStack$Show", "last", "I", false)
  | 5 => ("CueStack$Show", "since", "I", false)
  | 6 => ("CueStack$Show", "gone", "I", false)
  | _ => ("CueStack$Show", "passed", "I", false)
def tyX2 : Nat → FieldType := fun k => match k with
  | 0 => .object "java/util/ArrayList"
  | 1 => .object "java/util/LinkedHashMap"
  | 2 => .array .int
  | 3 => .object "java/util/ArrayList"
  | 4 => .int
  | 5 => .int
  | 6 => .int
  | _ => .int
abbrev wsX20 : List Cond := u_ws RX2 TX2 8
theorem nmX2 : ∀ a, a < 8 → ∀ b, b < 8 → a ≠ b → (TX2 a).2.1 ≠ (TX2 b).2.1 := by decide +kernel
theorem tyX2_ok : ∀ k, k < 8 → parseFieldDescriptor (TX2 k).2.2.1 = some (tyX2 k) := by decide +kernel
abbrev cX2_init : ByteArray := prog_15_method_1_code
def yX2_init : MethodName := ⟨RX2, "<init>", "()V"⟩
def dkwX2_init_3 : List UInt8 := [167, 255, 232, 177]
abbrev dktX2_init_3 : List UInt8 := dkwX2_init_3 ++ []
def dkwX2_init_2 : List UInt8 := [27, 16, 12, 162, 0, 24, 42, 180, 0, 29, 187, 0, 32, 89, 183, 0, 34, 182, 0, 35, 87, 132, 1, 1]
abbrev dktX2_init_2 : List UInt8 := dkwX2_init_2 ++ dktX2_init_3
def dkwX2_init_1 : List UInt8 := [181, 0, 21, 42, 16, 12, 188, 10, 181, 0, 25, 42, 187, 0, 9, 89, 183, 0, 11, 181, 0, 29, 3, 60]
abbrev dktX2_init_1 : List UInt8 := dkwX2_init_1 ++ dktX2_init_2
def dkwX2_init_0 : List UInt8 := [42, 183, 0, 3, 42, 187, 0, 9, 89, 183, 0, 11, 181, 0, 12, 42, 187, 0, 18, 89, 183, 0, 20]
abbrev dktX2_init_0 : List UInt8 := dkwX2_init_0 ++ dktX2_init_1
theorem dksX2_init_0 : cX2_init.data.toList.drop 0 = dktX2_init_0 := by decide +kernel
theorem dksX2_init_1 : cX2_init.data.toList.drop 23 = dktX2_init_1 := dk_seg dksX2_init_0 23 rfl rfl
theorem dksX2_init_2 : cX2_init.data.toList.drop 47 = dktX2_init_2 := dk_seg dksX2_init_1 24 rfl rfl
theorem dksX2_init_3 : cX2_init.data.toList.drop 71 = dktX2_init_3 := dk_seg dksX2_init_2 24 rfl rfl
theorem dX2_init_0 : decode cX2_init 0 = .ok (.aload_n 0, 1) := dk_42 (dk_at dksX2_init_0 0 rfl rfl)
theorem dX2_init_1 : decode cX2_init 1 = .ok (.invokespecial 3, 3) := dk_183 0 3 (dk_at dksX2_init_0 1 rfl rfl)
theorem dX2_init_4 : decode cX2_init 4 = .ok (.aload_n 0, 1) := dk_42 (dk_at dksX2_init_0 4 rfl rfl)
theorem dX2_init_5 : decode cX2_init 5 = .ok (.new 9, 3) := dk_187 0 9 (dk_at dksX2_init_0 5 rfl rfl)
theorem dX2_init_8 : decode cX2_init 8 = .ok (.dup, 1) := dk_89 (dk_at dksX2_init_0 8 rfl rfl)
theorem dX2_init_9 : decode cX2_init 9 = .ok (.invokespecial 11, 3) := dk_183 0 11 (dk_at dksX2_init_0 9 rfl rfl)
theorem dX2_init_12 : decode cX2_init 12 = .ok (.putfield 12, 3) := dk_181 0 12 (dk_at dksX2_init_0 12 rfl rfl)
theorem dX2_init_15 : decode cX2_init 15 = .ok (.aload_n 0, 1) := dk_42 (dk_at dksX2_init_0 15 rfl rfl)
theorem dX2_init_16 : decode cX2_init 16 = .ok (.new 18, 3) := dk_187 0 18 (dk_at dksX2_init_0 16 rfl rfl)
theorem dX2_init_19 : decode cX2_init 19 = .ok (.dup, 1) := dk_89 (dk_at dksX2_init_0 19 rfl rfl)
theorem dX2_init_20 : decode cX2_init 20 = .ok (.invokespecial 20, 3) := dk_183 0 20 (dk_at dksX2_init_0 20 rfl rfl)
theorem dX2_init_23 : decode cX2_init 23 = .ok (.putfield 21, 3) := dk_181 0 21 (dk_at dksX2_init_1 0 rfl rfl)
theorem dX2_init_26 : decode cX2_init 26 = .ok (.aload_n 0, 1) := dk_42 (dk_at dksX2_init_1 3 rfl rfl)
theorem dX2_init_27 : decode cX2_init 27 = .ok (.bipush 12, 2) := dk_16 12 (dk_at dksX2_init_1 4 rfl rfl)
theorem dX2_init_29 : decode cX2_init 29 = .ok (.newarray .int, 2) := dk_188_10 (dk_at dksX2_init_1 6 rfl rfl)
theorem dX2_init_31 : decode cX2_init 31 = .ok (.putfield 25, 3) := dk_181 0 25 (dk_at dksX2_init_1 8 rfl rfl)
theorem dX2_init_34 : decode cX2_init 34 = .ok (.aload_n 0, 1) := dk_42 (dk_at dksX2_init_1 11 rfl rfl)
theorem dX2_init_35 : decode cX2_init 35 = .ok (.new 9, 3) := dk_187 0 9 (dk_at dksX2_init_1 12 rfl rfl)
theorem dX2_init_38 : decode cX2_init 38 = .ok (.dup, 1) := dk_89 (dk_at dksX2_init_1 15 rfl rfl)
theorem dX2_init_39 : decode cX2_init 39 = .ok (.invokespecial 11, 3) := dk_183 0 11 (dk_at dksX2_init_1 16 rfl rfl)
theorem dX2_init_42 : decode cX2_init 42 = .ok (.putfield 29, 3) := dk_181 0 29 (dk_at dksX2_init_1 19 rfl rfl)
theorem dX2_init_45 : decode cX2_init 45 = .ok (.iconst 0, 1) := dk_3 (dk_at dksX2_init_1 22 rfl rfl)
theorem dX2_init_46 : decode cX2_init 46 = .ok (.istore_n 1, 1) := dk_60 (dk_at dksX2_init_1 23 rfl rfl)
theorem dX2_init_47 : decode cX2_init 47 = .ok (.iload_n 1, 1) := dk_27 (dk_at dksX2_init_2 0 rfl rfl)
theorem dX2_init_48 : decode cX2_init 48 = .ok (.bipush 12, 2) := dk_16 12 (dk_at dksX2_init_2 1 rfl rfl)
theorem dX2_init_50 : decode cX2_init 50 = .ok (.if_icmp .ge 24, 3) := dk_162 0 24 (dk_at dksX2_init_2 3 rfl rfl)
theorem dX2_init_53 : decode cX2_init 53 = .ok (.aload_n 0, 1) := dk_42 (dk_at dksX2_init_2 6 rfl rfl)
theorem dX2_init_54 : decode cX2_init 54 = .ok (.getfield 29, 3) := dk_180 0 29 (dk_at dksX2_init_2 7 rfl rfl)
theorem dX2_init_57 : decode cX2_init 57 = .ok (.new 32, 3) := dk_187 0 32 (dk_at dksX2_init_2 10 rfl rfl)
theorem dX2_init_60 : decode cX2_init 60 = .ok (.dup, 1) := dk_89 (dk_at dksX2_init_2 13 rfl rfl)
theorem dX2_init_61 : decode cX2_init 61 = .ok (.invokespecial 34, 3) := dk_183 0 34 (dk_at dksX2_init_2 14 rfl rfl)
theorem dX2_init_64 : decode cX2_init 64 = .ok (.invokevirtual 35, 3) := dk_182 0 35 (dk_at dksX2_init_2 17 rfl rfl)
theorem dX2_init_67 : decode cX2_init 67 = .ok (.pop, 1) := dk_87 (dk_at dksX2_init_2 20 rfl rfl)
theorem dX2_init_68 : decode cX2_init 68 = .ok (.iinc 1 1, 3) := dk_132 1 1 (dk_at dksX2_init_2 21 rfl rfl)
theorem dX2_init_71 : decode cX2_init 71 = .ok (.goto (-24), 3) := dk_167 255 232 (dk_at dksX2_init_3 0 rfl rfl)
theorem dX2_init_74 : decode cX2_init 74 = .ok (.return_, 1) := dk_177 (dk_at dksX2_init_3 3 rfl rfl)
abbrev cX2_level : ByteArray := prog_15_method_10_code
def yX2_level : MethodName := ⟨RX2, "level", "(II)I"⟩
def dkwX2_level_1 : List UInt8 := [182, 0, 135, 153, 0, 12, 42, 180, 0, 25, 28, 46, 167, 0, 11, 42, 27, 4, 100, 28, 182, 0, 139, 172]
abbrev dktX2_level_1 : List UInt8 := dkwX2_level_1 ++ []
def dkwX2_level_0 : List UInt8 := [42, 27, 28, 182, 0, 128, 78, 45, 198, 0, 14, 45, 42, 180, 0, 25, 28, 46, 182, 0, 132, 172, 42, 27]
abbrev dktX2_level_0 : List UInt8 := dkwX2_level_0 ++ dktX2_level_1
theorem dksX2_level_0 : cX2_level.data.toList.drop 0 = dktX2_level_0 := by decide +kernel
theorem dksX2_level_1 : cX2_level.data.toList.drop 24 = dktX2_level_1 := dk_seg dksX2_level_0 24 rfl rfl
theorem dX2_level_0 : decode cX2_level 0 = .ok (.aload_n 0, 1) := dk_42 (dk_at dksX2_level_0 0 rfl rfl)
theorem dX2_level_1 : decode cX2_level 1 = .ok (.iload_n 1, 1) := dk_27 (dk_at dksX2_level_0 1 rfl rfl)
theorem dX2_level_2 : decode cX2_level 2 = .ok (.iload_n 2, 1) := dk_28 (dk_at dksX2_level_0 2 rfl rfl)
theorem dX2_level_3 : decode cX2_level 3 = .ok (.invokevirtual 128, 3) := dk_182 0 128 (dk_at dksX2_level_0 3 rfl rfl)
theorem dX2_level_6 : decode cX2_level 6 = .ok (.astore_n 3, 1) := dk_78 (dk_at dksX2_level_0 6 rfl rfl)
theorem dX2_level_7 : decode cX2_level 7 = .ok (.aload_n 3, 1) := dk_45 (dk_at dksX2_level_0 7 rfl rfl)
theorem dX2_level_8 : decode cX2_level 8 = .ok (.ifnull 14, 3) := dk_198 0 14 (dk_at dksX2_level_0 8 rfl rfl)
theorem dX2_level_11 : decode cX2_level 11 = .ok (.aload_n 3, 1) := dk_45 (dk_at dksX2_level_0 11 rfl rfl)
theorem dX2_level_12 : decode cX2_level 12 = .ok (.aload_n 0, 1) := dk_42 (dk_at dksX2_level_0 12 rfl rfl)
theorem dX2_level_13 : decode cX2_level 13 = .ok (.getfield 25, 3) := dk_180 0 25 (dk_at dksX2_level_0 13 rfl rfl)
theorem dX2_level_16 : decode cX2_level 16 = .ok (.iload_n 2, 1) := dk_28 (dk_at dksX2_level_0 16 rfl rfl)
theorem dX2_level_17 : decode cX2_level 17 = .ok (.iaload, 1) := dk_46 (dk_at dksX2_level_0 17 rfl rfl)
theorem dX2_level_18 : decode cX2_level 18 = .ok (.invokevirtual 132, 3) := dk_182 0 132 (dk_at dksX2_level_0 18 rfl rfl)
theorem dX2_level_21 : decode cX2_level 21 = .ok (.ireturn, 1) := dk_172 (dk_at dksX2_level_0 21 rfl rfl)
theorem dX2_level_22 : decode cX2_level 22 = .ok (.aload_n 0, 1) := dk_42 (dk_at dksX2_level_0 22 rfl rfl)
theorem dX2_level_23 : decode cX2_level 23 = .ok (.iload_n 1, 1) := dk_27 (dk_at dksX2_level_0 23 rfl rfl)
theorem dX2_level_24 : decode cX2_level 24 = .ok (.invokevirtual 135, 3) := dk_182 0 135 (dk_at dksX2_level_1 0 rfl rfl)
theorem dX2_level_27 : decode cX2_level 27 = .ok (.ifCond .eq 12, 3) := dk_153 0 12 (dk_at dksX2_level_1 3 rfl rfl)
theorem dX2_level_30 : decode cX2_level 30 = .ok (.aload_n 0, 1) := dk_42 (dk_at dksX2_level_1 6 rfl rfl)
theorem dX2_level_31 : decode cX2_level 31 = .ok (.getfield 25, 3) := dk_180 0 25 (dk_at dksX2_level_1 7 rfl rfl)
theorem dX2_level_34 : decode cX2_level 34 = .ok (.iload_n 2, 1) := dk_28 (dk_at dksX2_level_1 10 rfl rfl)
theorem dX2_level_35 : decode cX2_level 35 = .ok (.iaload, 1) := dk_46 (dk_at dksX2_level_1 11 rfl rfl)
theorem dX2_level_36 : decode cX2_level 36 = .ok (.goto 11, 3) := dk_167 0 11 (dk_at dksX2_level_1 12 rfl rfl)
theorem dX2_level_39 : decode cX2_level 39 = .ok (.aload_n 0, 1) := dk_42 (dk_at dksX2_level_1 15 rfl rfl)
theorem dX2_level_40 : decode cX2_level 40 = .ok (.iload_n 1, 1) := dk_27 (dk_at dksX2_level_1 16 rfl rfl)
theorem dX2_level_41 : decode cX2_level 41 = .ok (.iconst 1, 1) := dk_4 (dk_at dksX2_level_1 17 rfl rfl)
theorem dX2_level_42 : decode cX2_level 42 = .ok (.isub, 1) := dk_100 (dk_at dksX2_level_1 18 rfl rfl)
theorem dX2_level_43 : decode cX2_level 43 = .ok (.iload_n 2, 1) := dk_28 (dk_at dksX2_level_1 19 rfl rfl)
theorem dX2_level_44 : decode cX2_level 44 = .ok (.invokevirtual 139, 3) := dk_182 0 139 (dk_at dksX2_level_1 20 rfl rfl)
theorem dX2_level_47 : decode cX2_level 47 = .ok (.ireturn, 1) := dk_172 (dk_at dksX2_level_1 23 rfl rfl)
abbrev cX2_at : ByteArray := prog_15_method_8_code
def yX2_at : MethodName := ⟨RX2, "at", "(II)LCueStack$Instruction;"⟩
def dkwX2_at_1 : List UInt8 := [183, 0, 116, 182, 0, 119, 192, 0, 122, 176]
abbrev dktX2_at_1 : List UInt8 := dkwX2_at_1 ++ []
def dkwX2_at_0 : List UInt8 := [42, 180, 0, 21, 187, 0, 114, 89, 42, 180, 0, 12, 27, 182, 0, 44, 192, 0, 48, 180, 0, 84, 28]
abbrev dktX2_at_0 : List UInt8 := dkwX2_at_0 ++ dktX2_at_1
theorem dksX2_at_0 : cX2_at.data.toList.drop 0 = dktX2_at_0 := by decide +kernel
theorem dksX2_at_1 : cX2_at.data.toList.drop 23 = dktX2_at_1 := dk_seg dksX2_at_0 23 rfl rfl
theorem dX2_at_0 : decode cX2_at 0 = .ok (.aload_n 0, 1) := dk_42 (dk_at dksX2_at_0 0 rfl rfl)
theorem dX2_at_1 : decode cX2_at 1 = .ok (.getfield 21, 3) := dk_180 0 21 (dk_at dksX2_at_0 1 rfl rfl)
theorem dX2_at_4 : decode cX2_at 4 = .ok (.new 114, 3) := dk_187 0 114 (dk_at dksX2_at_0 4 rfl rfl)
theorem dX2_at_7 : decode cX2_at 7 = .ok (.dup, 1) := dk_89 (dk_at dksX2_at_0 7 rfl rfl)
theorem dX2_at_8 : decode cX2_at 8 = .ok (.aload_n 0, 1) := dk_42 (dk_at dksX2_at_0 8 rfl rfl)
theorem dX2_at_9 : decode cX2_at 9 = .ok (.getfield 12, 3) := dk_180 0 12 (dk_at dksX2_at_0 9 rfl rfl)
theorem dX2_at_12 : decode cX2_at 12 = .ok (.iload_n 1, 1) := dk_27 (dk_at dksX2_at_0 12 rfl rfl)
theorem dX2_at_13 : decode cX2_at 13 = .ok (.invokevirtual 44, 3) := dk_182 0 44 (dk_at dksX2_at_0 13 rfl rfl)
theorem dX2_at_16 : decode cX2_at 16 = .ok (.checkcast 48, 3) := dk_192 0 48 (dk_at dksX2_at_0 16 rfl rfl)
theorem dX2_at_19 : decode cX2_at 19 = .ok (.getfield 84, 3) := dk_180 0 84 (dk_at dksX2_at_0 19 rfl rfl)
theorem dX2_at_22 : decode cX2_at 22 = .ok (.iload_n 2, 1) := dk_28 (dk_at dksX2_at_0 22 rfl rfl)
theorem dX2_at_23 : decode cX2_at 23 = .ok (.invokespecial 116, 3) := dk_183 0 116 (dk_at dksX2_at_1 0 rfl rfl)
theorem dX2_at_26 : decode cX2_at 26 = .ok (.invokevirtual 119, 3) := dk_182 0 119 (dk_at dksX2_at_1 3 rfl rfl)
theorem dX2_at_29 : decode cX2_at 29 = .ok (.checkcast 122, 3) := dk_192 0 122 (dk_at dksX2_at_1 6 rfl rfl)
theorem dX2_at_32 : decode cX2_at 32 = .ok (.areturn, 1) := dk_176 (dk_at dksX2_at_1 9 rfl rfl)
abbrev cX2_beginsAnew : ByteArray := prog_15_method_9_code
def yX2_beginsAnew : MethodName := ⟨RX2, "beginsAnew", "(I)Z"⟩
def dkwX2_beginsAnew_1 : List UInt8 := [167, 0, 4, 3, 172]
abbrev dktX2_beginsAnew_1 : List UInt8 := dkwX2_beginsAnew_1 ++ []
def dkwX2_beginsAnew_0 : List UInt8 := [27, 153, 0, 20, 42, 180, 0, 12, 27, 182, 0, 44, 192, 0, 48, 180, 0, 124, 153, 0, 7, 4]
abbrev dktX2_beginsAnew_0 : List UInt8 := dkwX2_beginsAnew_0 ++ dktX2_beginsAnew_1
theorem dksX2_beginsAnew_0 : cX2_beginsAnew.data.toList.drop 0 = dktX2_beginsAnew_0 := by decide +kernel
theorem dksX2_beginsAnew_1 : cX2_beginsAnew.data.toList.drop 22 = dktX2_beginsAnew_1 := dk_seg dksX2_beginsAnew_0 22 rfl rfl
theorem dX2_beginsAnew_0 : decode cX2_beginsAnew 0 = .ok (.iload_n 1, 1) := dk_27 (dk_at dksX2_beginsAnew_0 0 rfl rfl)
theorem dX2_beginsAnew_1 : decode cX2_beginsAnew 1 = .ok (.ifCond .eq 20, 3) := dk_153 0 20 (dk_at dksX2_beginsAnew_0 1 rfl rfl)
theorem dX2_beginsAnew_4 : decode cX2_beginsAnew 4 = .ok (.aload_n 0, 1) := dk_42 (dk_at dksX2_beginsAnew_0 4 rfl rfl)
theorem dX2_beginsAnew_5 : decode cX2_beginsAnew 5 = .ok (.getfield 12, 3) := dk_180 0 12 (dk_at dksX2_beginsAnew_0 5 rfl rfl)
theorem dX2_beginsAnew_8 : decode cX2_beginsAnew 8 = .ok (.iload_n 1, 1) := dk_27 (dk_at dksX2_beginsAnew_0 8 rfl rfl)
theorem dX2_beginsAnew_9 : decode cX2_beginsAnew 9 = .ok (.invokevirtual 44, 3) := dk_182 0 44 (dk_at dksX2_beginsAnew_0 9 rfl rfl)
theorem dX2_beginsAnew_12 : decode cX2_beginsAnew 12 = .ok (.checkcast 48, 3) := dk_192 0 48 (dk_at dksX2_beginsAnew_0 12 rfl rfl)
theorem dX2_beginsAnew_15 : decode cX2_beginsAnew 15 = .ok (.getfield 124, 3) := dk_180 0 124 (dk_at dksX2_beginsAnew_0 15 rfl rfl)
theorem dX2_beginsAnew_18 : decode cX2_beginsAnew 18 = .ok (.ifCond .eq 7, 3) := dk_153 0 7 (dk_at dksX2_beginsAnew_0 18 rfl rfl)
theorem dX2_beginsAnew_21 : decode cX2_beginsAnew 21 = .ok (.iconst 1, 1) := dk_4 (dk_at dksX2_beginsAnew_0 21 rfl rfl)
theorem dX2_beginsAnew_22 : decode cX2_beginsAnew 22 = .ok (.goto 4, 3) := dk_167 0 4 (dk_at dksX2_beginsAnew_1 0 rfl rfl)
theorem dX2_beginsAnew_25 : decode cX2_beginsAnew 25 = .ok (.iconst 0, 1) := dk_3 (dk_at dksX2_beginsAnew_1 3 rfl rfl)
theorem dX2_beginsAnew_26 : decode cX2_beginsAnew 26 = .ok (.ireturn, 1) := dk_172 (dk_at dksX2_beginsAnew_1 4 rfl rfl)
abbrev cX2_levelAgain : ByteArray := prog_15_method_11_code
def yX2_levelAgain : MethodName := ⟨RX2, "levelAgain", "(II)I"⟩
def dkwX2_levelAgain_3 : List UInt8 := [167, 0, 4, 29, 62, 132, 4, 1, 167, 255, 190, 29, 172]
abbrev dktX2_levelAgain_3 : List UInt8 := dkwX2_levelAgain_3 ++ []
def dkwX2_levelAgain_2 : List UInt8 := [180, 0, 12, 21, 4, 182, 0, 44, 192, 0, 48, 180, 0, 124, 153, 0, 12, 42, 180, 0, 25, 28, 46]
abbrev dktX2_levelAgain_2 : List UInt8 := dkwX2_levelAgain_2 ++ dktX2_levelAgain_3
def dkwX2_levelAgain_1 : List UInt8 := [58, 5, 25, 5, 198, 0, 17, 25, 5, 42, 180, 0, 25, 28, 46, 182, 0, 132, 167, 0, 31, 42]
abbrev dktX2_levelAgain_1 : List UInt8 := dkwX2_levelAgain_1 ++ dktX2_levelAgain_2
def dkwX2_levelAgain_0 : List UInt8 := [42, 180, 0, 25, 28, 46, 62, 3, 54, 4, 21, 4, 27, 163, 0, 66, 42, 21, 4, 28, 182, 0, 128]
abbrev dktX2_levelAgain_0 : List UInt8 := dkwX2_levelAgain_0 ++ dktX2_levelAgain_1
theorem dksX2_levelAgain_0 : cX2_levelAgain.data.toList.drop 0 = dktX2_levelAgain_0 := by decide +kernel
theorem dksX2_levelAgain_1 : cX2_levelAgain.data.toList.drop 23 = dktX2_levelAgain_1 := dk_seg dksX2_levelAgain_0 23 rfl rfl
theorem dksX2_levelAgain_2 : cX2_levelAgain.data.toList.drop 45 = dktX2_levelAgain_2 := dk_seg dksX2_levelAgain_1 22 rfl rfl
theorem dksX2_levelAgain_3 : cX2_levelAgain.data.toList.drop 68 = dktX2_levelAgain_3 := dk_seg dksX2_levelAgain_2 23 rfl rfl
theorem dX2_levelAgain_0 : decode cX2_levelAgain 0 = .ok (.aload_n 0, 1) := dk_42 (dk_at dksX2_levelAgain_0 0 rfl rfl)
theorem dX2_levelAgain_1 : decode cX2_levelAgain 1 = .ok (.getfield 25, 3) := dk_180 0 25 (dk_at dksX2_levelAgain_0 1 rfl rfl)
theorem dX2_levelAgain_4 : decode cX2_levelAgain 4 = .ok (.iload_n 2, 1) := dk_28 (dk_at dksX2_levelAgain_0 4 rfl rfl)
theorem dX2_levelAgain_5 : decode cX2_levelAgain 5 = .ok (.iaload, 1) := dk_46 (dk_at dksX2_levelAgain_0 5 rfl rfl)
theorem dX2_levelAgain_6 : decode cX2_levelAgain 6 = .ok (.istore_n 3, 1) := dk_62 (dk_at dksX2_levelAgain_0 6 rfl rfl)
theorem dX2_levelAgain_7 : decode cX2_levelAgain 7 = .ok (.iconst 0, 1) := dk_3 (dk_at dksX2_levelAgain_0 7 rfl rfl)
theorem dX2_levelAgain_8 : decode cX2_levelAgain 8 = .ok (.istore 4, 2) := dk_54 4 (dk_at dksX2_levelAgain_0 8 rfl rfl)
theorem dX2_levelAgain_10 : decode cX2_levelAgain 10 = .ok (.iload 4, 2) := dk_21 4 (dk_at dksX2_levelAgain_0 10 rfl rfl)
theorem dX2_levelAgain_12 : decode cX2_levelAgain 12 = .ok (.iload_n 1, 1) := dk_27 (dk_at dksX2_levelAgain_0 12 rfl rfl)
theorem dX2_levelAgain_13 : decode cX2_levelAgain 13 = .ok (.if_icmp .gt 66, 3) := dk_163 0 66 (dk_at dksX2_levelAgain_0 13 rfl rfl)
theorem dX2_levelAgain_16 : decode cX2_levelAgain 16 = .ok (.aload_n 0, 1) := dk_42 (dk_at dksX2_levelAgain_0 16 rfl rfl)
theorem dX2_levelAgain_17 : decode cX2_levelAgain 17 = .ok (.iload 4, 2) := dk_21 4 (dk_at dksX2_levelAgain_0 17 rfl rfl)
theorem dX2_levelAgain_19 : decode cX2_levelAgain 19 = .ok (.iload_n 2, 1) := dk_28 (dk_at dksX2_levelAgain_0 19 rfl rfl)
theorem dX2_levelAgain_20 : decode cX2_levelAgain 20 = .ok (.invokevirtual 128, 3) := dk_182 0 128 (dk_at dksX2_levelAgain_0 20 rfl rfl)
theorem dX2_levelAgain_23 : decode cX2_levelAgain 23 = .ok (.astore 5, 2) := dk_58 5 (dk_at dksX2_levelAgain_1 0 rfl rfl)
theorem dX2_levelAgain_25 : decode cX2_levelAgain 25 = .ok (.aload 5, 2) := dk_25 5 (dk_at dksX2_levelAgain_1 2 rfl rfl)
theorem dX2_levelAgain_27 : decode cX2_levelAgain 27 = .ok (.ifnull 17, 3) := dk_198 0 17 (dk_at dksX2_levelAgain_1 4 rfl rfl)
theorem dX2_levelAgain_30 : decode cX2_levelAgain 30 = .ok (.aload 5, 2) := dk_25 5 (dk_at dksX2_levelAgain_1 7 rfl rfl)
theorem dX2_levelAgain_32 : decode cX2_levelAgain 32 = .ok (.aload_n 0, 1) := dk_42 (dk_at dksX2_levelAgain_1 9 rfl rfl)
theorem dX2_levelAgain_33 : decode cX2_levelAgain 33 = .ok (.getfield 25, 3) := dk_180 0 25 (dk_at dksX2_levelAgain_1 10 rfl rfl)
theorem dX2_levelAgain_36 : decode cX2_levelAgain 36 = .ok (.iload_n 2, 1) := dk_28 (dk_at dksX2_levelAgain_1 13 rfl rfl)
theorem dX2_levelAgain_37 : decode cX2_levelAgain 37 = .ok (.iaload, 1) := dk_46 (dk_at dksX2_levelAgain_1 14 rfl rfl)
theorem dX2_levelAgain_38 : decode cX2_levelAgain 38 = .ok (.invokevirtual 132, 3) := dk_182 0 132 (dk_at dksX2_levelAgain_1 15 rfl rfl)
theorem dX2_levelAgain_41 : decode cX2_levelAgain 41 = .ok (.goto 31, 3) := dk_167 0 31 (dk_at dksX2_levelAgain_1 18 rfl rfl)
theorem dX2_levelAgain_44 : decode cX2_levelAgain 44 = .ok (.aload_n 0, 1) := dk_42 (dk_at dksX2_levelAgain_1 21 rfl rfl)
theorem dX2_levelAgain_45 : decode cX2_levelAgain 45 = .ok (.getfield 12, 3) := dk_180 0 12 (dk_at dksX2_levelAgain_2 0 rfl rfl)
theorem dX2_levelAgain_48 : decode cX2_levelAgain 48 = .ok (.iload 4, 2) := dk_21 4 (dk_at dksX2_levelAgain_2 3 rfl rfl)
theorem dX2_levelAgain_50 : decode cX2_levelAgain 50 = .ok (.invokevirtual 44, 3) := dk_182 0 44 (dk_at dksX2_levelAgain_2 5 rfl rfl)
theorem dX2_levelAgain_53 : decode cX2_levelAgain 53 = .ok (.checkcast 48, 3) := dk_192 0 48 (dk_at dksX2_levelAgain_2 8 rfl rfl)
theorem dX2_levelAgain_56 : decode cX2_levelAgain 56 = .ok (.getfield 124, 3) := dk_180 0 124 (dk_at dksX2_levelAgain_2 11 rfl rfl)
theorem dX2_levelAgain_59 : decode cX2_levelAgain 59 = .ok (.ifCond .eq 12, 3) := dk_153 0 12 (dk_at dksX2_levelAgain_2 14 rfl rfl)
theorem dX2_levelAgain_62 : decode cX2_levelAgain 62 = .ok (.aload_n 0, 1) := dk_42 (dk_at dksX2_levelAgain_2 17 rfl rfl)
theorem dX2_levelAgain_63 : decode cX2_levelAgain 63 = .ok (.getfield 25, 3) := dk_180 0 25 (dk_at dksX2_levelAgain_2 18 rfl rfl)
theorem dX2_levelAgain_66 : decode cX2_levelAgain 66 = .ok (.iload_n 2, 1) := dk_28 (dk_at dksX2_levelAgain_2 21 rfl rfl)
theorem dX2_levelAgain_67 : decode cX2_levelAgain 67 = .ok (.iaload, 1) := dk_46 (dk_at dksX2_levelAgain_2 22 rfl rfl)
theorem dX2_levelAgain_68 : decode cX2_levelAgain 68 = .ok (.goto 4, 3) := dk_167 0 4 (dk_at dksX2_levelAgain_3 0 rfl rfl)
theorem dX2_levelAgain_71 : decode cX2_levelAgain 71 = .ok (.iload_n 3, 1) := dk_29 (dk_at dksX2_levelAgain_3 3 rfl rfl)
theorem dX2_levelAgain_72 : decode cX2_levelAgain 72 = .ok (.istore_n 3, 1) := dk_62 (dk_at dksX2_levelAgain_3 4 rfl rfl)
theorem dX2_levelAgain_73 : decode cX2_levelAgain 73 = .ok (.iinc 4 1, 3) := dk_132 4 1 (dk_at dksX2_levelAgain_3 5 rfl rfl)
theorem dX2_levelAgain_76 : decode cX2_levelAgain 76 = .ok (.goto (-66), 3) := dk_167 255 190 (dk_at dksX2_levelAgain_3 8 rfl rfl)
theorem dX2_levelAgain_79 : decode cX2_levelAgain 79 = .ok (.iload_n 3, 1) := dk_29 (dk_at dksX2_levelAgain_3 11 rfl rfl)
theorem dX2_levelAgain_80 : decode cX2_levelAgain 80 = .ok (.ireturn, 1) := dk_172 (dk_at dksX2_levelAgain_3 12 rfl rfl)
abbrev cX2_copy : ByteArray := prog_15_method_2_code
def yX2_copy : MethodName := ⟨RX2, "copy", "()LCueStack$Show;"⟩
def dkwX2_copy_6 : List UInt8 := [181, 0, 81, 43, 176]
abbrev dktX2_copy_6 : List UInt8 := dkwX2_copy_6 ++ []
def dkwX2_copy_5 : List UInt8 := [181, 0, 71, 43, 42, 180, 0, 75, 181, 0, 75, 43, 42, 180, 0, 78, 181, 0, 78, 43, 42, 180, 0, 81]
abbrev dktX2_copy_5 : List UInt8 := dkwX2_copy_5 ++ dktX2_copy_6
def dkwX2_copy_4 : List UInt8 := [182, 0, 44, 192, 0, 32, 182, 0, 64, 182, 0, 67, 87, 132, 2, 1, 167, 255, 224, 43, 42, 180, 0, 71]
abbrev dktX2_copy_4 : List UInt8 := dkwX2_copy_4 ++ dktX2_copy_5
def dkwX2_copy_3 : List UInt8 := [16, 12, 184, 0, 58, 3, 61, 28, 16, 12, 162, 0, 32, 43, 180, 0, 29, 28, 42, 180, 0, 29, 28]
abbrev dktX2_copy_3 : List UInt8 := dkwX2_copy_3 ++ dktX2_copy_4
def dkwX2_copy_2 : List UInt8 := [167, 255, 220, 43, 180, 0, 21, 42, 180, 0, 21, 182, 0, 54, 42, 180, 0, 25, 3, 43, 180, 0, 25, 3]
abbrev dktX2_copy_2 : List UInt8 := dkwX2_copy_2 ++ dktX2_copy_3
def dkwX2_copy_1 : List UInt8 := [180, 0, 12, 42, 180, 0, 12, 28, 182, 0, 44, 192, 0, 48, 182, 0, 50, 182, 0, 35, 87, 132, 2, 1]
abbrev dktX2_copy_1 : List UInt8 := dkwX2_copy_1 ++ dktX2_copy_2
def dkwX2_copy_0 : List UInt8 := [187, 0, 13, 89, 183, 0, 39, 76, 3, 61, 28, 42, 180, 0, 12, 182, 0, 40, 162, 0, 31, 43]
abbrev dktX2_copy_0 : List UInt8 := dkwX2_copy_0 ++ dktX2_copy_1
theorem dksX2_copy_0 : cX2_copy.data.toList.drop 0 = dktX2_copy_0 := by decide +kernel
theorem dksX2_copy_1 : cX2_copy.data.toList.drop 22 = dktX2_copy_1 := dk_seg dksX2_copy_0 22 rfl rfl
theorem dksX2_copy_2 : cX2_copy.data.toList.drop 46 = dktX2_copy_2 := dk_seg dksX2_copy_1 24 rfl rfl
theorem dksX2_copy_3 : cX2_copy.data.toList.drop 70 = dktX2_copy_3 := dk_seg dksX2_copy_2 24 rfl rfl
theorem dksX2_copy_4 : cX2_copy.data.toList.drop 93 = dktX2_copy_4 := dk_seg dksX2_copy_3 23 rfl rfl
theorem dksX2_copy_5 : cX2_copy.data.toList.drop 117 = dktX2_copy_5 := dk_seg dksX2_copy_4 24 rfl rfl
theorem dksX2_copy_6 : cX2_copy.data.toList.drop 141 = dktX2_copy_6 := dk_seg dksX2_copy_5 24 rfl rfl
theorem dX2_copy_0 : decode cX2_copy 0 = .ok (.new 13, 3) := dk_187 0 13 (dk_at dksX2_copy_0 0 rfl rfl)
theorem dX2_copy_3 : decode cX2_copy 3 = .ok (.dup, 1) := dk_89 (dk_at dksX2_copy_0 3 rfl rfl)
theorem dX2_copy_4 : decode cX2_copy 4 = .ok (.invokespecial 39, 3) := dk_183 0 39 (dk_at dksX2_copy_0 4 rfl rfl)
theorem dX2_copy_7 : decode cX2_copy 7 = .ok (.astore_n 1, 1) := dk_76 (dk_at dksX2_copy_0 7 rfl rfl)
theorem dX2_copy_8 : decode cX2_copy 8 = .ok (.iconst 0, 1) := dk_3 (dk_at dksX2_copy_0 8 rfl rfl)
theorem dX2_copy_9 : decode cX2_copy 9 = .ok (.istore_n 2, 1) := dk_61 (dk_at dksX2_copy_0 9 rfl rfl)
theorem dX2_copy_10 : decode cX2_copy 10 = .ok (.iload_n 2, 1) := dk_28 (dk_at dksX2_copy_0 10 rfl rfl)
theorem dX2_copy_11 : decode cX2_copy 11 = .ok (.aload_n 0, 1) := dk_42 (dk_at dksX2_copy_0 11 rfl rfl)
theorem dX2_copy_12 : decode cX2_copy 12 = .ok (.getfield 12, 3) := dk_180 0 12 (dk_at dksX2_copy_0 12 rfl rfl)
theorem dX2_copy_15 : decode cX2_copy 15 = .ok (.invokevirtual 40, 3) := dk_182 0 40 (dk_at dksX2_copy_0 15 rfl rfl)
theorem dX2_copy_18 : decode cX2_copy 18 = .ok (.if_icmp .ge 31, 3) := dk_162 0 31 (dk_at dksX2_copy_0 18 rfl rfl)
theorem dX2_copy_21 : decode cX2_copy 21 = .ok (.aload_n 1, 1) := dk_43 (dk_at dksX2_copy_0 21 rfl rfl)
theorem dX2_copy_22 : decode cX2_copy 22 = .ok (.getfield 12, 3) := dk_180 0 12 (dk_at dksX2_copy_1 0 rfl rfl)
theorem dX2_copy_25 : decode cX2_copy 25 = .ok (.aload_n 0, 1) := dk_42 (dk_at dksX2_copy_1 3 rfl rfl)
theorem dX2_copy_26 : decode cX2_copy 26 = .ok (.getfield 12, 3) := dk_180 0 12 (dk_at dksX2_copy_1 4 rfl rfl)
theorem dX2_copy_29 : decode cX2_copy 29 = .ok (.iload_n 2, 1) := dk_28 (dk_at dksX2_copy_1 7 rfl rfl)
theorem dX2_copy_30 : decode cX2_copy 30 = .ok (.invokevirtual 44, 3) := dk_182 0 44 (dk_at dksX2_copy_1 8 rfl rfl)
theorem dX2_copy_33 : decode cX2_copy 33 = .ok (.checkcast 48, 3) := dk_192 0 48 (dk_at dksX2_copy_1 11 rfl rfl)
theorem dX2_copy_36 : decode cX2_copy 36 = .ok (.invokevirtual 50, 3) := dk_182 0 50 (dk_at dksX2_copy_1 14 rfl rfl)
theorem dX2_copy_39 : decode cX2_copy 39 = .ok (.invokevirtual 35, 3) := dk_182 0 35 (dk_at dksX2_copy_1 17 rfl rfl)
theorem dX2_copy_42 : decode cX2_copy 42 = .ok (.pop, 1) := dk_87 (dk_at dksX2_copy_1 20 rfl rfl)
theorem dX2_copy_43 : decode cX2_copy 43 = .ok (.iinc 2 1, 3) := dk_132 2 1 (dk_at dksX2_copy_1 21 rfl rfl)
theorem dX2_copy_46 : decode cX2_copy 46 = .ok (.goto (-36), 3) := dk_167 255 220 (dk_at dksX2_copy_2 0 rfl rfl)
theorem dX2_copy_49 : decode cX2_copy 49 = .ok (.aload_n 1, 1) := dk_43 (dk_at dksX2_copy_2 3 rfl rfl)
theorem dX2_copy_50 : decode cX2_copy 50 = .ok (.getfield 21, 3) := dk_180 0 21 (dk_at dksX2_copy_2 4 rfl rfl)
theorem dX2_copy_53 : decode cX2_copy 53 = .ok (.aload_n 0, 1) := dk_42 (dk_at dksX2_copy_2 7 rfl rfl)
theorem dX2_copy_54 : decode cX2_copy 54 = .ok (.getfield 21, 3) := dk_180 0 21 (dk_at dksX2_copy_2 8 rfl rfl)
theorem dX2_copy_57 : decode cX2_copy 57 = .ok (.invokevirtual 54, 3) := dk_182 0 54 (dk_at dksX2_copy_2 11 rfl rfl)
theorem dX2_copy_60 : decode cX2_copy 60 = .ok (.aload_n 0, 1) := dk_42 (dk_at dksX2_copy_2 14 rfl rfl)
theorem dX2_copy_61 : decode cX2_copy 61 = .ok (.getfield 25, 3) := dk_180 0 25 (dk_at dksX2_copy_2 15 rfl rfl)
theorem dX2_copy_64 : decode cX2_copy 64 = .ok (.iconst 0, 1) := dk_3 (dk_at dksX2_copy_2 18 rfl rfl)
theorem dX2_copy_65 : decode cX2_copy 65 = .ok (.aload_n 1, 1) := dk_43 (dk_at dksX2_copy_2 19 rfl rfl)
theorem dX2_copy_66 : decode cX2_copy 66 = .ok (.getfield 25, 3) := dk_180 0 25 (dk_at dksX2_copy_2 20 rfl rfl)
theorem dX2_copy_69 : decode cX2_copy 69 = .ok (.iconst 0, 1) := dk_3 (dk_at dksX2_copy_2 23 rfl rfl)
theorem dX2_copy_70 : decode cX2_copy 70 = .ok (.bipush 12, 2) := dk_16 12 (dk_at dksX2_copy_3 0 rfl rfl)
theorem dX2_copy_72 : decode cX2_copy 72 = .ok (.invokestatic 58, 3) := dk_184 0 58 (dk_at dksX2_copy_3 2 rfl rfl)
theorem dX2_copy_75 : decode cX2_copy 75 = .ok (.iconst 0, 1) := dk_3 (dk_at dksX2_copy_3 5 rfl rfl)
theorem dX2_copy_76 : decode cX2_copy 76 = .ok (.istore_n 2, 1) := dk_61 (dk_at dksX2_copy_3 6 rfl rfl)
theorem dX2_copy_77 : decode cX2_copy 77 = .ok (.iload_n 2, 1) := dk_28 (dk_at dksX2_copy_3 7 rfl rfl)
theorem dX2_copy_78 : decode cX2_copy 78 = .ok (.bipush 12, 2) := dk_16 12 (dk_at dksX2_copy_3 8 rfl rfl)
theorem dX2_copy_80 : decode cX2_copy 80 = .ok (.if_icmp .ge 32, 3) := dk_162 0 32 (dk_at dksX2_copy_3 10 rfl rfl)
theorem dX2_copy_83 : decode cX2_copy 83 = .ok (.aload_n 1, 1) := dk_43 (dk_at dksX2_copy_3 13 rfl rfl)
theorem dX2_copy_84 : decode cX2_copy 84 = .ok (.getfield 29, 3) := dk_180 0 29 (dk_at dksX2_copy_3 14 rfl rfl)
theorem dX2_copy_87 : decode cX2_copy 87 = .ok (.iload_n 2, 1) := dk_28 (dk_at dksX2_copy_3 17 rfl rfl)
theorem dX2_copy_88 : decode cX2_copy 88 = .ok (.aload_n 0, 1) := dk_42 (dk_at dksX2_copy_3 18 rfl rfl)
theorem dX2_copy_89 : decode cX2_copy 89 = .ok (.getfield 29, 3) := dk_180 0 29 (dk_at dksX2_copy_3 19 rfl rfl)
theorem dX2_copy_92 : decode cX2_copy 92 = .ok (.iload_n 2, 1) := dk_28 (dk_at dksX2_copy_3 22 rfl rfl)
theorem dX2_copy_93 : decode cX2_copy 93 = .ok (.invokevirtual 44, 3) := dk_182 0 44 (dk_at dksX2_copy_4 0 rfl rfl)
theorem dX2_copy_96 : decode cX2_copy 96 = .ok (.checkcast 32, 3) := dk_192 0 32 (dk_at dksX2_copy_4 3 rfl rfl)
theorem dX2_copy_99 : decode cX2_copy 99 = .ok (.invokevirtual 64, 3) := dk_182 0 64 (dk_at dksX2_copy_4 6 rfl rfl)
theorem dX2_copy_102 : decode cX2_copy 102 = .ok (.invokevirtual 67, 3) := dk_182 0 67 (dk_at dksX2_copy_4 9 rfl rfl)
theorem dX2_copy_105 : decode cX2_copy 105 = .ok (.pop, 1) := dk_87 (dk_at dksX2_copy_4 12 rfl rfl)
theorem dX2_copy_106 : decode cX2_copy 106 = .ok (.iinc 2 1, 3) := dk_132 2 1 (dk_at dksX2_copy_4 13 rfl rfl)
theorem dX2_copy_109 : decode cX2_copy 109 = .ok (.goto (-32), 3) := dk_167 255 224 (dk_at dksX2_copy_4 16 rfl rfl)
theorem dX2_copy_112 : decode cX2_copy 112 = .ok (.aload_n 1, 1) := dk_43 (dk_at dksX2_copy_4 19 rfl rfl)
theorem dX2_copy_113 : decode cX2_copy 113 = .ok (.aload_n 0, 1) := dk_42 (dk_at dksX2_copy_4 20 rfl rfl)
theorem dX2_copy_114 : decode cX2_copy 114 = .ok (.getfield 71, 3) := dk_180 0 71 (dk_at dksX2_copy_4 21 rfl rfl)
theorem dX2_copy_117 : decode cX2_copy 117 = .ok (.putfield 71, 3) := dk_181 0 71 (dk_at dksX2_copy_5 0 rfl rfl)
theorem dX2_copy_120 : decode cX2_copy 120 = .ok (.aload_n 1, 1) := dk_43 (dk_at dksX2_copy_5 3 rfl rfl)
theorem dX2_copy_121 : decode cX2_copy 121 = .ok (.aload_n 0, 1) := dk_42 (dk_at dksX2_copy_5 4 rfl rfl)
theorem dX2_copy_122 : decode cX2_copy 122 = .ok (.getfield 75, 3) := dk_180 0 75 (dk_at dksX2_copy_5 5 rfl rfl)
theorem dX2_copy_125 : decode cX2_copy 125 = .ok (.putfield 75, 3) := dk_181 0 75 (dk_at dksX2_copy_5 8 rfl rfl)
theorem dX2_copy_128 : decode cX2_copy 128 = .ok (.aload_n 1, 1) := dk_43 (dk_at dksX2_copy_5 11 rfl rfl)
theorem dX2_copy_129 : decode cX2_copy 129 = .ok (.aload_n 0, 1) := dk_42 (dk_at dksX2_copy_5 12 rfl rfl)
theorem dX2_copy_130 : decode cX2_copy 130 = .ok (.getfield 78, 3) := dk_180 0 78 (dk_at dksX2_copy_5 13 rfl rfl)
theorem dX2_copy_133 : decode cX2_copy 133 = .ok (.putfield 78, 3) := dk_181 0 78 (dk_at dksX2_copy_5 16 rfl rfl)
theorem dX2_copy_136 : decode cX2_copy 136 = .ok (.aload_n 1, 1) := dk_43 (dk_at dksX2_copy_5 19 rfl rfl)
theorem dX2_copy_137 : decode cX2_copy 137 = .ok (.aload_n 0, 1) := dk_42 (dk_at dksX2_copy_5 20 rfl rfl)
theorem dX2_copy_138 : decode cX2_copy 138 = .ok (.getfield 81, 3) := dk_180 0 81 (dk_at dksX2_copy_5 21 rfl rfl)
theorem dX2_copy_141 : decode cX2_copy 141 = .ok (.putfield 81, 3) := dk_181 0 81 (dk_at dksX2_copy_6 0 rfl rfl)
theorem dX2_copy_144 : decode cX2_copy 144 = .ok (.aload_n 1, 1) := dk_43 (dk_at dksX2_copy_6 3 rfl rfl)
theorem dX2_copy_145 : decode cX2_copy 145 = .ok (.areturn, 1) := dk_176 (dk_at dksX2_copy_6 4 rfl rfl)
abbrev cX2_addCue : ByteArray := prog_15_method_6_code
def yX2_addCue : MethodName := ⟨RX2, "addCue", "(I)V"⟩
def dkwX2_addCue_4 : List UInt8 := [183, 0, 108, 182, 0, 111, 177]
abbrev dktX2_addCue_4 : List UInt8 := dkwX2_addCue_4 ++ []
def dkwX2_addCue_3 : List UInt8 := [180, 0, 84, 27, 162, 0, 9, 132, 2, 1, 167, 255, 224, 42, 180, 0, 12, 28, 187, 0, 48, 89, 27]
abbrev dktX2_addCue_3 : List UInt8 := dkwX2_addCue_3 ++ dktX2_addCue_4
def dkwX2_addCue_2 : List UInt8 := [61, 28, 42, 180, 0, 12, 182, 0, 40, 162, 0, 27, 42, 180, 0, 12, 28, 182, 0, 44, 192, 0, 48]
abbrev dktX2_addCue_2 : List UInt8 := dkwX2_addCue_2 ++ dktX2_addCue_3
def dkwX2_addCue_1 : List UInt8 := [184, 0, 102, 42, 180, 0, 12, 182, 0, 40, 16, 12, 162, 0, 7, 4, 167, 0, 4, 3, 184, 0, 105, 3]
abbrev dktX2_addCue_1 : List UInt8 := dkwX2_addCue_1 ++ dktX2_addCue_2
def dkwX2_addCue_0 : List UInt8 := [27, 4, 16, 99, 184, 0, 98, 153, 0, 16, 42, 27, 182, 0, 87, 2, 160, 0, 7, 4, 167, 0, 4, 3]
abbrev dktX2_addCue_0 : List UInt8 := dkwX2_addCue_0 ++ dktX2_addCue_1
theorem dksX2_addCue_0 : cX2_addCue.data.toList.drop 0 = dktX2_addCue_0 := by decide +kernel
theorem dksX2_addCue_1 : cX2_addCue.data.toList.drop 24 = dktX2_addCue_1 := dk_seg dksX2_addCue_0 24 rfl rfl
theorem dksX2_addCue_2 : cX2_addCue.data.toList.drop 48 = dktX2_addCue_2 := dk_seg dksX2_addCue_1 24 rfl rfl
theorem dksX2_addCue_3 : cX2_addCue.data.toList.drop 71 = dktX2_addCue_3 := dk_seg dksX2_addCue_2 23 rfl rfl
theorem dksX2_addCue_4 : cX2_addCue.data.toList.drop 94 = dktX2_addCue_4 := dk_seg dksX2_addCue_3 23 rfl rfl
theorem dX2_addCue_0 : decode cX2_addCue 0 = .ok (.iload_n 1, 1) := dk_27 (dk_at dksX2_addCue_0 0 rfl rfl)
theorem dX2_addCue_1 : decode cX2_addCue 1 = .ok (.iconst 1, 1) := dk_4 (dk_at dksX2_addCue_0 1 rfl rfl)
theorem dX2_addCue_2 : decode cX2_addCue 2 = .ok (.bipush 99, 2) := dk_16 99 (dk_at dksX2_addCue_0 2 rfl rfl)
theorem dX2_addCue_4 : decode cX2_addCue 4 = .ok (.invokestatic 98, 3) := dk_184 0 98 (dk_at dksX2_addCue_0 4 rfl rfl)
theorem dX2_addCue_7 : decode cX2_addCue 7 = .ok (.ifCond .eq 16, 3) := dk_153 0 16 (dk_at dksX2_addCue_0 7 rfl rfl)
theorem dX2_addCue_10 : decode cX2_addCue 10 = .ok (.aload_n 0, 1) := dk_42 (dk_at dksX2_addCue_0 10 rfl rfl)
theorem dX2_addCue_11 : decode cX2_addCue 11 = .ok (.iload_n 1, 1) := dk_27 (dk_at dksX2_addCue_0 11 rfl rfl)
theorem dX2_addCue_12 : decode cX2_addCue 12 = .ok (.invokevirtual 87, 3) := dk_182 0 87 (dk_at dksX2_addCue_0 12 rfl rfl)
theorem dX2_addCue_15 : decode cX2_addCue 15 = .ok (.iconst (-1), 1) := dk_2 (dk_at dksX2_addCue_0 15 rfl rfl)
theorem dX2_addCue_16 : decode cX2_addCue 16 = .ok (.if_icmp .ne 7, 3) := dk_160 0 7 (dk_at dksX2_addCue_0 16 rfl rfl)
theorem dX2_addCue_19 : decode cX2_addCue 19 = .ok (.iconst 1, 1) := dk_4 (dk_at dksX2_addCue_0 19 rfl rfl)
theorem dX2_addCue_20 : decode cX2_addCue 20 = .ok (.goto 4, 3) := dk_167 0 4 (dk_at dksX2_addCue_0 20 rfl rfl)
theorem dX2_addCue_23 : decode cX2_addCue 23 = .ok (.iconst 0, 1) := dk_3 (dk_at dksX2_addCue_0 23 rfl rfl)
theorem dX2_addCue_24 : decode cX2_addCue 24 = .ok (.invokestatic 102, 3) := dk_184 0 102 (dk_at dksX2_addCue_1 0 rfl rfl)
theorem dX2_addCue_27 : decode cX2_addCue 27 = .ok (.aload_n 0, 1) := dk_42 (dk_at dksX2_addCue_1 3 rfl rfl)
theorem dX2_addCue_28 : decode cX2_addCue 28 = .ok (.getfield 12, 3) := dk_180 0 12 (dk_at dksX2_addCue_1 4 rfl rfl)
theorem dX2_addCue_31 : decode cX2_addCue 31 = .ok (.invokevirtual 40, 3) := dk_182 0 40 (dk_at dksX2_addCue_1 7 rfl rfl)
theorem dX2_addCue_34 : decode cX2_addCue 34 = .ok (.bipush 12, 2) := dk_16 12 (dk_at dksX2_addCue_1 10 rfl rfl)
theorem dX2_addCue_36 : decode cX2_addCue 36 = .ok (.if_icmp .ge 7, 3) := dk_162 0 7 (dk_at dksX2_addCue_1 12 rfl rfl)
theorem dX2_addCue_39 : decode cX2_addCue 39 = .ok (.iconst 1, 1) := dk_4 (dk_at dksX2_addCue_1 15 rfl rfl)
theorem dX2_addCue_40 : decode cX2_addCue 40 = .ok (.goto 4, 3) := dk_167 0 4 (dk_at dksX2_addCue_1 16 rfl rfl)
theorem dX2_addCue_43 : decode cX2_addCue 43 = .ok (.iconst 0, 1) := dk_3 (dk_at dksX2_addCue_1 19 rfl rfl)
theorem dX2_addCue_44 : decode cX2_addCue 44 = .ok (.invokestatic 105, 3) := dk_184 0 105 (dk_at dksX2_addCue_1 20 rfl rfl)
theorem dX2_addCue_47 : decode cX2_addCue 47 = .ok (.iconst 0, 1) := dk_3 (dk_at dksX2_addCue_1 23 rfl rfl)
theorem dX2_addCue_48 : decode cX2_addCue 48 = .ok (.istore_n 2, 1) := dk_61 (dk_at dksX2_addCue_2 0 rfl rfl)
theorem dX2_addCue_49 : decode cX2_addCue 49 = .ok (.iload_n 2, 1) := dk_28 (dk_at dksX2_addCue_2 1 rfl rfl)
theorem dX2_addCue_50 : decode cX2_addCue 50 = .ok (.aload_n 0, 1) := dk_42 (dk_at dksX2_addCue_2 2 rfl rfl)
theorem dX2_addCue_51 : decode cX2_addCue 51 = .ok (.getfield 12, 3) := dk_180 0 12 (dk_at dksX2_addCue_2 3 rfl rfl)
theorem dX2_addCue_54 : decode cX2_addCue 54 = .ok (.invokevirtual 40, 3) := dk_182 0 40 (dk_at dksX2_addCue_2 6 rfl rfl)
theorem dX2_addCue_57 : decode cX2_addCue 57 = .ok (.if_icmp .ge 27, 3) := dk_162 0 27 (dk_at dksX2_addCue_2 9 rfl rfl)
theorem dX2_addCue_60 : decode cX2_addCue 60 = .ok (.aload_n 0, 1) := dk_42 (dk_at dksX2_addCue_2 12 rfl rfl)
theorem dX2_addCue_61 : decode cX2_addCue 61 = .ok (.getfield 12, 3) := dk_180 0 12 (dk_at dksX2_addCue_2 13 rfl rfl)
theorem dX2_addCue_64 : decode cX2_addCue 64 = .ok (.iload_n 2, 1) := dk_28 (dk_at dksX2_addCue_2 16 rfl rfl)
theorem dX2_addCue_65 : decode cX2_addCue 65 = .ok (.invokevirtual 44, 3) := dk_182 0 44 (dk_at dksX2_addCue_2 17 rfl rfl)
theorem dX2_addCue_68 : decode cX2_addCue 68 = .ok (.checkcast 48, 3) := dk_192 0 48 (dk_at dksX2_addCue_2 20 rfl rfl)
theorem dX2_addCue_71 : decode cX2_addCue 71 = .ok (.getfield 84, 3) := dk_180 0 84 (dk_at dksX2_addCue_3 0 rfl rfl)
theorem dX2_addCue_74 : decode cX2_addCue 74 = .ok (.iload_n 1, 1) := dk_27 (dk_at dksX2_addCue_3 3 rfl rfl)
theorem dX2_addCue_75 : decode cX2_addCue 75 = .ok (.if_icmp .ge 9, 3) := dk_162 0 9 (dk_at dksX2_addCue_3 4 rfl rfl)
theorem dX2_addCue_78 : decode cX2_addCue 78 = .ok (.iinc 2 1, 3) := dk_132 2 1 (dk_at dksX2_addCue_3 7 rfl rfl)
theorem dX2_addCue_81 : decode cX2_addCue 81 = .ok (.goto (-32), 3) := dk_167 255 224 (dk_at dksX2_addCue_3 10 rfl rfl)
theorem dX2_addCue_84 : decode cX2_addCue 84 = .ok (.aload_n 0, 1) := dk_42 (dk_at dksX2_addCue_3 13 rfl rfl)
theorem dX2_addCue_85 : decode cX2_addCue 85 = .ok (.getfield 12, 3) := dk_180 0 12 (dk_at dksX2_addCue_3 14 rfl rfl)
theorem dX2_addCue_88 : decode cX2_addCue 88 = .ok (.iload_n 2, 1) := dk_28 (dk_at dksX2_addCue_3 17 rfl rfl)
theorem dX2_addCue_89 : decode cX2_addCue 89 = .ok (.new 48, 3) := dk_187 0 48 (dk_at dksX2_addCue_3 18 rfl rfl)
theorem dX2_addCue_92 : decode cX2_addCue 92 = .ok (.dup, 1) := dk_89 (dk_at dksX2_addCue_3 21 rfl rfl)
theorem dX2_addCue_93 : decode cX2_addCue 93 = .ok (.iload_n 1, 1) := dk_27 (dk_at dksX2_addCue_3 22 rfl rfl)
theorem dX2_addCue_94 : decode cX2_addCue 94 = .ok (.invokespecial 108, 3) := dk_183 0 108 (dk_at dksX2_addCue_4 0 rfl rfl)
theorem dX2_addCue_97 : decode cX2_addCue 97 = .ok (.invokevirtual 111, 3) := dk_182 0 111 (dk_at dksX2_addCue_4 3 rfl rfl)
theorem dX2_addCue_100 : decode cX2_addCue 100 = .ok (.return_, 1) := dk_177 (dk_at dksX2_addCue_4 6 rfl rfl)
abbrev cX2_indexOf : ByteArray := prog_15_method_3_code
def yX2_indexOf : MethodName := ⟨RX2, "indexOf", "(I)I"⟩
def dkwX2_indexOf_1 : List UInt8 := [180, 0, 84, 27, 160, 0, 5, 28, 172, 132, 2, 1, 167, 255, 222, 2, 172]
abbrev dktX2_indexOf_1 : List UInt8 := dkwX2_indexOf_1 ++ []
def dkwX2_indexOf_0 : List UInt8 := [3, 61, 28, 42, 180, 0, 12, 182, 0, 40, 162, 0, 29, 42, 180, 0, 12, 28, 182, 0, 44, 192, 0, 48]
abbrev dktX2_indexOf_0 : List UInt8 := dkwX2_indexOf_0 ++ dktX2_indexOf_1
theorem dksX2_indexOf_0 : cX2_indexOf.data.toList.drop 0 = dktX2_indexOf_0 := by decide +kernel
theorem dksX2_indexOf_1 : cX2_indexOf.data.toList.drop 24 = dktX2_indexOf_1 := dk_seg dksX2_indexOf_0 24 rfl rfl
theorem dX2_indexOf_0 : decode cX2_indexOf 0 = .ok (.iconst 0, 1) := dk_3 (dk_at dksX2_indexOf_0 0 rfl rfl)
theorem dX2_indexOf_1 : decode cX2_indexOf 1 = .ok (.istore_n 2, 1) := dk_61 (dk_at dksX2_indexOf_0 1 rfl rfl)
theorem dX2_indexOf_2 : decode cX2_indexOf 2 = .ok (.iload_n 2, 1) := dk_28 (dk_at dksX2_indexOf_0 2 rfl rfl)
theorem dX2_indexOf_3 : decode cX2_indexOf 3 = .ok (.aload_n 0, 1) := dk_42 (dk_at dksX2_indexOf_0 3 rfl rfl)
theorem dX2_indexOf_4 : decode cX2_indexOf 4 = .ok (.getfield 12, 3) := dk_180 0 12 (dk_at dksX2_indexOf_0 4 rfl rfl)
theorem dX2_indexOf_7 : decode cX2_indexOf 7 = .ok (.invokevirtual 40, 3) := dk_182 0 40 (dk_at dksX2_indexOf_0 7 rfl rfl)
theorem dX2_indexOf_10 : decode cX2_indexOf 10 = .ok (.if_icmp .ge 29, 3) := dk_162 0 29 (dk_at dksX2_indexOf_0 10 rfl rfl)
theorem dX2_indexOf_13 : decode cX2_indexOf 13 = .ok (.aload_n 0, 1) := dk_42 (dk_at dksX2_indexOf_0 13 rfl rfl)
theorem dX2_indexOf_14 : decode cX2_indexOf 14 = .ok (.getfield 12, 3) := dk_180 0 12 (dk_at dksX2_indexOf_0 14 rfl rfl)
theorem dX2_indexOf_17 : decode cX2_indexOf 17 = .ok (.iload_n 2, 1) := dk_28 (dk_at dksX2_indexOf_0 17 rfl rfl)
theorem dX2_indexOf_18 : decode cX2_indexOf 18 = .ok (.invokevirtual 44, 3) := dk_182 0 44 (dk_at dksX2_indexOf_0 18 rfl rfl)
theorem dX2_indexOf_21 : decode cX2_indexOf 21 = .ok (.checkcast 48, 3) := dk_192 0 48 (dk_at dksX2_indexOf_0 21 rfl rfl)
theorem dX2_indexOf_24 : decode cX2_indexOf 24 = .ok (.getfield 84, 3) := dk_180 0 84 (dk_at dksX2_indexOf_1 0 rfl rfl)
theorem dX2_indexOf_27 : decode cX2_indexOf 27 = .ok (.iload_n 1, 1) := dk_27 (dk_at dksX2_indexOf_1 3 rfl rfl)
theorem dX2_indexOf_28 : decode cX2_indexOf 28 = .ok (.if_icmp .ne 5, 3) := dk_160 0 5 (dk_at dksX2_indexOf_1 4 rfl rfl)
theorem dX2_indexOf_31 : decode cX2_indexOf 31 = .ok (.iload_n 2, 1) := dk_28 (dk_at dksX2_indexOf_1 7 rfl rfl)
theorem dX2_indexOf_32 : decode cX2_indexOf 32 = .ok (.ireturn, 1) := dk_172 (dk_at dksX2_indexOf_1 8 rfl rfl)
theorem dX2_indexOf_33 : decode cX2_indexOf 33 = .ok (.iinc 2 1, 3) := dk_132 2 1 (dk_at dksX2_indexOf_1 9 rfl rfl)
theorem dX2_indexOf_36 : decode cX2_indexOf 36 = .ok (.goto (-34), 3) := dk_167 255 222 (dk_at dksX2_indexOf_1 12 rfl rfl)
theorem dX2_indexOf_39 : decode cX2_indexOf 39 = .ok (.iconst (-1), 1) := dk_2 (dk_at dksX2_indexOf_1 15 rfl rfl)
theorem dX2_indexOf_40 : decode cX2_indexOf 40 = .ok (.ireturn, 1) := dk_172 (dk_at dksX2_indexOf_1 16 rfl rfl)
abbrev cX2_copy_2 : ByteArray := prog_15_method_27_code
def yX2_copy_2 : MethodName := ⟨RX2, "copy", "()Ljava/lang/Object;"⟩
theorem dX2_copy_2_0 : decode cX2_copy_2 0 = .ok (.aload_n 0, 1) := by decide +kernel
theorem dX2_copy_2_1 : decode cX2_copy_2 1 = .ok (.invokevirtual 241, 3) := by decide +kernel
theorem dX2_copy_2_4 : decode cX2_copy_2 4 = .ok (.areturn, 1) := by decide +kernel
abbrev cX2_index : ByteArray := prog_15_method_4_code
def yX2_index : MethodName := ⟨RX2, "index", "(I)I"⟩
def dkwX2_index_0 : List UInt8 := [42, 27, 182, 0, 87, 61, 28, 2, 159, 0, 7, 4, 167, 0, 4, 3, 184, 0, 91, 28, 172]
abbrev dktX2_index_0 : List UInt8 := dkwX2_index_0 ++ []
theorem dksX2_index_0 : cX2_index.data.toList.drop 0 = dktX2_index_0 := by decide +kernel
theorem dX2_index_0 : decode cX2_index 0 = .ok (.aload_n 0, 1) := dk_42 (dk_at dksX2_index_0 0 rfl rfl)
theorem dX2_index_1 : decode cX2_index 1 = .ok (.iload_n 1, 1) := dk_27 (dk_at dksX2_index_0 1 rfl rfl)
theorem dX2_index_2 : decode cX2_index 2 = .ok (.invokevirtual 87, 3) := dk_182 0 87 (dk_at dksX2_index_0 2 rfl rfl)
theorem dX2_index_5 : decode cX2_index 5 = .ok (.istore_n 2, 1) := dk_61 (dk_at dksX2_index_0 5 rfl rfl)
theorem dX2_index_6 : decode cX2_index 6 = .ok (.iload_n 2, 1) := dk_28 (dk_at dksX2_index_0 6 rfl rfl)
theorem dX2_index_7 : decode cX2_index 7 = .ok (.iconst (-1), 1) := dk_2 (dk_at dksX2_index_0 7 rfl rfl)
theorem dX2_index_8 : decode cX2_index 8 = .ok (.if_icmp .eq 7, 3) := dk_159 0 7 (dk_at dksX2_index_0 8 rfl rfl)
theorem dX2_index_11 : decode cX2_index 11 = .ok (.iconst 1, 1) := dk_4 (dk_at dksX2_index_0 11 rfl rfl)
theorem dX2_index_12 : decode cX2_index 12 = .ok (.goto 4, 3) := dk_167 0 4 (dk_at dksX2_index_0 12 rfl rfl)
theorem dX2_index_15 : decode cX2_index 15 = .ok (.iconst 0, 1) := dk_3 (dk_at dksX2_index_0 15 rfl rfl)
theorem dX2_index_16 : decode cX2_index 16 = .ok (.invokestatic 91, 3) := dk_184 0 91 (dk_at dksX2_index_0 16 rfl rfl)
theorem dX2_index_19 : decode cX2_index 19 = .ok (.iload_n 2, 1) := dk_28 (dk_at dksX2_index_0 19 rfl rfl)
theorem dX2_index_20 : decode cX2_index 20 = .ok (.ireturn, 1) := dk_172 (dk_at dksX2_index_0 20 rfl rfl)
abbrev cX2_instructionsOf : ByteArray := prog_15_method_16_code
def yX2_instructionsOf : MethodName := ⟨RX2, "instructionsOf", "(I)I"⟩
def dkwX2_instructionsOf_2 : List UInt8 := [167, 0, 4, 3, 96, 61, 167, 255, 219, 28, 172]
abbrev dktX2_instructionsOf_2 : List UInt8 := dkwX2_instructionsOf_2 ++ []
def dkwX2_instructionsOf_1 : List UInt8 := [45, 185, 0, 161, 1, 0, 192, 0, 114, 58, 4, 28, 25, 4, 180, 0, 165, 27, 160, 0, 7, 4]
abbrev dktX2_instructionsOf_1 : List UInt8 := dkwX2_instructionsOf_1 ++ dktX2_instructionsOf_2
def dkwX2_instructionsOf_0 : List UInt8 := [3, 61, 42, 180, 0, 21, 182, 0, 145, 185, 0, 149, 1, 0, 78, 45, 185, 0, 155, 1, 0, 153, 0, 34]
abbrev dktX2_instructionsOf_0 : List UInt8 := dkwX2_instructionsOf_0 ++ dktX2_instructionsOf_1
theorem dksX2_instructionsOf_0 : cX2_instructionsOf.data.toList.drop 0 = dktX2_instructionsOf_0 := by decide +kernel
theorem dksX2_instructionsOf_1 : cX2_instructionsOf.data.toList.drop 24 = dktX2_instructionsOf_1 := dk_seg dksX2_instructionsOf_0 24 rfl rfl
theorem dksX2_instructionsOf_2 : cX2_instructionsOf.data.toList.drop 46 = dktX2_instructionsOf_2 := dk_seg dksX2_instructionsOf_1 22 rfl rfl
theorem dX2_instructionsOf_0 : decode cX2_instructionsOf 0 = .ok (.iconst 0, 1) := dk_3 (dk_at dksX2_instructionsOf_0 0 rfl rfl)
theorem dX2_instructionsOf_1 : decode cX2_instructionsOf 1 = .ok (.istore_n 2, 1) := dk_61 (dk_at dksX2_instructionsOf_0 1 rfl rfl)
theorem dX2_instructionsOf_2 : decode cX2_instructionsOf 2 = .ok (.aload_n 0, 1) := dk_42 (dk_at dksX2_instructionsOf_0 2 rfl rfl)
theorem dX2_instructionsOf_3 : decode cX2_instructionsOf 3 = .ok (.getfield 21, 3) := dk_180 0 21 (dk_at dksX2_instructionsOf_0 3 rfl rfl)
theorem dX2_instructionsOf_6 : decode cX2_instructionsOf 6 = .ok (.invokevirtual 145, 3) := dk_182 0 145 (dk_at dksX2_instructionsOf_0 6 rfl rfl)
theorem dX2_instructionsOf_9 : decode cX2_instructionsOf 9 = .ok (.invokeinterface 149 1, 5) := by decide +kernel
theorem dX2_instructionsOf_14 : decode cX2_instructionsOf 14 = .ok (.astore_n 3, 1) := dk_78 (dk_at dksX2_instructionsOf_0 14 rfl rfl)
theorem dX2_instructionsOf_15 : decode cX2_instructionsOf 15 = .ok (.aload_n 3, 1) := dk_45 (dk_at dksX2_instructionsOf_0 15 rfl rfl)
theorem dX2_instructionsOf_16 : decode cX2_instructionsOf 16 = .ok (.invokeinterface 155 1, 5) := by decide +kernel
theorem dX2_instructionsOf_21 : decode cX2_instructionsOf 21 = .ok (.ifCond .eq 34, 3) := dk_153 0 34 (dk_at dksX2_instructionsOf_0 21 rfl rfl)
theorem dX2_instructionsOf_24 : decode cX2_instructionsOf 24 = .ok (.aload_n 3, 1) := dk_45 (dk_at dksX2_instructionsOf_1 0 rfl rfl)
theorem dX2_instructionsOf_25 : decode cX2_instructionsOf 25 = .ok (.invokeinterface 161 1, 5) := by decide +kernel
theorem dX2_instructionsOf_30 : decode cX2_instructionsOf 30 = .ok (.checkcast 114, 3) := dk_192 0 114 (dk_at dksX2_instructionsOf_1 6 rfl rfl)
theorem dX2_instructionsOf_33 : decode cX2_instructionsOf 33 = .ok (.astore 4, 2) := dk_58 4 (dk_at dksX2_instructionsOf_1 9 rfl rfl)
theorem dX2_instructionsOf_35 : decode cX2_instructionsOf 35 = .ok (.iload_n 2, 1) := dk_28 (dk_at dksX2_instructionsOf_1 11 rfl rfl)
theorem dX2_instructionsOf_36 : decode cX2_instructionsOf 36 = .ok (.aload 4, 2) := dk_25 4 (dk_at dksX2_instructionsOf_1 12 rfl rfl)
theorem dX2_instructionsOf_38 : decode cX2_instructionsOf 38 = .ok (.getfield 165, 3) := dk_180 0 165 (dk_at dksX2_instructionsOf_1 14 rfl rfl)
theorem dX2_instructionsOf_41 : decode cX2_instructionsOf 41 = .ok (.iload_n 1, 1) := dk_27 (dk_at dksX2_instructionsOf_1 17 rfl rfl)
theorem dX2_instructionsOf_42 : decode cX2_instructionsOf 42 = .ok (.if_icmp .ne 7, 3) := dk_160 0 7 (dk_at dksX2_instructionsOf_1 18 rfl rfl)
theorem dX2_instructionsOf_45 : decode cX2_instructionsOf 45 = .ok (.iconst 1, 1) := dk_4 (dk_at dksX2_instructionsOf_1 21 rfl rfl)
theorem dX2_instructionsOf_46 : decode cX2_instructionsOf 46 = .ok (.goto 4, 3) := dk_167 0 4 (dk_at dksX2_instructionsOf_2 0 rfl rfl)
theorem dX2_instructionsOf_49 : decode cX2_instructionsOf 49 = .ok (.iconst 0, 1) := dk_3 (dk_at dksX2_instructionsOf_2 3 rfl rfl)
theorem dX2_instructionsOf_50 : decode cX2_instructionsOf 50 = .ok (.iadd, 1) := dk_96 (dk_at dksX2_instructionsOf_2 4 rfl rfl)
theorem dX2_instructionsOf_51 : decode cX2_instructionsOf 51 = .ok (.istore_n 2, 1) := dk_61 (dk_at dksX2_instructionsOf_2 5 rfl rfl)
theorem dX2_instructionsOf_52 : decode cX2_instructionsOf 52 = .ok (.goto (-37), 3) := dk_167 255 219 (dk_at dksX2_instructionsOf_2 6 rfl rfl)
theorem dX2_instructionsOf_55 : decode cX2_instructionsOf 55 = .ok (.iload_n 2, 1) := dk_28 (dk_at dksX2_instructionsOf_2 9 rfl rfl)
theorem dX2_instructionsOf_56 : decode cX2_instructionsOf 56 = .ok (.ireturn, 1) := dk_172 (dk_at dksX2_instructionsOf_2 10 rfl rfl)
abbrev cX2_removeCue : ByteArray := prog_15_method_20_code
def yX2_removeCue : MethodName := ⟨RX2, "removeCue", "(IZ)V"⟩
def dkwX2_removeCue_7 : List UInt8 := [182, 0, 200, 16, 60, 164, 0, 7, 4, 167, 0, 4, 3, 5, 184, 0, 196, 177]
abbrev dktX2_removeCue_7 : List UInt8 := dkwX2_removeCue_7 ++ []
def dkwX2_removeCue_6 : List UInt8 := [192, 0, 48, 180, 0, 193, 153, 0, 7, 4, 167, 0, 4, 3, 4, 184, 0, 196, 42, 180, 0, 21]
abbrev dktX2_removeCue_6 : List UInt8 := dkwX2_removeCue_6 ++ dktX2_removeCue_7
def dkwX2_removeCue_5 : List UInt8 := [132, 7, 1, 167, 255, 225, 21, 5, 154, 0, 25, 21, 6, 153, 0, 24, 42, 180, 0, 12, 29, 182, 0, 44]
abbrev dktX2_removeCue_5 : List UInt8 := dkwX2_removeCue_5 ++ dktX2_removeCue_6
def dkwX2_removeCue_4 : List UInt8 := [162, 0, 30, 28, 153, 0, 26, 21, 6, 42, 29, 21, 7, 25, 4, 21, 7, 46, 182, 0, 190, 128, 54, 6]
abbrev dktX2_removeCue_4 : List UInt8 := dkwX2_removeCue_4 ++ dktX2_removeCue_5
def dkwX2_removeCue_3 : List UInt8 := [27, 182, 0, 203, 42, 180, 0, 12, 29, 182, 0, 206, 87, 3, 54, 6, 3, 54, 7, 21, 7, 16, 12]
abbrev dktX2_removeCue_3 : List UInt8 := dkwX2_removeCue_3 ++ dktX2_removeCue_4
def dkwX2_removeCue_2 : List UInt8 := [79, 132, 5, 1, 167, 255, 219, 42, 180, 0, 12, 29, 182, 0, 44, 192, 0, 48, 180, 0, 193, 54, 5, 42]
abbrev dktX2_removeCue_2 : List UInt8 := dkwX2_removeCue_2 ++ dktX2_removeCue_3
def dkwX2_removeCue_1 : List UInt8 := [96, 42, 180, 0, 12, 182, 0, 40, 162, 0, 23, 25, 4, 21, 5, 42, 29, 4, 96, 21, 5, 182, 0, 139]
abbrev dktX2_removeCue_1 : List UInt8 := dkwX2_removeCue_1 ++ dktX2_removeCue_2
def dkwX2_removeCue_0 : List UInt8 := [42, 27, 182, 0, 95, 62, 16, 12, 188, 10, 58, 4, 3, 54, 5, 21, 5, 16, 12, 162, 0, 36, 29, 4]
abbrev dktX2_removeCue_0 : List UInt8 := dkwX2_removeCue_0 ++ dktX2_removeCue_1
theorem dksX2_removeCue_0 : cX2_removeCue.data.toList.drop 0 = dktX2_removeCue_0 := by decide +kernel
theorem dksX2_removeCue_1 : cX2_removeCue.data.toList.drop 24 = dktX2_removeCue_1 := dk_seg dksX2_removeCue_0 24 rfl rfl
theorem dksX2_removeCue_2 : cX2_removeCue.data.toList.drop 48 = dktX2_removeCue_2 := dk_seg dksX2_removeCue_1 24 rfl rfl
theorem dksX2_removeCue_3 : cX2_removeCue.data.toList.drop 72 = dktX2_removeCue_3 := dk_seg dksX2_removeCue_2 24 rfl rfl
theorem dksX2_removeCue_4 : cX2_removeCue.data.toList.drop 95 = dktX2_removeCue_4 := dk_seg dksX2_removeCue_3 23 rfl rfl
theorem dksX2_removeCue_5 : cX2_removeCue.data.toList.drop 119 = dktX2_removeCue_5 := dk_seg dksX2_removeCue_4 24 rfl rfl
theorem dksX2_removeCue_6 : cX2_removeCue.data.toList.drop 143 = dktX2_removeCue_6 := dk_seg dksX2_removeCue_5 24 rfl rfl
theorem dksX2_removeCue_7 : cX2_removeCue.data.toList.drop 165 = dktX2_removeCue_7 := dk_seg dksX2_removeCue_6 22 rfl rfl
theorem dX2_removeCue_0 : decode cX2_removeCue 0 = .ok (.aload_n 0, 1) := dk_42 (dk_at dksX2_removeCue_0 0 rfl rfl)
theorem dX2_removeCue_1 : decode cX2_removeCue 1 = .ok (.iload_n 1, 1) := dk_27 (dk_at dksX2_removeCue_0 1 rfl rfl)
theorem dX2_removeCue_2 : decode cX2_removeCue 2 = .ok (.invokevirtual 95, 3) := dk_182 0 95 (dk_at dksX2_removeCue_0 2 rfl rfl)
theorem dX2_removeCue_5 : decode cX2_removeCue 5 = .ok (.istore_n 3, 1) := dk_62 (dk_at dksX2_removeCue_0 5 rfl rfl)
theorem dX2_removeCue_6 : decode cX2_removeCue 6 = .ok (.bipush 12, 2) := dk_16 12 (dk_at dksX2_removeCue_0 6 rfl rfl)
theorem dX2_removeCue_8 : decode cX2_removeCue 8 = .ok (.newarray .int, 2) := dk_188_10 (dk_at dksX2_removeCue_0 8 rfl rfl)
theorem dX2_removeCue_10 : decode cX2_removeCue 10 = .ok (.astore 4, 2) := dk_58 4 (dk_at dksX2_removeCue_0 10 rfl rfl)
theorem dX2_removeCue_12 : decode cX2_removeCue 12 = .ok (.iconst 0, 1) := dk_3 (dk_at dksX2_removeCue_0 12 rfl rfl)
theorem dX2_removeCue_13 : decode cX2_removeCue 13 = .ok (.istore 5, 2) := dk_54 5 (dk_at dksX2_removeCue_0 13 rfl rfl)
theorem dX2_removeCue_15 : decode cX2_removeCue 15 = .ok (.iload 5, 2) := dk_21 5 (dk_at dksX2_removeCue_0 15 rfl rfl)
theorem dX2_removeCue_17 : decode cX2_removeCue 17 = .ok (.bipush 12, 2) := dk_16 12 (dk_at dksX2_removeCue_0 17 rfl rfl)
theorem dX2_removeCue_19 : decode cX2_removeCue 19 = .ok (.if_icmp .ge 36, 3) := dk_162 0 36 (dk_at dksX2_removeCue_0 19 rfl rfl)
theorem dX2_removeCue_22 : decode cX2_removeCue 22 = .ok (.iload_n 3, 1) := dk_29 (dk_at dksX2_removeCue_0 22 rfl rfl)
theorem dX2_removeCue_23 : decode cX2_removeCue 23 = .ok (.iconst 1, 1) := dk_4 (dk_at dksX2_removeCue_0 23 rfl rfl)
theorem dX2_removeCue_24 : decode cX2_removeCue 24 = .ok (.iadd, 1) := dk_96 (dk_at dksX2_removeCue_1 0 rfl rfl)
theorem dX2_removeCue_25 : decode cX2_removeCue 25 = .ok (.aload_n 0, 1) := dk_42 (dk_at dksX2_removeCue_1 1 rfl rfl)
theorem dX2_removeCue_26 : decode cX2_removeCue 26 = .ok (.getfield 12, 3) := dk_180 0 12 (dk_at dksX2_removeCue_1 2 rfl rfl)
theorem dX2_removeCue_29 : decode cX2_removeCue 29 = .ok (.invokevirtual 40, 3) := dk_182 0 40 (dk_at dksX2_removeCue_1 5 rfl rfl)
theorem dX2_removeCue_32 : decode cX2_removeCue 32 = .ok (.if_icmp .ge 23, 3) := dk_162 0 23 (dk_at dksX2_removeCue_1 8 rfl rfl)
theorem dX2_removeCue_35 : decode cX2_removeCue 35 = .ok (.aload 4, 2) := dk_25 4 (dk_at dksX2_removeCue_1 11 rfl rfl)
theorem dX2_removeCue_37 : decode cX2_removeCue 37 = .ok (.iload 5, 2) := dk_21 5 (dk_at dksX2_removeCue_1 13 rfl rfl)
theorem dX2_removeCue_39 : decode cX2_removeCue 39 = .ok (.aload_n 0, 1) := dk_42 (dk_at dksX2_removeCue_1 15 rfl rfl)
theorem dX2_removeCue_40 : decode cX2_removeCue 40 = .ok (.iload_n 3, 1) := dk_29 (dk_at dksX2_removeCue_1 16 rfl rfl)
theorem dX2_removeCue_41 : decode cX2_removeCue 41 = .ok (.iconst 1, 1) := dk_4 (dk_at dksX2_removeCue_1 17 rfl rfl)
theorem dX2_removeCue_42 : decode cX2_removeCue 42 = .ok (.iadd, 1) := dk_96 (dk_at dksX2_removeCue_1 18 rfl rfl)
theorem dX2_removeCue_43 : decode cX2_removeCue 43 = .ok (.iload 5, 2) := dk_21 5 (dk_at dksX2_removeCue_1 19 rfl rfl)
theorem dX2_removeCue_45 : decode cX2_removeCue 45 = .ok (.invokevirtual 139, 3) := dk_182 0 139 (dk_at dksX2_removeCue_1 21 rfl rfl)
theorem dX2_removeCue_48 : decode cX2_removeCue 48 = .ok (.iastore, 1) := dk_79 (dk_at dksX2_removeCue_2 0 rfl rfl)
theorem dX2_removeCue_49 : decode cX2_removeCue 49 = .ok (.iinc 5 1, 3) := dk_132 5 1 (dk_at dksX2_removeCue_2 1 rfl rfl)
theorem dX2_removeCue_52 : decode cX2_removeCue 52 = .ok (.goto (-37), 3) := dk_167 255 219 (dk_at dksX2_removeCue_2 4 rfl rfl)
theorem dX2_removeCue_55 : decode cX2_removeCue 55 = .ok (.aload_n 0, 1) := dk_42 (dk_at dksX2_removeCue_2 7 rfl rfl)
theorem dX2_removeCue_56 : decode cX2_removeCue 56 = .ok (.getfield 12, 3) := dk_180 0 12 (dk_at dksX2_removeCue_2 8 rfl rfl)
theorem dX2_removeCue_59 : decode cX2_removeCue 59 = .ok (.iload_n 3, 1) := dk_29 (dk_at dksX2_removeCue_2 11 rfl rfl)
theorem dX2_removeCue_60 : decode cX2_removeCue 60 = .ok (.invokevirtual 44, 3) := dk_182 0 44 (dk_at dksX2_removeCue_2 12 rfl rfl)
theorem dX2_removeCue_63 : decode cX2_removeCue 63 = .ok (.checkcast 48, 3) := dk_192 0 48 (dk_at dksX2_removeCue_2 15 rfl rfl)
theorem dX2_removeCue_66 : decode cX2_removeCue 66 = .ok (.getfield 193, 3) := dk_180 0 193 (dk_at dksX2_removeCue_2 18 rfl rfl)
theorem dX2_removeCue_69 : decode cX2_removeCue 69 = .ok (.istore 5, 2) := dk_54 5 (dk_at dksX2_removeCue_2 21 rfl rfl)
theorem dX2_removeCue_71 : decode cX2_removeCue 71 = .ok (.aload_n 0, 1) := dk_42 (dk_at dksX2_removeCue_2 23 rfl rfl)
theorem dX2_removeCue_72 : decode cX2_removeCue 72 = .ok (.iload_n 1, 1) := dk_27 (dk_at dksX2_removeCue_3 0 rfl rfl)
theorem dX2_removeCue_73 : decode cX2_removeCue 73 = .ok (.invokevirtual 203, 3) := dk_182 0 203 (dk_at dksX2_removeCue_3 1 rfl rfl)
theorem dX2_removeCue_76 : decode cX2_removeCue 76 = .ok (.aload_n 0, 1) := dk_42 (dk_at dksX2_removeCue_3 4 rfl rfl)
theorem dX2_removeCue_77 : decode cX2_removeCue 77 = .ok (.getfield 12, 3) := dk_180 0 12 (dk_at dksX2_removeCue_3 5 rfl rfl)
theorem dX2_removeCue_80 : decode cX2_removeCue 80 = .ok (.iload_n 3, 1) := dk_29 (dk_at dksX2_removeCue_3 8 rfl rfl)
theorem dX2_removeCue_81 : decode cX2_removeCue 81 = .ok (.invokevirtual 206, 3) := dk_182 0 206 (dk_at dksX2_removeCue_3 9 rfl rfl)
theorem dX2_removeCue_84 : decode cX2_removeCue 84 = .ok (.pop, 1) := dk_87 (dk_at dksX2_removeCue_3 12 rfl rfl)
theorem dX2_removeCue_85 : decode cX2_removeCue 85 = .ok (.iconst 0, 1) := dk_3 (dk_at dksX2_removeCue_3 13 rfl rfl)
theorem dX2_removeCue_86 : decode cX2_removeCue 86 = .ok (.istore 6, 2) := dk_54 6 (dk_at dksX2_removeCue_3 14 rfl rfl)
theorem dX2_removeCue_88 : decode cX2_removeCue 88 = .ok (.iconst 0, 1) := dk_3 (dk_at dksX2_removeCue_3 16 rfl rfl)
theorem dX2_removeCue_89 : decode cX2_removeCue 89 = .ok (.istore 7, 2) := dk_54 7 (dk_at dksX2_removeCue_3 17 rfl rfl)
theorem dX2_removeCue_91 : decode cX2_removeCue 91 = .ok (.iload 7, 2) := dk_21 7 (dk_at dksX2_removeCue_3 19 rfl rfl)
theorem dX2_removeCue_93 : decode cX2_removeCue 93 = .ok (.bipush 12, 2) := dk_16 12 (dk_at dksX2_removeCue_3 21 rfl rfl)
theorem dX2_removeCue_95 : decode cX2_removeCue 95 = .ok (.if_icmp .ge 30, 3) := dk_162 0 30 (dk_at dksX2_removeCue_4 0 rfl rfl)
theorem dX2_removeCue_98 : decode cX2_removeCue 98 = .ok (.iload_n 2, 1) := dk_28 (dk_at dksX2_removeCue_4 3 rfl rfl)
theorem dX2_removeCue_99 : decode cX2_removeCue 99 = .ok (.ifCond .eq 26, 3) := dk_153 0 26 (dk_at dksX2_removeCue_4 4 rfl rfl)
theorem dX2_removeCue_102 : decode cX2_removeCue 102 = .ok (.iload 6, 2) := dk_21 6 (dk_at dksX2_removeCue_4 7 rfl rfl)
theorem dX2_removeCue_104 : decode cX2_removeCue 104 = .ok (.aload_n 0, 1) := dk_42 (dk_at dksX2_removeCue_4 9 rfl rfl)
theorem dX2_removeCue_105 : decode cX2_removeCue 105 = .ok (.iload_n 3, 1) := dk_29 (dk_at dksX2_removeCue_4 10 rfl rfl)
theorem dX2_removeCue_106 : decode cX2_removeCue 106 = .ok (.iload 7, 2) := dk_21 7 (dk_at dksX2_removeCue_4 11 rfl rfl)
theorem dX2_removeCue_108 : decode cX2_removeCue 108 = .ok (.aload 4, 2) := dk_25 4 (dk_at dksX2_removeCue_4 13 rfl rfl)
theorem dX2_removeCue_110 : decode cX2_removeCue 110 = .ok (.iload 7, 2) := dk_21 7 (dk_at dksX2_removeCue_4 15 rfl rfl)
theorem dX2_removeCue_112 : decode cX2_removeCue 112 = .ok (.iaload, 1) := dk_46 (dk_at dksX2_removeCue_4 17 rfl rfl)
theorem dX2_removeCue_113 : decode cX2_removeCue 113 = .ok (.invokevirtual 190, 3) := dk_182 0 190 (dk_at dksX2_removeCue_4 18 rfl rfl)
theorem dX2_removeCue_116 : decode cX2_removeCue 116 = .ok (.ior, 1) := dk_128 (dk_at dksX2_removeCue_4 21 rfl rfl)
theorem dX2_removeCue_117 : decode cX2_removeCue 117 = .ok (.istore 6, 2) := dk_54 6 (dk_at dksX2_removeCue_4 22 rfl rfl)
theorem dX2_removeCue_119 : decode cX2_removeCue 119 = .ok (.iinc 7 1, 3) := dk_132 7 1 (dk_at dksX2_removeCue_5 0 rfl rfl)
theorem dX2_removeCue_122 : decode cX2_removeCue 122 = .ok (.goto (-31), 3) := dk_167 255 225 (dk_at dksX2_removeCue_5 3 rfl rfl)
theorem dX2_removeCue_125 : decode cX2_removeCue 125 = .ok (.iload 5, 2) := dk_21 5 (dk_at dksX2_removeCue_5 6 rfl rfl)
theorem dX2_removeCue_127 : decode cX2_removeCue 127 = .ok (.ifCond .ne 25, 3) := dk_154 0 25 (dk_at dksX2_removeCue_5 8 rfl rfl)
theorem dX2_removeCue_130 : decode cX2_removeCue 130 = .ok (.iload 6, 2) := dk_21 6 (dk_at dksX2_removeCue_5 11 rfl rfl)
theorem dX2_removeCue_132 : decode cX2_removeCue 132 = .ok (.ifCond .eq 24, 3) := dk_153 0 24 (dk_at dksX2_removeCue_5 13 rfl rfl)
theorem dX2_removeCue_135 : decode cX2_removeCue 135 = .ok (.aload_n 0, 1) := dk_42 (dk_at dksX2_removeCue_5 16 rfl rfl)
theorem dX2_removeCue_136 : decode cX2_removeCue 136 = .ok (.getfield 12, 3) := dk_180 0 12 (dk_at dksX2_removeCue_5 17 rfl rfl)
theorem dX2_removeCue_139 : decode cX2_removeCue 139 = .ok (.iload_n 3, 1) := dk_29 (dk_at dksX2_removeCue_5 20 rfl rfl)
theorem dX2_removeCue_140 : decode cX2_removeCue 140 = .ok (.invokevirtual 44, 3) := dk_182 0 44 (dk_at dksX2_removeCue_5 21 rfl rfl)
theorem dX2_removeCue_143 : decode cX2_removeCue 143 = .ok (.checkcast 48, 3) := dk_192 0 48 (dk_at dksX2_removeCue_6 0 rfl rfl)
theorem dX2_removeCue_146 : decode cX2_removeCue 146 = .ok (.getfield 193, 3) := dk_180 0 193 (dk_at dksX2_removeCue_6 3 rfl rfl)
theorem dX2_removeCue_149 : decode cX2_removeCue 149 = .ok (.ifCond .eq 7, 3) := dk_153 0 7 (dk_at dksX2_removeCue_6 6 rfl rfl)
theorem dX2_removeCue_152 : decode cX2_removeCue 152 = .ok (.iconst 1, 1) := dk_4 (dk_at dksX2_removeCue_6 9 rfl rfl)
theorem dX2_removeCue_153 : decode cX2_removeCue 153 = .ok (.goto 4, 3) := dk_167 0 4 (dk_at dksX2_removeCue_6 10 rfl rfl)
theorem dX2_removeCue_156 : decode cX2_removeCue 156 = .ok (.iconst 0, 1) := dk_3 (dk_at dksX2_removeCue_6 13 rfl rfl)
theorem dX2_removeCue_157 : decode cX2_removeCue 157 = .ok (.iconst 1, 1) := dk_4 (dk_at dksX2_removeCue_6 14 rfl rfl)
theorem dX2_removeCue_158 : decode cX2_removeCue 158 = .ok (.invokestatic 196, 3) := dk_184 0 196 (dk_at dksX2_removeCue_6 15 rfl rfl)
theorem dX2_removeCue_161 : decode cX2_removeCue 161 = .ok (.aload_n 0, 1) := dk_42 (dk_at dksX2_removeCue_6 18 rfl rfl)
theorem dX2_removeCue_162 : decode cX2_removeCue 162 = .ok (.getfield 21, 3) := dk_180 0 21 (dk_at dksX2_removeCue_6 19 rfl rfl)
theorem dX2_removeCue_165 : decode cX2_removeCue 165 = .ok (.invokevirtual 200, 3) := dk_182 0 200 (dk_at dksX2_removeCue_7 0 rfl rfl)
theorem dX2_removeCue_168 : decode cX2_removeCue 168 = .ok (.bipush 60, 2) := dk_16 60 (dk_at dksX2_removeCue_7 3 rfl rfl)
theorem dX2_removeCue_170 : decode cX2_removeCue 170 = .ok (.if_icmp .le 7, 3) := dk_164 0 7 (dk_at dksX2_removeCue_7 5 rfl rfl)
theorem dX2_removeCue_173 : decode cX2_removeCue 173 = .ok (.iconst 1, 1) := dk_4 (dk_at dksX2_removeCue_7 8 rfl rfl)
theorem dX2_removeCue_174 : decode cX2_removeCue 174 = .ok (.goto 4, 3) := dk_167 0 4 (dk_at dksX2_removeCue_7 9 rfl rfl)
theorem dX2_removeCue_177 : decode cX2_removeCue 177 = .ok (.iconst 0, 1) := dk_3 (dk_at dksX2_removeCue_7 12 rfl rfl)
theorem dX2_removeCue_178 : decode cX2_removeCue 178 = .ok (.iconst 2, 1) := dk_5 (dk_at dksX2_removeCue_7 13 rfl rfl)
theorem dX2_removeCue_179 : decode cX2_removeCue 179 = .ok (.invokestatic 196, 3) := dk_184 0 196 (dk_at dksX2_removeCue_7 14 rfl rfl)
theorem dX2_removeCue_182 : decode cX2_removeCue 182 = .ok (.return_, 1) := dk_177 (dk_at dksX2_removeCue_7 17 rfl rfl)
abbrev cX2_removeInstructions : ByteArray := prog_15_method_19_code
def yX2_removeInstructions : MethodName := ⟨RX2, "removeInstructions", "(I)V"⟩
def dkwX2_removeInstructions_2 : List UInt8 := [177]
abbrev dktX2_removeInstructions_2 : List UInt8 := dkwX2_removeInstructions_2 ++ []
def dkwX2_removeInstructions_1 : List UInt8 := [185, 0, 161, 1, 0, 192, 0, 114, 180, 0, 165, 27, 160, 255, 234, 44, 185, 0, 201, 1, 0, 167, 255, 225]
abbrev dktX2_removeInstructions_1 : List UInt8 := dkwX2_removeInstructions_1 ++ dktX2_removeInstructions_2
def dkwX2_removeInstructions_0 : List UInt8 := [42, 180, 0, 21, 182, 0, 145, 185, 0, 149, 1, 0, 77, 44, 185, 0, 155, 1, 0, 153, 0, 28, 44]
abbrev dktX2_removeInstructions_0 : List UInt8 := dkwX2_removeInstructions_0 ++ dktX2_removeInstructions_1
theorem dksX2_removeInstructions_0 : cX2_removeInstructions.data.toList.drop 0 = dktX2_removeInstructions_0 := by decide +kernel
theorem dksX2_removeInstructions_1 : cX2_removeInstructions.data.toList.drop 23 = dktX2_removeInstructions_1 := dk_seg dksX2_removeInstructions_0 23 rfl rfl
theorem dksX2_removeInstructions_2 : cX2_removeInstructions.data.toList.drop 47 = dktX2_removeInstructions_2 := dk_seg dksX2_removeInstructions_1 24 rfl rfl
theorem dX2_removeInstructions_0 : decode cX2_removeInstructions 0 = .ok (.aload_n 0, 1) := dk_42 (dk_at dksX2_removeInstructions_0 0 rfl rfl)
theorem dX2_removeInstructions_1 : decode cX2_removeInstructions 1 = .ok (.getfield 21, 3) := dk_180 0 21 (dk_at dksX2_removeInstructions_0 1 rfl rfl)
theorem dX2_removeInstructions_4 : decode cX2_removeInstructions 4 = .ok (.invokevirtual 145, 3) := dk_182 0 145 (dk_at dksX2_removeInstructions_0 4 rfl rfl)
theorem dX2_removeInstructions_7 : decode cX2_removeInstructions 7 = .ok (.invokeinterface 149 1, 5) := by decide +kernel
theorem dX2_removeInstructions_12 : decode cX2_removeInstructions 12 = .ok (.astore_n 2, 1) := dk_77 (dk_at dksX2_removeInstructions_0 12 rfl rfl)
theorem dX2_removeInstructions_13 : decode cX2_removeInstructions 13 = .ok (.aload_n 2, 1) := dk_44 (dk_at dksX2_removeInstructions_0 13 rfl rfl)
theorem dX2_removeInstructions_14 : decode cX2_removeInstructions 14 = .ok (.invokeinterface 155 1, 5) := by decide +kernel
theorem dX2_removeInstructions_19 : decode cX2_removeInstructions 19 = .ok (.ifCond .eq 28, 3) := dk_153 0 28 (dk_at dksX2_removeInstructions_0 19 rfl rfl)
theorem dX2_removeInstructions_22 : decode cX2_removeInstructions 22 = .ok (.aload_n 2, 1) := dk_44 (dk_at dksX2_removeInstructions_0 22 rfl rfl)
theorem dX2_removeInstructions_23 : decode cX2_removeInstructions 23 = .ok (.invokeinterface 161 1, 5) := by decide +kernel
theorem dX2_removeInstructions_28 : decode cX2_removeInstructions 28 = .ok (.checkcast 114, 3) := dk_192 0 114 (dk_at dksX2_removeInstructions_1 5 rfl rfl)
theorem dX2_removeInstructions_31 : decode cX2_removeInstructions 31 = .ok (.getfield 165, 3) := dk_180 0 165 (dk_at dksX2_removeInstructions_1 8 rfl rfl)
theorem dX2_removeInstructions_34 : decode cX2_removeInstructions 34 = .ok (.iload_n 1, 1) := dk_27 (dk_at dksX2_removeInstructions_1 11 rfl rfl)
theorem dX2_removeInstructions_35 : decode cX2_removeInstructions 35 = .ok (.if_icmp .ne (-22), 3) := dk_160 255 234 (dk_at dksX2_removeInstructions_1 12 rfl rfl)
theorem dX2_removeInstructions_38 : decode cX2_removeInstructions 38 = .ok (.aload_n 2, 1) := dk_44 (dk_at dksX2_removeInstructions_1 15 rfl rfl)
theorem dX2_removeInstructions_39 : decode cX2_removeInstructions 39 = .ok (.invokeinterface 201 1, 5) := by decide +kernel
theorem dX2_removeInstructions_44 : decode cX2_removeInstructions 44 = .ok (.goto (-31), 3) := dk_167 255 225 (dk_at dksX2_removeInstructions_1 21 rfl rfl)
theorem dX2_removeInstructions_47 : decode cX2_removeInstructions 47 = .ok (.return_, 1) := dk_177 (dk_at dksX2_removeInstructions_2 0 rfl rfl)
abbrev cX2_holds : ByteArray := prog_15_method_17_code
def yX2_holds : MethodName := ⟨RX2, "holds", "(III)Z"⟩
def dkwX2_holds_3 : List UInt8 := [180, 0, 84, 28, 183, 0, 116, 187, 0, 168, 89, 3, 29, 183, 0, 170, 182, 0, 171, 87, 4, 172]
abbrev dktX2_holds_3 : List UInt8 := dkwX2_holds_3 ++ []
def dkwX2_holds_2 : List UInt8 := [160, 0, 5, 3, 172, 42, 180, 0, 21, 187, 0, 114, 89, 42, 180, 0, 12, 27, 182, 0, 44, 192, 0, 48]
abbrev dktX2_holds_2 : List UInt8 := dkwX2_holds_2 ++ dktX2_holds_3
def dkwX2_holds_1 : List UInt8 := [180, 0, 124, 154, 0, 22, 42, 27, 28, 182, 0, 128, 199, 0, 13, 42, 27, 28, 182, 0, 139, 29]
abbrev dktX2_holds_1 : List UInt8 := dkwX2_holds_1 ++ dktX2_holds_2
def dkwX2_holds_0 : List UInt8 := [27, 42, 180, 0, 12, 182, 0, 40, 162, 0, 39, 42, 180, 0, 12, 27, 182, 0, 44, 192, 0, 48]
abbrev dktX2_holds_0 : List UInt8 := dkwX2_holds_0 ++ dktX2_holds_1
theorem dksX2_holds_0 : cX2_holds.data.toList.drop 0 = dktX2_holds_0 := by decide +kernel
theorem dksX2_holds_1 : cX2_holds.data.toList.drop 22 = dktX2_holds_1 := dk_seg dksX2_holds_0 22 rfl rfl
theorem dksX2_holds_2 : cX2_holds.data.toList.drop 44 = dktX2_holds_2 := dk_seg dksX2_holds_1 22 rfl rfl
theorem dksX2_holds_3 : cX2_holds.data.toList.drop 68 = dktX2_holds_3 := dk_seg dksX2_holds_2 24 rfl rfl
theorem dX2_holds_0 : decode cX2_holds 0 = .ok (.iload_n 1, 1) := dk_27 (dk_at dksX2_holds_0 0 rfl rfl)
theorem dX2_holds_1 : decode cX2_holds 1 = .ok (.aload_n 0, 1) := dk_42 (dk_at dksX2_holds_0 1 rfl rfl)
theorem dX2_holds_2 : decode cX2_holds 2 = .ok (.getfield 12, 3) := dk_180 0 12 (dk_at dksX2_holds_0 2 rfl rfl)
theorem dX2_holds_5 : decode cX2_holds 5 = .ok (.invokevirtual 40, 3) := dk_182 0 40 (dk_at dksX2_holds_0 5 rfl rfl)
theorem dX2_holds_8 : decode cX2_holds 8 = .ok (.if_icmp .ge 39, 3) := dk_162 0 39 (dk_at dksX2_holds_0 8 rfl rfl)
theorem dX2_holds_11 : decode cX2_holds 11 = .ok (.aload_n 0, 1) := dk_42 (dk_at dksX2_holds_0 11 rfl rfl)
theorem dX2_holds_12 : decode cX2_holds 12 = .ok (.getfield 12, 3) := dk_180 0 12 (dk_at dksX2_holds_0 12 rfl rfl)
theorem dX2_holds_15 : decode cX2_holds 15 = .ok (.iload_n 1, 1) := dk_27 (dk_at dksX2_holds_0 15 rfl rfl)
theorem dX2_holds_16 : decode cX2_holds 16 = .ok (.invokevirtual 44, 3) := dk_182 0 44 (dk_at dksX2_holds_0 16 rfl rfl)
theorem dX2_holds_19 : decode cX2_holds 19 = .ok (.checkcast 48, 3) := dk_192 0 48 (dk_at dksX2_holds_0 19 rfl rfl)
theorem dX2_holds_22 : decode cX2_holds 22 = .ok (.getfield 124, 3) := dk_180 0 124 (dk_at dksX2_holds_1 0 rfl rfl)
theorem dX2_holds_25 : decode cX2_holds 25 = .ok (.ifCond .ne 22, 3) := dk_154 0 22 (dk_at dksX2_holds_1 3 rfl rfl)
theorem dX2_holds_28 : decode cX2_holds 28 = .ok (.aload_n 0, 1) := dk_42 (dk_at dksX2_holds_1 6 rfl rfl)
theorem dX2_holds_29 : decode cX2_holds 29 = .ok (.iload_n 1, 1) := dk_27 (dk_at dksX2_holds_1 7 rfl rfl)
theorem dX2_holds_30 : decode cX2_holds 30 = .ok (.iload_n 2, 1) := dk_28 (dk_at dksX2_holds_1 8 rfl rfl)
theorem dX2_holds_31 : decode cX2_holds 31 = .ok (.invokevirtual 128, 3) := dk_182 0 128 (dk_at dksX2_holds_1 9 rfl rfl)
theorem dX2_holds_34 : decode cX2_holds 34 = .ok (.ifnonnull 13, 3) := dk_199 0 13 (dk_at dksX2_holds_1 12 rfl rfl)
theorem dX2_holds_37 : decode cX2_holds 37 = .ok (.aload_n 0, 1) := dk_42 (dk_at dksX2_holds_1 15 rfl rfl)
theorem dX2_holds_38 : decode cX2_holds 38 = .ok (.iload_n 1, 1) := dk_27 (dk_at dksX2_holds_1 16 rfl rfl)
theorem dX2_holds_39 : decode cX2_holds 39 = .ok (.iload_n 2, 1) := dk_28 (dk_at dksX2_holds_1 17 rfl rfl)
theorem dX2_holds_40 : decode cX2_holds 40 = .ok (.invokevirtual 139, 3) := dk_182 0 139 (dk_at dksX2_holds_1 18 rfl rfl)
theorem dX2_holds_43 : decode cX2_holds 43 = .ok (.iload_n 3, 1) := dk_29 (dk_at dksX2_holds_1 21 rfl rfl)
theorem dX2_holds_44 : decode cX2_holds 44 = .ok (.if_icmp .ne 5, 3) := dk_160 0 5 (dk_at dksX2_holds_2 0 rfl rfl)
theorem dX2_holds_47 : decode cX2_holds 47 = .ok (.iconst 0, 1) := dk_3 (dk_at dksX2_holds_2 3 rfl rfl)
theorem dX2_holds_48 : decode cX2_holds 48 = .ok (.ireturn, 1) := dk_172 (dk_at dksX2_holds_2 4 rfl rfl)
theorem dX2_holds_49 : decode cX2_holds 49 = .ok (.aload_n 0, 1) := dk_42 (dk_at dksX2_holds_2 5 rfl rfl)
theorem dX2_holds_50 : decode cX2_holds 50 = .ok (.getfield 21, 3) := dk_180 0 21 (dk_at dksX2_holds_2 6 rfl rfl)
theorem dX2_holds_53 : decode cX2_holds 53 = .ok (.new 114, 3) := dk_187 0 114 (dk_at dksX2_holds_2 9 rfl rfl)
theorem dX2_holds_56 : decode cX2_holds 56 = .ok (.dup, 1) := dk_89 (dk_at dksX2_holds_2 12 rfl rfl)
theorem dX2_holds_57 : decode cX2_holds 57 = .ok (.aload_n 0, 1) := dk_42 (dk_at dksX2_holds_2 13 rfl rfl)
theorem dX2_holds_58 : decode cX2_holds 58 = .ok (.getfield 12, 3) := dk_180 0 12 (dk_at dksX2_holds_2 14 rfl rfl)
theorem dX2_holds_61 : decode cX2_holds 61 = .ok (.iload_n 1, 1) := dk_27 (dk_at dksX2_holds_2 17 rfl rfl)
theorem dX2_holds_62 : decode cX2_holds 62 = .ok (.invokevirtual 44, 3) := dk_182 0 44 (dk_at dksX2_holds_2 18 rfl rfl)
theorem dX2_holds_65 : decode cX2_holds 65 = .ok (.checkcast 48, 3) := dk_192 0 48 (dk_at dksX2_holds_2 21 rfl rfl)
theorem dX2_holds_68 : decode cX2_holds 68 = .ok (.getfield 84, 3) := dk_180 0 84 (dk_at dksX2_holds_3 0 rfl rfl)
theorem dX2_holds_71 : decode cX2_holds 71 = .ok (.iload_n 2, 1) := dk_28 (dk_at dksX2_holds_3 3 rfl rfl)
theorem dX2_holds_72 : decode cX2_holds 72 = .ok (.invokespecial 116, 3) := dk_183 0 116 (dk_at dksX2_holds_3 4 rfl rfl)
theorem dX2_holds_75 : decode cX2_holds 75 = .ok (.new 168, 3) := dk_187 0 168 (dk_at dksX2_holds_3 7 rfl rfl)
theorem dX2_holds_78 : decode cX2_holds 78 = .ok (.dup, 1) := dk_89 (dk_at dksX2_holds_3 10 rfl rfl)
theorem dX2_holds_79 : decode cX2_holds 79 = .ok (.iconst 0, 1) := dk_3 (dk_at dksX2_holds_3 11 rfl rfl)
theorem dX2_holds_80 : decode cX2_holds 80 = .ok (.iload_n 3, 1) := dk_29 (dk_at dksX2_holds_3 12 rfl rfl)
theorem dX2_holds_81 : decode cX2_holds 81 = .ok (.invokespecial 170, 3) := dk_183 0 170 (dk_at dksX2_holds_3 13 rfl rfl)
theorem dX2_holds_84 : decode cX2_holds 84 = .ok (.invokevirtual 171, 3) := dk_182 0 171 (dk_at dksX2_holds_3 16 rfl rfl)
theorem dX2_holds_87 : decode cX2_holds 87 = .ok (.pop, 1) := dk_87 (dk_at dksX2_holds_3 19 rfl rfl)
theorem dX2_holds_88 : decode cX2_holds 88 = .ok (.iconst 1, 1) := dk_4 (dk_at dksX2_holds_3 20 rfl rfl)
theorem dX2_holds_89 : decode cX2_holds 89 = .ok (.ireturn, 1) := dk_172 (dk_at dksX2_holds_3 21 rfl rfl)
abbrev cX2_cue : ByteArray := prog_15_method_5_code
def yX2_cue : MethodName := ⟨RX2, "cue", "(I)LCueStack$Cue;"⟩
def dkwX2_cue_0 : List UInt8 := [42, 180, 0, 12, 42, 27, 182, 0, 95, 182, 0, 44, 192, 0, 48, 176]
abbrev dktX2_cue_0 : List UInt8 := dkwX2_cue_0 ++ []
theorem dksX2_cue_0 : cX2_cue.data.toList.drop 0 = dktX2_cue_0 := by decide +kernel
theorem dX2_cue_0 : decode cX2_cue 0 = .ok (.aload_n 0, 1) := dk_42 (dk_at dksX2_cue_0 0 rfl rfl)
theorem dX2_cue_1 : decode cX2_cue 1 = .ok (.getfield 12, 3) := dk_180 0 12 (dk_at dksX2_cue_0 1 rfl rfl)
theorem dX2_cue_4 : decode cX2_cue 4 = .ok (.aload_n 0, 1) := dk_42 (dk_at dksX2_cue_0 4 rfl rfl)
theorem dX2_cue_5 : decode cX2_cue 5 = .ok (.iload_n 1, 1) := dk_27 (dk_at dksX2_cue_0 5 rfl rfl)
theorem dX2_cue_6 : decode cX2_cue 6 = .ok (.invokevirtual 95, 3) := dk_182 0 95 (dk_at dksX2_cue_0 6 rfl rfl)
theorem dX2_cue_9 : decode cX2_cue 9 = .ok (.invokevirtual 44, 3) := dk_182 0 44 (dk_at dksX2_cue_0 9 rfl rfl)
theorem dX2_cue_12 : decode cX2_cue 12 = .ok (.checkcast 48, 3) := dk_192 0 48 (dk_at dksX2_cue_0 12 rfl rfl)
theorem dX2_cue_15 : decode cX2_cue 15 = .ok (.areturn, 1) := dk_176 (dk_at dksX2_cue_0 15 rfl rfl)
abbrev cX2_moves : ByteArray := prog_15_method_13_code
def yX2_moves : MethodName := ⟨RX2, "moves", "(II)Z"⟩
def dkwX2_moves_1 : List UInt8 := [28, 182, 0, 139, 29, 159, 0, 7, 4, 167, 0, 4, 3, 172]
abbrev dktX2_moves_1 : List UInt8 := dkwX2_moves_1 ++ []
def dkwX2_moves_0 : List UInt8 := [27, 154, 0, 12, 42, 180, 0, 25, 28, 46, 167, 0, 11, 42, 27, 4, 100, 28, 182, 0, 139, 62, 42, 27]
abbrev dktX2_moves_0 : List UInt8 := dkwX2_moves_0 ++ dktX2_moves_1
theorem dksX2_moves_0 : cX2_moves.data.toList.drop 0 = dktX2_moves_0 := by decide +kernel
theorem dksX2_moves_1 : cX2_moves.data.toList.drop 24 = dktX2_moves_1 := dk_seg dksX2_moves_0 24 rfl rfl
theorem dX2_moves_0 : decode cX2_moves 0 = .ok (.iload_n 1, 1) := dk_27 (dk_at dksX2_moves_0 0 rfl rfl)
theorem dX2_moves_1 : decode cX2_moves 1 = .ok (.ifCond .ne 12, 3) := dk_154 0 12 (dk_at dksX2_moves_0 1 rfl rfl)
theorem dX2_moves_4 : decode cX2_moves 4 = .ok (.aload_n 0, 1) := dk_42 (dk_at dksX2_moves_0 4 rfl rfl)
theorem dX2_moves_5 : decode cX2_moves 5 = .ok (.getfield 25, 3) := dk_180 0 25 (dk_at dksX2_moves_0 5 rfl rfl)
theorem dX2_moves_8 : decode cX2_moves 8 = .ok (.iload_n 2, 1) := dk_28 (dk_at dksX2_moves_0 8 rfl rfl)
theorem dX2_moves_9 : decode cX2_moves 9 = .ok (.iaload, 1) := dk_46 (dk_at dksX2_moves_0 9 rfl rfl)
theorem dX2_moves_10 : decode cX2_moves 10 = .ok (.goto 11, 3) := dk_167 0 11 (dk_at dksX2_moves_0 10 rfl rfl)
theorem dX2_moves_13 : decode cX2_moves 13 = .ok (.aload_n 0, 1) := dk_42 (dk_at dksX2_moves_0 13 rfl rfl)
theorem dX2_moves_14 : decode cX2_moves 14 = .ok (.iload_n 1, 1) := dk_27 (dk_at dksX2_moves_0 14 rfl rfl)
theorem dX2_moves_15 : decode cX2_moves 15 = .ok (.iconst 1, 1) := dk_4 (dk_at dksX2_moves_0 15 rfl rfl)
theorem dX2_moves_16 : decode cX2_moves 16 = .ok (.isub, 1) := dk_100 (dk_at dksX2_moves_0 16 rfl rfl)
theorem dX2_moves_17 : decode cX2_moves 17 = .ok (.iload_n 2, 1) := dk_28 (dk_at dksX2_moves_0 17 rfl rfl)
theorem dX2_moves_18 : decode cX2_moves 18 = .ok (.invokevirtual 139, 3) := dk_182 0 139 (dk_at dksX2_moves_0 18 rfl rfl)
theorem dX2_moves_21 : decode cX2_moves 21 = .ok (.istore_n 3, 1) := dk_62 (dk_at dksX2_moves_0 21 rfl rfl)
theorem dX2_moves_22 : decode cX2_moves 22 = .ok (.aload_n 0, 1) := dk_42 (dk_at dksX2_moves_0 22 rfl rfl)
theorem dX2_moves_23 : decode cX2_moves 23 = .ok (.iload_n 1, 1) := dk_27 (dk_at dksX2_moves_0 23 rfl rfl)
theorem dX2_moves_24 : decode cX2_moves 24 = .ok (.iload_n 2, 1) := dk_28 (dk_at dksX2_moves_1 0 rfl rfl)
theorem dX2_moves_25 : decode cX2_moves 25 = .ok (.invokevirtual 139, 3) := dk_182 0 139 (dk_at dksX2_moves_1 1 rfl rfl)
theorem dX2_moves_28 : decode cX2_moves 28 = .ok (.iload_n 3, 1) := dk_29 (dk_at dksX2_moves_1 4 rfl rfl)
theorem dX2_moves_29 : decode cX2_moves 29 = .ok (.if_icmp .eq 7, 3) := dk_159 0 7 (dk_at dksX2_moves_1 5 rfl rfl)
theorem dX2_moves_32 : decode cX2_moves 32 = .ok (.iconst 1, 1) := dk_4 (dk_at dksX2_moves_1 8 rfl rfl)
theorem dX2_moves_33 : decode cX2_moves 33 = .ok (.goto 4, 3) := dk_167 0 4 (dk_at dksX2_moves_1 9 rfl rfl)
theorem dX2_moves_36 : decode cX2_moves 36 = .ok (.iconst 0, 1) := dk_3 (dk_at dksX2_moves_1 12 rfl rfl)
theorem dX2_moves_37 : decode cX2_moves 37 = .ok (.ireturn, 1) := dk_172 (dk_at dksX2_moves_1 13 rfl rfl)
abbrev cX2_partOf : ByteArray := prog_15_method_14_code
def yX2_partOf : MethodName := ⟨RX2, "partOf", "(II)I"⟩
def dkwX2_partOf_0 : List UInt8 := [42, 27, 28, 182, 0, 128, 78, 45, 199, 0, 7, 3, 167, 0, 7, 45, 180, 0, 142, 172]
abbrev dktX2_partOf_0 : List UInt8 := dkwX2_partOf_0 ++ []
theorem dksX2_partOf_0 : cX2_partOf.data.toList.drop 0 = dktX2_partOf_0 := by decide +kernel
theorem dX2_partOf_0 : decode cX2_partOf 0 = .ok (.aload_n 0, 1) := dk_42 (dk_at dksX2_partOf_0 0 rfl rfl)
theorem dX2_partOf_1 : decode cX2_partOf 1 = .ok (.iload_n 1, 1) := dk_27 (dk_at dksX2_partOf_0 1 rfl rfl)
theorem dX2_partOf_2 : decode cX2_partOf 2 = .ok (.iload_n 2, 1) := dk_28 (dk_at dksX2_partOf_0 2 rfl rfl)
theorem dX2_partOf_3 : decode cX2_partOf 3 = .ok (.invokevirtual 128, 3) := dk_182 0 128 (dk_at dksX2_partOf_0 3 rfl rfl)
theorem dX2_partOf_6 : decode cX2_partOf 6 = .ok (.astore_n 3, 1) := dk_78 (dk_at dksX2_partOf_0 6 rfl rfl)
theorem dX2_partOf_7 : decode cX2_partOf 7 = .ok (.aload_n 3, 1) := dk_45 (dk_at dksX2_partOf_0 7 rfl rfl)
theorem dX2_partOf_8 : decode cX2_partOf 8 = .ok (.ifnonnull 7, 3) := dk_199 0 7 (dk_at dksX2_partOf_0 8 rfl rfl)
theorem dX2_partOf_11 : decode cX2_partOf 11 = .ok (.iconst 0, 1) := dk_3 (dk_at dksX2_partOf_0 11 rfl rfl)
theorem dX2_partOf_12 : decode cX2_partOf 12 = .ok (.goto 7, 3) := dk_167 0 7 (dk_at dksX2_partOf_0 12 rfl rfl)
theorem dX2_partOf_15 : decode cX2_partOf 15 = .ok (.aload_n 3, 1) := dk_45 (dk_at dksX2_partOf_0 15 rfl rfl)
theorem dX2_partOf_16 : decode cX2_partOf 16 = .ok (.getfield 142, 3) := dk_180 0 142 (dk_at dksX2_partOf_0 16 rfl rfl)
theorem dX2_partOf_19 : decode cX2_partOf 19 = .ok (.ireturn, 1) := dk_172 (dk_at dksX2_partOf_0 19 rfl rfl)
abbrev cX2_edit : ByteArray := prog_15_method_18_code
def yX2_edit : MethodName := ⟨RX2, "edit", "(IILCueStack$Instruction;Z)V"⟩
def dkwX2_edit_8 : List UInt8 := [184, 0, 196, 177]
abbrev dktX2_edit_8 : List UInt8 := dkwX2_edit_8 ++ []
def dkwX2_edit_7 : List UInt8 := [4, 167, 0, 4, 3, 5, 184, 0, 196, 45, 199, 0, 12, 21, 8, 154, 0, 7, 4, 167, 0, 4, 3, 6]
abbrev dktX2_edit_7 : List UInt8 := dkwX2_edit_7 ++ dktX2_edit_8
def dkwX2_edit_6 : List UInt8 := [153, 0, 7, 4, 167, 0, 4, 3, 4, 184, 0, 196, 42, 180, 0, 21, 182, 0, 200, 16, 60, 164, 0, 7]
abbrev dktX2_edit_6 : List UInt8 := dkwX2_edit_6 ++ dktX2_edit_7
def dkwX2_edit_5 : List UInt8 := [21, 9, 153, 0, 27, 42, 180, 0, 12, 21, 5, 4, 96, 182, 0, 44, 192, 0, 48, 180, 0, 193]
abbrev dktX2_edit_5 : List UInt8 := dkwX2_edit_5 ++ dktX2_edit_6
def dkwX2_edit_4 : List UInt8 := [167, 0, 4, 3, 54, 9, 42, 180, 0, 12, 21, 5, 182, 0, 44, 192, 0, 48, 180, 0, 193, 154, 0, 28]
abbrev dktX2_edit_4 : List UInt8 := dkwX2_edit_4 ++ dktX2_edit_5
def dkwX2_edit_3 : List UInt8 := [21, 5, 4, 96, 28, 25, 6, 21, 5, 4, 96, 16, 11, 184, 0, 185, 46, 182, 0, 190, 153, 0, 7, 4]
abbrev dktX2_edit_3 : List UInt8 := dkwX2_edit_3 ++ dktX2_edit_4
def dkwX2_edit_2 : List UInt8 := [182, 0, 182, 87, 167, 0, 14, 42, 180, 0, 21, 25, 7, 45, 182, 0, 171, 87, 21, 4, 153, 0, 31, 42]
abbrev dktX2_edit_2 : List UInt8 := dkwX2_edit_2 ++ dktX2_edit_3
def dkwX2_edit_1 : List UInt8 := [58, 7, 42, 180, 0, 21, 25, 7, 182, 0, 179, 54, 8, 45, 199, 0, 16, 42, 180, 0, 21, 25, 7]
abbrev dktX2_edit_1 : List UInt8 := dkwX2_edit_1 ++ dktX2_edit_2
def dkwX2_edit_0 : List UInt8 := [42, 27, 182, 0, 95, 54, 5, 42, 28, 182, 0, 175, 58, 6, 187, 0, 114, 89, 27, 28, 183, 0, 116]
abbrev dktX2_edit_0 : List UInt8 := dkwX2_edit_0 ++ dktX2_edit_1
theorem dksX2_edit_0 : cX2_edit.data.toList.drop 0 = dktX2_edit_0 := by decide +kernel
theorem dksX2_edit_1 : cX2_edit.data.toList.drop 23 = dktX2_edit_1 := dk_seg dksX2_edit_0 23 rfl rfl
theorem dksX2_edit_2 : cX2_edit.data.toList.drop 46 = dktX2_edit_2 := dk_seg dksX2_edit_1 23 rfl rfl
theorem dksX2_edit_3 : cX2_edit.data.toList.drop 70 = dktX2_edit_3 := dk_seg dksX2_edit_2 24 rfl rfl
theorem dksX2_edit_4 : cX2_edit.data.toList.drop 94 = dktX2_edit_4 := dk_seg dksX2_edit_3 24 rfl rfl
theorem dksX2_edit_5 : cX2_edit.data.toList.drop 118 = dktX2_edit_5 := dk_seg dksX2_edit_4 24 rfl rfl
theorem dksX2_edit_6 : cX2_edit.data.toList.drop 140 = dktX2_edit_6 := dk_seg dksX2_edit_5 22 rfl rfl
theorem dksX2_edit_7 : cX2_edit.data.toList.drop 164 = dktX2_edit_7 := dk_seg dksX2_edit_6 24 rfl rfl
theorem dksX2_edit_8 : cX2_edit.data.toList.drop 188 = dktX2_edit_8 := dk_seg dksX2_edit_7 24 rfl rfl
theorem dX2_edit_0 : decode cX2_edit 0 = .ok (.aload_n 0, 1) := dk_42 (dk_at dksX2_edit_0 0 rfl rfl)
theorem dX2_edit_1 : decode cX2_edit 1 = .ok (.iload_n 1, 1) := dk_27 (dk_at dksX2_edit_0 1 rfl rfl)
theorem dX2_edit_2 : decode cX2_edit 2 = .ok (.invokevirtual 95, 3) := dk_182 0 95 (dk_at dksX2_edit_0 2 rfl rfl)
theorem dX2_edit_5 : decode cX2_edit 5 = .ok (.istore 5, 2) := dk_54 5 (dk_at dksX2_edit_0 5 rfl rfl)
theorem dX2_edit_7 : decode cX2_edit 7 = .ok (.aload_n 0, 1) := dk_42 (dk_at dksX2_edit_0 7 rfl rfl)
theorem dX2_edit_8 : decode cX2_edit 8 = .ok (.iload_n 2, 1) := dk_28 (dk_at dksX2_edit_0 8 rfl rfl)
theorem dX2_edit_9 : decode cX2_edit 9 = .ok (.invokevirtual 175, 3) := dk_182 0 175 (dk_at dksX2_edit_0 9 rfl rfl)
theorem dX2_edit_12 : decode cX2_edit 12 = .ok (.astore 6, 2) := dk_58 6 (dk_at dksX2_edit_0 12 rfl rfl)
theorem dX2_edit_14 : decode cX2_edit 14 = .ok (.new 114, 3) := dk_187 0 114 (dk_at dksX2_edit_0 14 rfl rfl)
theorem dX2_edit_17 : decode cX2_edit 17 = .ok (.dup, 1) := dk_89 (dk_at dksX2_edit_0 17 rfl rfl)
theorem dX2_edit_18 : decode cX2_edit 18 = .ok (.iload_n 1, 1) := dk_27 (dk_at dksX2_edit_0 18 rfl rfl)
theorem dX2_edit_19 : decode cX2_edit 19 = .ok (.iload_n 2, 1) := dk_28 (dk_at dksX2_edit_0 19 rfl rfl)
theorem dX2_edit_20 : decode cX2_edit 20 = .ok (.invokespecial 116, 3) := dk_183 0 116 (dk_at dksX2_edit_0 20 rfl rfl)
theorem dX2_edit_23 : decode cX2_edit 23 = .ok (.astore 7, 2) := dk_58 7 (dk_at dksX2_edit_1 0 rfl rfl)
theorem dX2_edit_25 : decode cX2_edit 25 = .ok (.aload_n 0, 1) := dk_42 (dk_at dksX2_edit_1 2 rfl rfl)
theorem dX2_edit_26 : decode cX2_edit 26 = .ok (.getfield 21, 3) := dk_180 0 21 (dk_at dksX2_edit_1 3 rfl rfl)
theorem dX2_edit_29 : decode cX2_edit 29 = .ok (.aload 7, 2) := dk_25 7 (dk_at dksX2_edit_1 6 rfl rfl)
theorem dX2_edit_31 : decode cX2_edit 31 = .ok (.invokevirtual 179, 3) := dk_182 0 179 (dk_at dksX2_edit_1 8 rfl rfl)
theorem dX2_edit_34 : decode cX2_edit 34 = .ok (.istore 8, 2) := dk_54 8 (dk_at dksX2_edit_1 11 rfl rfl)
theorem dX2_edit_36 : decode cX2_edit 36 = .ok (.aload_n 3, 1) := dk_45 (dk_at dksX2_edit_1 13 rfl rfl)
theorem dX2_edit_37 : decode cX2_edit 37 = .ok (.ifnonnull 16, 3) := dk_199 0 16 (dk_at dksX2_edit_1 14 rfl rfl)
theorem dX2_edit_40 : decode cX2_edit 40 = .ok (.aload_n 0, 1) := dk_42 (dk_at dksX2_edit_1 17 rfl rfl)
theorem dX2_edit_41 : decode cX2_edit 41 = .ok (.getfield 21, 3) := dk_180 0 21 (dk_at dksX2_edit_1 18 rfl rfl)
theorem dX2_edit_44 : decode cX2_edit 44 = .ok (.aload 7, 2) := dk_25 7 (dk_at dksX2_edit_1 21 rfl rfl)
theorem dX2_edit_46 : decode cX2_edit 46 = .ok (.invokevirtual 182, 3) := dk_182 0 182 (dk_at dksX2_edit_2 0 rfl rfl)
theorem dX2_edit_49 : decode cX2_edit 49 = .ok (.pop, 1) := dk_87 (dk_at dksX2_edit_2 3 rfl rfl)
theorem dX2_edit_50 : decode cX2_edit 50 = .ok (.goto 14, 3) := dk_167 0 14 (dk_at dksX2_edit_2 4 rfl rfl)
theorem dX2_edit_53 : decode cX2_edit 53 = .ok (.aload_n 0, 1) := dk_42 (dk_at dksX2_edit_2 7 rfl rfl)
theorem dX2_edit_54 : decode cX2_edit 54 = .ok (.getfield 21, 3) := dk_180 0 21 (dk_at dksX2_edit_2 8 rfl rfl)
theorem dX2_edit_57 : decode cX2_edit 57 = .ok (.aload 7, 2) := dk_25 7 (dk_at dksX2_edit_2 11 rfl rfl)
theorem dX2_edit_59 : decode cX2_edit 59 = .ok (.aload_n 3, 1) := dk_45 (dk_at dksX2_edit_2 13 rfl rfl)
theorem dX2_edit_60 : decode cX2_edit 60 = .ok (.invokevirtual 171, 3) := dk_182 0 171 (dk_at dksX2_edit_2 14 rfl rfl)
theorem dX2_edit_63 : decode cX2_edit 63 = .ok (.pop, 1) := dk_87 (dk_at dksX2_edit_2 17 rfl rfl)
theorem dX2_edit_64 : decode cX2_edit 64 = .ok (.iload 4, 2) := dk_21 4 (dk_at dksX2_edit_2 18 rfl rfl)
theorem dX2_edit_66 : decode cX2_edit 66 = .ok (.ifCond .eq 31, 3) := dk_153 0 31 (dk_at dksX2_edit_2 20 rfl rfl)
theorem dX2_edit_69 : decode cX2_edit 69 = .ok (.aload_n 0, 1) := dk_42 (dk_at dksX2_edit_2 23 rfl rfl)
theorem dX2_edit_70 : decode cX2_edit 70 = .ok (.iload 5, 2) := dk_21 5 (dk_at dksX2_edit_3 0 rfl rfl)
theorem dX2_edit_72 : decode cX2_edit 72 = .ok (.iconst 1, 1) := dk_4 (dk_at dksX2_edit_3 2 rfl rfl)
theorem dX2_edit_73 : decode cX2_edit 73 = .ok (.iadd, 1) := dk_96 (dk_at dksX2_edit_3 3 rfl rfl)
theorem dX2_edit_74 : decode cX2_edit 74 = .ok (.iload_n 2, 1) := dk_28 (dk_at dksX2_edit_3 4 rfl rfl)
theorem dX2_edit_75 : decode cX2_edit 75 = .ok (.aload 6, 2) := dk_25 6 (dk_at dksX2_edit_3 5 rfl rfl)
theorem dX2_edit_77 : decode cX2_edit 77 = .ok (.iload 5, 2) := dk_21 5 (dk_at dksX2_edit_3 7 rfl rfl)
theorem dX2_edit_79 : decode cX2_edit 79 = .ok (.iconst 1, 1) := dk_4 (dk_at dksX2_edit_3 9 rfl rfl)
theorem dX2_edit_80 : decode cX2_edit 80 = .ok (.iadd, 1) := dk_96 (dk_at dksX2_edit_3 10 rfl rfl)
theorem dX2_edit_81 : decode cX2_edit 81 = .ok (.bipush 11, 2) := dk_16 11 (dk_at dksX2_edit_3 11 rfl rfl)
theorem dX2_edit_83 : decode cX2_edit 83 = .ok (.invokestatic 185, 3) := dk_184 0 185 (dk_at dksX2_edit_3 13 rfl rfl)
theorem dX2_edit_86 : decode cX2_edit 86 = .ok (.iaload, 1) := dk_46 (dk_at dksX2_edit_3 16 rfl rfl)
theorem dX2_edit_87 : decode cX2_edit 87 = .ok (.invokevirtual 190, 3) := dk_182 0 190 (dk_at dksX2_edit_3 17 rfl rfl)
theorem dX2_edit_90 : decode cX2_edit 90 = .ok (.ifCond .eq 7, 3) := dk_153 0 7 (dk_at dksX2_edit_3 20 rfl rfl)
theorem dX2_edit_93 : decode cX2_edit 93 = .ok (.iconst 1, 1) := dk_4 (dk_at dksX2_edit_3 23 rfl rfl)
theorem dX2_edit_94 : decode cX2_edit 94 = .ok (.goto 4, 3) := dk_167 0 4 (dk_at dksX2_edit_4 0 rfl rfl)
theorem dX2_edit_97 : decode cX2_edit 97 = .ok (.iconst 0, 1) := dk_3 (dk_at dksX2_edit_4 3 rfl rfl)
theorem dX2_edit_98 : decode cX2_edit 98 = .ok (.istore 9, 2) := dk_54 9 (dk_at dksX2_edit_4 4 rfl rfl)
theorem dX2_edit_100 : decode cX2_edit 100 = .ok (.aload_n 0, 1) := dk_42 (dk_at dksX2_edit_4 6 rfl rfl)
theorem dX2_edit_101 : decode cX2_edit 101 = .ok (.getfield 12, 3) := dk_180 0 12 (dk_at dksX2_edit_4 7 rfl rfl)
theorem dX2_edit_104 : decode cX2_edit 104 = .ok (.iload 5, 2) := dk_21 5 (dk_at dksX2_edit_4 10 rfl rfl)
theorem dX2_edit_106 : decode cX2_edit 106 = .ok (.invokevirtual 44, 3) := dk_182 0 44 (dk_at dksX2_edit_4 12 rfl rfl)
theorem dX2_edit_109 : decode cX2_edit 109 = .ok (.checkcast 48, 3) := dk_192 0 48 (dk_at dksX2_edit_4 15 rfl rfl)
theorem dX2_edit_112 : decode cX2_edit 112 = .ok (.getfield 193, 3) := dk_180 0 193 (dk_at dksX2_edit_4 18 rfl rfl)
theorem dX2_edit_115 : decode cX2_edit 115 = .ok (.ifCond .ne 28, 3) := dk_154 0 28 (dk_at dksX2_edit_4 21 rfl rfl)
theorem dX2_edit_118 : decode cX2_edit 118 = .ok (.iload 9, 2) := dk_21 9 (dk_at dksX2_edit_5 0 rfl rfl)
theorem dX2_edit_120 : decode cX2_edit 120 = .ok (.ifCond .eq 27, 3) := dk_153 0 27 (dk_at dksX2_edit_5 2 rfl rfl)
theorem dX2_edit_123 : decode cX2_edit 123 = .ok (.aload_n 0, 1) := dk_42 (dk_at dksX2_edit_5 5 rfl rfl)
theorem dX2_edit_124 : decode cX2_edit 124 = .ok (.getfield 12, 3) := dk_180 0 12 (dk_at dksX2_edit_5 6 rfl rfl)
theorem dX2_edit_127 : decode cX2_edit 127 = .ok (.iload 5, 2) := dk_21 5 (dk_at dksX2_edit_5 9 rfl rfl)
theorem dX2_edit_129 : decode cX2_edit 129 = .ok (.iconst 1, 1) := dk_4 (dk_at dksX2_edit_5 11 rfl rfl)
theorem dX2_edit_130 : decode cX2_edit 130 = .ok (.iadd, 1) := dk_96 (dk_at dksX2_edit_5 12 rfl rfl)
theorem dX2_edit_131 : decode cX2_edit 131 = .ok (.invokevirtual 44, 3) := dk_182 0 44 (dk_at dksX2_edit_5 13 rfl rfl)
theorem dX2_edit_134 : decode cX2_edit 134 = .ok (.checkcast 48, 3) := dk_192 0 48 (dk_at dksX2_edit_5 16 rfl rfl)
theorem dX2_edit_137 : decode cX2_edit 137 = .ok (.getfield 193, 3) := dk_180 0 193 (dk_at dksX2_edit_5 19 rfl rfl)
theorem dX2_edit_140 : decode cX2_edit 140 = .ok (.ifCond .eq 7, 3) := dk_153 0 7 (dk_at dksX2_edit_6 0 rfl rfl)
theorem dX2_edit_143 : decode cX2_edit 143 = .ok (.iconst 1, 1) := dk_4 (dk_at dksX2_edit_6 3 rfl rfl)
theorem dX2_edit_144 : decode cX2_edit 144 = .ok (.goto 4, 3) := dk_167 0 4 (dk_at dksX2_edit_6 4 rfl rfl)
theorem dX2_edit_147 : decode cX2_edit 147 = .ok (.iconst 0, 1) := dk_3 (dk_at dksX2_edit_6 7 rfl rfl)
theorem dX2_edit_148 : decode cX2_edit 148 = .ok (.iconst 1, 1) := dk_4 (dk_at dksX2_edit_6 8 rfl rfl)
theorem dX2_edit_149 : decode cX2_edit 149 = .ok (.invokestatic 196, 3) := dk_184 0 196 (dk_at dksX2_edit_6 9 rfl rfl)
theorem dX2_edit_152 : decode cX2_edit 152 = .ok (.aload_n 0, 1) := dk_42 (dk_at dksX2_edit_6 12 rfl rfl)
theorem dX2_edit_153 : decode cX2_edit 153 = .ok (.getfield 21, 3) := dk_180 0 21 (dk_at dksX2_edit_6 13 rfl rfl)
theorem dX2_edit_156 : decode cX2_edit 156 = .ok (.invokevirtual 200, 3) := dk_182 0 200 (dk_at dksX2_edit_6 16 rfl rfl)
theorem dX2_edit_159 : decode cX2_edit 159 = .ok (.bipush 60, 2) := dk_16 60 (dk_at dksX2_edit_6 19 rfl rfl)
theorem dX2_edit_161 : decode cX2_edit 161 = .ok (.if_icmp .le 7, 3) := dk_164 0 7 (dk_at dksX2_edit_6 21 rfl rfl)
theorem dX2_edit_164 : decode cX2_edit 164 = .ok (.iconst 1, 1) := dk_4 (dk_at dksX2_edit_7 0 rfl rfl)
theorem dX2_edit_165 : decode cX2_edit 165 = .ok (.goto 4, 3) := dk_167 0 4 (dk_at dksX2_edit_7 1 rfl rfl)
theorem dX2_edit_168 : decode cX2_edit 168 = .ok (.iconst 0, 1) := dk_3 (dk_at dksX2_edit_7 4 rfl rfl)
theorem dX2_edit_169 : decode cX2_edit 169 = .ok (.iconst 2, 1) := dk_5 (dk_at dksX2_edit_7 5 rfl rfl)
theorem dX2_edit_170 : decode cX2_edit 170 = .ok (.invokestatic 196, 3) := dk_184 0 196 (dk_at dksX2_edit_7 6 rfl rfl)
theorem dX2_edit_173 : decode cX2_edit 173 = .ok (.aload_n 3, 1) := dk_45 (dk_at dksX2_edit_7 9 rfl rfl)
theorem dX2_edit_174 : decode cX2_edit 174 = .ok (.ifnonnull 12, 3) := dk_199 0 12 (dk_at dksX2_edit_7 10 rfl rfl)
theorem dX2_edit_177 : decode cX2_edit 177 = .ok (.iload 8, 2) := dk_21 8 (dk_at dksX2_edit_7 13 rfl rfl)
theorem dX2_edit_179 : decode cX2_edit 179 = .ok (.ifCond .ne 7, 3) := dk_154 0 7 (dk_at dksX2_edit_7 15 rfl rfl)
theorem dX2_edit_182 : decode cX2_edit 182 = .ok (.iconst 1, 1) := dk_4 (dk_at dksX2_edit_7 18 rfl rfl)
theorem dX2_edit_183 : decode cX2_edit 183 = .ok (.goto 4, 3) := dk_167 0 4 (dk_at dksX2_edit_7 19 rfl rfl)
theorem dX2_edit_186 : decode cX2_edit 186 = .ok (.iconst 0, 1) := dk_3 (dk_at dksX2_edit_7 22 rfl rfl)
theorem dX2_edit_187 : decode cX2_edit 187 = .ok (.iconst 3, 1) := dk_6 (dk_at dksX2_edit_7 23 rfl rfl)
theorem dX2_edit_188 : decode cX2_edit 188 = .ok (.invokestatic 196, 3) := dk_184 0 196 (dk_at dksX2_edit_8 0 rfl rfl)
theorem dX2_edit_191 : decode cX2_edit 191 = .ok (.return_, 1) := dk_177 (dk_at dksX2_edit_8 3 rfl rfl)
abbrev cX2_levels : ByteArray := prog_15_method_15_code
def yX2_levels : MethodName := ⟨RX2, "levels", "(I)[I"⟩
def dkwX2_levels_1 : List UInt8 := [182, 0, 139, 79, 132, 3, 1, 167, 255, 233, 44, 176]
abbrev dktX2_levels_1 : List UInt8 := dkwX2_levels_1 ++ []
def dkwX2_levels_0 : List UInt8 := [16, 12, 188, 10, 77, 3, 62, 29, 42, 180, 0, 12, 182, 0, 40, 162, 0, 18, 44, 29, 42, 29, 27]
abbrev dktX2_levels_0 : List UInt8 := dkwX2_levels_0 ++ dktX2_levels_1
theorem dksX2_levels_0 : cX2_levels.data.toList.drop 0 = dktX2_levels_0 := by decide +kernel
theorem dksX2_levels_1 : cX2_levels.data.toList.drop 23 = dktX2_levels_1 := dk_seg dksX2_levels_0 23 rfl rfl
theorem dX2_levels_0 : decode cX2_levels 0 = .ok (.bipush 12, 2) := dk_16 12 (dk_at dksX2_levels_0 0 rfl rfl)
theorem dX2_levels_2 : decode cX2_levels 2 = .ok (.newarray .int, 2) := dk_188_10 (dk_at dksX2_levels_0 2 rfl rfl)
theorem dX2_levels_4 : decode cX2_levels 4 = .ok (.astore_n 2, 1) := dk_77 (dk_at dksX2_levels_0 4 rfl rfl)
theorem dX2_levels_5 : decode cX2_levels 5 = .ok (.iconst 0, 1) := dk_3 (dk_at dksX2_levels_0 5 rfl rfl)
theorem dX2_levels_6 : decode cX2_levels 6 = .ok (.istore_n 3, 1) := dk_62 (dk_at dksX2_levels_0 6 rfl rfl)
theorem dX2_levels_7 : decode cX2_levels 7 = .ok (.iload_n 3, 1) := dk_29 (dk_at dksX2_levels_0 7 rfl rfl)
theorem dX2_levels_8 : decode cX2_levels 8 = .ok (.aload_n 0, 1) := dk_42 (dk_at dksX2_levels_0 8 rfl rfl)
theorem dX2_levels_9 : decode cX2_levels 9 = .ok (.getfield 12, 3) := dk_180 0 12 (dk_at dksX2_levels_0 9 rfl rfl)
theorem dX2_levels_12 : decode cX2_levels 12 = .ok (.invokevirtual 40, 3) := dk_182 0 40 (dk_at dksX2_levels_0 12 rfl rfl)
theorem dX2_levels_15 : decode cX2_levels 15 = .ok (.if_icmp .ge 18, 3) := dk_162 0 18 (dk_at dksX2_levels_0 15 rfl rfl)
theorem dX2_levels_18 : decode cX2_levels 18 = .ok (.aload_n 2, 1) := dk_44 (dk_at dksX2_levels_0 18 rfl rfl)
theorem dX2_levels_19 : decode cX2_levels 19 = .ok (.iload_n 3, 1) := dk_29 (dk_at dksX2_levels_0 19 rfl rfl)
theorem dX2_levels_20 : decode cX2_levels 20 = .ok (.aload_n 0, 1) := dk_42 (dk_at dksX2_levels_0 20 rfl rfl)
theorem dX2_levels_21 : decode cX2_levels 21 = .ok (.iload_n 3, 1) := dk_29 (dk_at dksX2_levels_0 21 rfl rfl)
theorem dX2_levels_22 : decode cX2_levels 22 = .ok (.iload_n 1, 1) := dk_27 (dk_at dksX2_levels_0 22 rfl rfl)
theorem dX2_levels_23 : decode cX2_levels 23 = .ok (.invokevirtual 139, 3) := dk_182 0 139 (dk_at dksX2_levels_1 0 rfl rfl)
theorem dX2_levels_26 : decode cX2_levels 26 = .ok (.iastore, 1) := dk_79 (dk_at dksX2_levels_1 3 rfl rfl)
theorem dX2_levels_27 : decode cX2_levels 27 = .ok (.iinc 3 1, 3) := dk_132 3 1 (dk_at dksX2_levels_1 4 rfl rfl)
theorem dX2_levels_30 : decode cX2_levels 30 = .ok (.goto (-23), 3) := dk_167 255 233 (dk_at dksX2_levels_1 7 rfl rfl)
theorem dX2_levels_33 : decode cX2_levels 33 = .ok (.aload_n 2, 1) := dk_44 (dk_at dksX2_levels_1 10 rfl rfl)
theorem dX2_levels_34 : decode cX2_levels 34 = .ok (.areturn, 1) := dk_176 (dk_at dksX2_levels_1 11 rfl rfl)
abbrev cX2_source : ByteArray := prog_15_method_12_code
def yX2_source : MethodName := ⟨RX2, "source", "(II)I"⟩
def dkwX2_source_1 : List UInt8 := [167, 255, 236, 42, 180, 0, 12, 29, 182, 0, 44, 192, 0, 48, 180, 0, 84, 172]
abbrev dktX2_source_1 : List UInt8 := dkwX2_source_1 ++ []
def dkwX2_source_0 : List UInt8 := [27, 62, 42, 29, 182, 0, 135, 154, 0, 18, 42, 29, 28, 182, 0, 128, 199, 0, 9, 132, 3, 255]
abbrev dktX2_source_0 : List UInt8 := dkwX2_source_0 ++ dktX2_source_1
theorem dksX2_source_0 : cX2_source.data.toList.drop 0 = dktX2_source_0 := by decide +kernel
theorem dksX2_source_1 : cX2_source.data.toList.drop 22 = dktX2_source_1 := dk_seg dksX2_source_0 22 rfl rfl
theorem dX2_source_0 : decode cX2_source 0 = .ok (.iload_n 1, 1) := dk_27 (dk_at dksX2_source_0 0 rfl rfl)
theorem dX2_source_1 : decode cX2_source 1 = .ok (.istore_n 3, 1) := dk_62 (dk_at dksX2_source_0 1 rfl rfl)
theorem dX2_source_2 : decode cX2_source 2 = .ok (.aload_n 0, 1) := dk_42 (dk_at dksX2_source_0 2 rfl rfl)
theorem dX2_source_3 : decode cX2_source 3 = .ok (.iload_n 3, 1) := dk_29 (dk_at dksX2_source_0 3 rfl rfl)
theorem dX2_source_4 : decode cX2_source 4 = .ok (.invokevirtual 135, 3) := dk_182 0 135 (dk_at dksX2_source_0 4 rfl rfl)
theorem dX2_source_7 : decode cX2_source 7 = .ok (.ifCond .ne 18, 3) := dk_154 0 18 (dk_at dksX2_source_0 7 rfl rfl)
theorem dX2_source_10 : decode cX2_source 10 = .ok (.aload_n 0, 1) := dk_42 (dk_at dksX2_source_0 10 rfl rfl)
theorem dX2_source_11 : decode cX2_source 11 = .ok (.iload_n 3, 1) := dk_29 (dk_at dksX2_source_0 11 rfl rfl)
theorem dX2_source_12 : decode cX2_source 12 = .ok (.iload_n 2, 1) := dk_28 (dk_at dksX2_source_0 12 rfl rfl)
theorem dX2_source_13 : decode cX2_source 13 = .ok (.invokevirtual 128, 3) := dk_182 0 128 (dk_at dksX2_source_0 13 rfl rfl)
theorem dX2_source_16 : decode cX2_source 16 = .ok (.ifnonnull 9, 3) := dk_199 0 9 (dk_at dksX2_source_0 16 rfl rfl)
theorem dX2_source_19 : decode cX2_source 19 = .ok (.iinc 3 (-1), 3) := dk_132 3 255 (dk_at dksX2_source_0 19 rfl rfl)
theorem dX2_source_22 : decode cX2_source 22 = .ok (.goto (-20), 3) := dk_167 255 236 (dk_at dksX2_source_1 0 rfl rfl)
theorem dX2_source_25 : decode cX2_source 25 = .ok (.aload_n 0, 1) := dk_42 (dk_at dksX2_source_1 3 rfl rfl)
theorem dX2_source_26 : decode cX2_source 26 = .ok (.getfield 12, 3) := dk_180 0 12 (dk_at dksX2_source_1 4 rfl rfl)
theorem dX2_source_29 : decode cX2_source 29 = .ok (.iload_n 3, 1) := dk_29 (dk_at dksX2_source_1 7 rfl rfl)
theorem dX2_source_30 : decode cX2_source 30 = .ok (.invokevirtual 44, 3) := dk_182 0 44 (dk_at dksX2_source_1 8 rfl rfl)
theorem dX2_source_33 : decode cX2_source 33 = .ok (.checkcast 48, 3) := dk_192 0 48 (dk_at dksX2_source_1 11 rfl rfl)
theorem dX2_source_36 : decode cX2_source 36 = .ok (.getfield 84, 3) := dk_180 0 84 (dk_at dksX2_source_1 14 rfl rfl)
theorem dX2_source_39 : decode cX2_source 39 = .ok (.ireturn, 1) := dk_172 (dk_at dksX2_source_1 17 rfl rfl)
abbrev cX2_back : ByteArray := prog_15_method_23_code
def yX2_back : MethodName := ⟨RX2, "back", "()I"⟩
def dkwX2_back_2 : List UInt8 := [3, 8, 184, 0, 196, 42, 27, 4, 100, 182, 0, 227, 87, 42, 180, 0, 71, 172]
abbrev dktX2_back_2 : List UInt8 := dkwX2_back_2 ++ []
def dkwX2_back_1 : List UInt8 := [180, 0, 84, 42, 180, 0, 71, 162, 0, 9, 132, 1, 1, 167, 255, 221, 27, 154, 0, 7, 4, 167, 0, 4]
abbrev dktX2_back_1 : List UInt8 := dkwX2_back_1 ++ dktX2_back_2
def dkwX2_back_0 : List UInt8 := [3, 60, 27, 42, 180, 0, 12, 182, 0, 40, 162, 0, 30, 42, 180, 0, 12, 27, 182, 0, 44, 192, 0, 48]
abbrev dktX2_back_0 : List UInt8 := dkwX2_back_0 ++ dktX2_back_1
theorem dksX2_back_0 : cX2_back.data.toList.drop 0 = dktX2_back_0 := by decide +kernel
theorem dksX2_back_1 : cX2_back.data.toList.drop 24 = dktX2_back_1 := dk_seg dksX2_back_0 24 rfl rfl
theorem dksX2_back_2 : cX2_back.data.toList.drop 48 = dktX2_back_2 := dk_seg dksX2_back_1 24 rfl rfl
theorem dX2_back_0 : decode cX2_back 0 = .ok (.iconst 0, 1) := dk_3 (dk_at dksX2_back_0 0 rfl rfl)
theorem dX2_back_1 : decode cX2_back 1 = .ok (.istore_n 1, 1) := dk_60 (dk_at dksX2_back_0 1 rfl rfl)
theorem dX2_back_2 : decode cX2_back 2 = .ok (.iload_n 1, 1) := dk_27 (dk_at dksX2_back_0 2 rfl rfl)
theorem dX2_back_3 : decode cX2_back 3 = .ok (.aload_n 0, 1) := dk_42 (dk_at dksX2_back_0 3 rfl rfl)
theorem dX2_back_4 : decode cX2_back 4 = .ok (.getfield 12, 3) := dk_180 0 12 (dk_at dksX2_back_0 4 rfl rfl)
theorem dX2_back_7 : decode cX2_back 7 = .ok (.invokevirtual 40, 3) := dk_182 0 40 (dk_at dksX2_back_0 7 rfl rfl)
theorem dX2_back_10 : decode cX2_back 10 = .ok (.if_icmp .ge 30, 3) := dk_162 0 30 (dk_at dksX2_back_0 10 rfl rfl)
theorem dX2_back_13 : decode cX2_back 13 = .ok (.aload_n 0, 1) := dk_42 (dk_at dksX2_back_0 13 rfl rfl)
theorem dX2_back_14 : decode cX2_back 14 = .ok (.getfield 12, 3) := dk_180 0 12 (dk_at dksX2_back_0 14 rfl rfl)
theorem dX2_back_17 : decode cX2_back 17 = .ok (.iload_n 1, 1) := dk_27 (dk_at dksX2_back_0 17 rfl rfl)
theorem dX2_back_18 : decode cX2_back 18 = .ok (.invokevirtual 44, 3) := dk_182 0 44 (dk_at dksX2_back_0 18 rfl rfl)
theorem dX2_back_21 : decode cX2_back 21 = .ok (.checkcast 48, 3) := dk_192 0 48 (dk_at dksX2_back_0 21 rfl rfl)
theorem dX2_back_24 : decode cX2_back 24 = .ok (.getfield 84, 3) := dk_180 0 84 (dk_at dksX2_back_1 0 rfl rfl)
theorem dX2_back_27 : decode cX2_back 27 = .ok (.aload_n 0, 1) := dk_42 (dk_at dksX2_back_1 3 rfl rfl)
theorem dX2_back_28 : decode cX2_back 28 = .ok (.getfield 71, 3) := dk_180 0 71 (dk_at dksX2_back_1 4 rfl rfl)
theorem dX2_back_31 : decode cX2_back 31 = .ok (.if_icmp .ge 9, 3) := dk_162 0 9 (dk_at dksX2_back_1 7 rfl rfl)
theorem dX2_back_34 : decode cX2_back 34 = .ok (.iinc 1 1, 3) := dk_132 1 1 (dk_at dksX2_back_1 10 rfl rfl)
theorem dX2_back_37 : decode cX2_back 37 = .ok (.goto (-35), 3) := dk_167 255 221 (dk_at dksX2_back_1 13 rfl rfl)
theorem dX2_back_40 : decode cX2_back 40 = .ok (.iload_n 1, 1) := dk_27 (dk_at dksX2_back_1 16 rfl rfl)
theorem dX2_back_41 : decode cX2_back 41 = .ok (.ifCond .ne 7, 3) := dk_154 0 7 (dk_at dksX2_back_1 17 rfl rfl)
theorem dX2_back_44 : decode cX2_back 44 = .ok (.iconst 1, 1) := dk_4 (dk_at dksX2_back_1 20 rfl rfl)
theorem dX2_back_45 : decode cX2_back 45 = .ok (.goto 4, 3) := dk_167 0 4 (dk_at dksX2_back_1 21 rfl rfl)
theorem dX2_back_48 : decode cX2_back 48 = .ok (.iconst 0, 1) := dk_3 (dk_at dksX2_back_2 0 rfl rfl)
theorem dX2_back_49 : decode cX2_back 49 = .ok (.iconst 5, 1) := dk_8 (dk_at dksX2_back_2 1 rfl rfl)
theorem dX2_back_50 : decode cX2_back 50 = .ok (.invokestatic 196, 3) := dk_184 0 196 (dk_at dksX2_back_2 2 rfl rfl)
theorem dX2_back_53 : decode cX2_back 53 = .ok (.aload_n 0, 1) := dk_42 (dk_at dksX2_back_2 5 rfl rfl)
theorem dX2_back_54 : decode cX2_back 54 = .ok (.iload_n 1, 1) := dk_27 (dk_at dksX2_back_2 6 rfl rfl)
theorem dX2_back_55 : decode cX2_back 55 = .ok (.iconst 1, 1) := dk_4 (dk_at dksX2_back_2 7 rfl rfl)
theorem dX2_back_56 : decode cX2_back 56 = .ok (.isub, 1) := dk_100 (dk_at dksX2_back_2 8 rfl rfl)
theorem dX2_back_57 : decode cX2_back 57 = .ok (.invokevirtual 227, 3) := dk_182 0 227 (dk_at dksX2_back_2 9 rfl rfl)
theorem dX2_back_60 : decode cX2_back 60 = .ok (.pop, 1) := dk_87 (dk_at dksX2_back_2 12 rfl rfl)
theorem dX2_back_61 : decode cX2_back 61 = .ok (.aload_n 0, 1) := dk_42 (dk_at dksX2_back_2 13 rfl rfl)
theorem dX2_back_62 : decode cX2_back 62 = .ok (.getfield 71, 3) := dk_180 0 71 (dk_at dksX2_back_2 14 rfl rfl)
theorem dX2_back_65 : decode cX2_back 65 = .ok (.ireturn, 1) := dk_172 (dk_at dksX2_back_2 17 rfl rfl)
abbrev cX2_goes : ByteArray := prog_15_method_21_code
def yX2_goes : MethodName := ⟨RX2, "goes", "(I)I"⟩
def dkwX2_goes_5 : List UInt8 := [180, 0, 78, 4, 96, 181, 0, 78, 29, 172]
abbrev dktX2_goes_5 : List UInt8 := dkwX2_goes_5 ++ []
def dkwX2_goes_4 : List UInt8 := [132, 3, 1, 132, 4, 1, 167, 255, 174, 42, 44, 180, 0, 84, 181, 0, 71, 42, 3, 181, 0, 75, 42, 89]
abbrev dktX2_goes_4 : List UInt8 := dkwX2_goes_4 ++ dktX2_goes_5
def dkwX2_goes_3 : List UInt8 := [192, 0, 32, 21, 5, 44, 180, 0, 214, 21, 6, 46, 44, 180, 0, 217, 21, 6, 46, 182, 0, 220]
abbrev dktX2_goes_3 : List UInt8 := dkwX2_goes_3 ++ dktX2_goes_4
def dkwX2_goes_2 : List UInt8 := [21, 4, 182, 0, 44, 192, 0, 32, 180, 0, 211, 159, 0, 37, 42, 180, 0, 29, 21, 4, 182, 0, 44]
abbrev dktX2_goes_2 : List UInt8 := dkwX2_goes_2 ++ dktX2_goes_3
def dkwX2_goes_1 : List UInt8 := [42, 27, 21, 4, 182, 0, 139, 54, 5, 42, 27, 21, 4, 182, 0, 208, 54, 6, 21, 5, 42, 180, 0, 29]
abbrev dktX2_goes_1 : List UInt8 := dkwX2_goes_1 ++ dktX2_goes_2
def dkwX2_goes_0 : List UInt8 := [42, 180, 0, 12, 27, 182, 0, 44, 192, 0, 48, 77, 3, 62, 3, 54, 4, 21, 4, 16, 12, 162, 0, 81]
abbrev dktX2_goes_0 : List UInt8 := dkwX2_goes_0 ++ dktX2_goes_1
theorem dksX2_goes_0 : cX2_goes.data.toList.drop 0 = dktX2_goes_0 := by decide +kernel
theorem dksX2_goes_1 : cX2_goes.data.toList.drop 24 = dktX2_goes_1 := dk_seg dksX2_goes_0 24 rfl rfl
theorem dksX2_goes_2 : cX2_goes.data.toList.drop 48 = dktX2_goes_2 := dk_seg dksX2_goes_1 24 rfl rfl
theorem dksX2_goes_3 : cX2_goes.data.toList.drop 71 = dktX2_goes_3 := dk_seg dksX2_goes_2 23 rfl rfl
theorem dksX2_goes_4 : cX2_goes.data.toList.drop 93 = dktX2_goes_4 := dk_seg dksX2_goes_3 22 rfl rfl
theorem dksX2_goes_5 : cX2_goes.data.toList.drop 117 = dktX2_goes_5 := dk_seg dksX2_goes_4 24 rfl rfl
theorem dX2_goes_0 : decode cX2_goes 0 = .ok (.aload_n 0, 1) := dk_42 (dk_at dksX2_goes_0 0 rfl rfl)
theorem dX2_goes_1 : decode cX2_goes 1 = .ok (.getfield 12, 3) := dk_180 0 12 (dk_at dksX2_goes_0 1 rfl rfl)
theorem dX2_goes_4 : decode cX2_goes 4 = .ok (.iload_n 1, 1) := dk_27 (dk_at dksX2_goes_0 4 rfl rfl)
theorem dX2_goes_5 : decode cX2_goes 5 = .ok (.invokevirtual 44, 3) := dk_182 0 44 (dk_at dksX2_goes_0 5 rfl rfl)
theorem dX2_goes_8 : decode cX2_goes 8 = .ok (.checkcast 48, 3) := dk_192 0 48 (dk_at dksX2_goes_0 8 rfl rfl)
theorem dX2_goes_11 : decode cX2_goes 11 = .ok (.astore_n 2, 1) := dk_77 (dk_at dksX2_goes_0 11 rfl rfl)
theorem dX2_goes_12 : decode cX2_goes 12 = .ok (.iconst 0, 1) := dk_3 (dk_at dksX2_goes_0 12 rfl rfl)
theorem dX2_goes_13 : decode cX2_goes 13 = .ok (.istore_n 3, 1) := dk_62 (dk_at dksX2_goes_0 13 rfl rfl)
theorem dX2_goes_14 : decode cX2_goes 14 = .ok (.iconst 0, 1) := dk_3 (dk_at dksX2_goes_0 14 rfl rfl)
theorem dX2_goes_15 : decode cX2_goes 15 = .ok (.istore 4, 2) := dk_54 4 (dk_at dksX2_goes_0 15 rfl rfl)
theorem dX2_goes_17 : decode cX2_goes 17 = .ok (.iload 4, 2) := dk_21 4 (dk_at dksX2_goes_0 17 rfl rfl)
theorem dX2_goes_19 : decode cX2_goes 19 = .ok (.bipush 12, 2) := dk_16 12 (dk_at dksX2_goes_0 19 rfl rfl)
theorem dX2_goes_21 : decode cX2_goes 21 = .ok (.if_icmp .ge 81, 3) := dk_162 0 81 (dk_at dksX2_goes_0 21 rfl rfl)
theorem dX2_goes_24 : decode cX2_goes 24 = .ok (.aload_n 0, 1) := dk_42 (dk_at dksX2_goes_1 0 rfl rfl)
theorem dX2_goes_25 : decode cX2_goes 25 = .ok (.iload_n 1, 1) := dk_27 (dk_at dksX2_goes_1 1 rfl rfl)
theorem dX2_goes_26 : decode cX2_goes 26 = .ok (.iload 4, 2) := dk_21 4 (dk_at dksX2_goes_1 2 rfl rfl)
theorem dX2_goes_28 : decode cX2_goes 28 = .ok (.invokevirtual 139, 3) := dk_182 0 139 (dk_at dksX2_goes_1 4 rfl rfl)
theorem dX2_goes_31 : decode cX2_goes 31 = .ok (.istore 5, 2) := dk_54 5 (dk_at dksX2_goes_1 7 rfl rfl)
theorem dX2_goes_33 : decode cX2_goes 33 = .ok (.aload_n 0, 1) := dk_42 (dk_at dksX2_goes_1 9 rfl rfl)
theorem dX2_goes_34 : decode cX2_goes 34 = .ok (.iload_n 1, 1) := dk_27 (dk_at dksX2_goes_1 10 rfl rfl)
theorem dX2_goes_35 : decode cX2_goes 35 = .ok (.iload 4, 2) := dk_21 4 (dk_at dksX2_goes_1 11 rfl rfl)
theorem dX2_goes_37 : decode cX2_goes 37 = .ok (.invokevirtual 208, 3) := dk_182 0 208 (dk_at dksX2_goes_1 13 rfl rfl)
theorem dX2_goes_40 : decode cX2_goes 40 = .ok (.istore 6, 2) := dk_54 6 (dk_at dksX2_goes_1 16 rfl rfl)
theorem dX2_goes_42 : decode cX2_goes 42 = .ok (.iload 5, 2) := dk_21 5 (dk_at dksX2_goes_1 18 rfl rfl)
theorem dX2_goes_44 : decode cX2_goes 44 = .ok (.aload_n 0, 1) := dk_42 (dk_at dksX2_goes_1 20 rfl rfl)
theorem dX2_goes_45 : decode cX2_goes 45 = .ok (.getfield 29, 3) := dk_180 0 29 (dk_at dksX2_goes_1 21 rfl rfl)
theorem dX2_goes_48 : decode cX2_goes 48 = .ok (.iload 4, 2) := dk_21 4 (dk_at dksX2_goes_2 0 rfl rfl)
theorem dX2_goes_50 : decode cX2_goes 50 = .ok (.invokevirtual 44, 3) := dk_182 0 44 (dk_at dksX2_goes_2 2 rfl rfl)
theorem dX2_goes_53 : decode cX2_goes 53 = .ok (.checkcast 32, 3) := dk_192 0 32 (dk_at dksX2_goes_2 5 rfl rfl)
theorem dX2_goes_56 : decode cX2_goes 56 = .ok (.getfield 211, 3) := dk_180 0 211 (dk_at dksX2_goes_2 8 rfl rfl)
theorem dX2_goes_59 : decode cX2_goes 59 = .ok (.if_icmp .eq 37, 3) := dk_159 0 37 (dk_at dksX2_goes_2 11 rfl rfl)
theorem dX2_goes_62 : decode cX2_goes 62 = .ok (.aload_n 0, 1) := dk_42 (dk_at dksX2_goes_2 14 rfl rfl)
theorem dX2_goes_63 : decode cX2_goes 63 = .ok (.getfield 29, 3) := dk_180 0 29 (dk_at dksX2_goes_2 15 rfl rfl)
theorem dX2_goes_66 : decode cX2_goes 66 = .ok (.iload 4, 2) := dk_21 4 (dk_at dksX2_goes_2 18 rfl rfl)
theorem dX2_goes_68 : decode cX2_goes 68 = .ok (.invokevirtual 44, 3) := dk_182 0 44 (dk_at dksX2_goes_2 20 rfl rfl)
theorem dX2_goes_71 : decode cX2_goes 71 = .ok (.checkcast 32, 3) := dk_192 0 32 (dk_at dksX2_goes_3 0 rfl rfl)
theorem dX2_goes_74 : decode cX2_goes 74 = .ok (.iload 5, 2) := dk_21 5 (dk_at dksX2_goes_3 3 rfl rfl)
theorem dX2_goes_76 : decode cX2_goes 76 = .ok (.aload_n 2, 1) := dk_44 (dk_at dksX2_goes_3 5 rfl rfl)
theorem dX2_goes_77 : decode cX2_goes 77 = .ok (.getfield 214, 3) := dk_180 0 214 (dk_at dksX2_goes_3 6 rfl rfl)
theorem dX2_goes_80 : decode cX2_goes 80 = .ok (.iload 6, 2) := dk_21 6 (dk_at dksX2_goes_3 9 rfl rfl)
theorem dX2_goes_82 : decode cX2_goes 82 = .ok (.iaload, 1) := dk_46 (dk_at dksX2_goes_3 11 rfl rfl)
theorem dX2_goes_83 : decode cX2_goes 83 = .ok (.aload_n 2, 1) := dk_44 (dk_at dksX2_goes_3 12 rfl rfl)
theorem dX2_goes_84 : decode cX2_goes 84 = .ok (.getfield 217, 3) := dk_180 0 217 (dk_at dksX2_goes_3 13 rfl rfl)
theorem dX2_goes_87 : decode cX2_goes 87 = .ok (.iload 6, 2) := dk_21 6 (dk_at dksX2_goes_3 16 rfl rfl)
theorem dX2_goes_89 : decode cX2_goes 89 = .ok (.iaload, 1) := dk_46 (dk_at dksX2_goes_3 18 rfl rfl)
theorem dX2_goes_90 : decode cX2_goes 90 = .ok (.invokevirtual 220, 3) := dk_182 0 220 (dk_at dksX2_goes_3 19 rfl rfl)
theorem dX2_goes_93 : decode cX2_goes 93 = .ok (.iinc 3 1, 3) := dk_132 3 1 (dk_at dksX2_goes_4 0 rfl rfl)
theorem dX2_goes_96 : decode cX2_goes 96 = .ok (.iinc 4 1, 3) := dk_132 4 1 (dk_at dksX2_goes_4 3 rfl rfl)
theorem dX2_goes_99 : decode cX2_goes 99 = .ok (.goto (-82), 3) := dk_167 255 174 (dk_at dksX2_goes_4 6 rfl rfl)
theorem dX2_goes_102 : decode cX2_goes 102 = .ok (.aload_n 0, 1) := dk_42 (dk_at dksX2_goes_4 9 rfl rfl)
theorem dX2_goes_103 : decode cX2_goes 103 = .ok (.aload_n 2, 1) := dk_44 (dk_at dksX2_goes_4 10 rfl rfl)
theorem dX2_goes_104 : decode cX2_goes 104 = .ok (.getfield 84, 3) := dk_180 0 84 (dk_at dksX2_goes_4 11 rfl rfl)
theorem dX2_goes_107 : decode cX2_goes 107 = .ok (.putfield 71, 3) := dk_181 0 71 (dk_at dksX2_goes_4 14 rfl rfl)
theorem dX2_goes_110 : decode cX2_goes 110 = .ok (.aload_n 0, 1) := dk_42 (dk_at dksX2_goes_4 17 rfl rfl)
theorem dX2_goes_111 : decode cX2_goes 111 = .ok (.iconst 0, 1) := dk_3 (dk_at dksX2_goes_4 18 rfl rfl)
theorem dX2_goes_112 : decode cX2_goes 112 = .ok (.putfield 75, 3) := dk_181 0 75 (dk_at dksX2_goes_4 19 rfl rfl)
theorem dX2_goes_115 : decode cX2_goes 115 = .ok (.aload_n 0, 1) := dk_42 (dk_at dksX2_goes_4 22 rfl rfl)
theorem dX2_goes_116 : decode cX2_goes 116 = .ok (.dup, 1) := dk_89 (dk_at dksX2_goes_4 23 rfl rfl)
theorem dX2_goes_117 : decode cX2_goes 117 = .ok (.getfield 78, 3) := dk_180 0 78 (dk_at dksX2_goes_5 0 rfl rfl)
theorem dX2_goes_120 : decode cX2_goes 120 = .ok (.iconst 1, 1) := dk_4 (dk_at dksX2_goes_5 3 rfl rfl)
theorem dX2_goes_121 : decode cX2_goes 121 = .ok (.iadd, 1) := dk_96 (dk_at dksX2_goes_5 4 rfl rfl)
theorem dX2_goes_122 : decode cX2_goes 122 = .ok (.putfield 78, 3) := dk_181 0 78 (dk_at dksX2_goes_5 5 rfl rfl)
theorem dX2_goes_125 : decode cX2_goes 125 = .ok (.iload_n 3, 1) := dk_29 (dk_at dksX2_goes_5 8 rfl rfl)
theorem dX2_goes_126 : decode cX2_goes 126 = .ok (.ireturn, 1) := dk_172 (dk_at dksX2_goes_5 9 rfl rfl)
abbrev cX2_go : ByteArray := prog_15_method_22_code
def yX2_go : MethodName := ⟨RX2, "go", "()I"⟩
def dkwX2_go_1 : List UInt8 := [3, 7, 184, 0, 196, 42, 27, 182, 0, 227, 87, 42, 180, 0, 71, 172]
abbrev dktX2_go_1 : List UInt8 := dkwX2_go_1 ++ []
def dkwX2_go_0 : List UInt8 := [42, 42, 180, 0, 71, 182, 0, 224, 60, 27, 42, 180, 0, 12, 182, 0, 40, 160, 0, 7, 4, 167, 0, 4]
abbrev dktX2_go_0 : List UInt8 := dkwX2_go_0 ++ dktX2_go_1
theorem dksX2_go_0 : cX2_go.data.toList.drop 0 = dktX2_go_0 := by decide +kernel
theorem dksX2_go_1 : cX2_go.data.toList.drop 24 = dktX2_go_1 := dk_seg dksX2_go_0 24 rfl rfl
theorem dX2_go_0 : decode cX2_go 0 = .ok (.aload_n 0, 1) := dk_42 (dk_at dksX2_go_0 0 rfl rfl)
theorem dX2_go_1 : decode cX2_go 1 = .ok (.aload_n 0, 1) := dk_42 (dk_at dksX2_go_0 1 rfl rfl)
theorem dX2_go_2 : decode cX2_go 2 = .ok (.getfield 71, 3) := dk_180 0 71 (dk_at dksX2_go_0 2 rfl rfl)
theorem dX2_go_5 : decode cX2_go 5 = .ok (.invokevirtual 224, 3) := dk_182 0 224 (dk_at dksX2_go_0 5 rfl rfl)
theorem dX2_go_8 : decode cX2_go 8 = .ok (.istore_n 1, 1) := dk_60 (dk_at dksX2_go_0 8 rfl rfl)
theorem dX2_go_9 : decode cX2_go 9 = .ok (.iload_n 1, 1) := dk_27 (dk_at dksX2_go_0 9 rfl rfl)
theorem dX2_go_10 : decode cX2_go 10 = .ok (.aload_n 0, 1) := dk_42 (dk_at dksX2_go_0 10 rfl rfl)
theorem dX2_go_11 : decode cX2_go 11 = .ok (.getfield 12, 3) := dk_180 0 12 (dk_at dksX2_go_0 11 rfl rfl)
theorem dX2_go_14 : decode cX2_go 14 = .ok (.invokevirtual 40, 3) := dk_182 0 40 (dk_at dksX2_go_0 14 rfl rfl)
theorem dX2_go_17 : decode cX2_go 17 = .ok (.if_icmp .ne 7, 3) := dk_160 0 7 (dk_at dksX2_go_0 17 rfl rfl)
theorem dX2_go_20 : decode cX2_go 20 = .ok (.iconst 1, 1) := dk_4 (dk_at dksX2_go_0 20 rfl rfl)
theorem dX2_go_21 : decode cX2_go 21 = .ok (.goto 4, 3) := dk_167 0 4 (dk_at dksX2_go_0 21 rfl rfl)
theorem dX2_go_24 : decode cX2_go 24 = .ok (.iconst 0, 1) := dk_3 (dk_at dksX2_go_1 0 rfl rfl)
theorem dX2_go_25 : decode cX2_go 25 = .ok (.iconst 4, 1) := dk_7 (dk_at dksX2_go_1 1 rfl rfl)
theorem dX2_go_26 : decode cX2_go 26 = .ok (.invokestatic 196, 3) := dk_184 0 196 (dk_at dksX2_go_1 2 rfl rfl)
theorem dX2_go_29 : decode cX2_go 29 = .ok (.aload_n 0, 1) := dk_42 (dk_at dksX2_go_1 5 rfl rfl)
theorem dX2_go_30 : decode cX2_go 30 = .ok (.iload_n 1, 1) := dk_27 (dk_at dksX2_go_1 6 rfl rfl)
theorem dX2_go_31 : decode cX2_go 31 = .ok (.invokevirtual 227, 3) := dk_182 0 227 (dk_at dksX2_go_1 7 rfl rfl)
theorem dX2_go_34 : decode cX2_go 34 = .ok (.pop, 1) := dk_87 (dk_at dksX2_go_1 10 rfl rfl)
theorem dX2_go_35 : decode cX2_go 35 = .ok (.aload_n 0, 1) := dk_42 (dk_at dksX2_go_1 11 rfl rfl)
theorem dX2_go_36 : decode cX2_go 36 = .ok (.getfield 71, 3) := dk_180 0 71 (dk_at dksX2_go_1 12 rfl rfl)
theorem dX2_go_39 : decode cX2_go 39 = .ok (.ireturn, 1) := dk_172 (dk_at dksX2_go_1 15 rfl rfl)
abbrev cX2_nextOf : ByteArray := prog_15_method_7_code
def yX2_nextOf : MethodName := ⟨RX2, "nextOf", "(I)I"⟩
def dkwX2_nextOf_1 : List UInt8 := [180, 0, 84, 27, 163, 0, 9, 132, 2, 1, 167, 255, 224, 28, 172]
abbrev dktX2_nextOf_1 : List UInt8 := dkwX2_nextOf_1 ++ []
def dkwX2_nextOf_0 : List UInt8 := [3, 61, 28, 42, 180, 0, 12, 182, 0, 40, 162, 0, 27, 42, 180, 0, 12, 28, 182, 0, 44, 192, 0, 48]
abbrev dktX2_nextOf_0 : List UInt8 := dkwX2_nextOf_0 ++ dktX2_nextOf_1
theorem dksX2_nextOf_0 : cX2_nextOf.data.toList.drop 0 = dktX2_nextOf_0 := by decide +kernel
theorem dksX2_nextOf_1 : cX2_nextOf.data.toList.drop 24 = dktX2_nextOf_1 := dk_seg dksX2_nextOf_0 24 rfl rfl
theorem dX2_nextOf_0 : decode cX2_nextOf 0 = .ok (.iconst 0, 1) := dk_3 (dk_at dksX2_nextOf_0 0 rfl rfl)
theorem dX2_nextOf_1 : decode cX2_nextOf 1 = .ok (.istore_n 2, 1) := dk_61 (dk_at dksX2_nextOf_0 1 rfl rfl)
theorem dX2_nextOf_2 : decode cX2_nextOf 2 = .ok (.iload_n 2, 1) := dk_28 (dk_at dksX2_nextOf_0 2 rfl rfl)
theorem dX2_nextOf_3 : decode cX2_nextOf 3 = .ok (.aload_n 0, 1) := dk_42 (dk_at dksX2_nextOf_0 3 rfl rfl)
theorem dX2_nextOf_4 : decode cX2_nextOf 4 = .ok (.getfield 12, 3) := dk_180 0 12 (dk_at dksX2_nextOf_0 4 rfl rfl)
theorem dX2_nextOf_7 : decode cX2_nextOf 7 = .ok (.invokevirtual 40, 3) := dk_182 0 40 (dk_at dksX2_nextOf_0 7 rfl rfl)
theorem dX2_nextOf_10 : decode cX2_nextOf 10 = .ok (.if_icmp .ge 27, 3) := dk_162 0 27 (dk_at dksX2_nextOf_0 10 rfl rfl)
theorem dX2_nextOf_13 : decode cX2_nextOf 13 = .ok (.aload_n 0, 1) := dk_42 (dk_at dksX2_nextOf_0 13 rfl rfl)
theorem dX2_nextOf_14 : decode cX2_nextOf 14 = .ok (.getfield 12, 3) := dk_180 0 12 (dk_at dksX2_nextOf_0 14 rfl rfl)
theorem dX2_nextOf_17 : decode cX2_nextOf 17 = .ok (.iload_n 2, 1) := dk_28 (dk_at dksX2_nextOf_0 17 rfl rfl)
theorem dX2_nextOf_18 : decode cX2_nextOf 18 = .ok (.invokevirtual 44, 3) := dk_182 0 44 (dk_at dksX2_nextOf_0 18 rfl rfl)
theorem dX2_nextOf_21 : decode cX2_nextOf 21 = .ok (.checkcast 48, 3) := dk_192 0 48 (dk_at dksX2_nextOf_0 21 rfl rfl)
theorem dX2_nextOf_24 : decode cX2_nextOf 24 = .ok (.getfield 84, 3) := dk_180 0 84 (dk_at dksX2_nextOf_1 0 rfl rfl)
theorem dX2_nextOf_27 : decode cX2_nextOf 27 = .ok (.iload_n 1, 1) := dk_27 (dk_at dksX2_nextOf_1 3 rfl rfl)
theorem dX2_nextOf_28 : decode cX2_nextOf 28 = .ok (.if_icmp .gt 9, 3) := dk_163 0 9 (dk_at dksX2_nextOf_1 4 rfl rfl)
theorem dX2_nextOf_31 : decode cX2_nextOf 31 = .ok (.iinc 2 1, 3) := dk_132 2 1 (dk_at dksX2_nextOf_1 7 rfl rfl)
theorem dX2_nextOf_34 : decode cX2_nextOf 34 = .ok (.goto (-32), 3) := dk_167 255 224 (dk_at dksX2_nextOf_1 10 rfl rfl)
theorem dX2_nextOf_37 : decode cX2_nextOf 37 = .ok (.iload_n 2, 1) := dk_28 (dk_at dksX2_nextOf_1 13 rfl rfl)
theorem dX2_nextOf_38 : decode cX2_nextOf 38 = .ok (.ireturn, 1) := dk_172 (dk_at dksX2_nextOf_1 14 rfl rfl)
abbrev cX2_pass : ByteArray := prog_15_method_26_code
def yX2_pass : MethodName := ⟨RX2, "pass", "(I)I"⟩
def dkwX2_pass_2 : List UInt8 := [167, 255, 233, 28, 172]
abbrev dktX2_pass_2 : List UInt8 := dkwX2_pass_2 ++ []
def dkwX2_pass_1 : List UInt8 := [27, 162, 0, 24, 28, 42, 182, 0, 238, 153, 0, 7, 4, 167, 0, 4, 3, 96, 61, 132, 3, 1]
abbrev dktX2_pass_1 : List UInt8 := dkwX2_pass_1 ++ dktX2_pass_2
def dkwX2_pass_0 : List UInt8 := [42, 180, 0, 81, 27, 96, 18, 237, 163, 0, 7, 4, 167, 0, 4, 3, 184, 0, 105, 3, 61, 3, 62, 29]
abbrev dktX2_pass_0 : List UInt8 := dkwX2_pass_0 ++ dktX2_pass_1
theorem dksX2_pass_0 : cX2_pass.data.toList.drop 0 = dktX2_pass_0 := by decide +kernel
theorem dksX2_pass_1 : cX2_pass.data.toList.drop 24 = dktX2_pass_1 := dk_seg dksX2_pass_0 24 rfl rfl
theorem dksX2_pass_2 : cX2_pass.data.toList.drop 46 = dktX2_pass_2 := dk_seg dksX2_pass_1 22 rfl rfl
theorem dX2_pass_0 : decode cX2_pass 0 = .ok (.aload_n 0, 1) := dk_42 (dk_at dksX2_pass_0 0 rfl rfl)
theorem dX2_pass_1 : decode cX2_pass 1 = .ok (.getfield 81, 3) := dk_180 0 81 (dk_at dksX2_pass_0 1 rfl rfl)
theorem dX2_pass_4 : decode cX2_pass 4 = .ok (.iload_n 1, 1) := dk_27 (dk_at dksX2_pass_0 4 rfl rfl)
theorem dX2_pass_5 : decode cX2_pass 5 = .ok (.iadd, 1) := dk_96 (dk_at dksX2_pass_0 5 rfl rfl)
theorem dX2_pass_6 : decode cX2_pass 6 = .ok (.ldc 237, 2) := dk_18 237 (dk_at dksX2_pass_0 6 rfl rfl)
theorem dX2_pass_8 : decode cX2_pass 8 = .ok (.if_icmp .gt 7, 3) := dk_163 0 7 (dk_at dksX2_pass_0 8 rfl rfl)
theorem dX2_pass_11 : decode cX2_pass 11 = .ok (.iconst 1, 1) := dk_4 (dk_at dksX2_pass_0 11 rfl rfl)
theorem dX2_pass_12 : decode cX2_pass 12 = .ok (.goto 4, 3) := dk_167 0 4 (dk_at dksX2_pass_0 12 rfl rfl)
theorem dX2_pass_15 : decode cX2_pass 15 = .ok (.iconst 0, 1) := dk_3 (dk_at dksX2_pass_0 15 rfl rfl)
theorem dX2_pass_16 : decode cX2_pass 16 = .ok (.invokestatic 105, 3) := dk_184 0 105 (dk_at dksX2_pass_0 16 rfl rfl)
theorem dX2_pass_19 : decode cX2_pass 19 = .ok (.iconst 0, 1) := dk_3 (dk_at dksX2_pass_0 19 rfl rfl)
theorem dX2_pass_20 : decode cX2_pass 20 = .ok (.istore_n 2, 1) := dk_61 (dk_at dksX2_pass_0 20 rfl rfl)
theorem dX2_pass_21 : decode cX2_pass 21 = .ok (.iconst 0, 1) := dk_3 (dk_at dksX2_pass_0 21 rfl rfl)
theorem dX2_pass_22 : decode cX2_pass 22 = .ok (.istore_n 3, 1) := dk_62 (dk_at dksX2_pass_0 22 rfl rfl)
theorem dX2_pass_23 : decode cX2_pass 23 = .ok (.iload_n 3, 1) := dk_29 (dk_at dksX2_pass_0 23 rfl rfl)
theorem dX2_pass_24 : decode cX2_pass 24 = .ok (.iload_n 1, 1) := dk_27 (dk_at dksX2_pass_1 0 rfl rfl)
theorem dX2_pass_25 : decode cX2_pass 25 = .ok (.if_icmp .ge 24, 3) := dk_162 0 24 (dk_at dksX2_pass_1 1 rfl rfl)
theorem dX2_pass_28 : decode cX2_pass 28 = .ok (.iload_n 2, 1) := dk_28 (dk_at dksX2_pass_1 4 rfl rfl)
theorem dX2_pass_29 : decode cX2_pass 29 = .ok (.aload_n 0, 1) := dk_42 (dk_at dksX2_pass_1 5 rfl rfl)
theorem dX2_pass_30 : decode cX2_pass 30 = .ok (.invokevirtual 238, 3) := dk_182 0 238 (dk_at dksX2_pass_1 6 rfl rfl)
theorem dX2_pass_33 : decode cX2_pass 33 = .ok (.ifCond .eq 7, 3) := dk_153 0 7 (dk_at dksX2_pass_1 9 rfl rfl)
theorem dX2_pass_36 : decode cX2_pass 36 = .ok (.iconst 1, 1) := dk_4 (dk_at dksX2_pass_1 12 rfl rfl)
theorem dX2_pass_37 : decode cX2_pass 37 = .ok (.goto 4, 3) := dk_167 0 4 (dk_at dksX2_pass_1 13 rfl rfl)
theorem dX2_pass_40 : decode cX2_pass 40 = .ok (.iconst 0, 1) := dk_3 (dk_at dksX2_pass_1 16 rfl rfl)
theorem dX2_pass_41 : decode cX2_pass 41 = .ok (.iadd, 1) := dk_96 (dk_at dksX2_pass_1 17 rfl rfl)
theorem dX2_pass_42 : decode cX2_pass 42 = .ok (.istore_n 2, 1) := dk_61 (dk_at dksX2_pass_1 18 rfl rfl)
theorem dX2_pass_43 : decode cX2_pass 43 = .ok (.iinc 3 1, 3) := dk_132 3 1 (dk_at dksX2_pass_1 19 rfl rfl)
theorem dX2_pass_46 : decode cX2_pass 46 = .ok (.goto (-23), 3) := dk_167 255 233 (dk_at dksX2_pass_2 0 rfl rfl)
theorem dX2_pass_49 : decode cX2_pass 49 = .ok (.iload_n 2, 1) := dk_28 (dk_at dksX2_pass_2 3 rfl rfl)
theorem dX2_pass_50 : decode cX2_pass 50 = .ok (.ireturn, 1) := dk_172 (dk_at dksX2_pass_2 4 rfl rfl)
abbrev cX2_isTenthDone : ByteArray := prog_15_method_25_code
def yX2_isTenthDone : MethodName := ⟨RX2, "isTenthDone", "()Z"⟩
def dkwX2_isTenthDone_4 : List UInt8 := [42, 42, 42, 180, 0, 71, 182, 0, 224, 182, 0, 227, 167, 0, 4, 3, 61, 27, 172]
abbrev dktX2_isTenthDone_4 : List UInt8 := dkwX2_isTenthDone_4 ++ []
def dkwX2_isTenthDone_3 : List UInt8 := [159, 0, 18, 42, 182, 0, 234, 42, 180, 0, 75, 163, 0, 7, 4, 167, 0, 4, 3, 60, 27, 153, 0, 18]
abbrev dktX2_isTenthDone_3 : List UInt8 := dkwX2_isTenthDone_3 ++ dktX2_isTenthDone_4
def dkwX2_isTenthDone_2 : List UInt8 := [180, 0, 75, 42, 180, 0, 71, 154, 0, 7, 3, 167, 0, 4, 4, 96, 181, 0, 75, 42, 182, 0, 234, 2]
abbrev dktX2_isTenthDone_2 : List UInt8 := dkwX2_isTenthDone_2 ++ dktX2_isTenthDone_3
def dkwX2_isTenthDone_1 : List UInt8 := [96, 181, 0, 233, 132, 1, 1, 167, 255, 227, 42, 89, 180, 0, 81, 4, 96, 181, 0, 81, 42, 89]
abbrev dktX2_isTenthDone_1 : List UInt8 := dkwX2_isTenthDone_1 ++ dktX2_isTenthDone_2
def dkwX2_isTenthDone_0 : List UInt8 := [3, 60, 27, 16, 12, 162, 0, 29, 42, 180, 0, 29, 27, 182, 0, 44, 192, 0, 32, 89, 180, 0, 233, 4]
abbrev dktX2_isTenthDone_0 : List UInt8 := dkwX2_isTenthDone_0 ++ dktX2_isTenthDone_1
theorem dksX2_isTenthDone_0 : cX2_isTenthDone.data.toList.drop 0 = dktX2_isTenthDone_0 := by decide +kernel
theorem dksX2_isTenthDone_1 : cX2_isTenthDone.data.toList.drop 24 = dktX2_isTenthDone_1 := dk_seg dksX2_isTenthDone_0 24 rfl rfl
theorem dksX2_isTenthDone_2 : cX2_isTenthDone.data.toList.drop 46 = dktX2_isTenthDone_2 := dk_seg dksX2_isTenthDone_1 22 rfl rfl
theorem dksX2_isTenthDone_3 : cX2_isTenthDone.data.toList.drop 70 = dktX2_isTenthDone_3 := dk_seg dksX2_isTenthDone_2 24 rfl rfl
theorem dksX2_isTenthDone_4 : cX2_isTenthDone.data.toList.drop 94 = dktX2_isTenthDone_4 := dk_seg dksX2_isTenthDone_3 24 rfl rfl
theorem dX2_isTenthDone_0 : decode cX2_isTenthDone 0 = .ok (.iconst 0, 1) := dk_3 (dk_at dksX2_isTenthDone_0 0 rfl rfl)
theorem dX2_isTenthDone_1 : decode cX2_isTenthDone 1 = .ok (.istore_n 1, 1) := dk_60 (dk_at dksX2_isTenthDone_0 1 rfl rfl)
theorem dX2_isTenthDone_2 : decode cX2_isTenthDone 2 = .ok (.iload_n 1, 1) := dk_27 (dk_at dksX2_isTenthDone_0 2 rfl rfl)
theorem dX2_isTenthDone_3 : decode cX2_isTenthDone 3 = .ok (.bipush 12, 2) := dk_16 12 (dk_at dksX2_isTenthDone_0 3 rfl rfl)
theorem dX2_isTenthDone_5 : decode cX2_isTenthDone 5 = .ok (.if_icmp .ge 29, 3) := dk_162 0 29 (dk_at dksX2_isTenthDone_0 5 rfl rfl)
theorem dX2_isTenthDone_8 : decode cX2_isTenthDone 8 = .ok (.aload_n 0, 1) := dk_42 (dk_at dksX2_isTenthDone_0 8 rfl rfl)
theorem dX2_isTenthDone_9 : decode cX2_isTenthDone 9 = .ok (.getfield 29, 3) := dk_180 0 29 (dk_at dksX2_isTenthDone_0 9 rfl rfl)
theorem dX2_isTenthDone_12 : decode cX2_isTenthDone 12 = .ok (.iload_n 1, 1) := dk_27 (dk_at dksX2_isTenthDone_0 12 rfl rfl)
theorem dX2_isTenthDone_13 : decode cX2_isTenthDone 13 = .ok (.invokevirtual 44, 3) := dk_182 0 44 (dk_at dksX2_isTenthDone_0 13 rfl rfl)
theorem dX2_isTenthDone_16 : decode cX2_isTenthDone 16 = .ok (.checkcast 32, 3) := dk_192 0 32 (dk_at dksX2_isTenthDone_0 16 rfl rfl)
theorem dX2_isTenthDone_19 : decode cX2_isTenthDone 19 = .ok (.dup, 1) := dk_89 (dk_at dksX2_isTenthDone_0 19 rfl rfl)
theorem dX2_isTenthDone_20 : decode cX2_isTenthDone 20 = .ok (.getfield 233, 3) := dk_180 0 233 (dk_at dksX2_isTenthDone_0 20 rfl rfl)
theorem dX2_isTenthDone_23 : decode cX2_isTenthDone 23 = .ok (.iconst 1, 1) := dk_4 (dk_at dksX2_isTenthDone_0 23 rfl rfl)
theorem dX2_isTenthDone_24 : decode cX2_isTenthDone 24 = .ok (.iadd, 1) := dk_96 (dk_at dksX2_isTenthDone_1 0 rfl rfl)
theorem dX2_isTenthDone_25 : decode cX2_isTenthDone 25 = .ok (.putfield 233, 3) := dk_181 0 233 (dk_at dksX2_isTenthDone_1 1 rfl rfl)
theorem dX2_isTenthDone_28 : decode cX2_isTenthDone 28 = .ok (.iinc 1 1, 3) := dk_132 1 1 (dk_at dksX2_isTenthDone_1 4 rfl rfl)
theorem dX2_isTenthDone_31 : decode cX2_isTenthDone 31 = .ok (.goto (-29), 3) := dk_167 255 227 (dk_at dksX2_isTenthDone_1 7 rfl rfl)
theorem dX2_isTenthDone_34 : decode cX2_isTenthDone 34 = .ok (.aload_n 0, 1) := dk_42 (dk_at dksX2_isTenthDone_1 10 rfl rfl)
theorem dX2_isTenthDone_35 : decode cX2_isTenthDone 35 = .ok (.dup, 1) := dk_89 (dk_at dksX2_isTenthDone_1 11 rfl rfl)
theorem dX2_isTenthDone_36 : decode cX2_isTenthDone 36 = .ok (.getfield 81, 3) := dk_180 0 81 (dk_at dksX2_isTenthDone_1 12 rfl rfl)
theorem dX2_isTenthDone_39 : decode cX2_isTenthDone 39 = .ok (.iconst 1, 1) := dk_4 (dk_at dksX2_isTenthDone_1 15 rfl rfl)
theorem dX2_isTenthDone_40 : decode cX2_isTenthDone 40 = .ok (.iadd, 1) := dk_96 (dk_at dksX2_isTenthDone_1 16 rfl rfl)
theorem dX2_isTenthDone_41 : decode cX2_isTenthDone 41 = .ok (.putfield 81, 3) := dk_181 0 81 (dk_at dksX2_isTenthDone_1 17 rfl rfl)
theorem dX2_isTenthDone_44 : decode cX2_isTenthDone 44 = .ok (.aload_n 0, 1) := dk_42 (dk_at dksX2_isTenthDone_1 20 rfl rfl)
theorem dX2_isTenthDone_45 : decode cX2_isTenthDone 45 = .ok (.dup, 1) := dk_89 (dk_at dksX2_isTenthDone_1 21 rfl rfl)
theorem dX2_isTenthDone_46 : decode cX2_isTenthDone 46 = .ok (.getfield 75, 3) := dk_180 0 75 (dk_at dksX2_isTenthDone_2 0 rfl rfl)
theorem dX2_isTenthDone_49 : decode cX2_isTenthDone 49 = .ok (.aload_n 0, 1) := dk_42 (dk_at dksX2_isTenthDone_2 3 rfl rfl)
theorem dX2_isTenthDone_50 : decode cX2_isTenthDone 50 = .ok (.getfield 71, 3) := dk_180 0 71 (dk_at dksX2_isTenthDone_2 4 rfl rfl)
theorem dX2_isTenthDone_53 : decode cX2_isTenthDone 53 = .ok (.ifCond .ne 7, 3) := dk_154 0 7 (dk_at dksX2_isTenthDone_2 7 rfl rfl)
theorem dX2_isTenthDone_56 : decode cX2_isTenthDone 56 = .ok (.iconst 0, 1) := dk_3 (dk_at dksX2_isTenthDone_2 10 rfl rfl)
theorem dX2_isTenthDone_57 : decode cX2_isTenthDone 57 = .ok (.goto 4, 3) := dk_167 0 4 (dk_at dksX2_isTenthDone_2 11 rfl rfl)
theorem dX2_isTenthDone_60 : decode cX2_isTenthDone 60 = .ok (.iconst 1, 1) := dk_4 (dk_at dksX2_isTenthDone_2 14 rfl rfl)
theorem dX2_isTenthDone_61 : decode cX2_isTenthDone 61 = .ok (.iadd, 1) := dk_96 (dk_at dksX2_isTenthDone_2 15 rfl rfl)
theorem dX2_isTenthDone_62 : decode cX2_isTenthDone 62 = .ok (.putfield 75, 3) := dk_181 0 75 (dk_at dksX2_isTenthDone_2 16 rfl rfl)
theorem dX2_isTenthDone_65 : decode cX2_isTenthDone 65 = .ok (.aload_n 0, 1) := dk_42 (dk_at dksX2_isTenthDone_2 19 rfl rfl)
theorem dX2_isTenthDone_66 : decode cX2_isTenthDone 66 = .ok (.invokevirtual 234, 3) := dk_182 0 234 (dk_at dksX2_isTenthDone_2 20 rfl rfl)
theorem dX2_isTenthDone_69 : decode cX2_isTenthDone 69 = .ok (.iconst (-1), 1) := dk_2 (dk_at dksX2_isTenthDone_2 23 rfl rfl)
theorem dX2_isTenthDone_70 : decode cX2_isTenthDone 70 = .ok (.if_icmp .eq 18, 3) := dk_159 0 18 (dk_at dksX2_isTenthDone_3 0 rfl rfl)
theorem dX2_isTenthDone_73 : decode cX2_isTenthDone 73 = .ok (.aload_n 0, 1) := dk_42 (dk_at dksX2_isTenthDone_3 3 rfl rfl)
theorem dX2_isTenthDone_74 : decode cX2_isTenthDone 74 = .ok (.invokevirtual 234, 3) := dk_182 0 234 (dk_at dksX2_isTenthDone_3 4 rfl rfl)
theorem dX2_isTenthDone_77 : decode cX2_isTenthDone 77 = .ok (.aload_n 0, 1) := dk_42 (dk_at dksX2_isTenthDone_3 7 rfl rfl)
theorem dX2_isTenthDone_78 : decode cX2_isTenthDone 78 = .ok (.getfield 75, 3) := dk_180 0 75 (dk_at dksX2_isTenthDone_3 8 rfl rfl)
theorem dX2_isTenthDone_81 : decode cX2_isTenthDone 81 = .ok (.if_icmp .gt 7, 3) := dk_163 0 7 (dk_at dksX2_isTenthDone_3 11 rfl rfl)
theorem dX2_isTenthDone_84 : decode cX2_isTenthDone 84 = .ok (.iconst 1, 1) := dk_4 (dk_at dksX2_isTenthDone_3 14 rfl rfl)
theorem dX2_isTenthDone_85 : decode cX2_isTenthDone 85 = .ok (.goto 4, 3) := dk_167 0 4 (dk_at dksX2_isTenthDone_3 15 rfl rfl)
theorem dX2_isTenthDone_88 : decode cX2_isTenthDone 88 = .ok (.iconst 0, 1) := dk_3 (dk_at dksX2_isTenthDone_3 18 rfl rfl)
theorem dX2_isTenthDone_89 : decode cX2_isTenthDone 89 = .ok (.istore_n 1, 1) := dk_60 (dk_at dksX2_isTenthDone_3 19 rfl rfl)
theorem dX2_isTenthDone_90 : decode cX2_isTenthDone 90 = .ok (.iload_n 1, 1) := dk_27 (dk_at dksX2_isTenthDone_3 20 rfl rfl)
theorem dX2_isTenthDone_91 : decode cX2_isTenthDone 91 = .ok (.ifCond .eq 18, 3) := dk_153 0 18 (dk_at dksX2_isTenthDone_3 21 rfl rfl)
theorem dX2_isTenthDone_94 : decode cX2_isTenthDone 94 = .ok (.aload_n 0, 1) := dk_42 (dk_at dksX2_isTenthDone_4 0 rfl rfl)
theorem dX2_isTenthDone_95 : decode cX2_isTenthDone 95 = .ok (.aload_n 0, 1) := dk_42 (dk_at dksX2_isTenthDone_4 1 rfl rfl)
theorem dX2_isTenthDone_96 : decode cX2_isTenthDone 96 = .ok (.aload_n 0, 1) := dk_42 (dk_at dksX2_isTenthDone_4 2 rfl rfl)
theorem dX2_isTenthDone_97 : decode cX2_isTenthDone 97 = .ok (.getfield 71, 3) := dk_180 0 71 (dk_at dksX2_isTenthDone_4 3 rfl rfl)
theorem dX2_isTenthDone_100 : decode cX2_isTenthDone 100 = .ok (.invokevirtual 224, 3) := dk_182 0 224 (dk_at dksX2_isTenthDone_4 6 rfl rfl)
theorem dX2_isTenthDone_103 : decode cX2_isTenthDone 103 = .ok (.invokevirtual 227, 3) := dk_182 0 227 (dk_at dksX2_isTenthDone_4 9 rfl rfl)
theorem dX2_isTenthDone_106 : decode cX2_isTenthDone 106 = .ok (.goto 4, 3) := dk_167 0 4 (dk_at dksX2_isTenthDone_4 12 rfl rfl)
theorem dX2_isTenthDone_109 : decode cX2_isTenthDone 109 = .ok (.iconst 0, 1) := dk_3 (dk_at dksX2_isTenthDone_4 15 rfl rfl)
theorem dX2_isTenthDone_110 : decode cX2_isTenthDone 110 = .ok (.istore_n 2, 1) := dk_61 (dk_at dksX2_isTenthDone_4 16 rfl rfl)
theorem dX2_isTenthDone_111 : decode cX2_isTenthDone 111 = .ok (.iload_n 1, 1) := dk_27 (dk_at dksX2_isTenthDone_4 17 rfl rfl)
theorem dX2_isTenthDone_112 : decode cX2_isTenthDone 112 = .ok (.ireturn, 1) := dk_172 (dk_at dksX2_isTenthDone_4 18 rfl rfl)
abbrev cX2_following : ByteArray := prog_15_method_24_code
def yX2_following : MethodName := ⟨RX2, "following", "()I"⟩
def dkwX2_following_1 : List UInt8 := [160, 0, 7, 2, 167, 0, 17, 42, 180, 0, 12, 27, 182, 0, 44, 192, 0, 48, 180, 0, 230, 172]
abbrev dktX2_following_1 : List UInt8 := dkwX2_following_1 ++ []
def dkwX2_following_0 : List UInt8 := [42, 42, 180, 0, 71, 182, 0, 87, 60, 27, 2, 159, 0, 16, 27, 4, 96, 42, 180, 0, 12, 182, 0, 40]
abbrev dktX2_following_0 : List UInt8 := dkwX2_following_0 ++ dktX2_following_1
theorem dksX2_following_0 : cX2_following.data.toList.drop 0 = dktX2_following_0 := by decide +kernel
theorem dksX2_following_1 : cX2_following.data.toList.drop 24 = dktX2_following_1 := dk_seg dksX2_following_0 24 rfl rfl
theorem dX2_following_0 : decode cX2_following 0 = .ok (.aload_n 0, 1) := dk_42 (dk_at dksX2_following_0 0 rfl rfl)
theorem dX2_following_1 : decode cX2_following 1 = .ok (.aload_n 0, 1) := dk_42 (dk_at dksX2_following_0 1 rfl rfl)
theorem dX2_following_2 : decode cX2_following 2 = .ok (.getfield 71, 3) := dk_180 0 71 (dk_at dksX2_following_0 2 rfl rfl)
theorem dX2_following_5 : decode cX2_following 5 = .ok (.invokevirtual 87, 3) := dk_182 0 87 (dk_at dksX2_following_0 5 rfl rfl)
theorem dX2_following_8 : decode cX2_following 8 = .ok (.istore_n 1, 1) := dk_60 (dk_at dksX2_following_0 8 rfl rfl)
theorem dX2_following_9 : decode cX2_following 9 = .ok (.iload_n 1, 1) := dk_27 (dk_at dksX2_following_0 9 rfl rfl)
theorem dX2_following_10 : decode cX2_following 10 = .ok (.iconst (-1), 1) := dk_2 (dk_at dksX2_following_0 10 rfl rfl)
theorem dX2_following_11 : decode cX2_following 11 = .ok (.if_icmp .eq 16, 3) := dk_159 0 16 (dk_at dksX2_following_0 11 rfl rfl)
theorem dX2_following_14 : decode cX2_following 14 = .ok (.iload_n 1, 1) := dk_27 (dk_at dksX2_following_0 14 rfl rfl)
theorem dX2_following_15 : decode cX2_following 15 = .ok (.iconst 1, 1) := dk_4 (dk_at dksX2_following_0 15 rfl rfl)
theorem dX2_following_16 : decode cX2_following 16 = .ok (.iadd, 1) := dk_96 (dk_at dksX2_following_0 16 rfl rfl)
theorem dX2_following_17 : decode cX2_following 17 = .ok (.aload_n 0, 1) := dk_42 (dk_at dksX2_following_0 17 rfl rfl)
theorem dX2_following_18 : decode cX2_following 18 = .ok (.getfield 12, 3) := dk_180 0 12 (dk_at dksX2_following_0 18 rfl rfl)
theorem dX2_following_21 : decode cX2_following 21 = .ok (.invokevirtual 40, 3) := dk_182 0 40 (dk_at dksX2_following_0 21 rfl rfl)
theorem dX2_following_24 : decode cX2_following 24 = .ok (.if_icmp .ne 7, 3) := dk_160 0 7 (dk_at dksX2_following_1 0 rfl rfl)
theorem dX2_following_27 : decode cX2_following 27 = .ok (.iconst (-1), 1) := dk_2 (dk_at dksX2_following_1 3 rfl rfl)
theorem dX2_following_28 : decode cX2_following 28 = .ok (.goto 17, 3) := dk_167 0 17 (dk_at dksX2_following_1 4 rfl rfl)
theorem dX2_following_31 : decode cX2_following 31 = .ok (.aload_n 0, 1) := dk_42 (dk_at dksX2_following_1 7 rfl rfl)
theorem dX2_following_32 : decode cX2_following 32 = .ok (.getfield 12, 3) := dk_180 0 12 (dk_at dksX2_following_1 8 rfl rfl)
theorem dX2_following_35 : decode cX2_following 35 = .ok (.iload_n 1, 1) := dk_27 (dk_at dksX2_following_1 11 rfl rfl)
theorem dX2_following_36 : decode cX2_following 36 = .ok (.invokevirtual 44, 3) := dk_182 0 44 (dk_at dksX2_following_1 12 rfl rfl)
theorem dX2_following_39 : decode cX2_following 39 = .ok (.checkcast 48, 3) := dk_192 0 48 (dk_at dksX2_following_1 15 rfl rfl)
theorem dX2_following_42 : decode cX2_following 42 = .ok (.getfield 230, 3) := dk_180 0 230 (dk_at dksX2_following_1 18 rfl rfl)
theorem dX2_following_45 : decode cX2_following 45 = .ok (.ireturn, 1) := dk_172 (dk_at dksX2_following_1 21 rfl rfl)
theorem q85 : (Jvm.Cond.initialized "CueStack$Show") ∈ lw_all := lw_g (lw_at lw_m1 2 rfl) rfl
theorem q154 : (Jvm.Cond.instantiable "CueStack$Show" (8 : Nat)) ∈ lw_all := lw_g (lw_at lw_m1 71 rfl) rfl
theorem q156 : (Jvm.Cond.instanceMethod ({ cls := "CueStack$Show", name := "<init>", desc := "()V" } : Jvm.MethodName)) ∈ lw_all := lw_g (lw_at lw_m1 73 rfl) rfl
theorem q157 : (Jvm.Cond.code ({ cls := "CueStack$Show", name := "<init>", desc := "()V" } : Jvm.MethodName) prog_15_method_1_code (2 : Nat) (Option.none : Option Jvm.ClassFile.FieldType)) ∈ lw_all := lw_g (lw_at lw_m1 74 rfl) rfl
theorem q158 : (Jvm.Cond.methodLink "CueStack$Show" (3 : Nat) ({ cls := "java/lang/Object", name := "<init>", desc := "()V" } : Jvm.MethodName)) ∈ lw_all := lw_g (lw_at lw_m1 75 rfl) rfl
theorem q159 : (Jvm.Cond.classLink "CueStack$Show" (9 : Nat) "java/util/ArrayList") ∈ lw_all := lw_g (lw_at lw_m1 76 rfl) rfl
theorem q161 : (Jvm.Cond.methodLink "CueStack$Show" (11 : Nat) ({ cls := "java/util/ArrayList", name := "<init>", desc := "()V" } : Jvm.MethodName)) ∈ lw_all := lw_g (lw_at lw_m1 78 rfl) rfl
theorem q188 : (Jvm.Cond.classLink "CueStack$Show" (18 : Nat) "java/util/LinkedHashMap") ∈ lw_all := lw_g (lw_at lw_m1 105 rfl) rfl
theorem q190 : (Jvm.Cond.methodLink "CueStack$Show" (20 : Nat) ({ cls := "java/util/LinkedHashMap", name := "<init>", desc := "()V" } : Jvm.MethodName)) ∈ lw_all := lw_g (lw_at lw_m1 107 rfl) rfl
theorem q246 : (Jvm.Cond.classLink "CueStack$Show" (32 : Nat) "CueStack$Fade") ∈ lw_all := lw_g (lw_at lw_m1 163 rfl) rfl
theorem q248 : (Jvm.Cond.methodLinkNest "CueStack$Show" (34 : Nat) ({ cls := "CueStack$Fade", name := "<init>", desc := "()V" } : Jvm.MethodName) "CueStack") ∈ lw_tbl := lw_at lw_m1 165 rfl
theorem q254 : (Jvm.Cond.fieldLinkNest "CueStack$Show" (211 : Nat) "CueStack$Fade" "to" "I" "CueStack") ∈ lw_tbl := lw_at lw_m1 171 rfl
theorem q259 : (Jvm.Cond.fieldLinkNest "CueStack$Show" (233 : Nat) "CueStack$Fade" "since" "I" "CueStack") ∈ lw_tbl := lw_at lw_m1 176 rfl
theorem q272 : (Jvm.Cond.methodLink "CueStack$Show" (35 : Nat) ({ cls := "java/util/ArrayList", name := "add", desc := "(Ljava/lang/Object;)Z" } : Jvm.MethodName)) ∈ lw_all := lw_g (lw_at lw_m1 189 rfl) rfl
theorem q315 : (Jvm.Cond.selects "CueStack$Show" ({ cls := "java/lang/Object", name := "getClass", desc := "()Ljava/lang/Class;" } : Jvm.MethodName) ({ cls := "java/lang/Object", name := "getClass", desc := "()Ljava/lang/Class;" } : Jvm.MethodName)) ∈ lw_all := lw_g (lw_at lw_m1 232 rfl) rfl
theorem q355 : (Jvm.Cond.fieldLink "CueStack$Show" (12 : Nat) "CueStack$Show" "cues" "Ljava/util/ArrayList;") ∈ lw_all := lw_g (lw_at lw_m2 32 rfl) rfl
theorem q357 : (Jvm.Cond.fieldLink "CueStack$Show" (21 : Nat) "CueStack$Show" "instructions" "Ljava/util/LinkedHashMap;") ∈ lw_all := lw_g (lw_at lw_m2 34 rfl) rfl
theorem q359 : (Jvm.Cond.fieldLink "CueStack$Show" (25 : Nat) "CueStack$Show" "homes" "[I") ∈ lw_all := lw_g (lw_at lw_m2 36 rfl) rfl
theorem q361 : (Jvm.Cond.fieldLink "CueStack$Show" (29 : Nat) "CueStack$Show" "fades" "Ljava/util/ArrayList;") ∈ lw_all := lw_g (lw_at lw_m2 38 rfl) rfl
theorem q363 : (Jvm.Cond.fieldLink "CueStack$Show" (71 : Nat) "CueStack$Show" "last" "I") ∈ lw_all := lw_g (lw_at lw_m2 40 rfl) rfl
theorem q365 : (Jvm.Cond.fieldLink "CueStack$Show" (75 : Nat) "CueStack$Show" "since" "I") ∈ lw_all := lw_g (lw_at lw_m2 42 rfl) rfl
theorem q367 : (Jvm.Cond.fieldLink "CueStack$Show" (78 : Nat) "CueStack$Show" "gone" "I") ∈ lw_all := lw_g (lw_at lw_m2 44 rfl) rfl
theorem q369 : (Jvm.Cond.fieldLink "CueStack$Show" (81 : Nat) "CueStack$Show" "passed" "I") ∈ lw_all := lw_g (lw_at lw_m2 46 rfl) rfl
theorem q371 : (Jvm.Cond.laysFinal "CueStack$Show" "CueStack$Show" "cues" "Ljava/util/ArrayList;") ∈ lw_all := lw_g (lw_at lw_m2 48 rfl) rfl
theorem q372 : (Jvm.Cond.soleField "CueStack$Show" "cues") ∈ lw_all := lw_g (lw_at lw_m2 49 rfl) rfl
theorem q373 : (Jvm.Cond.laysFinal "CueStack$Show" "CueStack$Show" "instructions" "Ljava/util/LinkedHashMap;") ∈ lw_all := lw_g (lw_at lw_m2 50 rfl) rfl
theorem q374 : (Jvm.Cond.soleField "CueStack$Show" "instructions") ∈ lw_all := lw_g (lw_at lw_m2 51 rfl) rfl
theorem q375 : (Jvm.Cond.laysFinal "CueStack$Show" "CueStack$Show" "homes" "[I") ∈ lw_all := lw_g (lw_at lw_m2 52 rfl) rfl
theorem q376 : (Jvm.Cond.soleField "CueStack$Show" "homes") ∈ lw_all := lw_g (lw_at lw_m2 53 rfl) rfl
theorem q377 : (Jvm.Cond.laysFinal "CueStack$Show" "CueStack$Show" "fades" "Ljava/util/ArrayList;") ∈ lw_all := lw_g (lw_at lw_m2 54 rfl) rfl
theorem q378 : (Jvm.Cond.soleField "CueStack$Show" "fades") ∈ lw_all := lw_g (lw_at lw_m2 55 rfl) rfl
theorem q379 : (Jvm.Cond.lays "CueStack$Show" "CueStack$Show" "last" "I") ∈ lw_all := lw_g (lw_at lw_m2 56 rfl) rfl
theorem q380 : (Jvm.Cond.soleField "CueStack$Show" "last") ∈ lw_all := lw_g (lw_at lw_m2 57 rfl) rfl
theorem q381 : (Jvm.Cond.lays "CueStack$Show" "CueStack$Show" "since" "I") ∈ lw_all := lw_g (lw_at lw_m2 58 rfl) rfl
theorem q382 : (Jvm.Cond.soleField "CueStack$Show" "since") ∈ lw_all := lw_g (lw_at lw_m2 59 rfl) rfl
theorem q383 : (Jvm.Cond.lays "CueStack$Show" "CueStack$Show" "gone" "I") ∈ lw_all := lw_g (lw_at lw_m2 60 rfl) rfl
theorem q384 : (Jvm.Cond.soleField "CueStack$Show" "gone") ∈ lw_all := lw_g (lw_at lw_m2 61 rfl) rfl
theorem q385 : (Jvm.Cond.lays "CueStack$Show" "CueStack$Show" "passed" "I") ∈ lw_all := lw_g (lw_at lw_m2 62 rfl) rfl
theorem q386 : (Jvm.Cond.soleField "CueStack$Show" "passed") ∈ lw_all := lw_g (lw_at lw_m2 63 rfl) rfl
theorem q387 : (Jvm.Cond.superclass "CueStack$Show" "java/lang/Object") ∈ lw_all := lw_g (lw_at lw_m2 64 rfl) rfl
theorem q407 : (Jvm.Cond.instanceMethod ({ cls := "CueStack$Show", name := "level", desc := "(II)I" } : Jvm.MethodName)) ∈ lw_all := lw_g (lw_at lw_m2 84 rfl) rfl
theorem q408 : (Jvm.Cond.selects "CueStack$Show" ({ cls := "CueStack$Show", name := "level", desc := "(II)I" } : Jvm.MethodName) ({ cls := "CueStack$Show", name := "level", desc := "(II)I" } : Jvm.MethodName)) ∈ lw_all := lw_g (lw_at lw_m2 85 rfl) rfl
theorem q409 : (Jvm.Cond.code ({ cls := "CueStack$Show", name := "level", desc := "(II)I" } : Jvm.MethodName) prog_15_method_10_code (4 : Nat) (Option.some Jvm.ClassFile.FieldType.int)) ∈ lw_all := lw_g (lw_at lw_m2 86 rfl) rfl
theorem q410 : (Jvm.Cond.methodLink "CueStack$Show" (128 : Nat) ({ cls := "CueStack$Show", name := "at", desc := "(II)LCueStack$Instruction;" } : Jvm.MethodName)) ∈ lw_all := lw_g (lw_at lw_m2 87 rfl) rfl
theorem q411 : (Jvm.Cond.instanceMethod ({ cls := "CueStack$Show", name := "at", desc := "(II)LCueStack$Instruction;" } : Jvm.MethodName)) ∈ lw_all := lw_g (lw_at lw_m2 88 rfl) rfl
theorem q412 : (Jvm.Cond.selects "CueStack$Show" ({ cls := "CueStack$Show", name := "at", desc := "(II)LCueStack$Instruction;" } : Jvm.MethodName) ({ cls := "CueStack$Show", name := "at", desc := "(II)LCueStack$Instruction;" } : Jvm.MethodName)) ∈ lw_all := lw_g (lw_at lw_m2 89 rfl) rfl
theorem q413 : (Jvm.Cond.code ({ cls := "CueStack$Show", name := "at", desc := "(II)LCueStack$Instruction;" } : Jvm.MethodName) prog_15_method_8_code (3 : Nat) (Option.some (Jvm.ClassFile.FieldType.object "CueStack$Instruction"))) ∈ lw_all := lw_g (lw_at lw_m2 90 rfl) rfl
theorem q414 : (Jvm.Cond.classLink "CueStack$Show" (114 : Nat) "CueStack$Key") ∈ lw_all := lw_g (lw_at lw_m2 91 rfl) rfl
theorem q416 : (Jvm.Cond.methodLink "CueStack$Show" (44 : Nat) ({ cls := "java/util/ArrayList", name := "get", desc := "(I)Ljava/lang/Object;" } : Jvm.MethodName)) ∈ lw_all := lw_g (lw_at lw_m2 93 rfl) rfl
theorem q430 : (Jvm.Cond.classLink "CueStack$Show" (48 : Nat) "CueStack$Cue") ∈ lw_all := lw_g (lw_at lw_m2 107 rfl) rfl
theorem q431 : (Jvm.Cond.methodLink "CueStack$Show" (116 : Nat) ({ cls := "CueStack$Key", name := "<init>", desc := "(II)V" } : Jvm.MethodName)) ∈ lw_all := lw_g (lw_at lw_m2 108 rfl) rfl
theorem q436 : (Jvm.Cond.fieldLinkNest "CueStack$Show" (165 : Nat) "CueStack$Key" "cue" "I" "CueStack") ∈ lw_tbl := lw_at lw_m2 113 rfl
theorem q445 : (Jvm.Cond.methodLink "CueStack$Show" (119 : Nat) ({ cls := "java/util/LinkedHashMap", name := "get", desc := "(Ljava/lang/Object;)Ljava/lang/Object;" } : Jvm.MethodName)) ∈ lw_all := lw_g (lw_at lw_m2 122 rfl) rfl
theorem q475 : (Jvm.Cond.selects "CueStack$Show" ({ cls := "java/lang/Object", name := "hashCode", desc := "()I" } : Jvm.MethodName) ({ cls := "java/lang/Object", name := "hashCode", desc := "()I" } : Jvm.MethodName)) ∈ lw_all := lw_g (lw_at lw_m2 152 rfl) rfl
theorem q861 : (Jvm.Cond.selects "CueStack$Show" ({ cls := "java/lang/Object", name := "equals", desc := "(Ljava/lang/Object;)Z" } : Jvm.MethodName) ({ cls := "java/lang/Object", name := "equals", desc := "(Ljava/lang/Object;)Z" } : Jvm.MethodName)) ∈ lw_all := lw_g (lw_at lw_m4 58 rfl) rfl
theorem q1089 : (Jvm.Cond.classLink "CueStack$Show" (122 : Nat) "CueStack$Instruction") ∈ lw_all := lw_g (lw_at lw_m5 46 rfl) rfl
theorem q1090 : (Jvm.Cond.methodLink "CueStack$Show" (132 : Nat) ({ cls := "CueStack$Instruction", name := "level", desc := "(I)I" } : Jvm.MethodName)) ∈ lw_all := lw_g (lw_at lw_m5 47 rfl) rfl
theorem q1099 : (Jvm.Cond.methodLink "CueStack$Show" (135 : Nat) ({ cls := "CueStack$Show", name := "beginsAnew", desc := "(I)Z" } : Jvm.MethodName)) ∈ lw_all := lw_g (lw_at lw_m5 56 rfl) rfl
theorem q1100 : (Jvm.Cond.privateMethod ({ cls := "CueStack$Show", name := "beginsAnew", desc := "(I)Z" } : Jvm.MethodName)) ∈ lw_tbl := lw_at lw_m5 57 rfl
theorem q1101 : (Jvm.Cond.instanceMethod ({ cls := "CueStack$Show", name := "beginsAnew", desc := "(I)Z" } : Jvm.MethodName)) ∈ lw_all := lw_g (lw_at lw_m5 58 rfl) rfl
theorem q1102 : (Jvm.Cond.code ({ cls := "CueStack$Show", name := "beginsAnew", desc := "(I)Z" } : Jvm.MethodName) prog_15_method_9_code (2 : Nat) (Option.some Jvm.ClassFile.FieldType.boolean)) ∈ lw_all := lw_g (lw_at lw_m5 59 rfl) rfl
theorem q1103 : (Jvm.Cond.methodLink "CueStack$Show" (139 : Nat) ({ cls := "CueStack$Show", name := "level", desc := "(II)I" } : Jvm.MethodName)) ∈ lw_all := lw_g (lw_at lw_m5 60 rfl) rfl
theorem q1108 : (Jvm.Cond.instanceMethod ({ cls := "CueStack$Show", name := "levelAgain", desc := "(II)I" } : Jvm.MethodName)) ∈ lw_all := lw_g (lw_at lw_m5 65 rfl) rfl
theorem q1109 : (Jvm.Cond.selects "CueStack$Show" ({ cls := "CueStack$Show", name := "levelAgain", desc := "(II)I" } : Jvm.MethodName) ({ cls := "CueStack$Show", name := "levelAgain", desc := "(II)I" } : Jvm.MethodName)) ∈ lw_all := lw_g (lw_at lw_m5 66 rfl) rfl
theorem q1110 : (Jvm.Cond.code ({ cls := "CueStack$Show", name := "levelAgain", desc := "(II)I" } : Jvm.MethodName) prog_15_method_11_code (6 : Nat) (Option.some Jvm.ClassFile.FieldType.int)) ∈ lw_all := lw_g (lw_at lw_m5 67 rfl) rfl
theorem q1176 : (Jvm.Cond.instanceMethod ({ cls := "CueStack$Show", name := "copy", desc := "()LCueStack$Show;" } : Jvm.MethodName)) ∈ lw_all := lw_g (lw_at lw_m5 133 rfl) rfl
theorem q1177 : (Jvm.Cond.selects "CueStack$Show" ({ cls := "CueStack$Show", name := "copy", desc := "()LCueStack$Show;" } : Jvm.MethodName) ({ cls := "CueStack$Show", name := "copy", desc := "()LCueStack$Show;" } : Jvm.MethodName)) ∈ lw_all := lw_g (lw_at lw_m5 134 rfl) rfl
theorem q1178 : (Jvm.Cond.code ({ cls := "CueStack$Show", name := "copy", desc := "()LCueStack$Show;" } : Jvm.MethodName) prog_15_method_2_code (3 : Nat) (Option.some (Jvm.ClassFile.FieldType.object "CueStack$Show"))) ∈ lw_all := lw_g (lw_at lw_m5 135 rfl) rfl
theorem q1179 : (Jvm.Cond.classLink "CueStack$Show" (13 : Nat) "CueStack$Show") ∈ lw_all := lw_g (lw_at lw_m5 136 rfl) rfl
theorem q1180 : (Jvm.Cond.methodLink "CueStack$Show" (39 : Nat) ({ cls := "CueStack$Show", name := "<init>", desc := "()V" } : Jvm.MethodName)) ∈ lw_all := lw_g (lw_at lw_m5 137 rfl) rfl
theorem q1181 : (Jvm.Cond.methodLink "CueStack$Show" (40 : Nat) ({ cls := "java/util/ArrayList", name := "size", desc := "()I" } : Jvm.MethodName)) ∈ lw_all := lw_g (lw_at lw_m5 138 rfl) rfl
theorem q1182 : (Jvm.Cond.methodLink "CueStack$Show" (50 : Nat) ({ cls := "CueStack$Cue", name := "copy", desc := "()LCueStack$Cue;" } : Jvm.MethodName)) ∈ lw_all := lw_g (lw_at lw_m5 139 rfl) rfl
theorem q1193 : (Jvm.Cond.fieldLinkNest "CueStack$Show" (84 : Nat) "CueStack$Cue" "number" "I" "CueStack") ∈ lw_tbl := lw_at lw_m5 150 rfl
theorem q1196 : (Jvm.Cond.fieldLinkNest "CueStack$Show" (124 : Nat) "CueStack$Cue" "isBlock" "Z" "CueStack") ∈ lw_tbl := lw_at lw_m5 153 rfl
theorem q1199 : (Jvm.Cond.fieldLinkNest "CueStack$Show" (193 : Nat) "CueStack$Cue" "isProtected" "Z" "CueStack") ∈ lw_tbl := lw_at lw_m5 156 rfl
theorem q1203 : (Jvm.Cond.fieldLinkNest "CueStack$Show" (230 : Nat) "CueStack$Cue" "follow" "I" "CueStack") ∈ lw_tbl := lw_at lw_m5 160 rfl
theorem q1206 : (Jvm.Cond.fieldLinkNest "CueStack$Show" (214 : Nat) "CueStack$Cue" "delays" "[I" "CueStack") ∈ lw_tbl := lw_at lw_m5 163 rfl
theorem q1209 : (Jvm.Cond.fieldLinkNest "CueStack$Show" (217 : Nat) "CueStack$Cue" "times" "[I" "CueStack") ∈ lw_tbl := lw_at lw_m5 166 rfl
theorem q1224 : (Jvm.Cond.methodLink "CueStack$Show" (54 : Nat) ({ cls := "java/util/LinkedHashMap", name := "putAll", desc := "(Ljava/util/Map;)V" } : Jvm.MethodName)) ∈ lw_all := lw_g (lw_at lw_m5 181 rfl) rfl
theorem q1667 : (Jvm.Cond.methodLink "CueStack$Show" (58 : Nat) ({ cls := "java/lang/System", name := "arraycopy", desc := "(Ljava/lang/Object;ILjava/lang/Object;II)V" } : Jvm.MethodName)) ∈ lw_all := lw_g (lw_at lw_m7 144 rfl) rfl
theorem q1668 : (Jvm.Cond.methodLink "CueStack$Show" (64 : Nat) ({ cls := "CueStack$Fade", name := "copy", desc := "()LCueStack$Fade;" } : Jvm.MethodName)) ∈ lw_all := lw_g (lw_at lw_m7 145 rfl) rfl
theorem q1674 : (Jvm.Cond.methodLink "CueStack$Show" (67 : Nat) ({ cls := "java/util/ArrayList", name := "set", desc := "(ILjava/lang/Object;)Ljava/lang/Object;" } : Jvm.MethodName)) ∈ lw_all := lw_g (lw_at lw_m7 151 rfl) rfl
theorem q1688 : (Jvm.Cond.instanceMethod ({ cls := "CueStack$Show", name := "addCue", desc := "(I)V" } : Jvm.MethodName)) ∈ lw_all := lw_g (lw_at lw_m7 165 rfl) rfl
theorem q1689 : (Jvm.Cond.selects "CueStack$Show" ({ cls := "CueStack$Show", name := "addCue", desc := "(I)V" } : Jvm.MethodName) ({ cls := "CueStack$Show", name := "addCue", desc := "(I)V" } : Jvm.MethodName)) ∈ lw_all := lw_g (lw_at lw_m7 166 rfl) rfl
theorem q1690 : (Jvm.Cond.code ({ cls := "CueStack$Show", name := "addCue", desc := "(I)V" } : Jvm.MethodName) prog_15_method_6_code (3 : Nat) (Option.none : Option Jvm.ClassFile.FieldType)) ∈ lw_all := lw_g (lw_at lw_m7 167 rfl) rfl
theorem q1691 : (Jvm.Cond.methodLinkNest "CueStack$Show" (98 : Nat) ({ cls := "CueStack", name := "isIn", desc := "(III)Z" } : Jvm.MethodName) "CueStack") ∈ lw_tbl := lw_at lw_m7 168 rfl
theorem q1694 : (Jvm.Cond.methodLink "CueStack$Show" (87 : Nat) ({ cls := "CueStack$Show", name := "indexOf", desc := "(I)I" } : Jvm.MethodName)) ∈ lw_all := lw_g (lw_at lw_m7 171 rfl) rfl
theorem q1695 : (Jvm.Cond.instanceMethod ({ cls := "CueStack$Show", name := "indexOf", desc := "(I)I" } : Jvm.MethodName)) ∈ lw_all := lw_g (lw_at lw_m7 172 rfl) rfl
theorem q1696 : (Jvm.Cond.selects "CueStack$Show" ({ cls := "CueStack$Show", name := "indexOf", desc := "(I)I" } : Jvm.MethodName) ({ cls := "CueStack$Show", name := "indexOf", desc := "(I)I" } : Jvm.MethodName)) ∈ lw_all := lw_g (lw_at lw_m7 173 rfl) rfl
theorem q1697 : (Jvm.Cond.code ({ cls := "CueStack$Show", name := "indexOf", desc := "(I)I" } : Jvm.MethodName) prog_15_method_3_code (3 : Nat) (Option.some Jvm.ClassFile.FieldType.int)) ∈ lw_all := lw_g (lw_at lw_m7 174 rfl) rfl
theorem q1698 : (Jvm.Cond.methodLinkNest "CueStack$Show" (102 : Nat) ({ cls := "CueStack", name := "checkArgument", desc := "(Z)V" } : Jvm.MethodName) "CueStack") ∈ lw_tbl := lw_at lw_m7 175 rfl
theorem q1706 : (Jvm.Cond.methodLinkNest "CueStack$Show" (105 : Nat) ({ cls := "CueStack", name := "checkState", desc := "(Z)V" } : Jvm.MethodName) "CueStack") ∈ lw_tbl := lw_at lw_m7 183 rfl
theorem q1724 : (Jvm.Cond.methodLink "CueStack$Show" (108 : Nat) ({ cls := "CueStack$Cue", name := "<init>", desc := "(I)V" } : Jvm.MethodName)) ∈ lw_all := lw_g (lw_at lw_m7 201 rfl) rfl
theorem q1725 : (Jvm.Cond.methodLink "CueStack$Show" (111 : Nat) ({ cls := "java/util/ArrayList", name := "add", desc := "(ILjava/lang/Object;)V" } : Jvm.MethodName)) ∈ lw_all := lw_g (lw_at lw_m7 202 rfl) rfl
theorem q1795 : (Jvm.Cond.castable "CueStack$Show" "CueStack$Copied") ∈ lw_tbl := lw_at lw_m8 32 rfl
theorem q1796 : (Jvm.Cond.selects "CueStack$Show" ({ cls := "CueStack$Copied", name := "copy", desc := "()Ljava/lang/Object;" } : Jvm.MethodName) ({ cls := "CueStack$Show", name := "copy", desc := "()Ljava/lang/Object;" } : Jvm.MethodName)) ∈ lw_all := lw_g (lw_at lw_m8 33 rfl) rfl
theorem q1797 : (Jvm.Cond.unhidden "CueStack$Show" "copy" "()Ljava/lang/Object;") ∈ lw_tbl := lw_at lw_m8 34 rfl
theorem q1798 : (Jvm.Cond.instanceMethod ({ cls := "CueStack$Show", name := "copy", desc := "()Ljava/lang/Object;" } : Jvm.MethodName)) ∈ lw_all := lw_g (lw_at lw_m8 35 rfl) rfl
theorem q1799 : (Jvm.Cond.publicMethod ({ cls := "CueStack$Show", name := "copy", desc := "()Ljava/lang/Object;" } : Jvm.MethodName)) ∈ lw_tbl := lw_at lw_m8 36 rfl
theorem q1800 : (Jvm.Cond.code ({ cls := "CueStack$Show", name := "copy", desc := "()Ljava/lang/Object;" } : Jvm.MethodName) prog_15_method_27_code (1 : Nat) (Option.some (Jvm.ClassFile.FieldType.object "java/lang/Object"))) ∈ lw_all := lw_g (lw_at lw_m8 37 rfl) rfl
theorem q1801 : (Jvm.Cond.methodLink "CueStack$Show" (241 : Nat) ({ cls := "CueStack$Show", name := "copy", desc := "()LCueStack$Show;" } : Jvm.MethodName)) ∈ lw_all := lw_g (lw_at lw_m8 38 rfl) rfl
theorem q1830 : (Jvm.Cond.instanceMethod ({ cls := "CueStack$Show", name := "index", desc := "(I)I" } : Jvm.MethodName)) ∈ lw_all := lw_g (lw_at lw_m8 67 rfl) rfl
theorem q1831 : (Jvm.Cond.selects "CueStack$Show" ({ cls := "CueStack$Show", name := "index", desc := "(I)I" } : Jvm.MethodName) ({ cls := "CueStack$Show", name := "index", desc := "(I)I" } : Jvm.MethodName)) ∈ lw_all := lw_g (lw_at lw_m8 68 rfl) rfl
theorem q1832 : (Jvm.Cond.code ({ cls := "CueStack$Show", name := "index", desc := "(I)I" } : Jvm.MethodName) prog_15_method_4_code (3 : Nat) (Option.some Jvm.ClassFile.FieldType.int)) ∈ lw_all := lw_g (lw_at lw_m8 69 rfl) rfl
theorem q1833 : (Jvm.Cond.methodLinkNest "CueStack$Show" (91 : Nat) ({ cls := "CueStack", name := "checkIndex", desc := "(Z)V" } : Jvm.MethodName) "CueStack") ∈ lw_tbl := lw_at lw_m8 70 rfl
theorem q1842 : (Jvm.Cond.instanceMethod ({ cls := "CueStack$Show", name := "instructionsOf", desc := "(I)I" } : Jvm.MethodName)) ∈ lw_all := lw_g (lw_at lw_m8 79 rfl) rfl
theorem q1843 : (Jvm.Cond.selects "CueStack$Show" ({ cls := "CueStack$Show", name := "instructionsOf", desc := "(I)I" } : Jvm.MethodName) ({ cls := "CueStack$Show", name := "instructionsOf", desc := "(I)I" } : Jvm.MethodName)) ∈ lw_all := lw_g (lw_at lw_m8 80 rfl) rfl
theorem q1844 : (Jvm.Cond.code ({ cls := "CueStack$Show", name := "instructionsOf", desc := "(I)I" } : Jvm.MethodName) prog_15_method_16_code (5 : Nat) (Option.some Jvm.ClassFile.FieldType.int)) ∈ lw_all := lw_g (lw_at lw_m8 81 rfl) rfl
theorem q1845 : (Jvm.Cond.methodLink "CueStack$Show" (145 : Nat) ({ cls := "java/util/LinkedHashMap", name := "keySet", desc := "()Ljava/util/Set;" } : Jvm.MethodName)) ∈ lw_all := lw_g (lw_at lw_m8 82 rfl) rfl
theorem q1866 : (Jvm.Cond.interfaceEntry "CueStack$Show" (149 : Nat)) ∈ lw_tbl := lw_at lw_m8 103 rfl
theorem q1867 : (Jvm.Cond.methodLink "CueStack$Show" (149 : Nat) ({ cls := "java/util/Set", name := "iterator", desc := "()Ljava/util/Iterator;" } : Jvm.MethodName)) ∈ lw_all := lw_g (lw_at lw_m8 104 rfl) rfl
theorem q1868 : (Jvm.Cond.interfaceEntry "CueStack$Show" (155 : Nat)) ∈ lw_tbl := lw_at lw_m8 105 rfl
theorem q1869 : (Jvm.Cond.methodLink "CueStack$Show" (155 : Nat) ({ cls := "java/util/Iterator", name := "hasNext", desc := "()Z" } : Jvm.MethodName)) ∈ lw_all := lw_g (lw_at lw_m8 106 rfl) rfl
theorem q1870 : (Jvm.Cond.interfaceEntry "CueStack$Show" (161 : Nat)) ∈ lw_tbl := lw_at lw_m8 107 rfl
theorem q1871 : (Jvm.Cond.methodLink "CueStack$Show" (161 : Nat) ({ cls := "java/util/Iterator", name := "next", desc := "()Ljava/lang/Object;" } : Jvm.MethodName)) ∈ lw_all := lw_g (lw_at lw_m8 108 rfl) rfl
theorem q1873 : (Jvm.Cond.instanceMethod ({ cls := "CueStack$Show", name := "removeCue", desc := "(IZ)V" } : Jvm.MethodName)) ∈ lw_all := lw_g (lw_at lw_m8 110 rfl) rfl
theorem q1874 : (Jvm.Cond.selects "CueStack$Show" ({ cls := "CueStack$Show", name := "removeCue", desc := "(IZ)V" } : Jvm.MethodName) ({ cls := "CueStack$Show", name := "removeCue", desc := "(IZ)V" } : Jvm.MethodName)) ∈ lw_all := lw_g (lw_at lw_m8 111 rfl) rfl
theorem q1875 : (Jvm.Cond.code ({ cls := "CueStack$Show", name := "removeCue", desc := "(IZ)V" } : Jvm.MethodName) prog_15_method_20_code (8 : Nat) (Option.none : Option Jvm.ClassFile.FieldType)) ∈ lw_all := lw_g (lw_at lw_m8 112 rfl) rfl
theorem q1876 : (Jvm.Cond.methodLink "CueStack$Show" (95 : Nat) ({ cls := "CueStack$Show", name := "index", desc := "(I)I" } : Jvm.MethodName)) ∈ lw_all := lw_g (lw_at lw_m8 113 rfl) rfl
theorem q1877 : (Jvm.Cond.methodLink "CueStack$Show" (203 : Nat) ({ cls := "CueStack$Show", name := "removeInstructions", desc := "(I)V" } : Jvm.MethodName)) ∈ lw_all := lw_g (lw_at lw_m8 114 rfl) rfl
theorem q1878 : (Jvm.Cond.privateMethod ({ cls := "CueStack$Show", name := "removeInstructions", desc := "(I)V" } : Jvm.MethodName)) ∈ lw_tbl := lw_at lw_m8 115 rfl
theorem q1879 : (Jvm.Cond.instanceMethod ({ cls := "CueStack$Show", name := "removeInstructions", desc := "(I)V" } : Jvm.MethodName)) ∈ lw_all := lw_g (lw_at lw_m8 116 rfl) rfl
theorem q1880 : (Jvm.Cond.code ({ cls := "CueStack$Show", name := "removeInstructions", desc := "(I)V" } : Jvm.MethodName) prog_15_method_19_code (3 : Nat) (Option.none : Option Jvm.ClassFile.FieldType)) ∈ lw_all := lw_g (lw_at lw_m8 117 rfl) rfl
theorem q1881 : (Jvm.Cond.interfaceEntry "CueStack$Show" (201 : Nat)) ∈ lw_tbl := lw_at lw_m8 118 rfl
theorem q1882 : (Jvm.Cond.methodLink "CueStack$Show" (201 : Nat) ({ cls := "java/util/Iterator", name := "remove", desc := "()V" } : Jvm.MethodName)) ∈ lw_all := lw_g (lw_at lw_m8 119 rfl) rfl
theorem q1939 : (Jvm.Cond.methodLink "CueStack$Show" (206 : Nat) ({ cls := "java/util/ArrayList", name := "remove", desc := "(I)Ljava/lang/Object;" } : Jvm.MethodName)) ∈ lw_all := lw_g (lw_at lw_m8 176 rfl) rfl
theorem q1940 : (Jvm.Cond.methodLink "CueStack$Show" (190 : Nat) ({ cls := "CueStack$Show", name := "holds", desc := "(III)Z" } : Jvm.MethodName)) ∈ lw_all := lw_g (lw_at lw_m8 177 rfl) rfl
theorem q1941 : (Jvm.Cond.privateMethod ({ cls := "CueStack$Show", name := "holds", desc := "(III)Z" } : Jvm.MethodName)) ∈ lw_tbl := lw_at lw_m8 178 rfl
theorem q1942 : (Jvm.Cond.instanceMethod ({ cls := "CueStack$Show", name := "holds", desc := "(III)Z" } : Jvm.MethodName)) ∈ lw_all := lw_g (lw_at lw_m8 179 rfl) rfl
theorem q1943 : (Jvm.Cond.code ({ cls := "CueStack$Show", name := "holds", desc := "(III)Z" } : Jvm.MethodName) prog_15_method_17_code (4 : Nat) (Option.some Jvm.ClassFile.FieldType.boolean)) ∈ lw_all := lw_g (lw_at lw_m8 180 rfl) rfl
theorem q1944 : (Jvm.Cond.classLink "CueStack$Show" (168 : Nat) "CueStack$Fixed") ∈ lw_all := lw_g (lw_at lw_m8 181 rfl) rfl
theorem q1946 : (Jvm.Cond.methodLink "CueStack$Show" (170 : Nat) ({ cls := "CueStack$Fixed", name := "<init>", desc := "(II)V" } : Jvm.MethodName)) ∈ lw_all := lw_g (lw_at lw_m8 183 rfl) rfl
theorem q1955 : (Jvm.Cond.fieldLinkNest "CueStack$Show" (142 : Nat) "CueStack$Instruction" "part" "I" "CueStack") ∈ lw_tbl := lw_at lw_m8 192 rfl
theorem q1962 : (Jvm.Cond.methodLink "CueStack$Show" (171 : Nat) ({ cls := "java/util/LinkedHashMap", name := "put", desc := "(Ljava/lang/Object;Ljava/lang/Object;)Ljava/lang/Object;" } : Jvm.MethodName)) ∈ lw_all := lw_g (lw_at lw_m8 199 rfl) rfl
theorem q1968 : (Jvm.Cond.methodLinkNest "CueStack$Show" (196 : Nat) ({ cls := "CueStack", name := "refuse", desc := "(ZI)V" } : Jvm.MethodName) "CueStack") ∈ lw_tbl := lw_at lw_m8 205 rfl
theorem q1989 : (Jvm.Cond.methodLink "CueStack$Show" (200 : Nat) ({ cls := "java/util/LinkedHashMap", name := "size", desc := "()I" } : Jvm.MethodName)) ∈ lw_all := lw_g (lw_at lw_m8 226 rfl) rfl
theorem q2035 : (Jvm.Cond.instanceMethod ({ cls := "CueStack$Show", name := "cue", desc := "(I)LCueStack$Cue;" } : Jvm.MethodName)) ∈ lw_all := lw_g (lw_at lw_m9 32 rfl) rfl
theorem q2036 : (Jvm.Cond.selects "CueStack$Show" ({ cls := "CueStack$Show", name := "cue", desc := "(I)LCueStack$Cue;" } : Jvm.MethodName) ({ cls := "CueStack$Show", name := "cue", desc := "(I)LCueStack$Cue;" } : Jvm.MethodName)) ∈ lw_all := lw_g (lw_at lw_m9 33 rfl) rfl
theorem q2037 : (Jvm.Cond.code ({ cls := "CueStack$Show", name := "cue", desc := "(I)LCueStack$Cue;" } : Jvm.MethodName) prog_15_method_5_code (2 : Nat) (Option.some (Jvm.ClassFile.FieldType.object "CueStack$Cue"))) ∈ lw_all := lw_g (lw_at lw_m9 34 rfl) rfl
theorem q2099 : (Jvm.Cond.instanceMethod ({ cls := "CueStack$Show", name := "moves", desc := "(II)Z" } : Jvm.MethodName)) ∈ lw_all := lw_g (lw_at lw_m9 96 rfl) rfl
theorem q2100 : (Jvm.Cond.selects "CueStack$Show" ({ cls := "CueStack$Show", name := "moves", desc := "(II)Z" } : Jvm.MethodName) ({ cls := "CueStack$Show", name := "moves", desc := "(II)Z" } : Jvm.MethodName)) ∈ lw_all := lw_g (lw_at lw_m9 97 rfl) rfl
theorem q2101 : (Jvm.Cond.code ({ cls := "CueStack$Show", name := "moves", desc := "(II)Z" } : Jvm.MethodName) prog_15_method_13_code (4 : Nat) (Option.some Jvm.ClassFile.FieldType.boolean)) ∈ lw_all := lw_g (lw_at lw_m9 98 rfl) rfl
theorem q2107 : (Jvm.Cond.instanceMethod ({ cls := "CueStack$Show", name := "partOf", desc := "(II)I" } : Jvm.MethodName)) ∈ lw_all := lw_g (lw_at lw_m9 104 rfl) rfl
theorem q2108 : (Jvm.Cond.selects "CueStack$Show" ({ cls := "CueStack$Show", name := "partOf", desc := "(II)I" } : Jvm.MethodName) ({ cls := "CueStack$Show", name := "partOf", desc := "(II)I" } : Jvm.MethodName)) ∈ lw_all := lw_g (lw_at lw_m9 105 rfl) rfl
theorem q2109 : (Jvm.Cond.code ({ cls := "CueStack$Show", name := "partOf", desc := "(II)I" } : Jvm.MethodName) prog_15_method_14_code (4 : Nat) (Option.some Jvm.ClassFile.FieldType.int)) ∈ lw_all := lw_g (lw_at lw_m9 106 rfl) rfl
theorem q2143 : (Jvm.Cond.instanceMethod ({ cls := "CueStack$Show", name := "edit", desc := "(IILCueStack$Instruction;Z)V" } : Jvm.MethodName)) ∈ lw_all := lw_g (lw_at lw_m9 140 rfl) rfl
theorem q2144 : (Jvm.Cond.selects "CueStack$Show" ({ cls := "CueStack$Show", name := "edit", desc := "(IILCueStack$Instruction;Z)V" } : Jvm.MethodName) ({ cls := "CueStack$Show", name := "edit", desc := "(IILCueStack$Instruction;Z)V" } : Jvm.MethodName)) ∈ lw_all := lw_g (lw_at lw_m9 141 rfl) rfl
theorem q2145 : (Jvm.Cond.code ({ cls := "CueStack$Show", name := "edit", desc := "(IILCueStack$Instruction;Z)V" } : Jvm.MethodName) prog_15_method_18_code (10 : Nat) (Option.none : Option Jvm.ClassFile.FieldType)) ∈ lw_all := lw_g (lw_at lw_m9 142 rfl) rfl
theorem q2146 : (Jvm.Cond.methodLink "CueStack$Show" (175 : Nat) ({ cls := "CueStack$Show", name := "levels", desc := "(I)[I" } : Jvm.MethodName)) ∈ lw_all := lw_g (lw_at lw_m9 143 rfl) rfl
theorem q2147 : (Jvm.Cond.instanceMethod ({ cls := "CueStack$Show", name := "levels", desc := "(I)[I" } : Jvm.MethodName)) ∈ lw_all := lw_g (lw_at lw_m9 144 rfl) rfl
theorem q2148 : (Jvm.Cond.selects "CueStack$Show" ({ cls := "CueStack$Show", name := "levels", desc := "(I)[I" } : Jvm.MethodName) ({ cls := "CueStack$Show", name := "levels", desc := "(I)[I" } : Jvm.MethodName)) ∈ lw_all := lw_g (lw_at lw_m9 145 rfl) rfl
theorem q2149 : (Jvm.Cond.code ({ cls := "CueStack$Show", name := "levels", desc := "(I)[I" } : Jvm.MethodName) prog_15_method_15_code (4 : Nat) (Option.some (Jvm.ClassFile.FieldType.array Jvm.ClassFile.FieldType.int))) ∈ lw_all := lw_g (lw_at lw_m9 146 rfl) rfl
theorem q2150 : (Jvm.Cond.methodLink "CueStack$Show" (179 : Nat) ({ cls := "java/util/LinkedHashMap", name := "containsKey", desc := "(Ljava/lang/Object;)Z" } : Jvm.MethodName)) ∈ lw_all := lw_g (lw_at lw_m9 147 rfl) rfl
theorem q2157 : (Jvm.Cond.methodLink "CueStack$Show" (182 : Nat) ({ cls := "java/util/LinkedHashMap", name := "remove", desc := "(Ljava/lang/Object;)Ljava/lang/Object;" } : Jvm.MethodName)) ∈ lw_all := lw_g (lw_at lw_m9 154 rfl) rfl
theorem q2164 : (Jvm.Cond.methodLink "CueStack$Show" (185 : Nat) ({ cls := "java/lang/Math", name := "min", desc := "(II)I" } : Jvm.MethodName)) ∈ lw_all := lw_g (lw_at lw_m9 161 rfl) rfl
theorem q2248 : (Jvm.Cond.instanceMethod ({ cls := "CueStack$Show", name := "source", desc := "(II)I" } : Jvm.MethodName)) ∈ lw_all := lw_g (lw_at lw_m10 5 rfl) rfl
theorem q2249 : (Jvm.Cond.selects "CueStack$Show" ({ cls := "CueStack$Show", name := "source", desc := "(II)I" } : Jvm.MethodName) ({ cls := "CueStack$Show", name := "source", desc := "(II)I" } : Jvm.MethodName)) ∈ lw_all := lw_g (lw_at lw_m10 6 rfl) rfl
theorem q2250 : (Jvm.Cond.code ({ cls := "CueStack$Show", name := "source", desc := "(II)I" } : Jvm.MethodName) prog_15_method_12_code (4 : Nat) (Option.some Jvm.ClassFile.FieldType.int)) ∈ lw_all := lw_g (lw_at lw_m10 7 rfl) rfl
theorem q2287 : (Jvm.Cond.instanceMethod ({ cls := "CueStack$Show", name := "back", desc := "()I" } : Jvm.MethodName)) ∈ lw_all := lw_g (lw_at lw_m10 44 rfl) rfl
theorem q2288 : (Jvm.Cond.selects "CueStack$Show" ({ cls := "CueStack$Show", name := "back", desc := "()I" } : Jvm.MethodName) ({ cls := "CueStack$Show", name := "back", desc := "()I" } : Jvm.MethodName)) ∈ lw_all := lw_g (lw_at lw_m10 45 rfl) rfl
theorem q2289 : (Jvm.Cond.code ({ cls := "CueStack$Show", name := "back", desc := "()I" } : Jvm.MethodName) prog_15_method_23_code (2 : Nat) (Option.some Jvm.ClassFile.FieldType.int)) ∈ lw_all := lw_g (lw_at lw_m10 46 rfl) rfl
theorem q2290 : (Jvm.Cond.methodLink "CueStack$Show" (227 : Nat) ({ cls := "CueStack$Show", name := "goes", desc := "(I)I" } : Jvm.MethodName)) ∈ lw_all := lw_g (lw_at lw_m10 47 rfl) rfl
theorem q2291 : (Jvm.Cond.instanceMethod ({ cls := "CueStack$Show", name := "goes", desc := "(I)I" } : Jvm.MethodName)) ∈ lw_all := lw_g (lw_at lw_m10 48 rfl) rfl
theorem q2292 : (Jvm.Cond.selects "CueStack$Show" ({ cls := "CueStack$Show", name := "goes", desc := "(I)I" } : Jvm.MethodName) ({ cls := "CueStack$Show", name := "goes", desc := "(I)I" } : Jvm.MethodName)) ∈ lw_all := lw_g (lw_at lw_m10 49 rfl) rfl
theorem q2293 : (Jvm.Cond.code ({ cls := "CueStack$Show", name := "goes", desc := "(I)I" } : Jvm.MethodName) prog_15_method_21_code (7 : Nat) (Option.some Jvm.ClassFile.FieldType.int)) ∈ lw_all := lw_g (lw_at lw_m10 50 rfl) rfl
theorem q2294 : (Jvm.Cond.methodLink "CueStack$Show" (208 : Nat) ({ cls := "CueStack$Show", name := "partOf", desc := "(II)I" } : Jvm.MethodName)) ∈ lw_all := lw_g (lw_at lw_m10 51 rfl) rfl
theorem q2295 : (Jvm.Cond.methodLink "CueStack$Show" (220 : Nat) ({ cls := "CueStack$Fade", name := "begin", desc := "(III)V" } : Jvm.MethodName)) ∈ lw_all := lw_g (lw_at lw_m10 52 rfl) rfl
theorem q2301 : (Jvm.Cond.instanceMethod ({ cls := "CueStack$Show", name := "go", desc := "()I" } : Jvm.MethodName)) ∈ lw_all := lw_g (lw_at lw_m10 58 rfl) rfl
theorem q2302 : (Jvm.Cond.selects "CueStack$Show" ({ cls := "CueStack$Show", name := "go", desc := "()I" } : Jvm.MethodName) ({ cls := "CueStack$Show", name := "go", desc := "()I" } : Jvm.MethodName)) ∈ lw_all := lw_g (lw_at lw_m10 59 rfl) rfl
theorem q2303 : (Jvm.Cond.code ({ cls := "CueStack$Show", name := "go", desc := "()I" } : Jvm.MethodName) prog_15_method_22_code (2 : Nat) (Option.some Jvm.ClassFile.FieldType.int)) ∈ lw_all := lw_g (lw_at lw_m10 60 rfl) rfl
theorem q2304 : (Jvm.Cond.methodLink "CueStack$Show" (224 : Nat) ({ cls := "CueStack$Show", name := "nextOf", desc := "(I)I" } : Jvm.MethodName)) ∈ lw_all := lw_g (lw_at lw_m10 61 rfl) rfl
theorem q2305 : (Jvm.Cond.instanceMethod ({ cls := "CueStack$Show", name := "nextOf", desc := "(I)I" } : Jvm.MethodName)) ∈ lw_all := lw_g (lw_at lw_m10 62 rfl) rfl
theorem q2306 : (Jvm.Cond.selects "CueStack$Show" ({ cls := "CueStack$Show", name := "nextOf", desc := "(I)I" } : Jvm.MethodName) ({ cls := "CueStack$Show", name := "nextOf", desc := "(I)I" } : Jvm.MethodName)) ∈ lw_all := lw_g (lw_at lw_m10 63 rfl) rfl
theorem q2307 : (Jvm.Cond.code ({ cls := "CueStack$Show", name := "nextOf", desc := "(I)I" } : Jvm.MethodName) prog_15_method_7_code (3 : Nat) (Option.some Jvm.ClassFile.FieldType.int)) ∈ lw_all := lw_g (lw_at lw_m10 64 rfl) rfl
theorem q2333 : (Jvm.Cond.instanceMethod ({ cls := "CueStack$Show", name := "pass", desc := "(I)I" } : Jvm.MethodName)) ∈ lw_all := lw_g (lw_at lw_m10 90 rfl) rfl
theorem q2334 : (Jvm.Cond.selects "CueStack$Show" ({ cls := "CueStack$Show", name := "pass", desc := "(I)I" } : Jvm.MethodName) ({ cls := "CueStack$Show", name := "pass", desc := "(I)I" } : Jvm.MethodName)) ∈ lw_all := lw_g (lw_at lw_m10 91 rfl) rfl
theorem q2335 : (Jvm.Cond.code ({ cls := "CueStack$Show", name := "pass", desc := "(I)I" } : Jvm.MethodName) prog_15_method_26_code (4 : Nat) (Option.some Jvm.ClassFile.FieldType.int)) ∈ lw_all := lw_g (lw_at lw_m10 92 rfl) rfl
theorem q2336 : (Jvm.Cond.constant "CueStack$Show" (237 : Nat) (100000 : Int32)) ∈ lw_all := lw_g (lw_at lw_m10 93 rfl) rfl
theorem q2337 : (Jvm.Cond.methodLink "CueStack$Show" (238 : Nat) ({ cls := "CueStack$Show", name := "isTenthDone", desc := "()Z" } : Jvm.MethodName)) ∈ lw_all := lw_g (lw_at lw_m10 94 rfl) rfl
theorem q2338 : (Jvm.Cond.privateMethod ({ cls := "CueStack$Show", name := "isTenthDone", desc := "()Z" } : Jvm.MethodName)) ∈ lw_tbl := lw_at lw_m10 95 rfl
theorem q2339 : (Jvm.Cond.instanceMethod ({ cls := "CueStack$Show", name := "isTenthDone", desc := "()Z" } : Jvm.MethodName)) ∈ lw_all := lw_g (lw_at lw_m10 96 rfl) rfl
theorem q2340 : (Jvm.Cond.code ({ cls := "CueStack$Show", name := "isTenthDone", desc := "()Z" } : Jvm.MethodName) prog_15_method_25_code (3 : Nat) (Option.some Jvm.ClassFile.FieldType.boolean)) ∈ lw_all := lw_g (lw_at lw_m10 97 rfl) rfl
theorem q2341 : (Jvm.Cond.methodLink "CueStack$Show" (234 : Nat) ({ cls := "CueStack$Show", name := "following", desc := "()I" } : Jvm.MethodName)) ∈ lw_all := lw_g (lw_at lw_m10 98 rfl) rfl
theorem q2342 : (Jvm.Cond.instanceMethod ({ cls := "CueStack$Show", name := "following", desc := "()I" } : Jvm.MethodName)) ∈ lw_all := lw_g (lw_at lw_m10 99 rfl) rfl
theorem q2343 : (Jvm.Cond.selects "CueStack$Show" ({ cls := "CueStack$Show", name := "following", desc := "()I" } : Jvm.MethodName) ({ cls := "CueStack$Show", name := "following", desc := "()I" } : Jvm.MethodName)) ∈ lw_all := lw_g (lw_at lw_m10 100 rfl) rfl
theorem q2344 : (Jvm.Cond.code ({ cls := "CueStack$Show", name := "following", desc := "()I" } : Jvm.MethodName) prog_15_method_24_code (2 : Nat) (Option.some Jvm.ClassFile.FieldType.int)) ∈ lw_all := lw_g (lw_at lw_m10 101 rfl) rfl
theorem q3116 : (Jvm.Cond.castable "CueStack$Show" "java/lang/Object") ∈ lw_tbl := lw_at lw_m13 153 rfl
theorem in_X2 : ∀ w ∈ wsX20, w ∈ lw_all := lw_in wsX20 [371, 373, 375, 377, 379, 381, 383, 385] (by decide +kernel) (by decide +kernel)

