/-! CueStackModel -/
set_option maxRecDepth 100000
def RX6 : String := "CueStackModel"
def TX6 : u_T := fun k => match k with
  | 0 => ("CueStackModel", "s", "[I", true)
  | 1 => ("CueStackModel", "before", "[I", true)
  | 2 => ("CueStackModel", "saved", "[I", true)
  | 3 => ("CueStackModel", "isSaved", "Z", false)
  | 4 => ("CueStackModel", "past", "[I", true)
  | 5 => ("CueStackModel", "pastMany", "I", false)
  | 6 => ("CueStackModel", "reason", "I", false)
  | 7 => ("CueStackModel", "thrown", "I", false)
  | 8 => ("CueStackModel", "levels", "[I", true)
  | 9 => ("CueStackModel", "input", "[C", true)
  | 10 => ("CueStackModel", "length", "I", false)
  | 11 => ("CueStackModel", "place", "I", false)
  | 12 => ("CueStackModel", "isWrong", "Z", false)
  | 13 => ("CueStackModel", "error", "I", false)
  | 14 => ("CueStackModel", "kinds", "[C", true)
  | 15 => ("CueStackModel", "numbers", "[I", true)
  | _ => ("CueStackModel", "entries", "I", false)
def tyX6 : Nat → FieldType := fun k => match k with
  | 0 => .array .int
  | 1 => .array .int
  | 2 => .array .int
  | 3 => .boolean
  | 4 => .array .int
  | 5 => .int
  | 6 => .int
  | 7 => .int
  | 8 => .array .int
  | 9 => .array .char
  | 10 => .int
  | 11 => .int
  | 12 => .boolean
  | 13 => .int
  | 14 => .array .char
  | 15 => .array .int
  | _ => .int
abbrev wsX60 : List Cond := u_ws RX6 TX6 17
set_option maxRecDepth 100000 in
theorem nmX6 : ∀ a, a < 17 → ∀ b, b < 17 → a ≠ b → (TX6 a).2.1 ≠ (TX6 b).2.1 := by decide +kernel
set_option maxRecDepth 100000 in
theorem tyX6_ok : ∀ k, k < 17 → parseFieldDescriptor (TX6 k).2.2.1 = some (tyX6 k) := by decide +kernel
abbrev cX6_init : ByteArray := prog_18_method_1_code
def yX6_init : MethodName := ⟨RX6, "<init>", "()V"⟩
def dkwX6_init_3 : List UInt8 := [42, 17, 0, 180, 188, 10, 181, 0, 36, 42, 182, 0, 39, 177]
abbrev dktX6_init_3 : List UInt8 := dkwX6_init_3 ++ []
def dkwX6_init_2 : List UInt8 := [181, 0, 22, 42, 16, 60, 188, 5, 181, 0, 25, 42, 2, 181, 0, 29, 42, 16, 60, 188, 5, 181, 0, 33]
abbrev dktX6_init_2 : List UInt8 := dkwX6_init_2 ++ dktX6_init_3
def dkwX6_init_1 : List UInt8 := [17, 1, 206, 188, 10, 181, 0, 16, 42, 17, 10, 212, 188, 10, 181, 0, 19, 42, 17, 0, 144, 188, 10]
abbrev dktX6_init_1 : List UInt8 := dkwX6_init_1 ++ dktX6_init_2
def dkwX6_init_0 : List UInt8 := [42, 183, 0, 3, 42, 17, 1, 206, 188, 10, 181, 0, 9, 42, 17, 1, 206, 188, 10, 181, 0, 13, 42]
abbrev dktX6_init_0 : List UInt8 := dkwX6_init_0 ++ dktX6_init_1
theorem dksX6_init_0 : cX6_init.data.toList.drop 0 = dktX6_init_0 := by decide +kernel
theorem dksX6_init_1 : cX6_init.data.toList.drop 23 = dktX6_init_1 := dk_seg dksX6_init_0 23 rfl rfl
theorem dksX6_init_2 : cX6_init.data.toList.drop 46 = dktX6_init_2 := dk_seg dksX6_init_1 23 rfl rfl
theorem dksX6_init_3 : cX6_init.data.toList.drop 70 = dktX6_init_3 := dk_seg dksX6_init_2 24 rfl rfl
theorem dX6_init_0 : decode cX6_init 0 = .ok (.aload_n 0, 1) := dk_42 (dk_at dksX6_init_0 0 rfl rfl)
theorem dX6_init_1 : decode cX6_init 1 = .ok (.invokespecial 3, 3) := dk_183 0 3 (dk_at dksX6_init_0 1 rfl rfl)
theorem dX6_init_4 : decode cX6_init 4 = .ok (.aload_n 0, 1) := dk_42 (dk_at dksX6_init_0 4 rfl rfl)
theorem dX6_init_5 : decode cX6_init 5 = .ok (.sipush 462, 3) := dk_17 1 206 (dk_at dksX6_init_0 5 rfl rfl)
theorem dX6_init_8 : decode cX6_init 8 = .ok (.newarray .int, 2) := dk_188_10 (dk_at dksX6_init_0 8 rfl rfl)
theorem dX6_init_10 : decode cX6_init 10 = .ok (.putfield 9, 3) := dk_181 0 9 (dk_at dksX6_init_0 10 rfl rfl)
theorem dX6_init_13 : decode cX6_init 13 = .ok (.aload_n 0, 1) := dk_42 (dk_at dksX6_init_0 13 rfl rfl)
theorem dX6_init_14 : decode cX6_init 14 = .ok (.sipush 462, 3) := dk_17 1 206 (dk_at dksX6_init_0 14 rfl rfl)
theorem dX6_init_17 : decode cX6_init 17 = .ok (.newarray .int, 2) := dk_188_10 (dk_at dksX6_init_0 17 rfl rfl)
theorem dX6_init_19 : decode cX6_init 19 = .ok (.putfield 13, 3) := dk_181 0 13 (dk_at dksX6_init_0 19 rfl rfl)
theorem dX6_init_22 : decode cX6_init 22 = .ok (.aload_n 0, 1) := dk_42 (dk_at dksX6_init_0 22 rfl rfl)
theorem dX6_init_23 : decode cX6_init 23 = .ok (.sipush 462, 3) := dk_17 1 206 (dk_at dksX6_init_1 0 rfl rfl)
theorem dX6_init_26 : decode cX6_init 26 = .ok (.newarray .int, 2) := dk_188_10 (dk_at dksX6_init_1 3 rfl rfl)
theorem dX6_init_28 : decode cX6_init 28 = .ok (.putfield 16, 3) := dk_181 0 16 (dk_at dksX6_init_1 5 rfl rfl)
theorem dX6_init_31 : decode cX6_init 31 = .ok (.aload_n 0, 1) := dk_42 (dk_at dksX6_init_1 8 rfl rfl)
theorem dX6_init_32 : decode cX6_init 32 = .ok (.sipush 2772, 3) := dk_17 10 212 (dk_at dksX6_init_1 9 rfl rfl)
theorem dX6_init_35 : decode cX6_init 35 = .ok (.newarray .int, 2) := dk_188_10 (dk_at dksX6_init_1 12 rfl rfl)
theorem dX6_init_37 : decode cX6_init 37 = .ok (.putfield 19, 3) := dk_181 0 19 (dk_at dksX6_init_1 14 rfl rfl)
theorem dX6_init_40 : decode cX6_init 40 = .ok (.aload_n 0, 1) := dk_42 (dk_at dksX6_init_1 17 rfl rfl)
theorem dX6_init_41 : decode cX6_init 41 = .ok (.sipush 144, 3) := dk_17 0 144 (dk_at dksX6_init_1 18 rfl rfl)
theorem dX6_init_44 : decode cX6_init 44 = .ok (.newarray .int, 2) := dk_188_10 (dk_at dksX6_init_1 21 rfl rfl)
theorem dX6_init_46 : decode cX6_init 46 = .ok (.putfield 22, 3) := dk_181 0 22 (dk_at dksX6_init_2 0 rfl rfl)
theorem dX6_init_49 : decode cX6_init 49 = .ok (.aload_n 0, 1) := dk_42 (dk_at dksX6_init_2 3 rfl rfl)
theorem dX6_init_50 : decode cX6_init 50 = .ok (.bipush 60, 2) := dk_16 60 (dk_at dksX6_init_2 4 rfl rfl)
theorem dX6_init_52 : decode cX6_init 52 = .ok (.newarray .char, 2) := dk_188_5 (dk_at dksX6_init_2 6 rfl rfl)
theorem dX6_init_54 : decode cX6_init 54 = .ok (.putfield 25, 3) := dk_181 0 25 (dk_at dksX6_init_2 8 rfl rfl)
theorem dX6_init_57 : decode cX6_init 57 = .ok (.aload_n 0, 1) := dk_42 (dk_at dksX6_init_2 11 rfl rfl)
theorem dX6_init_58 : decode cX6_init 58 = .ok (.iconst (-1), 1) := dk_2 (dk_at dksX6_init_2 12 rfl rfl)
theorem dX6_init_59 : decode cX6_init 59 = .ok (.putfield 29, 3) := dk_181 0 29 (dk_at dksX6_init_2 13 rfl rfl)
theorem dX6_init_62 : decode cX6_init 62 = .ok (.aload_n 0, 1) := dk_42 (dk_at dksX6_init_2 16 rfl rfl)
theorem dX6_init_63 : decode cX6_init 63 = .ok (.bipush 60, 2) := dk_16 60 (dk_at dksX6_init_2 17 rfl rfl)
theorem dX6_init_65 : decode cX6_init 65 = .ok (.newarray .char, 2) := dk_188_5 (dk_at dksX6_init_2 19 rfl rfl)
theorem dX6_init_67 : decode cX6_init 67 = .ok (.putfield 33, 3) := dk_181 0 33 (dk_at dksX6_init_2 21 rfl rfl)
theorem dX6_init_70 : decode cX6_init 70 = .ok (.aload_n 0, 1) := dk_42 (dk_at dksX6_init_3 0 rfl rfl)
theorem dX6_init_71 : decode cX6_init 71 = .ok (.sipush 180, 3) := dk_17 0 180 (dk_at dksX6_init_3 1 rfl rfl)
theorem dX6_init_74 : decode cX6_init 74 = .ok (.newarray .int, 2) := dk_188_10 (dk_at dksX6_init_3 4 rfl rfl)
theorem dX6_init_76 : decode cX6_init 76 = .ok (.putfield 36, 3) := dk_181 0 36 (dk_at dksX6_init_3 6 rfl rfl)
theorem dX6_init_79 : decode cX6_init 79 = .ok (.aload_n 0, 1) := dk_42 (dk_at dksX6_init_3 9 rfl rfl)
theorem dX6_init_80 : decode cX6_init 80 = .ok (.invokevirtual 39, 3) := dk_182 0 39 (dk_at dksX6_init_3 10 rfl rfl)
theorem dX6_init_83 : decode cX6_init 83 = .ok (.return_, 1) := dk_177 (dk_at dksX6_init_3 13 rfl rfl)
abbrev cX6_begin : ByteArray := prog_18_method_4_code
def yX6_begin : MethodName := ⟨RX6, "begin", "()V"⟩
def dkwX6_begin_1 : List UInt8 := [181, 0, 45, 177]
abbrev dktX6_begin_1 : List UInt8 := dkwX6_begin_1 ++ []
def dkwX6_begin_0 : List UInt8 := [3, 60, 27, 17, 1, 206, 162, 0, 16, 42, 180, 0, 9, 27, 3, 79, 132, 1, 1, 167, 255, 239, 42, 3]
abbrev dktX6_begin_0 : List UInt8 := dkwX6_begin_0 ++ dktX6_begin_1
theorem dksX6_begin_0 : cX6_begin.data.toList.drop 0 = dktX6_begin_0 := by decide +kernel
theorem dksX6_begin_1 : cX6_begin.data.toList.drop 24 = dktX6_begin_1 := dk_seg dksX6_begin_0 24 rfl rfl
theorem dX6_begin_0 : decode cX6_begin 0 = .ok (.iconst 0, 1) := dk_3 (dk_at dksX6_begin_0 0 rfl rfl)
theorem dX6_begin_1 : decode cX6_begin 1 = .ok (.istore_n 1, 1) := dk_60 (dk_at dksX6_begin_0 1 rfl rfl)
theorem dX6_begin_2 : decode cX6_begin 2 = .ok (.iload_n 1, 1) := dk_27 (dk_at dksX6_begin_0 2 rfl rfl)
theorem dX6_begin_3 : decode cX6_begin 3 = .ok (.sipush 462, 3) := dk_17 1 206 (dk_at dksX6_begin_0 3 rfl rfl)
theorem dX6_begin_6 : decode cX6_begin 6 = .ok (.if_icmp .ge 16, 3) := dk_162 0 16 (dk_at dksX6_begin_0 6 rfl rfl)
theorem dX6_begin_9 : decode cX6_begin 9 = .ok (.aload_n 0, 1) := dk_42 (dk_at dksX6_begin_0 9 rfl rfl)
theorem dX6_begin_10 : decode cX6_begin 10 = .ok (.getfield 9, 3) := dk_180 0 9 (dk_at dksX6_begin_0 10 rfl rfl)
theorem dX6_begin_13 : decode cX6_begin 13 = .ok (.iload_n 1, 1) := dk_27 (dk_at dksX6_begin_0 13 rfl rfl)
theorem dX6_begin_14 : decode cX6_begin 14 = .ok (.iconst 0, 1) := dk_3 (dk_at dksX6_begin_0 14 rfl rfl)
theorem dX6_begin_15 : decode cX6_begin 15 = .ok (.iastore, 1) := dk_79 (dk_at dksX6_begin_0 15 rfl rfl)
theorem dX6_begin_16 : decode cX6_begin 16 = .ok (.iinc 1 1, 3) := dk_132 1 1 (dk_at dksX6_begin_0 16 rfl rfl)
theorem dX6_begin_19 : decode cX6_begin 19 = .ok (.goto (-17), 3) := dk_167 255 239 (dk_at dksX6_begin_0 19 rfl rfl)
theorem dX6_begin_22 : decode cX6_begin 22 = .ok (.aload_n 0, 1) := dk_42 (dk_at dksX6_begin_0 22 rfl rfl)
theorem dX6_begin_23 : decode cX6_begin 23 = .ok (.iconst 0, 1) := dk_3 (dk_at dksX6_begin_0 23 rfl rfl)
theorem dX6_begin_24 : decode cX6_begin 24 = .ok (.putfield 45, 3) := dk_181 0 45 (dk_at dksX6_begin_1 0 rfl rfl)
theorem dX6_begin_27 : decode cX6_begin 27 = .ok (.return_, 1) := dk_177 (dk_at dksX6_begin_1 3 rfl rfl)
abbrev cX6_thrown : ByteArray := prog_18_method_2_code
def yX6_thrown : MethodName := ⟨RX6, "thrown", "()I"⟩
theorem dX6_thrown_0 : decode cX6_thrown 0 = .ok (.aload_n 0, 1) := by decide +kernel
theorem dX6_thrown_1 : decode cX6_thrown 1 = .ok (.getfield 42, 3) := by decide +kernel
theorem dX6_thrown_4 : decode cX6_thrown 4 = .ok (.ireturn, 1) := by decide +kernel
abbrev cX6_clear : ByteArray := prog_18_method_9_code
def yX6_clear : MethodName := ⟨RX6, "clear", "()I"⟩
def dkwX6_clear_0 : List UInt8 := [42, 3, 181, 0, 42, 42, 180, 0, 9, 3, 46, 60, 42, 182, 0, 39, 27, 172]
abbrev dktX6_clear_0 : List UInt8 := dkwX6_clear_0 ++ []
theorem dksX6_clear_0 : cX6_clear.data.toList.drop 0 = dktX6_clear_0 := by decide +kernel
theorem dX6_clear_0 : decode cX6_clear 0 = .ok (.aload_n 0, 1) := dk_42 (dk_at dksX6_clear_0 0 rfl rfl)
theorem dX6_clear_1 : decode cX6_clear 1 = .ok (.iconst 0, 1) := dk_3 (dk_at dksX6_clear_0 1 rfl rfl)
theorem dX6_clear_2 : decode cX6_clear 2 = .ok (.putfield 42, 3) := dk_181 0 42 (dk_at dksX6_clear_0 2 rfl rfl)
theorem dX6_clear_5 : decode cX6_clear 5 = .ok (.aload_n 0, 1) := dk_42 (dk_at dksX6_clear_0 5 rfl rfl)
theorem dX6_clear_6 : decode cX6_clear 6 = .ok (.getfield 9, 3) := dk_180 0 9 (dk_at dksX6_clear_0 6 rfl rfl)
theorem dX6_clear_9 : decode cX6_clear 9 = .ok (.iconst 0, 1) := dk_3 (dk_at dksX6_clear_0 9 rfl rfl)
theorem dX6_clear_10 : decode cX6_clear 10 = .ok (.iaload, 1) := dk_46 (dk_at dksX6_clear_0 10 rfl rfl)
theorem dX6_clear_11 : decode cX6_clear 11 = .ok (.istore_n 1, 1) := dk_60 (dk_at dksX6_clear_0 11 rfl rfl)
theorem dX6_clear_12 : decode cX6_clear 12 = .ok (.aload_n 0, 1) := dk_42 (dk_at dksX6_clear_0 12 rfl rfl)
theorem dX6_clear_13 : decode cX6_clear 13 = .ok (.invokevirtual 39, 3) := dk_182 0 39 (dk_at dksX6_clear_0 13 rfl rfl)
theorem dX6_clear_16 : decode cX6_clear 16 = .ok (.iload_n 1, 1) := dk_27 (dk_at dksX6_clear_0 16 rfl rfl)
theorem dX6_clear_17 : decode cX6_clear 17 = .ok (.ireturn, 1) := dk_172 (dk_at dksX6_clear_0 17 rfl rfl)
abbrev cX6_addCue : ByteArray := prog_18_method_17_code
def yX6_addCue : MethodName := ⟨RX6, "addCue", "(I)I"⟩
def dkwX6_addCue_1 : List UInt8 := [182, 0, 57, 42, 180, 0, 9, 3, 46, 172]
abbrev dktX6_addCue_1 : List UInt8 := dkwX6_addCue_1 ++ []
def dkwX6_addCue_0 : List UInt8 := [42, 182, 0, 54, 42, 42, 27, 182, 0, 78, 181, 0, 42, 42, 180, 0, 42, 158, 0, 5, 3, 172, 42]
abbrev dktX6_addCue_0 : List UInt8 := dkwX6_addCue_0 ++ dktX6_addCue_1
theorem dksX6_addCue_0 : cX6_addCue.data.toList.drop 0 = dktX6_addCue_0 := by decide +kernel
theorem dksX6_addCue_1 : cX6_addCue.data.toList.drop 23 = dktX6_addCue_1 := dk_seg dksX6_addCue_0 23 rfl rfl
theorem dX6_addCue_0 : decode cX6_addCue 0 = .ok (.aload_n 0, 1) := dk_42 (dk_at dksX6_addCue_0 0 rfl rfl)
theorem dX6_addCue_1 : decode cX6_addCue 1 = .ok (.invokevirtual 54, 3) := dk_182 0 54 (dk_at dksX6_addCue_0 1 rfl rfl)
theorem dX6_addCue_4 : decode cX6_addCue 4 = .ok (.aload_n 0, 1) := dk_42 (dk_at dksX6_addCue_0 4 rfl rfl)
theorem dX6_addCue_5 : decode cX6_addCue 5 = .ok (.aload_n 0, 1) := dk_42 (dk_at dksX6_addCue_0 5 rfl rfl)
theorem dX6_addCue_6 : decode cX6_addCue 6 = .ok (.iload_n 1, 1) := dk_27 (dk_at dksX6_addCue_0 6 rfl rfl)
theorem dX6_addCue_7 : decode cX6_addCue 7 = .ok (.invokevirtual 78, 3) := dk_182 0 78 (dk_at dksX6_addCue_0 7 rfl rfl)
theorem dX6_addCue_10 : decode cX6_addCue 10 = .ok (.putfield 42, 3) := dk_181 0 42 (dk_at dksX6_addCue_0 10 rfl rfl)
theorem dX6_addCue_13 : decode cX6_addCue 13 = .ok (.aload_n 0, 1) := dk_42 (dk_at dksX6_addCue_0 13 rfl rfl)
theorem dX6_addCue_14 : decode cX6_addCue 14 = .ok (.getfield 42, 3) := dk_180 0 42 (dk_at dksX6_addCue_0 14 rfl rfl)
theorem dX6_addCue_17 : decode cX6_addCue 17 = .ok (.ifCond .le 5, 3) := dk_158 0 5 (dk_at dksX6_addCue_0 17 rfl rfl)
theorem dX6_addCue_20 : decode cX6_addCue 20 = .ok (.iconst 0, 1) := dk_3 (dk_at dksX6_addCue_0 20 rfl rfl)
theorem dX6_addCue_21 : decode cX6_addCue 21 = .ok (.ireturn, 1) := dk_172 (dk_at dksX6_addCue_0 21 rfl rfl)
theorem dX6_addCue_22 : decode cX6_addCue 22 = .ok (.aload_n 0, 1) := dk_42 (dk_at dksX6_addCue_0 22 rfl rfl)
theorem dX6_addCue_23 : decode cX6_addCue 23 = .ok (.invokevirtual 57, 3) := dk_182 0 57 (dk_at dksX6_addCue_1 0 rfl rfl)
theorem dX6_addCue_26 : decode cX6_addCue 26 = .ok (.aload_n 0, 1) := dk_42 (dk_at dksX6_addCue_1 3 rfl rfl)
theorem dX6_addCue_27 : decode cX6_addCue 27 = .ok (.getfield 9, 3) := dk_180 0 9 (dk_at dksX6_addCue_1 4 rfl rfl)
theorem dX6_addCue_30 : decode cX6_addCue 30 = .ok (.iconst 0, 1) := dk_3 (dk_at dksX6_addCue_1 7 rfl rfl)
theorem dX6_addCue_31 : decode cX6_addCue 31 = .ok (.iaload, 1) := dk_46 (dk_at dksX6_addCue_1 8 rfl rfl)
theorem dX6_addCue_32 : decode cX6_addCue 32 = .ok (.ireturn, 1) := dk_172 (dk_at dksX6_addCue_1 9 rfl rfl)
abbrev cX6_keepState : ByteArray := prog_18_method_5_code
def yX6_keepState : MethodName := ⟨RX6, "keepState", "()V"⟩
def dkwX6_keepState_0 : List UInt8 := [42, 180, 0, 9, 3, 42, 180, 0, 13, 3, 17, 1, 206, 184, 0, 48, 177]
abbrev dktX6_keepState_0 : List UInt8 := dkwX6_keepState_0 ++ []
theorem dksX6_keepState_0 : cX6_keepState.data.toList.drop 0 = dktX6_keepState_0 := by decide +kernel
theorem dX6_keepState_0 : decode cX6_keepState 0 = .ok (.aload_n 0, 1) := dk_42 (dk_at dksX6_keepState_0 0 rfl rfl)
theorem dX6_keepState_1 : decode cX6_keepState 1 = .ok (.getfield 9, 3) := dk_180 0 9 (dk_at dksX6_keepState_0 1 rfl rfl)
theorem dX6_keepState_4 : decode cX6_keepState 4 = .ok (.iconst 0, 1) := dk_3 (dk_at dksX6_keepState_0 4 rfl rfl)
theorem dX6_keepState_5 : decode cX6_keepState 5 = .ok (.aload_n 0, 1) := dk_42 (dk_at dksX6_keepState_0 5 rfl rfl)
theorem dX6_keepState_6 : decode cX6_keepState 6 = .ok (.getfield 13, 3) := dk_180 0 13 (dk_at dksX6_keepState_0 6 rfl rfl)
theorem dX6_keepState_9 : decode cX6_keepState 9 = .ok (.iconst 0, 1) := dk_3 (dk_at dksX6_keepState_0 9 rfl rfl)
theorem dX6_keepState_10 : decode cX6_keepState 10 = .ok (.sipush 462, 3) := dk_17 1 206 (dk_at dksX6_keepState_0 10 rfl rfl)
theorem dX6_keepState_13 : decode cX6_keepState 13 = .ok (.invokestatic 48, 3) := dk_184 0 48 (dk_at dksX6_keepState_0 13 rfl rfl)
theorem dX6_keepState_16 : decode cX6_keepState 16 = .ok (.return_, 1) := dk_177 (dk_at dksX6_keepState_0 16 rfl rfl)
abbrev cX6_doAdd : ByteArray := prog_18_method_16_code
def yX6_doAdd : MethodName := ⟨RX6, "doAdd", "(I)I"⟩
def dkwX6_doAdd_6 : List UInt8 := [4, 96, 2, 79, 42, 180, 0, 9, 3, 92, 46, 4, 96, 79, 3, 172]
abbrev dktX6_doAdd_6 : List UInt8 := dkwX6_doAdd_6 ++ []
def dkwX6_doAdd_5 : List UInt8 := [132, 3, 1, 167, 255, 235, 42, 180, 0, 9, 28, 184, 0, 63, 27, 79, 42, 180, 0, 9, 28, 184, 0, 63]
abbrev dktX6_doAdd_5 : List UInt8 := dkwX6_doAdd_5 ++ dktX6_doAdd_6
def dkwX6_doAdd_4 : List UInt8 := [184, 0, 48, 3, 62, 29, 16, 12, 162, 0, 21, 42, 180, 0, 9, 28, 184, 0, 63, 29, 96, 3, 79]
abbrev dktX6_doAdd_4 : List UInt8 := dkwX6_doAdd_4 ++ dktX6_doAdd_5
def dkwX6_doAdd_3 : List UInt8 := [184, 0, 63, 42, 180, 0, 9, 28, 4, 96, 184, 0, 63, 16, 12, 42, 180, 0, 9, 3, 46, 28, 100, 104]
abbrev dktX6_doAdd_3 : List UInt8 := dkwX6_doAdd_3 ++ dktX6_doAdd_4
def dkwX6_doAdd_2 : List UInt8 := [180, 0, 9, 28, 184, 0, 63, 46, 27, 162, 0, 9, 132, 2, 1, 167, 255, 230, 42, 180, 0, 9, 28]
abbrev dktX6_doAdd_2 : List UInt8 := dkwX6_doAdd_2 ++ dktX6_doAdd_3
def dkwX6_doAdd_1 : List UInt8 := [3, 46, 16, 12, 160, 0, 5, 5, 172, 3, 61, 28, 42, 180, 0, 9, 3, 46, 162, 0, 22, 42]
abbrev dktX6_doAdd_1 : List UInt8 := dkwX6_doAdd_1 ++ dktX6_doAdd_2
def dkwX6_doAdd_0 : List UInt8 := [27, 4, 16, 99, 184, 0, 70, 153, 0, 11, 42, 27, 182, 0, 74, 153, 0, 5, 4, 172, 42, 180, 0, 9]
abbrev dktX6_doAdd_0 : List UInt8 := dkwX6_doAdd_0 ++ dktX6_doAdd_1
theorem dksX6_doAdd_0 : cX6_doAdd.data.toList.drop 0 = dktX6_doAdd_0 := by decide +kernel
theorem dksX6_doAdd_1 : cX6_doAdd.data.toList.drop 24 = dktX6_doAdd_1 := dk_seg dksX6_doAdd_0 24 rfl rfl
theorem dksX6_doAdd_2 : cX6_doAdd.data.toList.drop 46 = dktX6_doAdd_2 := dk_seg dksX6_doAdd_1 22 rfl rfl
theorem dksX6_doAdd_3 : cX6_doAdd.data.toList.drop 69 = dktX6_doAdd_3 := dk_seg dksX6_doAdd_2 23 rfl rfl
theorem dksX6_doAdd_4 : cX6_doAdd.data.toList.drop 93 = dktX6_doAdd_4 := dk_seg dksX6_doAdd_3 24 rfl rfl
theorem dksX6_doAdd_5 : cX6_doAdd.data.toList.drop 116 = dktX6_doAdd_5 := dk_seg dksX6_doAdd_4 23 rfl rfl
theorem dksX6_doAdd_6 : cX6_doAdd.data.toList.drop 140 = dktX6_doAdd_6 := dk_seg dksX6_doAdd_5 24 rfl rfl
theorem dX6_doAdd_0 : decode cX6_doAdd 0 = .ok (.iload_n 1, 1) := dk_27 (dk_at dksX6_doAdd_0 0 rfl rfl)
theorem dX6_doAdd_1 : decode cX6_doAdd 1 = .ok (.iconst 1, 1) := dk_4 (dk_at dksX6_doAdd_0 1 rfl rfl)
theorem dX6_doAdd_2 : decode cX6_doAdd 2 = .ok (.bipush 99, 2) := dk_16 99 (dk_at dksX6_doAdd_0 2 rfl rfl)
theorem dX6_doAdd_4 : decode cX6_doAdd 4 = .ok (.invokestatic 70, 3) := dk_184 0 70 (dk_at dksX6_doAdd_0 4 rfl rfl)
theorem dX6_doAdd_7 : decode cX6_doAdd 7 = .ok (.ifCond .eq 11, 3) := dk_153 0 11 (dk_at dksX6_doAdd_0 7 rfl rfl)
theorem dX6_doAdd_10 : decode cX6_doAdd 10 = .ok (.aload_n 0, 1) := dk_42 (dk_at dksX6_doAdd_0 10 rfl rfl)
theorem dX6_doAdd_11 : decode cX6_doAdd 11 = .ok (.iload_n 1, 1) := dk_27 (dk_at dksX6_doAdd_0 11 rfl rfl)
theorem dX6_doAdd_12 : decode cX6_doAdd 12 = .ok (.invokevirtual 74, 3) := dk_182 0 74 (dk_at dksX6_doAdd_0 12 rfl rfl)
theorem dX6_doAdd_15 : decode cX6_doAdd 15 = .ok (.ifCond .eq 5, 3) := dk_153 0 5 (dk_at dksX6_doAdd_0 15 rfl rfl)
theorem dX6_doAdd_18 : decode cX6_doAdd 18 = .ok (.iconst 1, 1) := dk_4 (dk_at dksX6_doAdd_0 18 rfl rfl)
theorem dX6_doAdd_19 : decode cX6_doAdd 19 = .ok (.ireturn, 1) := dk_172 (dk_at dksX6_doAdd_0 19 rfl rfl)
theorem dX6_doAdd_20 : decode cX6_doAdd 20 = .ok (.aload_n 0, 1) := dk_42 (dk_at dksX6_doAdd_0 20 rfl rfl)
theorem dX6_doAdd_21 : decode cX6_doAdd 21 = .ok (.getfield 9, 3) := dk_180 0 9 (dk_at dksX6_doAdd_0 21 rfl rfl)
theorem dX6_doAdd_24 : decode cX6_doAdd 24 = .ok (.iconst 0, 1) := dk_3 (dk_at dksX6_doAdd_1 0 rfl rfl)
theorem dX6_doAdd_25 : decode cX6_doAdd 25 = .ok (.iaload, 1) := dk_46 (dk_at dksX6_doAdd_1 1 rfl rfl)
theorem dX6_doAdd_26 : decode cX6_doAdd 26 = .ok (.bipush 12, 2) := dk_16 12 (dk_at dksX6_doAdd_1 2 rfl rfl)
theorem dX6_doAdd_28 : decode cX6_doAdd 28 = .ok (.if_icmp .ne 5, 3) := dk_160 0 5 (dk_at dksX6_doAdd_1 4 rfl rfl)
theorem dX6_doAdd_31 : decode cX6_doAdd 31 = .ok (.iconst 2, 1) := dk_5 (dk_at dksX6_doAdd_1 7 rfl rfl)
theorem dX6_doAdd_32 : decode cX6_doAdd 32 = .ok (.ireturn, 1) := dk_172 (dk_at dksX6_doAdd_1 8 rfl rfl)
theorem dX6_doAdd_33 : decode cX6_doAdd 33 = .ok (.iconst 0, 1) := dk_3 (dk_at dksX6_doAdd_1 9 rfl rfl)
theorem dX6_doAdd_34 : decode cX6_doAdd 34 = .ok (.istore_n 2, 1) := dk_61 (dk_at dksX6_doAdd_1 10 rfl rfl)
theorem dX6_doAdd_35 : decode cX6_doAdd 35 = .ok (.iload_n 2, 1) := dk_28 (dk_at dksX6_doAdd_1 11 rfl rfl)
theorem dX6_doAdd_36 : decode cX6_doAdd 36 = .ok (.aload_n 0, 1) := dk_42 (dk_at dksX6_doAdd_1 12 rfl rfl)
theorem dX6_doAdd_37 : decode cX6_doAdd 37 = .ok (.getfield 9, 3) := dk_180 0 9 (dk_at dksX6_doAdd_1 13 rfl rfl)
theorem dX6_doAdd_40 : decode cX6_doAdd 40 = .ok (.iconst 0, 1) := dk_3 (dk_at dksX6_doAdd_1 16 rfl rfl)
theorem dX6_doAdd_41 : decode cX6_doAdd 41 = .ok (.iaload, 1) := dk_46 (dk_at dksX6_doAdd_1 17 rfl rfl)
theorem dX6_doAdd_42 : decode cX6_doAdd 42 = .ok (.if_icmp .ge 22, 3) := dk_162 0 22 (dk_at dksX6_doAdd_1 18 rfl rfl)
theorem dX6_doAdd_45 : decode cX6_doAdd 45 = .ok (.aload_n 0, 1) := dk_42 (dk_at dksX6_doAdd_1 21 rfl rfl)
theorem dX6_doAdd_46 : decode cX6_doAdd 46 = .ok (.getfield 9, 3) := dk_180 0 9 (dk_at dksX6_doAdd_2 0 rfl rfl)
theorem dX6_doAdd_49 : decode cX6_doAdd 49 = .ok (.iload_n 2, 1) := dk_28 (dk_at dksX6_doAdd_2 3 rfl rfl)
theorem dX6_doAdd_50 : decode cX6_doAdd 50 = .ok (.invokestatic 63, 3) := dk_184 0 63 (dk_at dksX6_doAdd_2 4 rfl rfl)
theorem dX6_doAdd_53 : decode cX6_doAdd 53 = .ok (.iaload, 1) := dk_46 (dk_at dksX6_doAdd_2 7 rfl rfl)
theorem dX6_doAdd_54 : decode cX6_doAdd 54 = .ok (.iload_n 1, 1) := dk_27 (dk_at dksX6_doAdd_2 8 rfl rfl)
theorem dX6_doAdd_55 : decode cX6_doAdd 55 = .ok (.if_icmp .ge 9, 3) := dk_162 0 9 (dk_at dksX6_doAdd_2 9 rfl rfl)
theorem dX6_doAdd_58 : decode cX6_doAdd 58 = .ok (.iinc 2 1, 3) := dk_132 2 1 (dk_at dksX6_doAdd_2 12 rfl rfl)
theorem dX6_doAdd_61 : decode cX6_doAdd 61 = .ok (.goto (-26), 3) := dk_167 255 230 (dk_at dksX6_doAdd_2 15 rfl rfl)
theorem dX6_doAdd_64 : decode cX6_doAdd 64 = .ok (.aload_n 0, 1) := dk_42 (dk_at dksX6_doAdd_2 18 rfl rfl)
theorem dX6_doAdd_65 : decode cX6_doAdd 65 = .ok (.getfield 9, 3) := dk_180 0 9 (dk_at dksX6_doAdd_2 19 rfl rfl)
theorem dX6_doAdd_68 : decode cX6_doAdd 68 = .ok (.iload_n 2, 1) := dk_28 (dk_at dksX6_doAdd_2 22 rfl rfl)
theorem dX6_doAdd_69 : decode cX6_doAdd 69 = .ok (.invokestatic 63, 3) := dk_184 0 63 (dk_at dksX6_doAdd_3 0 rfl rfl)
theorem dX6_doAdd_72 : decode cX6_doAdd 72 = .ok (.aload_n 0, 1) := dk_42 (dk_at dksX6_doAdd_3 3 rfl rfl)
theorem dX6_doAdd_73 : decode cX6_doAdd 73 = .ok (.getfield 9, 3) := dk_180 0 9 (dk_at dksX6_doAdd_3 4 rfl rfl)
theorem dX6_doAdd_76 : decode cX6_doAdd 76 = .ok (.iload_n 2, 1) := dk_28 (dk_at dksX6_doAdd_3 7 rfl rfl)
theorem dX6_doAdd_77 : decode cX6_doAdd 77 = .ok (.iconst 1, 1) := dk_4 (dk_at dksX6_doAdd_3 8 rfl rfl)
theorem dX6_doAdd_78 : decode cX6_doAdd 78 = .ok (.iadd, 1) := dk_96 (dk_at dksX6_doAdd_3 9 rfl rfl)
theorem dX6_doAdd_79 : decode cX6_doAdd 79 = .ok (.invokestatic 63, 3) := dk_184 0 63 (dk_at dksX6_doAdd_3 10 rfl rfl)
theorem dX6_doAdd_82 : decode cX6_doAdd 82 = .ok (.bipush 12, 2) := dk_16 12 (dk_at dksX6_doAdd_3 13 rfl rfl)
theorem dX6_doAdd_84 : decode cX6_doAdd 84 = .ok (.aload_n 0, 1) := dk_42 (dk_at dksX6_doAdd_3 15 rfl rfl)
theorem dX6_doAdd_85 : decode cX6_doAdd 85 = .ok (.getfield 9, 3) := dk_180 0 9 (dk_at dksX6_doAdd_3 16 rfl rfl)
theorem dX6_doAdd_88 : decode cX6_doAdd 88 = .ok (.iconst 0, 1) := dk_3 (dk_at dksX6_doAdd_3 19 rfl rfl)
theorem dX6_doAdd_89 : decode cX6_doAdd 89 = .ok (.iaload, 1) := dk_46 (dk_at dksX6_doAdd_3 20 rfl rfl)
theorem dX6_doAdd_90 : decode cX6_doAdd 90 = .ok (.iload_n 2, 1) := dk_28 (dk_at dksX6_doAdd_3 21 rfl rfl)
theorem dX6_doAdd_91 : decode cX6_doAdd 91 = .ok (.isub, 1) := dk_100 (dk_at dksX6_doAdd_3 22 rfl rfl)
theorem dX6_doAdd_92 : decode cX6_doAdd 92 = .ok (.imul, 1) := dk_104 (dk_at dksX6_doAdd_3 23 rfl rfl)
theorem dX6_doAdd_93 : decode cX6_doAdd 93 = .ok (.invokestatic 48, 3) := dk_184 0 48 (dk_at dksX6_doAdd_4 0 rfl rfl)
theorem dX6_doAdd_96 : decode cX6_doAdd 96 = .ok (.iconst 0, 1) := dk_3 (dk_at dksX6_doAdd_4 3 rfl rfl)
theorem dX6_doAdd_97 : decode cX6_doAdd 97 = .ok (.istore_n 3, 1) := dk_62 (dk_at dksX6_doAdd_4 4 rfl rfl)
theorem dX6_doAdd_98 : decode cX6_doAdd 98 = .ok (.iload_n 3, 1) := dk_29 (dk_at dksX6_doAdd_4 5 rfl rfl)
theorem dX6_doAdd_99 : decode cX6_doAdd 99 = .ok (.bipush 12, 2) := dk_16 12 (dk_at dksX6_doAdd_4 6 rfl rfl)
theorem dX6_doAdd_101 : decode cX6_doAdd 101 = .ok (.if_icmp .ge 21, 3) := dk_162 0 21 (dk_at dksX6_doAdd_4 8 rfl rfl)
theorem dX6_doAdd_104 : decode cX6_doAdd 104 = .ok (.aload_n 0, 1) := dk_42 (dk_at dksX6_doAdd_4 11 rfl rfl)
theorem dX6_doAdd_105 : decode cX6_doAdd 105 = .ok (.getfield 9, 3) := dk_180 0 9 (dk_at dksX6_doAdd_4 12 rfl rfl)
theorem dX6_doAdd_108 : decode cX6_doAdd 108 = .ok (.iload_n 2, 1) := dk_28 (dk_at dksX6_doAdd_4 15 rfl rfl)
theorem dX6_doAdd_109 : decode cX6_doAdd 109 = .ok (.invokestatic 63, 3) := dk_184 0 63 (dk_at dksX6_doAdd_4 16 rfl rfl)
theorem dX6_doAdd_112 : decode cX6_doAdd 112 = .ok (.iload_n 3, 1) := dk_29 (dk_at dksX6_doAdd_4 19 rfl rfl)
theorem dX6_doAdd_113 : decode cX6_doAdd 113 = .ok (.iadd, 1) := dk_96 (dk_at dksX6_doAdd_4 20 rfl rfl)
theorem dX6_doAdd_114 : decode cX6_doAdd 114 = .ok (.iconst 0, 1) := dk_3 (dk_at dksX6_doAdd_4 21 rfl rfl)
theorem dX6_doAdd_115 : decode cX6_doAdd 115 = .ok (.iastore, 1) := dk_79 (dk_at dksX6_doAdd_4 22 rfl rfl)
theorem dX6_doAdd_116 : decode cX6_doAdd 116 = .ok (.iinc 3 1, 3) := dk_132 3 1 (dk_at dksX6_doAdd_5 0 rfl rfl)
theorem dX6_doAdd_119 : decode cX6_doAdd 119 = .ok (.goto (-21), 3) := dk_167 255 235 (dk_at dksX6_doAdd_5 3 rfl rfl)
theorem dX6_doAdd_122 : decode cX6_doAdd 122 = .ok (.aload_n 0, 1) := dk_42 (dk_at dksX6_doAdd_5 6 rfl rfl)
theorem dX6_doAdd_123 : decode cX6_doAdd 123 = .ok (.getfield 9, 3) := dk_180 0 9 (dk_at dksX6_doAdd_5 7 rfl rfl)
theorem dX6_doAdd_126 : decode cX6_doAdd 126 = .ok (.iload_n 2, 1) := dk_28 (dk_at dksX6_doAdd_5 10 rfl rfl)
theorem dX6_doAdd_127 : decode cX6_doAdd 127 = .ok (.invokestatic 63, 3) := dk_184 0 63 (dk_at dksX6_doAdd_5 11 rfl rfl)
theorem dX6_doAdd_130 : decode cX6_doAdd 130 = .ok (.iload_n 1, 1) := dk_27 (dk_at dksX6_doAdd_5 14 rfl rfl)
theorem dX6_doAdd_131 : decode cX6_doAdd 131 = .ok (.iastore, 1) := dk_79 (dk_at dksX6_doAdd_5 15 rfl rfl)
theorem dX6_doAdd_132 : decode cX6_doAdd 132 = .ok (.aload_n 0, 1) := dk_42 (dk_at dksX6_doAdd_5 16 rfl rfl)
theorem dX6_doAdd_133 : decode cX6_doAdd 133 = .ok (.getfield 9, 3) := dk_180 0 9 (dk_at dksX6_doAdd_5 17 rfl rfl)
theorem dX6_doAdd_136 : decode cX6_doAdd 136 = .ok (.iload_n 2, 1) := dk_28 (dk_at dksX6_doAdd_5 20 rfl rfl)
theorem dX6_doAdd_137 : decode cX6_doAdd 137 = .ok (.invokestatic 63, 3) := dk_184 0 63 (dk_at dksX6_doAdd_5 21 rfl rfl)
theorem dX6_doAdd_140 : decode cX6_doAdd 140 = .ok (.iconst 1, 1) := dk_4 (dk_at dksX6_doAdd_6 0 rfl rfl)
theorem dX6_doAdd_141 : decode cX6_doAdd 141 = .ok (.iadd, 1) := dk_96 (dk_at dksX6_doAdd_6 1 rfl rfl)
theorem dX6_doAdd_142 : decode cX6_doAdd 142 = .ok (.iconst (-1), 1) := dk_2 (dk_at dksX6_doAdd_6 2 rfl rfl)
theorem dX6_doAdd_143 : decode cX6_doAdd 143 = .ok (.iastore, 1) := dk_79 (dk_at dksX6_doAdd_6 3 rfl rfl)
theorem dX6_doAdd_144 : decode cX6_doAdd 144 = .ok (.aload_n 0, 1) := dk_42 (dk_at dksX6_doAdd_6 4 rfl rfl)
theorem dX6_doAdd_145 : decode cX6_doAdd 145 = .ok (.getfield 9, 3) := dk_180 0 9 (dk_at dksX6_doAdd_6 5 rfl rfl)
theorem dX6_doAdd_148 : decode cX6_doAdd 148 = .ok (.iconst 0, 1) := dk_3 (dk_at dksX6_doAdd_6 8 rfl rfl)
theorem dX6_doAdd_149 : decode cX6_doAdd 149 = .ok (.dup2, 1) := dk_92 (dk_at dksX6_doAdd_6 9 rfl rfl)
theorem dX6_doAdd_150 : decode cX6_doAdd 150 = .ok (.iaload, 1) := dk_46 (dk_at dksX6_doAdd_6 10 rfl rfl)
theorem dX6_doAdd_151 : decode cX6_doAdd 151 = .ok (.iconst 1, 1) := dk_4 (dk_at dksX6_doAdd_6 11 rfl rfl)
theorem dX6_doAdd_152 : decode cX6_doAdd 152 = .ok (.iadd, 1) := dk_96 (dk_at dksX6_doAdd_6 12 rfl rfl)
theorem dX6_doAdd_153 : decode cX6_doAdd 153 = .ok (.iastore, 1) := dk_79 (dk_at dksX6_doAdd_6 13 rfl rfl)
theorem dX6_doAdd_154 : decode cX6_doAdd 154 = .ok (.iconst 0, 1) := dk_3 (dk_at dksX6_doAdd_6 14 rfl rfl)
theorem dX6_doAdd_155 : decode cX6_doAdd 155 = .ok (.ireturn, 1) := dk_172 (dk_at dksX6_doAdd_6 15 rfl rfl)
abbrev cX6_in : ByteArray := prog_18_method_3_code
def yX6_in : MethodName := ⟨RX6, "in", "(III)Z"⟩
def dkwX6_in_0 : List UInt8 := [26, 27, 161, 0, 12, 26, 28, 163, 0, 7, 4, 167, 0, 4, 3, 172]
abbrev dktX6_in_0 : List UInt8 := dkwX6_in_0 ++ []
theorem dksX6_in_0 : cX6_in.data.toList.drop 0 = dktX6_in_0 := by decide +kernel
theorem dX6_in_0 : decode cX6_in 0 = .ok (.iload_n 0, 1) := dk_26 (dk_at dksX6_in_0 0 rfl rfl)
theorem dX6_in_1 : decode cX6_in 1 = .ok (.iload_n 1, 1) := dk_27 (dk_at dksX6_in_0 1 rfl rfl)
theorem dX6_in_2 : decode cX6_in 2 = .ok (.if_icmp .lt 12, 3) := dk_161 0 12 (dk_at dksX6_in_0 2 rfl rfl)
theorem dX6_in_5 : decode cX6_in 5 = .ok (.iload_n 0, 1) := dk_26 (dk_at dksX6_in_0 5 rfl rfl)
theorem dX6_in_6 : decode cX6_in 6 = .ok (.iload_n 2, 1) := dk_28 (dk_at dksX6_in_0 6 rfl rfl)
theorem dX6_in_7 : decode cX6_in 7 = .ok (.if_icmp .gt 7, 3) := dk_163 0 7 (dk_at dksX6_in_0 7 rfl rfl)
theorem dX6_in_10 : decode cX6_in 10 = .ok (.iconst 1, 1) := dk_4 (dk_at dksX6_in_0 10 rfl rfl)
theorem dX6_in_11 : decode cX6_in 11 = .ok (.goto 4, 3) := dk_167 0 4 (dk_at dksX6_in_0 11 rfl rfl)
theorem dX6_in_14 : decode cX6_in 14 = .ok (.iconst 0, 1) := dk_3 (dk_at dksX6_in_0 14 rfl rfl)
theorem dX6_in_15 : decode cX6_in 15 = .ok (.ireturn, 1) := dk_172 (dk_at dksX6_in_0 15 rfl rfl)
abbrev cX6_isCue : ByteArray := prog_18_method_12_code
def yX6_isCue : MethodName := ⟨RX6, "isCue", "(I)Z"⟩
def dkwX6_isCue_0 : List UInt8 := [42, 27, 182, 0, 67, 155, 0, 7, 4, 167, 0, 4, 3, 172]
abbrev dktX6_isCue_0 : List UInt8 := dkwX6_isCue_0 ++ []
theorem dksX6_isCue_0 : cX6_isCue.data.toList.drop 0 = dktX6_isCue_0 := by decide +kernel
theorem dX6_isCue_0 : decode cX6_isCue 0 = .ok (.aload_n 0, 1) := dk_42 (dk_at dksX6_isCue_0 0 rfl rfl)
theorem dX6_isCue_1 : decode cX6_isCue 1 = .ok (.iload_n 1, 1) := dk_27 (dk_at dksX6_isCue_0 1 rfl rfl)
theorem dX6_isCue_2 : decode cX6_isCue 2 = .ok (.invokevirtual 67, 3) := dk_182 0 67 (dk_at dksX6_isCue_0 2 rfl rfl)
theorem dX6_isCue_5 : decode cX6_isCue 5 = .ok (.ifCond .lt 7, 3) := dk_155 0 7 (dk_at dksX6_isCue_0 5 rfl rfl)
theorem dX6_isCue_8 : decode cX6_isCue 8 = .ok (.iconst 1, 1) := dk_4 (dk_at dksX6_isCue_0 8 rfl rfl)
theorem dX6_isCue_9 : decode cX6_isCue 9 = .ok (.goto 4, 3) := dk_167 0 4 (dk_at dksX6_isCue_0 9 rfl rfl)
theorem dX6_isCue_12 : decode cX6_isCue 12 = .ok (.iconst 0, 1) := dk_3 (dk_at dksX6_isCue_0 12 rfl rfl)
theorem dX6_isCue_13 : decode cX6_isCue 13 = .ok (.ireturn, 1) := dk_172 (dk_at dksX6_isCue_0 13 rfl rfl)
abbrev cX6_placeOf : ByteArray := prog_18_method_11_code
def yX6_placeOf : MethodName := ⟨RX6, "placeOf", "(I)I"⟩
def dkwX6_placeOf_1 : List UInt8 := [160, 0, 5, 28, 172, 132, 2, 1, 167, 255, 228, 2, 172]
abbrev dktX6_placeOf_1 : List UInt8 := dkwX6_placeOf_1 ++ []
def dkwX6_placeOf_0 : List UInt8 := [3, 61, 28, 42, 180, 0, 9, 3, 46, 162, 0, 24, 42, 180, 0, 9, 28, 184, 0, 63, 46, 27]
abbrev dktX6_placeOf_0 : List UInt8 := dkwX6_placeOf_0 ++ dktX6_placeOf_1
theorem dksX6_placeOf_0 : cX6_placeOf.data.toList.drop 0 = dktX6_placeOf_0 := by decide +kernel
theorem dksX6_placeOf_1 : cX6_placeOf.data.toList.drop 22 = dktX6_placeOf_1 := dk_seg dksX6_placeOf_0 22 rfl rfl
theorem dX6_placeOf_0 : decode cX6_placeOf 0 = .ok (.iconst 0, 1) := dk_3 (dk_at dksX6_placeOf_0 0 rfl rfl)
theorem dX6_placeOf_1 : decode cX6_placeOf 1 = .ok (.istore_n 2, 1) := dk_61 (dk_at dksX6_placeOf_0 1 rfl rfl)
theorem dX6_placeOf_2 : decode cX6_placeOf 2 = .ok (.iload_n 2, 1) := dk_28 (dk_at dksX6_placeOf_0 2 rfl rfl)
theorem dX6_placeOf_3 : decode cX6_placeOf 3 = .ok (.aload_n 0, 1) := dk_42 (dk_at dksX6_placeOf_0 3 rfl rfl)
theorem dX6_placeOf_4 : decode cX6_placeOf 4 = .ok (.getfield 9, 3) := dk_180 0 9 (dk_at dksX6_placeOf_0 4 rfl rfl)
theorem dX6_placeOf_7 : decode cX6_placeOf 7 = .ok (.iconst 0, 1) := dk_3 (dk_at dksX6_placeOf_0 7 rfl rfl)
theorem dX6_placeOf_8 : decode cX6_placeOf 8 = .ok (.iaload, 1) := dk_46 (dk_at dksX6_placeOf_0 8 rfl rfl)
theorem dX6_placeOf_9 : decode cX6_placeOf 9 = .ok (.if_icmp .ge 24, 3) := dk_162 0 24 (dk_at dksX6_placeOf_0 9 rfl rfl)
theorem dX6_placeOf_12 : decode cX6_placeOf 12 = .ok (.aload_n 0, 1) := dk_42 (dk_at dksX6_placeOf_0 12 rfl rfl)
theorem dX6_placeOf_13 : decode cX6_placeOf 13 = .ok (.getfield 9, 3) := dk_180 0 9 (dk_at dksX6_placeOf_0 13 rfl rfl)
theorem dX6_placeOf_16 : decode cX6_placeOf 16 = .ok (.iload_n 2, 1) := dk_28 (dk_at dksX6_placeOf_0 16 rfl rfl)
theorem dX6_placeOf_17 : decode cX6_placeOf 17 = .ok (.invokestatic 63, 3) := dk_184 0 63 (dk_at dksX6_placeOf_0 17 rfl rfl)
theorem dX6_placeOf_20 : decode cX6_placeOf 20 = .ok (.iaload, 1) := dk_46 (dk_at dksX6_placeOf_0 20 rfl rfl)
theorem dX6_placeOf_21 : decode cX6_placeOf 21 = .ok (.iload_n 1, 1) := dk_27 (dk_at dksX6_placeOf_0 21 rfl rfl)
theorem dX6_placeOf_22 : decode cX6_placeOf 22 = .ok (.if_icmp .ne 5, 3) := dk_160 0 5 (dk_at dksX6_placeOf_1 0 rfl rfl)
theorem dX6_placeOf_25 : decode cX6_placeOf 25 = .ok (.iload_n 2, 1) := dk_28 (dk_at dksX6_placeOf_1 3 rfl rfl)
theorem dX6_placeOf_26 : decode cX6_placeOf 26 = .ok (.ireturn, 1) := dk_172 (dk_at dksX6_placeOf_1 4 rfl rfl)
theorem dX6_placeOf_27 : decode cX6_placeOf 27 = .ok (.iinc 2 1, 3) := dk_132 2 1 (dk_at dksX6_placeOf_1 5 rfl rfl)
theorem dX6_placeOf_30 : decode cX6_placeOf 30 = .ok (.goto (-28), 3) := dk_167 255 228 (dk_at dksX6_placeOf_1 8 rfl rfl)
theorem dX6_placeOf_33 : decode cX6_placeOf 33 = .ok (.iconst (-1), 1) := dk_2 (dk_at dksX6_placeOf_1 11 rfl rfl)
theorem dX6_placeOf_34 : decode cX6_placeOf 34 = .ok (.ireturn, 1) := dk_172 (dk_at dksX6_placeOf_1 12 rfl rfl)
abbrev cX6_at : ByteArray := prog_18_method_10_code
def yX6_at : MethodName := ⟨RX6, "at", "(I)I"⟩
def dkwX6_at_0 : List UInt8 := [16, 18, 16, 12, 26, 104, 96, 172]
abbrev dktX6_at_0 : List UInt8 := dkwX6_at_0 ++ []
theorem dksX6_at_0 : cX6_at.data.toList.drop 0 = dktX6_at_0 := by decide +kernel
theorem dX6_at_0 : decode cX6_at 0 = .ok (.bipush 18, 2) := dk_16 18 (dk_at dksX6_at_0 0 rfl rfl)
theorem dX6_at_2 : decode cX6_at 2 = .ok (.bipush 12, 2) := dk_16 12 (dk_at dksX6_at_0 2 rfl rfl)
theorem dX6_at_4 : decode cX6_at 4 = .ok (.iload_n 0, 1) := dk_26 (dk_at dksX6_at_0 4 rfl rfl)
theorem dX6_at_5 : decode cX6_at 5 = .ok (.imul, 1) := dk_104 (dk_at dksX6_at_0 5 rfl rfl)
theorem dX6_at_6 : decode cX6_at 6 = .ok (.iadd, 1) := dk_96 (dk_at dksX6_at_0 6 rfl rfl)
theorem dX6_at_7 : decode cX6_at 7 = .ok (.ireturn, 1) := dk_172 (dk_at dksX6_at_0 7 rfl rfl)
abbrev cX6_change : ByteArray := prog_18_method_6_code
def yX6_change : MethodName := ⟨RX6, "change", "()V"⟩
def dkwX6_change_3 : List UInt8 := [177]
abbrev dktX6_change_3 : List UInt8 := dkwX6_change_3 ++ []
def dkwX6_change_2 : List UInt8 := [17, 1, 206, 42, 180, 0, 45, 104, 17, 1, 206, 184, 0, 48, 42, 89, 180, 0, 45, 4, 96, 181, 0, 45]
abbrev dktX6_change_2 : List UInt8 := dkwX6_change_2 ++ dktX6_change_3
def dkwX6_change_1 : List UInt8 := [184, 0, 48, 42, 89, 180, 0, 45, 4, 100, 181, 0, 45, 42, 180, 0, 13, 3, 42, 180, 0, 19]
abbrev dktX6_change_1 : List UInt8 := dkwX6_change_1 ++ dktX6_change_2
def dkwX6_change_0 : List UInt8 := [42, 180, 0, 45, 16, 6, 160, 0, 31, 42, 180, 0, 19, 17, 1, 206, 42, 180, 0, 19, 3, 17, 9, 6]
abbrev dktX6_change_0 : List UInt8 := dkwX6_change_0 ++ dktX6_change_1
theorem dksX6_change_0 : cX6_change.data.toList.drop 0 = dktX6_change_0 := by decide +kernel
theorem dksX6_change_1 : cX6_change.data.toList.drop 24 = dktX6_change_1 := dk_seg dksX6_change_0 24 rfl rfl
theorem dksX6_change_2 : cX6_change.data.toList.drop 46 = dktX6_change_2 := dk_seg dksX6_change_1 22 rfl rfl
theorem dksX6_change_3 : cX6_change.data.toList.drop 70 = dktX6_change_3 := dk_seg dksX6_change_2 24 rfl rfl
theorem dX6_change_0 : decode cX6_change 0 = .ok (.aload_n 0, 1) := dk_42 (dk_at dksX6_change_0 0 rfl rfl)
theorem dX6_change_1 : decode cX6_change 1 = .ok (.getfield 45, 3) := dk_180 0 45 (dk_at dksX6_change_0 1 rfl rfl)
theorem dX6_change_4 : decode cX6_change 4 = .ok (.bipush 6, 2) := dk_16 6 (dk_at dksX6_change_0 4 rfl rfl)
theorem dX6_change_6 : decode cX6_change 6 = .ok (.if_icmp .ne 31, 3) := dk_160 0 31 (dk_at dksX6_change_0 6 rfl rfl)
theorem dX6_change_9 : decode cX6_change 9 = .ok (.aload_n 0, 1) := dk_42 (dk_at dksX6_change_0 9 rfl rfl)
theorem dX6_change_10 : decode cX6_change 10 = .ok (.getfield 19, 3) := dk_180 0 19 (dk_at dksX6_change_0 10 rfl rfl)
theorem dX6_change_13 : decode cX6_change 13 = .ok (.sipush 462, 3) := dk_17 1 206 (dk_at dksX6_change_0 13 rfl rfl)
theorem dX6_change_16 : decode cX6_change 16 = .ok (.aload_n 0, 1) := dk_42 (dk_at dksX6_change_0 16 rfl rfl)
theorem dX6_change_17 : decode cX6_change 17 = .ok (.getfield 19, 3) := dk_180 0 19 (dk_at dksX6_change_0 17 rfl rfl)
theorem dX6_change_20 : decode cX6_change 20 = .ok (.iconst 0, 1) := dk_3 (dk_at dksX6_change_0 20 rfl rfl)
theorem dX6_change_21 : decode cX6_change 21 = .ok (.sipush 2310, 3) := dk_17 9 6 (dk_at dksX6_change_0 21 rfl rfl)
theorem dX6_change_24 : decode cX6_change 24 = .ok (.invokestatic 48, 3) := dk_184 0 48 (dk_at dksX6_change_1 0 rfl rfl)
theorem dX6_change_27 : decode cX6_change 27 = .ok (.aload_n 0, 1) := dk_42 (dk_at dksX6_change_1 3 rfl rfl)
theorem dX6_change_28 : decode cX6_change 28 = .ok (.dup, 1) := dk_89 (dk_at dksX6_change_1 4 rfl rfl)
theorem dX6_change_29 : decode cX6_change 29 = .ok (.getfield 45, 3) := dk_180 0 45 (dk_at dksX6_change_1 5 rfl rfl)
theorem dX6_change_32 : decode cX6_change 32 = .ok (.iconst 1, 1) := dk_4 (dk_at dksX6_change_1 8 rfl rfl)
theorem dX6_change_33 : decode cX6_change 33 = .ok (.isub, 1) := dk_100 (dk_at dksX6_change_1 9 rfl rfl)
theorem dX6_change_34 : decode cX6_change 34 = .ok (.putfield 45, 3) := dk_181 0 45 (dk_at dksX6_change_1 10 rfl rfl)
theorem dX6_change_37 : decode cX6_change 37 = .ok (.aload_n 0, 1) := dk_42 (dk_at dksX6_change_1 13 rfl rfl)
theorem dX6_change_38 : decode cX6_change 38 = .ok (.getfield 13, 3) := dk_180 0 13 (dk_at dksX6_change_1 14 rfl rfl)
theorem dX6_change_41 : decode cX6_change 41 = .ok (.iconst 0, 1) := dk_3 (dk_at dksX6_change_1 17 rfl rfl)
theorem dX6_change_42 : decode cX6_change 42 = .ok (.aload_n 0, 1) := dk_42 (dk_at dksX6_change_1 18 rfl rfl)
theorem dX6_change_43 : decode cX6_change 43 = .ok (.getfield 19, 3) := dk_180 0 19 (dk_at dksX6_change_1 19 rfl rfl)
theorem dX6_change_46 : decode cX6_change 46 = .ok (.sipush 462, 3) := dk_17 1 206 (dk_at dksX6_change_2 0 rfl rfl)
theorem dX6_change_49 : decode cX6_change 49 = .ok (.aload_n 0, 1) := dk_42 (dk_at dksX6_change_2 3 rfl rfl)
theorem dX6_change_50 : decode cX6_change 50 = .ok (.getfield 45, 3) := dk_180 0 45 (dk_at dksX6_change_2 4 rfl rfl)
theorem dX6_change_53 : decode cX6_change 53 = .ok (.imul, 1) := dk_104 (dk_at dksX6_change_2 7 rfl rfl)
theorem dX6_change_54 : decode cX6_change 54 = .ok (.sipush 462, 3) := dk_17 1 206 (dk_at dksX6_change_2 8 rfl rfl)
theorem dX6_change_57 : decode cX6_change 57 = .ok (.invokestatic 48, 3) := dk_184 0 48 (dk_at dksX6_change_2 11 rfl rfl)
theorem dX6_change_60 : decode cX6_change 60 = .ok (.aload_n 0, 1) := dk_42 (dk_at dksX6_change_2 14 rfl rfl)
theorem dX6_change_61 : decode cX6_change 61 = .ok (.dup, 1) := dk_89 (dk_at dksX6_change_2 15 rfl rfl)
theorem dX6_change_62 : decode cX6_change 62 = .ok (.getfield 45, 3) := dk_180 0 45 (dk_at dksX6_change_2 16 rfl rfl)
theorem dX6_change_65 : decode cX6_change 65 = .ok (.iconst 1, 1) := dk_4 (dk_at dksX6_change_2 19 rfl rfl)
theorem dX6_change_66 : decode cX6_change 66 = .ok (.iadd, 1) := dk_96 (dk_at dksX6_change_2 20 rfl rfl)
theorem dX6_change_67 : decode cX6_change 67 = .ok (.putfield 45, 3) := dk_181 0 45 (dk_at dksX6_change_2 21 rfl rfl)
theorem dX6_change_70 : decode cX6_change 70 = .ok (.return_, 1) := dk_177 (dk_at dksX6_change_3 0 rfl rfl)
abbrev cX6_cueAt : ByteArray := prog_18_method_18_code
def yX6_cueAt : MethodName := ⟨RX6, "cueAt", "(I)I"⟩
def dkwX6_cueAt_1 : List UInt8 := [181, 0, 42, 42, 180, 0, 42, 158, 0, 7, 3, 167, 0, 12, 42, 180, 0, 9, 27, 184, 0, 63, 46, 172]
abbrev dktX6_cueAt_1 : List UInt8 := dkwX6_cueAt_1 ++ []
def dkwX6_cueAt_0 : List UInt8 := [42, 27, 3, 42, 180, 0, 9, 3, 46, 4, 100, 184, 0, 70, 153, 0, 7, 3, 167, 0, 4, 4]
abbrev dktX6_cueAt_0 : List UInt8 := dkwX6_cueAt_0 ++ dktX6_cueAt_1
theorem dksX6_cueAt_0 : cX6_cueAt.data.toList.drop 0 = dktX6_cueAt_0 := by decide +kernel
theorem dksX6_cueAt_1 : cX6_cueAt.data.toList.drop 22 = dktX6_cueAt_1 := dk_seg dksX6_cueAt_0 22 rfl rfl
theorem dX6_cueAt_0 : decode cX6_cueAt 0 = .ok (.aload_n 0, 1) := dk_42 (dk_at dksX6_cueAt_0 0 rfl rfl)
theorem dX6_cueAt_1 : decode cX6_cueAt 1 = .ok (.iload_n 1, 1) := dk_27 (dk_at dksX6_cueAt_0 1 rfl rfl)
theorem dX6_cueAt_2 : decode cX6_cueAt 2 = .ok (.iconst 0, 1) := dk_3 (dk_at dksX6_cueAt_0 2 rfl rfl)
theorem dX6_cueAt_3 : decode cX6_cueAt 3 = .ok (.aload_n 0, 1) := dk_42 (dk_at dksX6_cueAt_0 3 rfl rfl)
theorem dX6_cueAt_4 : decode cX6_cueAt 4 = .ok (.getfield 9, 3) := dk_180 0 9 (dk_at dksX6_cueAt_0 4 rfl rfl)
theorem dX6_cueAt_7 : decode cX6_cueAt 7 = .ok (.iconst 0, 1) := dk_3 (dk_at dksX6_cueAt_0 7 rfl rfl)
theorem dX6_cueAt_8 : decode cX6_cueAt 8 = .ok (.iaload, 1) := dk_46 (dk_at dksX6_cueAt_0 8 rfl rfl)
theorem dX6_cueAt_9 : decode cX6_cueAt 9 = .ok (.iconst 1, 1) := dk_4 (dk_at dksX6_cueAt_0 9 rfl rfl)
theorem dX6_cueAt_10 : decode cX6_cueAt 10 = .ok (.isub, 1) := dk_100 (dk_at dksX6_cueAt_0 10 rfl rfl)
theorem dX6_cueAt_11 : decode cX6_cueAt 11 = .ok (.invokestatic 70, 3) := dk_184 0 70 (dk_at dksX6_cueAt_0 11 rfl rfl)
theorem dX6_cueAt_14 : decode cX6_cueAt 14 = .ok (.ifCond .eq 7, 3) := dk_153 0 7 (dk_at dksX6_cueAt_0 14 rfl rfl)
theorem dX6_cueAt_17 : decode cX6_cueAt 17 = .ok (.iconst 0, 1) := dk_3 (dk_at dksX6_cueAt_0 17 rfl rfl)
theorem dX6_cueAt_18 : decode cX6_cueAt 18 = .ok (.goto 4, 3) := dk_167 0 4 (dk_at dksX6_cueAt_0 18 rfl rfl)
theorem dX6_cueAt_21 : decode cX6_cueAt 21 = .ok (.iconst 1, 1) := dk_4 (dk_at dksX6_cueAt_0 21 rfl rfl)
theorem dX6_cueAt_22 : decode cX6_cueAt 22 = .ok (.putfield 42, 3) := dk_181 0 42 (dk_at dksX6_cueAt_1 0 rfl rfl)
theorem dX6_cueAt_25 : decode cX6_cueAt 25 = .ok (.aload_n 0, 1) := dk_42 (dk_at dksX6_cueAt_1 3 rfl rfl)
theorem dX6_cueAt_26 : decode cX6_cueAt 26 = .ok (.getfield 42, 3) := dk_180 0 42 (dk_at dksX6_cueAt_1 4 rfl rfl)
theorem dX6_cueAt_29 : decode cX6_cueAt 29 = .ok (.ifCond .le 7, 3) := dk_158 0 7 (dk_at dksX6_cueAt_1 7 rfl rfl)
theorem dX6_cueAt_32 : decode cX6_cueAt 32 = .ok (.iconst 0, 1) := dk_3 (dk_at dksX6_cueAt_1 10 rfl rfl)
theorem dX6_cueAt_33 : decode cX6_cueAt 33 = .ok (.goto 12, 3) := dk_167 0 12 (dk_at dksX6_cueAt_1 11 rfl rfl)
theorem dX6_cueAt_36 : decode cX6_cueAt 36 = .ok (.aload_n 0, 1) := dk_42 (dk_at dksX6_cueAt_1 14 rfl rfl)
theorem dX6_cueAt_37 : decode cX6_cueAt 37 = .ok (.getfield 9, 3) := dk_180 0 9 (dk_at dksX6_cueAt_1 15 rfl rfl)
theorem dX6_cueAt_40 : decode cX6_cueAt 40 = .ok (.iload_n 1, 1) := dk_27 (dk_at dksX6_cueAt_1 18 rfl rfl)
theorem dX6_cueAt_41 : decode cX6_cueAt 41 = .ok (.invokestatic 63, 3) := dk_184 0 63 (dk_at dksX6_cueAt_1 19 rfl rfl)
theorem dX6_cueAt_44 : decode cX6_cueAt 44 = .ok (.iaload, 1) := dk_46 (dk_at dksX6_cueAt_1 22 rfl rfl)
theorem dX6_cueAt_45 : decode cX6_cueAt 45 = .ok (.ireturn, 1) := dk_172 (dk_at dksX6_cueAt_1 23 rfl rfl)
abbrev cX6_setFollow : ByteArray := prog_18_method_19_code
def yX6_setFollow : MethodName := ⟨RX6, "setFollow", "(II)I"⟩
def dkwX6_setFollow_3 : List UInt8 := [27, 182, 0, 67, 184, 0, 63, 4, 96, 28, 79, 29, 172]
abbrev dktX6_setFollow_3 : List UInt8 := dkwX6_setFollow_3 ++ []
def dkwX6_setFollow_2 : List UInt8 := [182, 0, 81, 42, 180, 0, 9, 42, 27, 182, 0, 67, 184, 0, 63, 4, 96, 46, 62, 42, 180, 0, 9, 42]
abbrev dktX6_setFollow_2 : List UInt8 := dkwX6_setFollow_2 ++ dktX6_setFollow_3
def dkwX6_setFollow_1 : List UInt8 := [184, 0, 70, 154, 0, 7, 5, 167, 0, 4, 3, 181, 0, 42, 42, 180, 0, 42, 158, 0, 5, 3, 172, 42]
abbrev dktX6_setFollow_1 : List UInt8 := dkwX6_setFollow_1 ++ dktX6_setFollow_2
def dkwX6_setFollow_0 : List UInt8 := [42, 42, 27, 182, 0, 74, 154, 0, 7, 4, 167, 0, 24, 28, 2, 159, 0, 18, 28, 4, 17, 23, 112]
abbrev dktX6_setFollow_0 : List UInt8 := dkwX6_setFollow_0 ++ dktX6_setFollow_1
theorem dksX6_setFollow_0 : cX6_setFollow.data.toList.drop 0 = dktX6_setFollow_0 := by decide +kernel
theorem dksX6_setFollow_1 : cX6_setFollow.data.toList.drop 23 = dktX6_setFollow_1 := dk_seg dksX6_setFollow_0 23 rfl rfl
theorem dksX6_setFollow_2 : cX6_setFollow.data.toList.drop 47 = dktX6_setFollow_2 := dk_seg dksX6_setFollow_1 24 rfl rfl
theorem dksX6_setFollow_3 : cX6_setFollow.data.toList.drop 71 = dktX6_setFollow_3 := dk_seg dksX6_setFollow_2 24 rfl rfl
theorem dX6_setFollow_0 : decode cX6_setFollow 0 = .ok (.aload_n 0, 1) := dk_42 (dk_at dksX6_setFollow_0 0 rfl rfl)
theorem dX6_setFollow_1 : decode cX6_setFollow 1 = .ok (.aload_n 0, 1) := dk_42 (dk_at dksX6_setFollow_0 1 rfl rfl)
theorem dX6_setFollow_2 : decode cX6_setFollow 2 = .ok (.iload_n 1, 1) := dk_27 (dk_at dksX6_setFollow_0 2 rfl rfl)
theorem dX6_setFollow_3 : decode cX6_setFollow 3 = .ok (.invokevirtual 74, 3) := dk_182 0 74 (dk_at dksX6_setFollow_0 3 rfl rfl)
theorem dX6_setFollow_6 : decode cX6_setFollow 6 = .ok (.ifCond .ne 7, 3) := dk_154 0 7 (dk_at dksX6_setFollow_0 6 rfl rfl)
theorem dX6_setFollow_9 : decode cX6_setFollow 9 = .ok (.iconst 1, 1) := dk_4 (dk_at dksX6_setFollow_0 9 rfl rfl)
theorem dX6_setFollow_10 : decode cX6_setFollow 10 = .ok (.goto 24, 3) := dk_167 0 24 (dk_at dksX6_setFollow_0 10 rfl rfl)
theorem dX6_setFollow_13 : decode cX6_setFollow 13 = .ok (.iload_n 2, 1) := dk_28 (dk_at dksX6_setFollow_0 13 rfl rfl)
theorem dX6_setFollow_14 : decode cX6_setFollow 14 = .ok (.iconst (-1), 1) := dk_2 (dk_at dksX6_setFollow_0 14 rfl rfl)
theorem dX6_setFollow_15 : decode cX6_setFollow 15 = .ok (.if_icmp .eq 18, 3) := dk_159 0 18 (dk_at dksX6_setFollow_0 15 rfl rfl)
theorem dX6_setFollow_18 : decode cX6_setFollow 18 = .ok (.iload_n 2, 1) := dk_28 (dk_at dksX6_setFollow_0 18 rfl rfl)
theorem dX6_setFollow_19 : decode cX6_setFollow 19 = .ok (.iconst 1, 1) := dk_4 (dk_at dksX6_setFollow_0 19 rfl rfl)
theorem dX6_setFollow_20 : decode cX6_setFollow 20 = .ok (.sipush 6000, 3) := dk_17 23 112 (dk_at dksX6_setFollow_0 20 rfl rfl)
theorem dX6_setFollow_23 : decode cX6_setFollow 23 = .ok (.invokestatic 70, 3) := dk_184 0 70 (dk_at dksX6_setFollow_1 0 rfl rfl)
theorem dX6_setFollow_26 : decode cX6_setFollow 26 = .ok (.ifCond .ne 7, 3) := dk_154 0 7 (dk_at dksX6_setFollow_1 3 rfl rfl)
theorem dX6_setFollow_29 : decode cX6_setFollow 29 = .ok (.iconst 2, 1) := dk_5 (dk_at dksX6_setFollow_1 6 rfl rfl)
theorem dX6_setFollow_30 : decode cX6_setFollow 30 = .ok (.goto 4, 3) := dk_167 0 4 (dk_at dksX6_setFollow_1 7 rfl rfl)
theorem dX6_setFollow_33 : decode cX6_setFollow 33 = .ok (.iconst 0, 1) := dk_3 (dk_at dksX6_setFollow_1 10 rfl rfl)
theorem dX6_setFollow_34 : decode cX6_setFollow 34 = .ok (.putfield 42, 3) := dk_181 0 42 (dk_at dksX6_setFollow_1 11 rfl rfl)
theorem dX6_setFollow_37 : decode cX6_setFollow 37 = .ok (.aload_n 0, 1) := dk_42 (dk_at dksX6_setFollow_1 14 rfl rfl)
theorem dX6_setFollow_38 : decode cX6_setFollow 38 = .ok (.getfield 42, 3) := dk_180 0 42 (dk_at dksX6_setFollow_1 15 rfl rfl)
theorem dX6_setFollow_41 : decode cX6_setFollow 41 = .ok (.ifCond .le 5, 3) := dk_158 0 5 (dk_at dksX6_setFollow_1 18 rfl rfl)
theorem dX6_setFollow_44 : decode cX6_setFollow 44 = .ok (.iconst 0, 1) := dk_3 (dk_at dksX6_setFollow_1 21 rfl rfl)
theorem dX6_setFollow_45 : decode cX6_setFollow 45 = .ok (.ireturn, 1) := dk_172 (dk_at dksX6_setFollow_1 22 rfl rfl)
theorem dX6_setFollow_46 : decode cX6_setFollow 46 = .ok (.aload_n 0, 1) := dk_42 (dk_at dksX6_setFollow_1 23 rfl rfl)
theorem dX6_setFollow_47 : decode cX6_setFollow 47 = .ok (.invokevirtual 81, 3) := dk_182 0 81 (dk_at dksX6_setFollow_2 0 rfl rfl)
theorem dX6_setFollow_50 : decode cX6_setFollow 50 = .ok (.aload_n 0, 1) := dk_42 (dk_at dksX6_setFollow_2 3 rfl rfl)
theorem dX6_setFollow_51 : decode cX6_setFollow 51 = .ok (.getfield 9, 3) := dk_180 0 9 (dk_at dksX6_setFollow_2 4 rfl rfl)
theorem dX6_setFollow_54 : decode cX6_setFollow 54 = .ok (.aload_n 0, 1) := dk_42 (dk_at dksX6_setFollow_2 7 rfl rfl)
theorem dX6_setFollow_55 : decode cX6_setFollow 55 = .ok (.iload_n 1, 1) := dk_27 (dk_at dksX6_setFollow_2 8 rfl rfl)
theorem dX6_setFollow_56 : decode cX6_setFollow 56 = .ok (.invokevirtual 67, 3) := dk_182 0 67 (dk_at dksX6_setFollow_2 9 rfl rfl)
theorem dX6_setFollow_59 : decode cX6_setFollow 59 = .ok (.invokestatic 63, 3) := dk_184 0 63 (dk_at dksX6_setFollow_2 12 rfl rfl)
theorem dX6_setFollow_62 : decode cX6_setFollow 62 = .ok (.iconst 1, 1) := dk_4 (dk_at dksX6_setFollow_2 15 rfl rfl)
theorem dX6_setFollow_63 : decode cX6_setFollow 63 = .ok (.iadd, 1) := dk_96 (dk_at dksX6_setFollow_2 16 rfl rfl)
theorem dX6_setFollow_64 : decode cX6_setFollow 64 = .ok (.iaload, 1) := dk_46 (dk_at dksX6_setFollow_2 17 rfl rfl)
theorem dX6_setFollow_65 : decode cX6_setFollow 65 = .ok (.istore_n 3, 1) := dk_62 (dk_at dksX6_setFollow_2 18 rfl rfl)
theorem dX6_setFollow_66 : decode cX6_setFollow 66 = .ok (.aload_n 0, 1) := dk_42 (dk_at dksX6_setFollow_2 19 rfl rfl)
theorem dX6_setFollow_67 : decode cX6_setFollow 67 = .ok (.getfield 9, 3) := dk_180 0 9 (dk_at dksX6_setFollow_2 20 rfl rfl)
theorem dX6_setFollow_70 : decode cX6_setFollow 70 = .ok (.aload_n 0, 1) := dk_42 (dk_at dksX6_setFollow_2 23 rfl rfl)
theorem dX6_setFollow_71 : decode cX6_setFollow 71 = .ok (.iload_n 1, 1) := dk_27 (dk_at dksX6_setFollow_3 0 rfl rfl)
theorem dX6_setFollow_72 : decode cX6_setFollow 72 = .ok (.invokevirtual 67, 3) := dk_182 0 67 (dk_at dksX6_setFollow_3 1 rfl rfl)
theorem dX6_setFollow_75 : decode cX6_setFollow 75 = .ok (.invokestatic 63, 3) := dk_184 0 63 (dk_at dksX6_setFollow_3 4 rfl rfl)
theorem dX6_setFollow_78 : decode cX6_setFollow 78 = .ok (.iconst 1, 1) := dk_4 (dk_at dksX6_setFollow_3 7 rfl rfl)
theorem dX6_setFollow_79 : decode cX6_setFollow 79 = .ok (.iadd, 1) := dk_96 (dk_at dksX6_setFollow_3 8 rfl rfl)
theorem dX6_setFollow_80 : decode cX6_setFollow 80 = .ok (.iload_n 2, 1) := dk_28 (dk_at dksX6_setFollow_3 9 rfl rfl)
theorem dX6_setFollow_81 : decode cX6_setFollow 81 = .ok (.iastore, 1) := dk_79 (dk_at dksX6_setFollow_3 10 rfl rfl)
theorem dX6_setFollow_82 : decode cX6_setFollow 82 = .ok (.iload_n 3, 1) := dk_29 (dk_at dksX6_setFollow_3 11 rfl rfl)
theorem dX6_setFollow_83 : decode cX6_setFollow 83 = .ok (.ireturn, 1) := dk_172 (dk_at dksX6_setFollow_3 12 rfl rfl)
abbrev cX6_changes : ByteArray := prog_18_method_7_code
def yX6_changes : MethodName := ⟨RX6, "changes", "()V"⟩
def dkwX6_changes_0 : List UInt8 := [42, 182, 0, 54, 42, 182, 0, 57, 177]
abbrev dktX6_changes_0 : List UInt8 := dkwX6_changes_0 ++ []
theorem dksX6_changes_0 : cX6_changes.data.toList.drop 0 = dktX6_changes_0 := by decide +kernel
theorem dX6_changes_0 : decode cX6_changes 0 = .ok (.aload_n 0, 1) := dk_42 (dk_at dksX6_changes_0 0 rfl rfl)
theorem dX6_changes_1 : decode cX6_changes 1 = .ok (.invokevirtual 54, 3) := dk_182 0 54 (dk_at dksX6_changes_0 1 rfl rfl)
theorem dX6_changes_4 : decode cX6_changes 4 = .ok (.aload_n 0, 1) := dk_42 (dk_at dksX6_changes_0 4 rfl rfl)
theorem dX6_changes_5 : decode cX6_changes 5 = .ok (.invokevirtual 57, 3) := dk_182 0 57 (dk_at dksX6_changes_0 5 rfl rfl)
theorem dX6_changes_8 : decode cX6_changes 8 = .ok (.return_, 1) := dk_177 (dk_at dksX6_changes_0 8 rfl rfl)
abbrev cX6_setBlock : ByteArray := prog_18_method_21_code
def yX6_setBlock : MethodName := ⟨RX6, "setBlock", "(IZ)I"⟩
def dkwX6_setBlock_4 : List UInt8 := [159, 0, 7, 4, 167, 0, 4, 3, 96, 54, 4, 132, 5, 1, 167, 255, 214, 21, 4, 172]
abbrev dktX6_setBlock_4 : List UInt8 := dkwX6_setBlock_4 ++ []
def dkwX6_setBlock_3 : List UInt8 := [162, 0, 41, 21, 4, 42, 29, 21, 5, 182, 0, 84, 42, 180, 0, 22, 16, 12, 29, 104, 21, 5, 96, 46]
abbrev dktX6_setBlock_3 : List UInt8 := dkwX6_setBlock_3 ++ dktX6_setBlock_4
def dkwX6_setBlock_2 : List UInt8 := [5, 96, 28, 153, 0, 7, 4, 167, 0, 4, 3, 79, 3, 54, 4, 3, 54, 5, 21, 5, 16, 12]
abbrev dktX6_setBlock_2 : List UInt8 := dkwX6_setBlock_2 ++ dktX6_setBlock_3
def dkwX6_setBlock_1 : List UInt8 := [3, 172, 42, 182, 0, 81, 42, 182, 0, 88, 42, 27, 182, 0, 67, 62, 42, 180, 0, 9, 29, 184, 0, 63]
abbrev dktX6_setBlock_1 : List UInt8 := dkwX6_setBlock_1 ++ dktX6_setBlock_2
def dkwX6_setBlock_0 : List UInt8 := [42, 42, 27, 182, 0, 74, 153, 0, 7, 3, 167, 0, 4, 4, 181, 0, 42, 42, 180, 0, 42, 158, 0, 5]
abbrev dktX6_setBlock_0 : List UInt8 := dkwX6_setBlock_0 ++ dktX6_setBlock_1
theorem dksX6_setBlock_0 : cX6_setBlock.data.toList.drop 0 = dktX6_setBlock_0 := by decide +kernel
theorem dksX6_setBlock_1 : cX6_setBlock.data.toList.drop 24 = dktX6_setBlock_1 := dk_seg dksX6_setBlock_0 24 rfl rfl
theorem dksX6_setBlock_2 : cX6_setBlock.data.toList.drop 48 = dktX6_setBlock_2 := dk_seg dksX6_setBlock_1 24 rfl rfl
theorem dksX6_setBlock_3 : cX6_setBlock.data.toList.drop 70 = dktX6_setBlock_3 := dk_seg dksX6_setBlock_2 22 rfl rfl
theorem dksX6_setBlock_4 : cX6_setBlock.data.toList.drop 94 = dktX6_setBlock_4 := dk_seg dksX6_setBlock_3 24 rfl rfl
theorem dX6_setBlock_0 : decode cX6_setBlock 0 = .ok (.aload_n 0, 1) := dk_42 (dk_at dksX6_setBlock_0 0 rfl rfl)
theorem dX6_setBlock_1 : decode cX6_setBlock 1 = .ok (.aload_n 0, 1) := dk_42 (dk_at dksX6_setBlock_0 1 rfl rfl)
theorem dX6_setBlock_2 : decode cX6_setBlock 2 = .ok (.iload_n 1, 1) := dk_27 (dk_at dksX6_setBlock_0 2 rfl rfl)
theorem dX6_setBlock_3 : decode cX6_setBlock 3 = .ok (.invokevirtual 74, 3) := dk_182 0 74 (dk_at dksX6_setBlock_0 3 rfl rfl)
theorem dX6_setBlock_6 : decode cX6_setBlock 6 = .ok (.ifCond .eq 7, 3) := dk_153 0 7 (dk_at dksX6_setBlock_0 6 rfl rfl)
theorem dX6_setBlock_9 : decode cX6_setBlock 9 = .ok (.iconst 0, 1) := dk_3 (dk_at dksX6_setBlock_0 9 rfl rfl)
theorem dX6_setBlock_10 : decode cX6_setBlock 10 = .ok (.goto 4, 3) := dk_167 0 4 (dk_at dksX6_setBlock_0 10 rfl rfl)
theorem dX6_setBlock_13 : decode cX6_setBlock 13 = .ok (.iconst 1, 1) := dk_4 (dk_at dksX6_setBlock_0 13 rfl rfl)
theorem dX6_setBlock_14 : decode cX6_setBlock 14 = .ok (.putfield 42, 3) := dk_181 0 42 (dk_at dksX6_setBlock_0 14 rfl rfl)
theorem dX6_setBlock_17 : decode cX6_setBlock 17 = .ok (.aload_n 0, 1) := dk_42 (dk_at dksX6_setBlock_0 17 rfl rfl)
theorem dX6_setBlock_18 : decode cX6_setBlock 18 = .ok (.getfield 42, 3) := dk_180 0 42 (dk_at dksX6_setBlock_0 18 rfl rfl)
theorem dX6_setBlock_21 : decode cX6_setBlock 21 = .ok (.ifCond .le 5, 3) := dk_158 0 5 (dk_at dksX6_setBlock_0 21 rfl rfl)
theorem dX6_setBlock_24 : decode cX6_setBlock 24 = .ok (.iconst 0, 1) := dk_3 (dk_at dksX6_setBlock_1 0 rfl rfl)
theorem dX6_setBlock_25 : decode cX6_setBlock 25 = .ok (.ireturn, 1) := dk_172 (dk_at dksX6_setBlock_1 1 rfl rfl)
theorem dX6_setBlock_26 : decode cX6_setBlock 26 = .ok (.aload_n 0, 1) := dk_42 (dk_at dksX6_setBlock_1 2 rfl rfl)
theorem dX6_setBlock_27 : decode cX6_setBlock 27 = .ok (.invokevirtual 81, 3) := dk_182 0 81 (dk_at dksX6_setBlock_1 3 rfl rfl)
theorem dX6_setBlock_30 : decode cX6_setBlock 30 = .ok (.aload_n 0, 1) := dk_42 (dk_at dksX6_setBlock_1 6 rfl rfl)
theorem dX6_setBlock_31 : decode cX6_setBlock 31 = .ok (.invokevirtual 88, 3) := dk_182 0 88 (dk_at dksX6_setBlock_1 7 rfl rfl)
theorem dX6_setBlock_34 : decode cX6_setBlock 34 = .ok (.aload_n 0, 1) := dk_42 (dk_at dksX6_setBlock_1 10 rfl rfl)
theorem dX6_setBlock_35 : decode cX6_setBlock 35 = .ok (.iload_n 1, 1) := dk_27 (dk_at dksX6_setBlock_1 11 rfl rfl)
theorem dX6_setBlock_36 : decode cX6_setBlock 36 = .ok (.invokevirtual 67, 3) := dk_182 0 67 (dk_at dksX6_setBlock_1 12 rfl rfl)
theorem dX6_setBlock_39 : decode cX6_setBlock 39 = .ok (.istore_n 3, 1) := dk_62 (dk_at dksX6_setBlock_1 15 rfl rfl)
theorem dX6_setBlock_40 : decode cX6_setBlock 40 = .ok (.aload_n 0, 1) := dk_42 (dk_at dksX6_setBlock_1 16 rfl rfl)
theorem dX6_setBlock_41 : decode cX6_setBlock 41 = .ok (.getfield 9, 3) := dk_180 0 9 (dk_at dksX6_setBlock_1 17 rfl rfl)
theorem dX6_setBlock_44 : decode cX6_setBlock 44 = .ok (.iload_n 3, 1) := dk_29 (dk_at dksX6_setBlock_1 20 rfl rfl)
theorem dX6_setBlock_45 : decode cX6_setBlock 45 = .ok (.invokestatic 63, 3) := dk_184 0 63 (dk_at dksX6_setBlock_1 21 rfl rfl)
theorem dX6_setBlock_48 : decode cX6_setBlock 48 = .ok (.iconst 2, 1) := dk_5 (dk_at dksX6_setBlock_2 0 rfl rfl)
theorem dX6_setBlock_49 : decode cX6_setBlock 49 = .ok (.iadd, 1) := dk_96 (dk_at dksX6_setBlock_2 1 rfl rfl)
theorem dX6_setBlock_50 : decode cX6_setBlock 50 = .ok (.iload_n 2, 1) := dk_28 (dk_at dksX6_setBlock_2 2 rfl rfl)
theorem dX6_setBlock_51 : decode cX6_setBlock 51 = .ok (.ifCond .eq 7, 3) := dk_153 0 7 (dk_at dksX6_setBlock_2 3 rfl rfl)
theorem dX6_setBlock_54 : decode cX6_setBlock 54 = .ok (.iconst 1, 1) := dk_4 (dk_at dksX6_setBlock_2 6 rfl rfl)
theorem dX6_setBlock_55 : decode cX6_setBlock 55 = .ok (.goto 4, 3) := dk_167 0 4 (dk_at dksX6_setBlock_2 7 rfl rfl)
theorem dX6_setBlock_58 : decode cX6_setBlock 58 = .ok (.iconst 0, 1) := dk_3 (dk_at dksX6_setBlock_2 10 rfl rfl)
theorem dX6_setBlock_59 : decode cX6_setBlock 59 = .ok (.iastore, 1) := dk_79 (dk_at dksX6_setBlock_2 11 rfl rfl)
theorem dX6_setBlock_60 : decode cX6_setBlock 60 = .ok (.iconst 0, 1) := dk_3 (dk_at dksX6_setBlock_2 12 rfl rfl)
theorem dX6_setBlock_61 : decode cX6_setBlock 61 = .ok (.istore 4, 2) := dk_54 4 (dk_at dksX6_setBlock_2 13 rfl rfl)
theorem dX6_setBlock_63 : decode cX6_setBlock 63 = .ok (.iconst 0, 1) := dk_3 (dk_at dksX6_setBlock_2 15 rfl rfl)
theorem dX6_setBlock_64 : decode cX6_setBlock 64 = .ok (.istore 5, 2) := dk_54 5 (dk_at dksX6_setBlock_2 16 rfl rfl)
theorem dX6_setBlock_66 : decode cX6_setBlock 66 = .ok (.iload 5, 2) := dk_21 5 (dk_at dksX6_setBlock_2 18 rfl rfl)
theorem dX6_setBlock_68 : decode cX6_setBlock 68 = .ok (.bipush 12, 2) := dk_16 12 (dk_at dksX6_setBlock_2 20 rfl rfl)
theorem dX6_setBlock_70 : decode cX6_setBlock 70 = .ok (.if_icmp .ge 41, 3) := dk_162 0 41 (dk_at dksX6_setBlock_3 0 rfl rfl)
theorem dX6_setBlock_73 : decode cX6_setBlock 73 = .ok (.iload 4, 2) := dk_21 4 (dk_at dksX6_setBlock_3 3 rfl rfl)
theorem dX6_setBlock_75 : decode cX6_setBlock 75 = .ok (.aload_n 0, 1) := dk_42 (dk_at dksX6_setBlock_3 5 rfl rfl)
theorem dX6_setBlock_76 : decode cX6_setBlock 76 = .ok (.iload_n 3, 1) := dk_29 (dk_at dksX6_setBlock_3 6 rfl rfl)
theorem dX6_setBlock_77 : decode cX6_setBlock 77 = .ok (.iload 5, 2) := dk_21 5 (dk_at dksX6_setBlock_3 7 rfl rfl)
theorem dX6_setBlock_79 : decode cX6_setBlock 79 = .ok (.invokevirtual 84, 3) := dk_182 0 84 (dk_at dksX6_setBlock_3 9 rfl rfl)
theorem dX6_setBlock_82 : decode cX6_setBlock 82 = .ok (.aload_n 0, 1) := dk_42 (dk_at dksX6_setBlock_3 12 rfl rfl)
theorem dX6_setBlock_83 : decode cX6_setBlock 83 = .ok (.getfield 22, 3) := dk_180 0 22 (dk_at dksX6_setBlock_3 13 rfl rfl)
theorem dX6_setBlock_86 : decode cX6_setBlock 86 = .ok (.bipush 12, 2) := dk_16 12 (dk_at dksX6_setBlock_3 16 rfl rfl)
theorem dX6_setBlock_88 : decode cX6_setBlock 88 = .ok (.iload_n 3, 1) := dk_29 (dk_at dksX6_setBlock_3 18 rfl rfl)
theorem dX6_setBlock_89 : decode cX6_setBlock 89 = .ok (.imul, 1) := dk_104 (dk_at dksX6_setBlock_3 19 rfl rfl)
theorem dX6_setBlock_90 : decode cX6_setBlock 90 = .ok (.iload 5, 2) := dk_21 5 (dk_at dksX6_setBlock_3 20 rfl rfl)
theorem dX6_setBlock_92 : decode cX6_setBlock 92 = .ok (.iadd, 1) := dk_96 (dk_at dksX6_setBlock_3 22 rfl rfl)
theorem dX6_setBlock_93 : decode cX6_setBlock 93 = .ok (.iaload, 1) := dk_46 (dk_at dksX6_setBlock_3 23 rfl rfl)
theorem dX6_setBlock_94 : decode cX6_setBlock 94 = .ok (.if_icmp .eq 7, 3) := dk_159 0 7 (dk_at dksX6_setBlock_4 0 rfl rfl)
theorem dX6_setBlock_97 : decode cX6_setBlock 97 = .ok (.iconst 1, 1) := dk_4 (dk_at dksX6_setBlock_4 3 rfl rfl)
theorem dX6_setBlock_98 : decode cX6_setBlock 98 = .ok (.goto 4, 3) := dk_167 0 4 (dk_at dksX6_setBlock_4 4 rfl rfl)
theorem dX6_setBlock_101 : decode cX6_setBlock 101 = .ok (.iconst 0, 1) := dk_3 (dk_at dksX6_setBlock_4 7 rfl rfl)
theorem dX6_setBlock_102 : decode cX6_setBlock 102 = .ok (.iadd, 1) := dk_96 (dk_at dksX6_setBlock_4 8 rfl rfl)
theorem dX6_setBlock_103 : decode cX6_setBlock 103 = .ok (.istore 4, 2) := dk_54 4 (dk_at dksX6_setBlock_4 9 rfl rfl)
theorem dX6_setBlock_105 : decode cX6_setBlock 105 = .ok (.iinc 5 1, 3) := dk_132 5 1 (dk_at dksX6_setBlock_4 11 rfl rfl)
theorem dX6_setBlock_108 : decode cX6_setBlock 108 = .ok (.goto (-42), 3) := dk_167 255 214 (dk_at dksX6_setBlock_4 14 rfl rfl)
theorem dX6_setBlock_111 : decode cX6_setBlock 111 = .ok (.iload 4, 2) := dk_21 4 (dk_at dksX6_setBlock_4 17 rfl rfl)
theorem dX6_setBlock_113 : decode cX6_setBlock 113 = .ok (.ireturn, 1) := dk_172 (dk_at dksX6_setBlock_4 19 rfl rfl)
abbrev cX6_keepLevels : ByteArray := prog_18_method_20_code
def yX6_keepLevels : MethodName := ⟨RX6, "keepLevels", "()V"⟩
def dkwX6_keepLevels_2 : List UInt8 := [167, 255, 212, 177]
abbrev dktX6_keepLevels_2 : List UInt8 := dkwX6_keepLevels_2 ++ []
def dkwX6_keepLevels_1 : List UInt8 := [16, 12, 27, 104, 28, 96, 42, 27, 28, 182, 0, 84, 79, 132, 2, 1, 167, 255, 230, 132, 1, 1]
abbrev dktX6_keepLevels_1 : List UInt8 := dkwX6_keepLevels_1 ++ dktX6_keepLevels_2
def dkwX6_keepLevels_0 : List UInt8 := [3, 60, 27, 42, 180, 0, 9, 3, 46, 162, 0, 40, 3, 61, 28, 16, 12, 162, 0, 26, 42, 180, 0, 22]
abbrev dktX6_keepLevels_0 : List UInt8 := dkwX6_keepLevels_0 ++ dktX6_keepLevels_1
theorem dksX6_keepLevels_0 : cX6_keepLevels.data.toList.drop 0 = dktX6_keepLevels_0 := by decide +kernel
theorem dksX6_keepLevels_1 : cX6_keepLevels.data.toList.drop 24 = dktX6_keepLevels_1 := dk_seg dksX6_keepLevels_0 24 rfl rfl
theorem dksX6_keepLevels_2 : cX6_keepLevels.data.toList.drop 46 = dktX6_keepLevels_2 := dk_seg dksX6_keepLevels_1 22 rfl rfl
theorem dX6_keepLevels_0 : decode cX6_keepLevels 0 = .ok (.iconst 0, 1) := dk_3 (dk_at dksX6_keepLevels_0 0 rfl rfl)
theorem dX6_keepLevels_1 : decode cX6_keepLevels 1 = .ok (.istore_n 1, 1) := dk_60 (dk_at dksX6_keepLevels_0 1 rfl rfl)
theorem dX6_keepLevels_2 : decode cX6_keepLevels 2 = .ok (.iload_n 1, 1) := dk_27 (dk_at dksX6_keepLevels_0 2 rfl rfl)
theorem dX6_keepLevels_3 : decode cX6_keepLevels 3 = .ok (.aload_n 0, 1) := dk_42 (dk_at dksX6_keepLevels_0 3 rfl rfl)
theorem dX6_keepLevels_4 : decode cX6_keepLevels 4 = .ok (.getfield 9, 3) := dk_180 0 9 (dk_at dksX6_keepLevels_0 4 rfl rfl)
theorem dX6_keepLevels_7 : decode cX6_keepLevels 7 = .ok (.iconst 0, 1) := dk_3 (dk_at dksX6_keepLevels_0 7 rfl rfl)
theorem dX6_keepLevels_8 : decode cX6_keepLevels 8 = .ok (.iaload, 1) := dk_46 (dk_at dksX6_keepLevels_0 8 rfl rfl)
theorem dX6_keepLevels_9 : decode cX6_keepLevels 9 = .ok (.if_icmp .ge 40, 3) := dk_162 0 40 (dk_at dksX6_keepLevels_0 9 rfl rfl)
theorem dX6_keepLevels_12 : decode cX6_keepLevels 12 = .ok (.iconst 0, 1) := dk_3 (dk_at dksX6_keepLevels_0 12 rfl rfl)
theorem dX6_keepLevels_13 : decode cX6_keepLevels 13 = .ok (.istore_n 2, 1) := dk_61 (dk_at dksX6_keepLevels_0 13 rfl rfl)
theorem dX6_keepLevels_14 : decode cX6_keepLevels 14 = .ok (.iload_n 2, 1) := dk_28 (dk_at dksX6_keepLevels_0 14 rfl rfl)
theorem dX6_keepLevels_15 : decode cX6_keepLevels 15 = .ok (.bipush 12, 2) := dk_16 12 (dk_at dksX6_keepLevels_0 15 rfl rfl)
theorem dX6_keepLevels_17 : decode cX6_keepLevels 17 = .ok (.if_icmp .ge 26, 3) := dk_162 0 26 (dk_at dksX6_keepLevels_0 17 rfl rfl)
theorem dX6_keepLevels_20 : decode cX6_keepLevels 20 = .ok (.aload_n 0, 1) := dk_42 (dk_at dksX6_keepLevels_0 20 rfl rfl)
theorem dX6_keepLevels_21 : decode cX6_keepLevels 21 = .ok (.getfield 22, 3) := dk_180 0 22 (dk_at dksX6_keepLevels_0 21 rfl rfl)
theorem dX6_keepLevels_24 : decode cX6_keepLevels 24 = .ok (.bipush 12, 2) := dk_16 12 (dk_at dksX6_keepLevels_1 0 rfl rfl)
theorem dX6_keepLevels_26 : decode cX6_keepLevels 26 = .ok (.iload_n 1, 1) := dk_27 (dk_at dksX6_keepLevels_1 2 rfl rfl)
theorem dX6_keepLevels_27 : decode cX6_keepLevels 27 = .ok (.imul, 1) := dk_104 (dk_at dksX6_keepLevels_1 3 rfl rfl)
theorem dX6_keepLevels_28 : decode cX6_keepLevels 28 = .ok (.iload_n 2, 1) := dk_28 (dk_at dksX6_keepLevels_1 4 rfl rfl)
theorem dX6_keepLevels_29 : decode cX6_keepLevels 29 = .ok (.iadd, 1) := dk_96 (dk_at dksX6_keepLevels_1 5 rfl rfl)
theorem dX6_keepLevels_30 : decode cX6_keepLevels 30 = .ok (.aload_n 0, 1) := dk_42 (dk_at dksX6_keepLevels_1 6 rfl rfl)
theorem dX6_keepLevels_31 : decode cX6_keepLevels 31 = .ok (.iload_n 1, 1) := dk_27 (dk_at dksX6_keepLevels_1 7 rfl rfl)
theorem dX6_keepLevels_32 : decode cX6_keepLevels 32 = .ok (.iload_n 2, 1) := dk_28 (dk_at dksX6_keepLevels_1 8 rfl rfl)
theorem dX6_keepLevels_33 : decode cX6_keepLevels 33 = .ok (.invokevirtual 84, 3) := dk_182 0 84 (dk_at dksX6_keepLevels_1 9 rfl rfl)
theorem dX6_keepLevels_36 : decode cX6_keepLevels 36 = .ok (.iastore, 1) := dk_79 (dk_at dksX6_keepLevels_1 12 rfl rfl)
theorem dX6_keepLevels_37 : decode cX6_keepLevels 37 = .ok (.iinc 2 1, 3) := dk_132 2 1 (dk_at dksX6_keepLevels_1 13 rfl rfl)
theorem dX6_keepLevels_40 : decode cX6_keepLevels 40 = .ok (.goto (-26), 3) := dk_167 255 230 (dk_at dksX6_keepLevels_1 16 rfl rfl)
theorem dX6_keepLevels_43 : decode cX6_keepLevels 43 = .ok (.iinc 1 1, 3) := dk_132 1 1 (dk_at dksX6_keepLevels_1 19 rfl rfl)
theorem dX6_keepLevels_46 : decode cX6_keepLevels 46 = .ok (.goto (-44), 3) := dk_167 255 212 (dk_at dksX6_keepLevels_2 0 rfl rfl)
theorem dX6_keepLevels_49 : decode cX6_keepLevels 49 = .ok (.return_, 1) := dk_177 (dk_at dksX6_keepLevels_2 3 rfl rfl)
abbrev cX6_levelIn : ByteArray := prog_18_method_29_code
def yX6_levelIn : MethodName := ⟨RX6, "levelIn", "(II)I"⟩
def dkwX6_levelIn_4 : List UInt8 := [182, 0, 101, 153, 0, 13, 42, 180, 0, 9, 16, 6, 28, 96, 46, 62, 132, 4, 1, 167, 255, 156, 29, 172]
abbrev dktX6_levelIn_4 : List UInt8 := dkwX6_levelIn_4 ++ []
def dkwX6_levelIn_3 : List UInt8 := [42, 180, 0, 9, 17, 0, 162, 7, 21, 5, 104, 96, 5, 96, 46, 62, 167, 0, 22, 42, 21, 4]
abbrev dktX6_levelIn_3 : List UInt8 := dkwX6_levelIn_3 ++ dktX6_levelIn_4
def dkwX6_levelIn_2 : List UInt8 := [7, 21, 5, 104, 96, 5, 96, 46, 2, 160, 0, 15, 42, 180, 0, 9, 16, 6, 28, 96, 46, 167, 0, 18]
abbrev dktX6_levelIn_2 : List UInt8 := dkwX6_levelIn_2 ++ dktX6_levelIn_3
def dkwX6_levelIn_1 : List UInt8 := [21, 4, 184, 0, 63, 46, 28, 182, 0, 98, 54, 5, 21, 5, 155, 0, 53, 42, 180, 0, 9, 17, 0, 162]
abbrev dktX6_levelIn_1 : List UInt8 := dkwX6_levelIn_1 ++ dktX6_levelIn_2
def dkwX6_levelIn_0 : List UInt8 := [42, 180, 0, 9, 16, 6, 28, 96, 46, 62, 3, 54, 4, 21, 4, 27, 163, 0, 100, 42, 42, 180, 0, 9]
abbrev dktX6_levelIn_0 : List UInt8 := dkwX6_levelIn_0 ++ dktX6_levelIn_1
theorem dksX6_levelIn_0 : cX6_levelIn.data.toList.drop 0 = dktX6_levelIn_0 := by decide +kernel
theorem dksX6_levelIn_1 : cX6_levelIn.data.toList.drop 24 = dktX6_levelIn_1 := dk_seg dksX6_levelIn_0 24 rfl rfl
theorem dksX6_levelIn_2 : cX6_levelIn.data.toList.drop 48 = dktX6_levelIn_2 := dk_seg dksX6_levelIn_1 24 rfl rfl
theorem dksX6_levelIn_3 : cX6_levelIn.data.toList.drop 72 = dktX6_levelIn_3 := dk_seg dksX6_levelIn_2 24 rfl rfl
theorem dksX6_levelIn_4 : cX6_levelIn.data.toList.drop 94 = dktX6_levelIn_4 := dk_seg dksX6_levelIn_3 22 rfl rfl
theorem dX6_levelIn_0 : decode cX6_levelIn 0 = .ok (.aload_n 0, 1) := dk_42 (dk_at dksX6_levelIn_0 0 rfl rfl)
theorem dX6_levelIn_1 : decode cX6_levelIn 1 = .ok (.getfield 9, 3) := dk_180 0 9 (dk_at dksX6_levelIn_0 1 rfl rfl)
theorem dX6_levelIn_4 : decode cX6_levelIn 4 = .ok (.bipush 6, 2) := dk_16 6 (dk_at dksX6_levelIn_0 4 rfl rfl)
theorem dX6_levelIn_6 : decode cX6_levelIn 6 = .ok (.iload_n 2, 1) := dk_28 (dk_at dksX6_levelIn_0 6 rfl rfl)
theorem dX6_levelIn_7 : decode cX6_levelIn 7 = .ok (.iadd, 1) := dk_96 (dk_at dksX6_levelIn_0 7 rfl rfl)
theorem dX6_levelIn_8 : decode cX6_levelIn 8 = .ok (.iaload, 1) := dk_46 (dk_at dksX6_levelIn_0 8 rfl rfl)
theorem dX6_levelIn_9 : decode cX6_levelIn 9 = .ok (.istore_n 3, 1) := dk_62 (dk_at dksX6_levelIn_0 9 rfl rfl)
theorem dX6_levelIn_10 : decode cX6_levelIn 10 = .ok (.iconst 0, 1) := dk_3 (dk_at dksX6_levelIn_0 10 rfl rfl)
theorem dX6_levelIn_11 : decode cX6_levelIn 11 = .ok (.istore 4, 2) := dk_54 4 (dk_at dksX6_levelIn_0 11 rfl rfl)
theorem dX6_levelIn_13 : decode cX6_levelIn 13 = .ok (.iload 4, 2) := dk_21 4 (dk_at dksX6_levelIn_0 13 rfl rfl)
theorem dX6_levelIn_15 : decode cX6_levelIn 15 = .ok (.iload_n 1, 1) := dk_27 (dk_at dksX6_levelIn_0 15 rfl rfl)
theorem dX6_levelIn_16 : decode cX6_levelIn 16 = .ok (.if_icmp .gt 100, 3) := dk_163 0 100 (dk_at dksX6_levelIn_0 16 rfl rfl)
theorem dX6_levelIn_19 : decode cX6_levelIn 19 = .ok (.aload_n 0, 1) := dk_42 (dk_at dksX6_levelIn_0 19 rfl rfl)
theorem dX6_levelIn_20 : decode cX6_levelIn 20 = .ok (.aload_n 0, 1) := dk_42 (dk_at dksX6_levelIn_0 20 rfl rfl)
theorem dX6_levelIn_21 : decode cX6_levelIn 21 = .ok (.getfield 9, 3) := dk_180 0 9 (dk_at dksX6_levelIn_0 21 rfl rfl)
theorem dX6_levelIn_24 : decode cX6_levelIn 24 = .ok (.iload 4, 2) := dk_21 4 (dk_at dksX6_levelIn_1 0 rfl rfl)
theorem dX6_levelIn_26 : decode cX6_levelIn 26 = .ok (.invokestatic 63, 3) := dk_184 0 63 (dk_at dksX6_levelIn_1 2 rfl rfl)
theorem dX6_levelIn_29 : decode cX6_levelIn 29 = .ok (.iaload, 1) := dk_46 (dk_at dksX6_levelIn_1 5 rfl rfl)
theorem dX6_levelIn_30 : decode cX6_levelIn 30 = .ok (.iload_n 2, 1) := dk_28 (dk_at dksX6_levelIn_1 6 rfl rfl)
theorem dX6_levelIn_31 : decode cX6_levelIn 31 = .ok (.invokevirtual 98, 3) := dk_182 0 98 (dk_at dksX6_levelIn_1 7 rfl rfl)
theorem dX6_levelIn_34 : decode cX6_levelIn 34 = .ok (.istore 5, 2) := dk_54 5 (dk_at dksX6_levelIn_1 10 rfl rfl)
theorem dX6_levelIn_36 : decode cX6_levelIn 36 = .ok (.iload 5, 2) := dk_21 5 (dk_at dksX6_levelIn_1 12 rfl rfl)
theorem dX6_levelIn_38 : decode cX6_levelIn 38 = .ok (.ifCond .lt 53, 3) := dk_155 0 53 (dk_at dksX6_levelIn_1 14 rfl rfl)
theorem dX6_levelIn_41 : decode cX6_levelIn 41 = .ok (.aload_n 0, 1) := dk_42 (dk_at dksX6_levelIn_1 17 rfl rfl)
theorem dX6_levelIn_42 : decode cX6_levelIn 42 = .ok (.getfield 9, 3) := dk_180 0 9 (dk_at dksX6_levelIn_1 18 rfl rfl)
theorem dX6_levelIn_45 : decode cX6_levelIn 45 = .ok (.sipush 162, 3) := dk_17 0 162 (dk_at dksX6_levelIn_1 21 rfl rfl)
theorem dX6_levelIn_48 : decode cX6_levelIn 48 = .ok (.iconst 4, 1) := dk_7 (dk_at dksX6_levelIn_2 0 rfl rfl)
theorem dX6_levelIn_49 : decode cX6_levelIn 49 = .ok (.iload 5, 2) := dk_21 5 (dk_at dksX6_levelIn_2 1 rfl rfl)
theorem dX6_levelIn_51 : decode cX6_levelIn 51 = .ok (.imul, 1) := dk_104 (dk_at dksX6_levelIn_2 3 rfl rfl)
theorem dX6_levelIn_52 : decode cX6_levelIn 52 = .ok (.iadd, 1) := dk_96 (dk_at dksX6_levelIn_2 4 rfl rfl)
theorem dX6_levelIn_53 : decode cX6_levelIn 53 = .ok (.iconst 2, 1) := dk_5 (dk_at dksX6_levelIn_2 5 rfl rfl)
theorem dX6_levelIn_54 : decode cX6_levelIn 54 = .ok (.iadd, 1) := dk_96 (dk_at dksX6_levelIn_2 6 rfl rfl)
theorem dX6_levelIn_55 : decode cX6_levelIn 55 = .ok (.iaload, 1) := dk_46 (dk_at dksX6_levelIn_2 7 rfl rfl)
theorem dX6_levelIn_56 : decode cX6_levelIn 56 = .ok (.iconst (-1), 1) := dk_2 (dk_at dksX6_levelIn_2 8 rfl rfl)
theorem dX6_levelIn_57 : decode cX6_levelIn 57 = .ok (.if_icmp .ne 15, 3) := dk_160 0 15 (dk_at dksX6_levelIn_2 9 rfl rfl)
theorem dX6_levelIn_60 : decode cX6_levelIn 60 = .ok (.aload_n 0, 1) := dk_42 (dk_at dksX6_levelIn_2 12 rfl rfl)
theorem dX6_levelIn_61 : decode cX6_levelIn 61 = .ok (.getfield 9, 3) := dk_180 0 9 (dk_at dksX6_levelIn_2 13 rfl rfl)
theorem dX6_levelIn_64 : decode cX6_levelIn 64 = .ok (.bipush 6, 2) := dk_16 6 (dk_at dksX6_levelIn_2 16 rfl rfl)
theorem dX6_levelIn_66 : decode cX6_levelIn 66 = .ok (.iload_n 2, 1) := dk_28 (dk_at dksX6_levelIn_2 18 rfl rfl)
theorem dX6_levelIn_67 : decode cX6_levelIn 67 = .ok (.iadd, 1) := dk_96 (dk_at dksX6_levelIn_2 19 rfl rfl)
theorem dX6_levelIn_68 : decode cX6_levelIn 68 = .ok (.iaload, 1) := dk_46 (dk_at dksX6_levelIn_2 20 rfl rfl)
theorem dX6_levelIn_69 : decode cX6_levelIn 69 = .ok (.goto 18, 3) := dk_167 0 18 (dk_at dksX6_levelIn_2 21 rfl rfl)
theorem dX6_levelIn_72 : decode cX6_levelIn 72 = .ok (.aload_n 0, 1) := dk_42 (dk_at dksX6_levelIn_3 0 rfl rfl)
theorem dX6_levelIn_73 : decode cX6_levelIn 73 = .ok (.getfield 9, 3) := dk_180 0 9 (dk_at dksX6_levelIn_3 1 rfl rfl)
theorem dX6_levelIn_76 : decode cX6_levelIn 76 = .ok (.sipush 162, 3) := dk_17 0 162 (dk_at dksX6_levelIn_3 4 rfl rfl)
theorem dX6_levelIn_79 : decode cX6_levelIn 79 = .ok (.iconst 4, 1) := dk_7 (dk_at dksX6_levelIn_3 7 rfl rfl)
theorem dX6_levelIn_80 : decode cX6_levelIn 80 = .ok (.iload 5, 2) := dk_21 5 (dk_at dksX6_levelIn_3 8 rfl rfl)
theorem dX6_levelIn_82 : decode cX6_levelIn 82 = .ok (.imul, 1) := dk_104 (dk_at dksX6_levelIn_3 10 rfl rfl)
theorem dX6_levelIn_83 : decode cX6_levelIn 83 = .ok (.iadd, 1) := dk_96 (dk_at dksX6_levelIn_3 11 rfl rfl)
theorem dX6_levelIn_84 : decode cX6_levelIn 84 = .ok (.iconst 2, 1) := dk_5 (dk_at dksX6_levelIn_3 12 rfl rfl)
theorem dX6_levelIn_85 : decode cX6_levelIn 85 = .ok (.iadd, 1) := dk_96 (dk_at dksX6_levelIn_3 13 rfl rfl)
theorem dX6_levelIn_86 : decode cX6_levelIn 86 = .ok (.iaload, 1) := dk_46 (dk_at dksX6_levelIn_3 14 rfl rfl)
theorem dX6_levelIn_87 : decode cX6_levelIn 87 = .ok (.istore_n 3, 1) := dk_62 (dk_at dksX6_levelIn_3 15 rfl rfl)
theorem dX6_levelIn_88 : decode cX6_levelIn 88 = .ok (.goto 22, 3) := dk_167 0 22 (dk_at dksX6_levelIn_3 16 rfl rfl)
theorem dX6_levelIn_91 : decode cX6_levelIn 91 = .ok (.aload_n 0, 1) := dk_42 (dk_at dksX6_levelIn_3 19 rfl rfl)
theorem dX6_levelIn_92 : decode cX6_levelIn 92 = .ok (.iload 4, 2) := dk_21 4 (dk_at dksX6_levelIn_3 20 rfl rfl)
theorem dX6_levelIn_94 : decode cX6_levelIn 94 = .ok (.invokevirtual 101, 3) := dk_182 0 101 (dk_at dksX6_levelIn_4 0 rfl rfl)
theorem dX6_levelIn_97 : decode cX6_levelIn 97 = .ok (.ifCond .eq 13, 3) := dk_153 0 13 (dk_at dksX6_levelIn_4 3 rfl rfl)
theorem dX6_levelIn_100 : decode cX6_levelIn 100 = .ok (.aload_n 0, 1) := dk_42 (dk_at dksX6_levelIn_4 6 rfl rfl)
theorem dX6_levelIn_101 : decode cX6_levelIn 101 = .ok (.getfield 9, 3) := dk_180 0 9 (dk_at dksX6_levelIn_4 7 rfl rfl)
theorem dX6_levelIn_104 : decode cX6_levelIn 104 = .ok (.bipush 6, 2) := dk_16 6 (dk_at dksX6_levelIn_4 10 rfl rfl)
theorem dX6_levelIn_106 : decode cX6_levelIn 106 = .ok (.iload_n 2, 1) := dk_28 (dk_at dksX6_levelIn_4 12 rfl rfl)
theorem dX6_levelIn_107 : decode cX6_levelIn 107 = .ok (.iadd, 1) := dk_96 (dk_at dksX6_levelIn_4 13 rfl rfl)
theorem dX6_levelIn_108 : decode cX6_levelIn 108 = .ok (.iaload, 1) := dk_46 (dk_at dksX6_levelIn_4 14 rfl rfl)
theorem dX6_levelIn_109 : decode cX6_levelIn 109 = .ok (.istore_n 3, 1) := dk_62 (dk_at dksX6_levelIn_4 15 rfl rfl)
theorem dX6_levelIn_110 : decode cX6_levelIn 110 = .ok (.iinc 4 1, 3) := dk_132 4 1 (dk_at dksX6_levelIn_4 16 rfl rfl)
theorem dX6_levelIn_113 : decode cX6_levelIn 113 = .ok (.goto (-100), 3) := dk_167 255 156 (dk_at dksX6_levelIn_4 19 rfl rfl)
theorem dX6_levelIn_116 : decode cX6_levelIn 116 = .ok (.iload_n 3, 1) := dk_29 (dk_at dksX6_levelIn_4 22 rfl rfl)
theorem dX6_levelIn_117 : decode cX6_levelIn 117 = .ok (.ireturn, 1) := dk_172 (dk_at dksX6_levelIn_4 23 rfl rfl)
abbrev cX6_given : ByteArray := prog_18_method_26_code
def yX6_given : MethodName := ⟨RX6, "given", "(II)I"⟩
def dkwX6_given_2 : List UInt8 := [132, 3, 1, 167, 255, 207, 2, 172]
abbrev dktX6_given_2 : List UInt8 := dkwX6_given_2 ++ []
def dkwX6_given_1 : List UInt8 := [27, 160, 0, 23, 42, 180, 0, 9, 17, 0, 162, 7, 29, 104, 96, 4, 96, 46, 28, 160, 0, 5, 29, 172]
abbrev dktX6_given_1 : List UInt8 := dkwX6_given_1 ++ dktX6_given_2
def dkwX6_given_0 : List UInt8 := [3, 62, 29, 42, 180, 0, 9, 4, 46, 162, 0, 45, 42, 180, 0, 9, 17, 0, 162, 7, 29, 104, 96, 46]
abbrev dktX6_given_0 : List UInt8 := dkwX6_given_0 ++ dktX6_given_1
theorem dksX6_given_0 : cX6_given.data.toList.drop 0 = dktX6_given_0 := by decide +kernel
theorem dksX6_given_1 : cX6_given.data.toList.drop 24 = dktX6_given_1 := dk_seg dksX6_given_0 24 rfl rfl
theorem dksX6_given_2 : cX6_given.data.toList.drop 48 = dktX6_given_2 := dk_seg dksX6_given_1 24 rfl rfl
theorem dX6_given_0 : decode cX6_given 0 = .ok (.iconst 0, 1) := dk_3 (dk_at dksX6_given_0 0 rfl rfl)
theorem dX6_given_1 : decode cX6_given 1 = .ok (.istore_n 3, 1) := dk_62 (dk_at dksX6_given_0 1 rfl rfl)
theorem dX6_given_2 : decode cX6_given 2 = .ok (.iload_n 3, 1) := dk_29 (dk_at dksX6_given_0 2 rfl rfl)
theorem dX6_given_3 : decode cX6_given 3 = .ok (.aload_n 0, 1) := dk_42 (dk_at dksX6_given_0 3 rfl rfl)
theorem dX6_given_4 : decode cX6_given 4 = .ok (.getfield 9, 3) := dk_180 0 9 (dk_at dksX6_given_0 4 rfl rfl)
theorem dX6_given_7 : decode cX6_given 7 = .ok (.iconst 1, 1) := dk_4 (dk_at dksX6_given_0 7 rfl rfl)
theorem dX6_given_8 : decode cX6_given 8 = .ok (.iaload, 1) := dk_46 (dk_at dksX6_given_0 8 rfl rfl)
theorem dX6_given_9 : decode cX6_given 9 = .ok (.if_icmp .ge 45, 3) := dk_162 0 45 (dk_at dksX6_given_0 9 rfl rfl)
theorem dX6_given_12 : decode cX6_given 12 = .ok (.aload_n 0, 1) := dk_42 (dk_at dksX6_given_0 12 rfl rfl)
theorem dX6_given_13 : decode cX6_given 13 = .ok (.getfield 9, 3) := dk_180 0 9 (dk_at dksX6_given_0 13 rfl rfl)
theorem dX6_given_16 : decode cX6_given 16 = .ok (.sipush 162, 3) := dk_17 0 162 (dk_at dksX6_given_0 16 rfl rfl)
theorem dX6_given_19 : decode cX6_given 19 = .ok (.iconst 4, 1) := dk_7 (dk_at dksX6_given_0 19 rfl rfl)
theorem dX6_given_20 : decode cX6_given 20 = .ok (.iload_n 3, 1) := dk_29 (dk_at dksX6_given_0 20 rfl rfl)
theorem dX6_given_21 : decode cX6_given 21 = .ok (.imul, 1) := dk_104 (dk_at dksX6_given_0 21 rfl rfl)
theorem dX6_given_22 : decode cX6_given 22 = .ok (.iadd, 1) := dk_96 (dk_at dksX6_given_0 22 rfl rfl)
theorem dX6_given_23 : decode cX6_given 23 = .ok (.iaload, 1) := dk_46 (dk_at dksX6_given_0 23 rfl rfl)
theorem dX6_given_24 : decode cX6_given 24 = .ok (.iload_n 1, 1) := dk_27 (dk_at dksX6_given_1 0 rfl rfl)
theorem dX6_given_25 : decode cX6_given 25 = .ok (.if_icmp .ne 23, 3) := dk_160 0 23 (dk_at dksX6_given_1 1 rfl rfl)
theorem dX6_given_28 : decode cX6_given 28 = .ok (.aload_n 0, 1) := dk_42 (dk_at dksX6_given_1 4 rfl rfl)
theorem dX6_given_29 : decode cX6_given 29 = .ok (.getfield 9, 3) := dk_180 0 9 (dk_at dksX6_given_1 5 rfl rfl)
theorem dX6_given_32 : decode cX6_given 32 = .ok (.sipush 162, 3) := dk_17 0 162 (dk_at dksX6_given_1 8 rfl rfl)
theorem dX6_given_35 : decode cX6_given 35 = .ok (.iconst 4, 1) := dk_7 (dk_at dksX6_given_1 11 rfl rfl)
theorem dX6_given_36 : decode cX6_given 36 = .ok (.iload_n 3, 1) := dk_29 (dk_at dksX6_given_1 12 rfl rfl)
theorem dX6_given_37 : decode cX6_given 37 = .ok (.imul, 1) := dk_104 (dk_at dksX6_given_1 13 rfl rfl)
theorem dX6_given_38 : decode cX6_given 38 = .ok (.iadd, 1) := dk_96 (dk_at dksX6_given_1 14 rfl rfl)
theorem dX6_given_39 : decode cX6_given 39 = .ok (.iconst 1, 1) := dk_4 (dk_at dksX6_given_1 15 rfl rfl)
theorem dX6_given_40 : decode cX6_given 40 = .ok (.iadd, 1) := dk_96 (dk_at dksX6_given_1 16 rfl rfl)
theorem dX6_given_41 : decode cX6_given 41 = .ok (.iaload, 1) := dk_46 (dk_at dksX6_given_1 17 rfl rfl)
theorem dX6_given_42 : decode cX6_given 42 = .ok (.iload_n 2, 1) := dk_28 (dk_at dksX6_given_1 18 rfl rfl)
theorem dX6_given_43 : decode cX6_given 43 = .ok (.if_icmp .ne 5, 3) := dk_160 0 5 (dk_at dksX6_given_1 19 rfl rfl)
theorem dX6_given_46 : decode cX6_given 46 = .ok (.iload_n 3, 1) := dk_29 (dk_at dksX6_given_1 22 rfl rfl)
theorem dX6_given_47 : decode cX6_given 47 = .ok (.ireturn, 1) := dk_172 (dk_at dksX6_given_1 23 rfl rfl)
theorem dX6_given_48 : decode cX6_given 48 = .ok (.iinc 3 1, 3) := dk_132 3 1 (dk_at dksX6_given_2 0 rfl rfl)
theorem dX6_given_51 : decode cX6_given 51 = .ok (.goto (-49), 3) := dk_167 255 207 (dk_at dksX6_given_2 3 rfl rfl)
theorem dX6_given_54 : decode cX6_given 54 = .ok (.iconst (-1), 1) := dk_2 (dk_at dksX6_given_2 6 rfl rfl)
theorem dX6_given_55 : decode cX6_given 55 = .ok (.ireturn, 1) := dk_172 (dk_at dksX6_given_2 7 rfl rfl)
abbrev cX6_isBlock : ByteArray := prog_18_method_13_code
def yX6_isBlock : MethodName := ⟨RX6, "isBlock", "(I)Z"⟩
def dkwX6_isBlock_0 : List UInt8 := [42, 180, 0, 9, 27, 184, 0, 63, 5, 96, 46, 4, 160, 0, 7, 4, 167, 0, 4, 3, 172]
abbrev dktX6_isBlock_0 : List UInt8 := dkwX6_isBlock_0 ++ []
theorem dksX6_isBlock_0 : cX6_isBlock.data.toList.drop 0 = dktX6_isBlock_0 := by decide +kernel
theorem dX6_isBlock_0 : decode cX6_isBlock 0 = .ok (.aload_n 0, 1) := dk_42 (dk_at dksX6_isBlock_0 0 rfl rfl)
theorem dX6_isBlock_1 : decode cX6_isBlock 1 = .ok (.getfield 9, 3) := dk_180 0 9 (dk_at dksX6_isBlock_0 1 rfl rfl)
theorem dX6_isBlock_4 : decode cX6_isBlock 4 = .ok (.iload_n 1, 1) := dk_27 (dk_at dksX6_isBlock_0 4 rfl rfl)
theorem dX6_isBlock_5 : decode cX6_isBlock 5 = .ok (.invokestatic 63, 3) := dk_184 0 63 (dk_at dksX6_isBlock_0 5 rfl rfl)
theorem dX6_isBlock_8 : decode cX6_isBlock 8 = .ok (.iconst 2, 1) := dk_5 (dk_at dksX6_isBlock_0 8 rfl rfl)
theorem dX6_isBlock_9 : decode cX6_isBlock 9 = .ok (.iadd, 1) := dk_96 (dk_at dksX6_isBlock_0 9 rfl rfl)
theorem dX6_isBlock_10 : decode cX6_isBlock 10 = .ok (.iaload, 1) := dk_46 (dk_at dksX6_isBlock_0 10 rfl rfl)
theorem dX6_isBlock_11 : decode cX6_isBlock 11 = .ok (.iconst 1, 1) := dk_4 (dk_at dksX6_isBlock_0 11 rfl rfl)
theorem dX6_isBlock_12 : decode cX6_isBlock 12 = .ok (.if_icmp .ne 7, 3) := dk_160 0 7 (dk_at dksX6_isBlock_0 12 rfl rfl)
theorem dX6_isBlock_15 : decode cX6_isBlock 15 = .ok (.iconst 1, 1) := dk_4 (dk_at dksX6_isBlock_0 15 rfl rfl)
theorem dX6_isBlock_16 : decode cX6_isBlock 16 = .ok (.goto 4, 3) := dk_167 0 4 (dk_at dksX6_isBlock_0 16 rfl rfl)
theorem dX6_isBlock_19 : decode cX6_isBlock 19 = .ok (.iconst 0, 1) := dk_3 (dk_at dksX6_isBlock_0 19 rfl rfl)
theorem dX6_isBlock_20 : decode cX6_isBlock 20 = .ok (.ireturn, 1) := dk_172 (dk_at dksX6_isBlock_0 20 rfl rfl)
abbrev cX6_setProtected : ByteArray := prog_18_method_22_code
def yX6_setProtected : MethodName := ⟨RX6, "setProtected", "(IZ)Z"⟩
def dkwX6_setProtected_3 : List UInt8 := [79, 21, 4, 172]
abbrev dktX6_setProtected_3 : List UInt8 := dkwX6_setProtected_3 ++ []
def dkwX6_setProtected_2 : List UInt8 := [160, 0, 7, 4, 167, 0, 4, 3, 54, 4, 42, 180, 0, 9, 29, 28, 153, 0, 7, 4, 167, 0, 4, 3]
abbrev dktX6_setProtected_2 : List UInt8 := dkwX6_setProtected_2 ++ dktX6_setProtected_3
def dkwX6_setProtected_1 : List UInt8 := [3, 172, 42, 182, 0, 81, 42, 27, 182, 0, 67, 184, 0, 63, 6, 96, 62, 42, 180, 0, 9, 29, 46, 4]
abbrev dktX6_setProtected_1 : List UInt8 := dkwX6_setProtected_1 ++ dktX6_setProtected_2
def dkwX6_setProtected_0 : List UInt8 := [42, 42, 27, 182, 0, 74, 153, 0, 7, 3, 167, 0, 4, 4, 181, 0, 42, 42, 180, 0, 42, 158, 0, 5]
abbrev dktX6_setProtected_0 : List UInt8 := dkwX6_setProtected_0 ++ dktX6_setProtected_1
theorem dksX6_setProtected_0 : cX6_setProtected.data.toList.drop 0 = dktX6_setProtected_0 := by decide +kernel
theorem dksX6_setProtected_1 : cX6_setProtected.data.toList.drop 24 = dktX6_setProtected_1 := dk_seg dksX6_setProtected_0 24 rfl rfl
theorem dksX6_setProtected_2 : cX6_setProtected.data.toList.drop 48 = dktX6_setProtected_2 := dk_seg dksX6_setProtected_1 24 rfl rfl
theorem dksX6_setProtected_3 : cX6_setProtected.data.toList.drop 72 = dktX6_setProtected_3 := dk_seg dksX6_setProtected_2 24 rfl rfl
theorem dX6_setProtected_0 : decode cX6_setProtected 0 = .ok (.aload_n 0, 1) := dk_42 (dk_at dksX6_setProtected_0 0 rfl rfl)
theorem dX6_setProtected_1 : decode cX6_setProtected 1 = .ok (.aload_n 0, 1) := dk_42 (dk_at dksX6_setProtected_0 1 rfl rfl)
theorem dX6_setProtected_2 : decode cX6_setProtected 2 = .ok (.iload_n 1, 1) := dk_27 (dk_at dksX6_setProtected_0 2 rfl rfl)
theorem dX6_setProtected_3 : decode cX6_setProtected 3 = .ok (.invokevirtual 74, 3) := dk_182 0 74 (dk_at dksX6_setProtected_0 3 rfl rfl)
theorem dX6_setProtected_6 : decode cX6_setProtected 6 = .ok (.ifCond .eq 7, 3) := dk_153 0 7 (dk_at dksX6_setProtected_0 6 rfl rfl)
theorem dX6_setProtected_9 : decode cX6_setProtected 9 = .ok (.iconst 0, 1) := dk_3 (dk_at dksX6_setProtected_0 9 rfl rfl)
theorem dX6_setProtected_10 : decode cX6_setProtected 10 = .ok (.goto 4, 3) := dk_167 0 4 (dk_at dksX6_setProtected_0 10 rfl rfl)
theorem dX6_setProtected_13 : decode cX6_setProtected 13 = .ok (.iconst 1, 1) := dk_4 (dk_at dksX6_setProtected_0 13 rfl rfl)
theorem dX6_setProtected_14 : decode cX6_setProtected 14 = .ok (.putfield 42, 3) := dk_181 0 42 (dk_at dksX6_setProtected_0 14 rfl rfl)
theorem dX6_setProtected_17 : decode cX6_setProtected 17 = .ok (.aload_n 0, 1) := dk_42 (dk_at dksX6_setProtected_0 17 rfl rfl)
theorem dX6_setProtected_18 : decode cX6_setProtected 18 = .ok (.getfield 42, 3) := dk_180 0 42 (dk_at dksX6_setProtected_0 18 rfl rfl)
theorem dX6_setProtected_21 : decode cX6_setProtected 21 = .ok (.ifCond .le 5, 3) := dk_158 0 5 (dk_at dksX6_setProtected_0 21 rfl rfl)
theorem dX6_setProtected_24 : decode cX6_setProtected 24 = .ok (.iconst 0, 1) := dk_3 (dk_at dksX6_setProtected_1 0 rfl rfl)
theorem dX6_setProtected_25 : decode cX6_setProtected 25 = .ok (.ireturn, 1) := dk_172 (dk_at dksX6_setProtected_1 1 rfl rfl)
theorem dX6_setProtected_26 : decode cX6_setProtected 26 = .ok (.aload_n 0, 1) := dk_42 (dk_at dksX6_setProtected_1 2 rfl rfl)
theorem dX6_setProtected_27 : decode cX6_setProtected 27 = .ok (.invokevirtual 81, 3) := dk_182 0 81 (dk_at dksX6_setProtected_1 3 rfl rfl)
theorem dX6_setProtected_30 : decode cX6_setProtected 30 = .ok (.aload_n 0, 1) := dk_42 (dk_at dksX6_setProtected_1 6 rfl rfl)
theorem dX6_setProtected_31 : decode cX6_setProtected 31 = .ok (.iload_n 1, 1) := dk_27 (dk_at dksX6_setProtected_1 7 rfl rfl)
theorem dX6_setProtected_32 : decode cX6_setProtected 32 = .ok (.invokevirtual 67, 3) := dk_182 0 67 (dk_at dksX6_setProtected_1 8 rfl rfl)
theorem dX6_setProtected_35 : decode cX6_setProtected 35 = .ok (.invokestatic 63, 3) := dk_184 0 63 (dk_at dksX6_setProtected_1 11 rfl rfl)
theorem dX6_setProtected_38 : decode cX6_setProtected 38 = .ok (.iconst 3, 1) := dk_6 (dk_at dksX6_setProtected_1 14 rfl rfl)
theorem dX6_setProtected_39 : decode cX6_setProtected 39 = .ok (.iadd, 1) := dk_96 (dk_at dksX6_setProtected_1 15 rfl rfl)
theorem dX6_setProtected_40 : decode cX6_setProtected 40 = .ok (.istore_n 3, 1) := dk_62 (dk_at dksX6_setProtected_1 16 rfl rfl)
theorem dX6_setProtected_41 : decode cX6_setProtected 41 = .ok (.aload_n 0, 1) := dk_42 (dk_at dksX6_setProtected_1 17 rfl rfl)
theorem dX6_setProtected_42 : decode cX6_setProtected 42 = .ok (.getfield 9, 3) := dk_180 0 9 (dk_at dksX6_setProtected_1 18 rfl rfl)
theorem dX6_setProtected_45 : decode cX6_setProtected 45 = .ok (.iload_n 3, 1) := dk_29 (dk_at dksX6_setProtected_1 21 rfl rfl)
theorem dX6_setProtected_46 : decode cX6_setProtected 46 = .ok (.iaload, 1) := dk_46 (dk_at dksX6_setProtected_1 22 rfl rfl)
theorem dX6_setProtected_47 : decode cX6_setProtected 47 = .ok (.iconst 1, 1) := dk_4 (dk_at dksX6_setProtected_1 23 rfl rfl)
theorem dX6_setProtected_48 : decode cX6_setProtected 48 = .ok (.if_icmp .ne 7, 3) := dk_160 0 7 (dk_at dksX6_setProtected_2 0 rfl rfl)
theorem dX6_setProtected_51 : decode cX6_setProtected 51 = .ok (.iconst 1, 1) := dk_4 (dk_at dksX6_setProtected_2 3 rfl rfl)
theorem dX6_setProtected_52 : decode cX6_setProtected 52 = .ok (.goto 4, 3) := dk_167 0 4 (dk_at dksX6_setProtected_2 4 rfl rfl)
theorem dX6_setProtected_55 : decode cX6_setProtected 55 = .ok (.iconst 0, 1) := dk_3 (dk_at dksX6_setProtected_2 7 rfl rfl)
theorem dX6_setProtected_56 : decode cX6_setProtected 56 = .ok (.istore 4, 2) := dk_54 4 (dk_at dksX6_setProtected_2 8 rfl rfl)
theorem dX6_setProtected_58 : decode cX6_setProtected 58 = .ok (.aload_n 0, 1) := dk_42 (dk_at dksX6_setProtected_2 10 rfl rfl)
theorem dX6_setProtected_59 : decode cX6_setProtected 59 = .ok (.getfield 9, 3) := dk_180 0 9 (dk_at dksX6_setProtected_2 11 rfl rfl)
theorem dX6_setProtected_62 : decode cX6_setProtected 62 = .ok (.iload_n 3, 1) := dk_29 (dk_at dksX6_setProtected_2 14 rfl rfl)
theorem dX6_setProtected_63 : decode cX6_setProtected 63 = .ok (.iload_n 2, 1) := dk_28 (dk_at dksX6_setProtected_2 15 rfl rfl)
theorem dX6_setProtected_64 : decode cX6_setProtected 64 = .ok (.ifCond .eq 7, 3) := dk_153 0 7 (dk_at dksX6_setProtected_2 16 rfl rfl)
theorem dX6_setProtected_67 : decode cX6_setProtected 67 = .ok (.iconst 1, 1) := dk_4 (dk_at dksX6_setProtected_2 19 rfl rfl)
theorem dX6_setProtected_68 : decode cX6_setProtected 68 = .ok (.goto 4, 3) := dk_167 0 4 (dk_at dksX6_setProtected_2 20 rfl rfl)
theorem dX6_setProtected_71 : decode cX6_setProtected 71 = .ok (.iconst 0, 1) := dk_3 (dk_at dksX6_setProtected_2 23 rfl rfl)
theorem dX6_setProtected_72 : decode cX6_setProtected 72 = .ok (.iastore, 1) := dk_79 (dk_at dksX6_setProtected_3 0 rfl rfl)
theorem dX6_setProtected_73 : decode cX6_setProtected 73 = .ok (.iload 4, 2) := dk_21 4 (dk_at dksX6_setProtected_3 1 rfl rfl)
theorem dX6_setProtected_75 : decode cX6_setProtected 75 = .ok (.ireturn, 1) := dk_172 (dk_at dksX6_setProtected_3 3 rfl rfl)
abbrev cX6_setPart : ByteArray := prog_18_method_24_code
def yX6_setPart : MethodName := ⟨RX6, "setPart", "(IIZI)I"⟩
def dkwX6_setPart_3 : List UInt8 := [42, 180, 0, 9, 21, 5, 21, 4, 79, 21, 6, 172]
abbrev dktX6_setPart_3 : List UInt8 := dkwX6_setPart_3 ++ []
def dkwX6_setPart_2 : List UInt8 := [3, 172, 42, 182, 0, 81, 42, 27, 28, 29, 182, 0, 94, 54, 5, 42, 180, 0, 9, 21, 5, 46, 54, 6]
abbrev dktX6_setPart_2 : List UInt8 := dkwX6_setPart_2 ++ dktX6_setPart_3
def dkwX6_setPart_1 : List UInt8 := [17, 2, 88, 184, 0, 70, 154, 0, 7, 5, 167, 0, 4, 3, 181, 0, 42, 42, 180, 0, 42, 158, 0, 5]
abbrev dktX6_setPart_1 : List UInt8 := dkwX6_setPart_1 ++ dktX6_setPart_2
def dkwX6_setPart_0 : List UInt8 := [42, 42, 27, 182, 0, 74, 153, 0, 10, 28, 184, 0, 91, 154, 0, 7, 4, 167, 0, 20, 21, 4, 3]
abbrev dktX6_setPart_0 : List UInt8 := dkwX6_setPart_0 ++ dktX6_setPart_1
theorem dksX6_setPart_0 : cX6_setPart.data.toList.drop 0 = dktX6_setPart_0 := by decide +kernel
theorem dksX6_setPart_1 : cX6_setPart.data.toList.drop 23 = dktX6_setPart_1 := dk_seg dksX6_setPart_0 23 rfl rfl
theorem dksX6_setPart_2 : cX6_setPart.data.toList.drop 47 = dktX6_setPart_2 := dk_seg dksX6_setPart_1 24 rfl rfl
theorem dksX6_setPart_3 : cX6_setPart.data.toList.drop 71 = dktX6_setPart_3 := dk_seg dksX6_setPart_2 24 rfl rfl
theorem dX6_setPart_0 : decode cX6_setPart 0 = .ok (.aload_n 0, 1) := dk_42 (dk_at dksX6_setPart_0 0 rfl rfl)
theorem dX6_setPart_1 : decode cX6_setPart 1 = .ok (.aload_n 0, 1) := dk_42 (dk_at dksX6_setPart_0 1 rfl rfl)
theorem dX6_setPart_2 : decode cX6_setPart 2 = .ok (.iload_n 1, 1) := dk_27 (dk_at dksX6_setPart_0 2 rfl rfl)
theorem dX6_setPart_3 : decode cX6_setPart 3 = .ok (.invokevirtual 74, 3) := dk_182 0 74 (dk_at dksX6_setPart_0 3 rfl rfl)
theorem dX6_setPart_6 : decode cX6_setPart 6 = .ok (.ifCond .eq 10, 3) := dk_153 0 10 (dk_at dksX6_setPart_0 6 rfl rfl)
theorem dX6_setPart_9 : decode cX6_setPart 9 = .ok (.iload_n 2, 1) := dk_28 (dk_at dksX6_setPart_0 9 rfl rfl)
theorem dX6_setPart_10 : decode cX6_setPart 10 = .ok (.invokestatic 91, 3) := dk_184 0 91 (dk_at dksX6_setPart_0 10 rfl rfl)
theorem dX6_setPart_13 : decode cX6_setPart 13 = .ok (.ifCond .ne 7, 3) := dk_154 0 7 (dk_at dksX6_setPart_0 13 rfl rfl)
theorem dX6_setPart_16 : decode cX6_setPart 16 = .ok (.iconst 1, 1) := dk_4 (dk_at dksX6_setPart_0 16 rfl rfl)
theorem dX6_setPart_17 : decode cX6_setPart 17 = .ok (.goto 20, 3) := dk_167 0 20 (dk_at dksX6_setPart_0 17 rfl rfl)
theorem dX6_setPart_20 : decode cX6_setPart 20 = .ok (.iload 4, 2) := dk_21 4 (dk_at dksX6_setPart_0 20 rfl rfl)
theorem dX6_setPart_22 : decode cX6_setPart 22 = .ok (.iconst 0, 1) := dk_3 (dk_at dksX6_setPart_0 22 rfl rfl)
theorem dX6_setPart_23 : decode cX6_setPart 23 = .ok (.sipush 600, 3) := dk_17 2 88 (dk_at dksX6_setPart_1 0 rfl rfl)
theorem dX6_setPart_26 : decode cX6_setPart 26 = .ok (.invokestatic 70, 3) := dk_184 0 70 (dk_at dksX6_setPart_1 3 rfl rfl)
theorem dX6_setPart_29 : decode cX6_setPart 29 = .ok (.ifCond .ne 7, 3) := dk_154 0 7 (dk_at dksX6_setPart_1 6 rfl rfl)
theorem dX6_setPart_32 : decode cX6_setPart 32 = .ok (.iconst 2, 1) := dk_5 (dk_at dksX6_setPart_1 9 rfl rfl)
theorem dX6_setPart_33 : decode cX6_setPart 33 = .ok (.goto 4, 3) := dk_167 0 4 (dk_at dksX6_setPart_1 10 rfl rfl)
theorem dX6_setPart_36 : decode cX6_setPart 36 = .ok (.iconst 0, 1) := dk_3 (dk_at dksX6_setPart_1 13 rfl rfl)
theorem dX6_setPart_37 : decode cX6_setPart 37 = .ok (.putfield 42, 3) := dk_181 0 42 (dk_at dksX6_setPart_1 14 rfl rfl)
theorem dX6_setPart_40 : decode cX6_setPart 40 = .ok (.aload_n 0, 1) := dk_42 (dk_at dksX6_setPart_1 17 rfl rfl)
theorem dX6_setPart_41 : decode cX6_setPart 41 = .ok (.getfield 42, 3) := dk_180 0 42 (dk_at dksX6_setPart_1 18 rfl rfl)
theorem dX6_setPart_44 : decode cX6_setPart 44 = .ok (.ifCond .le 5, 3) := dk_158 0 5 (dk_at dksX6_setPart_1 21 rfl rfl)
theorem dX6_setPart_47 : decode cX6_setPart 47 = .ok (.iconst 0, 1) := dk_3 (dk_at dksX6_setPart_2 0 rfl rfl)
theorem dX6_setPart_48 : decode cX6_setPart 48 = .ok (.ireturn, 1) := dk_172 (dk_at dksX6_setPart_2 1 rfl rfl)
theorem dX6_setPart_49 : decode cX6_setPart 49 = .ok (.aload_n 0, 1) := dk_42 (dk_at dksX6_setPart_2 2 rfl rfl)
theorem dX6_setPart_50 : decode cX6_setPart 50 = .ok (.invokevirtual 81, 3) := dk_182 0 81 (dk_at dksX6_setPart_2 3 rfl rfl)
theorem dX6_setPart_53 : decode cX6_setPart 53 = .ok (.aload_n 0, 1) := dk_42 (dk_at dksX6_setPart_2 6 rfl rfl)
theorem dX6_setPart_54 : decode cX6_setPart 54 = .ok (.iload_n 1, 1) := dk_27 (dk_at dksX6_setPart_2 7 rfl rfl)
theorem dX6_setPart_55 : decode cX6_setPart 55 = .ok (.iload_n 2, 1) := dk_28 (dk_at dksX6_setPart_2 8 rfl rfl)
theorem dX6_setPart_56 : decode cX6_setPart 56 = .ok (.iload_n 3, 1) := dk_29 (dk_at dksX6_setPart_2 9 rfl rfl)
theorem dX6_setPart_57 : decode cX6_setPart 57 = .ok (.invokevirtual 94, 3) := dk_182 0 94 (dk_at dksX6_setPart_2 10 rfl rfl)
theorem dX6_setPart_60 : decode cX6_setPart 60 = .ok (.istore 5, 2) := dk_54 5 (dk_at dksX6_setPart_2 13 rfl rfl)
theorem dX6_setPart_62 : decode cX6_setPart 62 = .ok (.aload_n 0, 1) := dk_42 (dk_at dksX6_setPart_2 15 rfl rfl)
theorem dX6_setPart_63 : decode cX6_setPart 63 = .ok (.getfield 9, 3) := dk_180 0 9 (dk_at dksX6_setPart_2 16 rfl rfl)
theorem dX6_setPart_66 : decode cX6_setPart 66 = .ok (.iload 5, 2) := dk_21 5 (dk_at dksX6_setPart_2 19 rfl rfl)
theorem dX6_setPart_68 : decode cX6_setPart 68 = .ok (.iaload, 1) := dk_46 (dk_at dksX6_setPart_2 21 rfl rfl)
theorem dX6_setPart_69 : decode cX6_setPart 69 = .ok (.istore 6, 2) := dk_54 6 (dk_at dksX6_setPart_2 22 rfl rfl)
theorem dX6_setPart_71 : decode cX6_setPart 71 = .ok (.aload_n 0, 1) := dk_42 (dk_at dksX6_setPart_3 0 rfl rfl)
theorem dX6_setPart_72 : decode cX6_setPart 72 = .ok (.getfield 9, 3) := dk_180 0 9 (dk_at dksX6_setPart_3 1 rfl rfl)
theorem dX6_setPart_75 : decode cX6_setPart 75 = .ok (.iload 5, 2) := dk_21 5 (dk_at dksX6_setPart_3 4 rfl rfl)
theorem dX6_setPart_77 : decode cX6_setPart 77 = .ok (.iload 4, 2) := dk_21 4 (dk_at dksX6_setPart_3 6 rfl rfl)
theorem dX6_setPart_79 : decode cX6_setPart 79 = .ok (.iastore, 1) := dk_79 (dk_at dksX6_setPart_3 8 rfl rfl)
theorem dX6_setPart_80 : decode cX6_setPart 80 = .ok (.iload 6, 2) := dk_21 6 (dk_at dksX6_setPart_3 9 rfl rfl)
theorem dX6_setPart_82 : decode cX6_setPart 82 = .ok (.ireturn, 1) := dk_172 (dk_at dksX6_setPart_3 11 rfl rfl)
abbrev cX6_isPart : ByteArray := prog_18_method_15_code
def yX6_isPart : MethodName := ⟨RX6, "isPart", "(I)Z"⟩
def dkwX6_isPart_0 : List UInt8 := [26, 3, 6, 184, 0, 70, 172]
abbrev dktX6_isPart_0 : List UInt8 := dkwX6_isPart_0 ++ []
theorem dksX6_isPart_0 : cX6_isPart.data.toList.drop 0 = dktX6_isPart_0 := by decide +kernel
theorem dX6_isPart_0 : decode cX6_isPart 0 = .ok (.iload_n 0, 1) := dk_26 (dk_at dksX6_isPart_0 0 rfl rfl)
theorem dX6_isPart_1 : decode cX6_isPart 1 = .ok (.iconst 0, 1) := dk_3 (dk_at dksX6_isPart_0 1 rfl rfl)
theorem dX6_isPart_2 : decode cX6_isPart 2 = .ok (.iconst 3, 1) := dk_6 (dk_at dksX6_isPart_0 2 rfl rfl)
theorem dX6_isPart_3 : decode cX6_isPart 3 = .ok (.invokestatic 70, 3) := dk_184 0 70 (dk_at dksX6_isPart_0 3 rfl rfl)
theorem dX6_isPart_6 : decode cX6_isPart 6 = .ok (.ireturn, 1) := dk_172 (dk_at dksX6_isPart_0 6 rfl rfl)
abbrev cX6_partAt : ByteArray := prog_18_method_23_code
def yX6_partAt : MethodName := ⟨RX6, "partAt", "(IIZ)I"⟩
def dkwX6_partAt_1 : List UInt8 := [172]
abbrev dktX6_partAt_1 : List UInt8 := dkwX6_partAt_1 ++ []
def dkwX6_partAt_0 : List UInt8 := [42, 27, 182, 0, 67, 184, 0, 63, 7, 96, 5, 28, 104, 96, 29, 153, 0, 7, 3, 167, 0, 4, 4, 96]
abbrev dktX6_partAt_0 : List UInt8 := dkwX6_partAt_0 ++ dktX6_partAt_1
theorem dksX6_partAt_0 : cX6_partAt.data.toList.drop 0 = dktX6_partAt_0 := by decide +kernel
theorem dksX6_partAt_1 : cX6_partAt.data.toList.drop 24 = dktX6_partAt_1 := dk_seg dksX6_partAt_0 24 rfl rfl
theorem dX6_partAt_0 : decode cX6_partAt 0 = .ok (.aload_n 0, 1) := dk_42 (dk_at dksX6_partAt_0 0 rfl rfl)
theorem dX6_partAt_1 : decode cX6_partAt 1 = .ok (.iload_n 1, 1) := dk_27 (dk_at dksX6_partAt_0 1 rfl rfl)
theorem dX6_partAt_2 : decode cX6_partAt 2 = .ok (.invokevirtual 67, 3) := dk_182 0 67 (dk_at dksX6_partAt_0 2 rfl rfl)
theorem dX6_partAt_5 : decode cX6_partAt 5 = .ok (.invokestatic 63, 3) := dk_184 0 63 (dk_at dksX6_partAt_0 5 rfl rfl)
theorem dX6_partAt_8 : decode cX6_partAt 8 = .ok (.iconst 4, 1) := dk_7 (dk_at dksX6_partAt_0 8 rfl rfl)
theorem dX6_partAt_9 : decode cX6_partAt 9 = .ok (.iadd, 1) := dk_96 (dk_at dksX6_partAt_0 9 rfl rfl)
theorem dX6_partAt_10 : decode cX6_partAt 10 = .ok (.iconst 2, 1) := dk_5 (dk_at dksX6_partAt_0 10 rfl rfl)
theorem dX6_partAt_11 : decode cX6_partAt 11 = .ok (.iload_n 2, 1) := dk_28 (dk_at dksX6_partAt_0 11 rfl rfl)
theorem dX6_partAt_12 : decode cX6_partAt 12 = .ok (.imul, 1) := dk_104 (dk_at dksX6_partAt_0 12 rfl rfl)
theorem dX6_partAt_13 : decode cX6_partAt 13 = .ok (.iadd, 1) := dk_96 (dk_at dksX6_partAt_0 13 rfl rfl)
theorem dX6_partAt_14 : decode cX6_partAt 14 = .ok (.iload_n 3, 1) := dk_29 (dk_at dksX6_partAt_0 14 rfl rfl)
theorem dX6_partAt_15 : decode cX6_partAt 15 = .ok (.ifCond .eq 7, 3) := dk_153 0 7 (dk_at dksX6_partAt_0 15 rfl rfl)
theorem dX6_partAt_18 : decode cX6_partAt 18 = .ok (.iconst 0, 1) := dk_3 (dk_at dksX6_partAt_0 18 rfl rfl)
theorem dX6_partAt_19 : decode cX6_partAt 19 = .ok (.goto 4, 3) := dk_167 0 4 (dk_at dksX6_partAt_0 19 rfl rfl)
theorem dX6_partAt_22 : decode cX6_partAt 22 = .ok (.iconst 1, 1) := dk_4 (dk_at dksX6_partAt_0 22 rfl rfl)
theorem dX6_partAt_23 : decode cX6_partAt 23 = .ok (.iadd, 1) := dk_96 (dk_at dksX6_partAt_0 23 rfl rfl)
theorem dX6_partAt_24 : decode cX6_partAt 24 = .ok (.ireturn, 1) := dk_172 (dk_at dksX6_partAt_1 0 rfl rfl)
abbrev cX6_part : ByteArray := prog_18_method_25_code
def yX6_part : MethodName := ⟨RX6, "part", "(IIZ)I"⟩
def dkwX6_part_1 : List UInt8 := [42, 180, 0, 42, 158, 0, 7, 3, 167, 0, 15, 42, 180, 0, 9, 42, 27, 28, 29, 182, 0, 94, 46, 172]
abbrev dktX6_part_1 : List UInt8 := dkwX6_part_1 ++ []
def dkwX6_part_0 : List UInt8 := [42, 42, 27, 182, 0, 74, 153, 0, 14, 28, 184, 0, 91, 153, 0, 7, 3, 167, 0, 4, 4, 181, 0, 42]
abbrev dktX6_part_0 : List UInt8 := dkwX6_part_0 ++ dktX6_part_1
theorem dksX6_part_0 : cX6_part.data.toList.drop 0 = dktX6_part_0 := by decide +kernel
theorem dksX6_part_1 : cX6_part.data.toList.drop 24 = dktX6_part_1 := dk_seg dksX6_part_0 24 rfl rfl
theorem dX6_part_0 : decode cX6_part 0 = .ok (.aload_n 0, 1) := dk_42 (dk_at dksX6_part_0 0 rfl rfl)
theorem dX6_part_1 : decode cX6_part 1 = .ok (.aload_n 0, 1) := dk_42 (dk_at dksX6_part_0 1 rfl rfl)
theorem dX6_part_2 : decode cX6_part 2 = .ok (.iload_n 1, 1) := dk_27 (dk_at dksX6_part_0 2 rfl rfl)
theorem dX6_part_3 : decode cX6_part 3 = .ok (.invokevirtual 74, 3) := dk_182 0 74 (dk_at dksX6_part_0 3 rfl rfl)
theorem dX6_part_6 : decode cX6_part 6 = .ok (.ifCond .eq 14, 3) := dk_153 0 14 (dk_at dksX6_part_0 6 rfl rfl)
theorem dX6_part_9 : decode cX6_part 9 = .ok (.iload_n 2, 1) := dk_28 (dk_at dksX6_part_0 9 rfl rfl)
theorem dX6_part_10 : decode cX6_part 10 = .ok (.invokestatic 91, 3) := dk_184 0 91 (dk_at dksX6_part_0 10 rfl rfl)
theorem dX6_part_13 : decode cX6_part 13 = .ok (.ifCond .eq 7, 3) := dk_153 0 7 (dk_at dksX6_part_0 13 rfl rfl)
theorem dX6_part_16 : decode cX6_part 16 = .ok (.iconst 0, 1) := dk_3 (dk_at dksX6_part_0 16 rfl rfl)
theorem dX6_part_17 : decode cX6_part 17 = .ok (.goto 4, 3) := dk_167 0 4 (dk_at dksX6_part_0 17 rfl rfl)
theorem dX6_part_20 : decode cX6_part 20 = .ok (.iconst 1, 1) := dk_4 (dk_at dksX6_part_0 20 rfl rfl)
theorem dX6_part_21 : decode cX6_part 21 = .ok (.putfield 42, 3) := dk_181 0 42 (dk_at dksX6_part_0 21 rfl rfl)
theorem dX6_part_24 : decode cX6_part 24 = .ok (.aload_n 0, 1) := dk_42 (dk_at dksX6_part_1 0 rfl rfl)
theorem dX6_part_25 : decode cX6_part 25 = .ok (.getfield 42, 3) := dk_180 0 42 (dk_at dksX6_part_1 1 rfl rfl)
theorem dX6_part_28 : decode cX6_part 28 = .ok (.ifCond .le 7, 3) := dk_158 0 7 (dk_at dksX6_part_1 4 rfl rfl)
theorem dX6_part_31 : decode cX6_part 31 = .ok (.iconst 0, 1) := dk_3 (dk_at dksX6_part_1 7 rfl rfl)
theorem dX6_part_32 : decode cX6_part 32 = .ok (.goto 15, 3) := dk_167 0 15 (dk_at dksX6_part_1 8 rfl rfl)
theorem dX6_part_35 : decode cX6_part 35 = .ok (.aload_n 0, 1) := dk_42 (dk_at dksX6_part_1 11 rfl rfl)
theorem dX6_part_36 : decode cX6_part 36 = .ok (.getfield 9, 3) := dk_180 0 9 (dk_at dksX6_part_1 12 rfl rfl)
theorem dX6_part_39 : decode cX6_part 39 = .ok (.aload_n 0, 1) := dk_42 (dk_at dksX6_part_1 15 rfl rfl)
theorem dX6_part_40 : decode cX6_part 40 = .ok (.iload_n 1, 1) := dk_27 (dk_at dksX6_part_1 16 rfl rfl)
theorem dX6_part_41 : decode cX6_part 41 = .ok (.iload_n 2, 1) := dk_28 (dk_at dksX6_part_1 17 rfl rfl)
theorem dX6_part_42 : decode cX6_part 42 = .ok (.iload_n 3, 1) := dk_29 (dk_at dksX6_part_1 18 rfl rfl)
theorem dX6_part_43 : decode cX6_part 43 = .ok (.invokevirtual 94, 3) := dk_182 0 94 (dk_at dksX6_part_1 19 rfl rfl)
theorem dX6_part_46 : decode cX6_part 46 = .ok (.iaload, 1) := dk_46 (dk_at dksX6_part_1 22 rfl rfl)
theorem dX6_part_47 : decode cX6_part 47 = .ok (.ireturn, 1) := dk_172 (dk_at dksX6_part_1 23 rfl rfl)
abbrev cX6_cue : ByteArray := prog_18_method_34_code
def yX6_cue : MethodName := ⟨RX6, "cue", "(II)I"⟩
def dkwX6_cue_6 : List UInt8 := [21, 4, 167, 0, 5, 21, 5, 172]
abbrev dktX6_cue_6 : List UInt8 := dkwX6_cue_6 ++ []
def dkwX6_cue_5 : List UInt8 := [42, 27, 21, 6, 182, 0, 114, 184, 0, 117, 54, 5, 132, 6, 1, 167, 255, 213, 28, 8, 160, 0, 8]
abbrev dktX6_cue_5 : List UInt8 := dkwX6_cue_5 ++ dktX6_cue_6
def dkwX6_cue_4 : List UInt8 := [162, 0, 42, 42, 29, 21, 6, 182, 0, 110, 153, 0, 26, 21, 4, 4, 21, 6, 120, 128, 54, 4, 21, 5]
abbrev dktX6_cue_4 : List UInt8 := dkwX6_cue_4 ++ dktX6_cue_5
def dkwX6_cue_3 : List UInt8 := [160, 0, 9, 42, 27, 182, 0, 107, 172, 3, 54, 4, 3, 54, 5, 3, 54, 6, 21, 6, 16, 12]
abbrev dktX6_cue_3 : List UInt8 := dkwX6_cue_3 ++ dktX6_cue_4
def dkwX6_cue_2 : List UInt8 := [154, 0, 5, 29, 172, 28, 7, 162, 0, 15, 42, 180, 0, 9, 29, 184, 0, 63, 28, 96, 46, 172, 28, 7]
abbrev dktX6_cue_2 : List UInt8 := dkwX6_cue_2 ++ dktX6_cue_3
def dkwX6_cue_1 : List UInt8 := [167, 0, 4, 3, 181, 0, 42, 42, 180, 0, 42, 158, 0, 5, 3, 172, 42, 27, 182, 0, 67, 62, 28]
abbrev dktX6_cue_1 : List UInt8 := dkwX6_cue_1 ++ dktX6_cue_2
def dkwX6_cue_0 : List UInt8 := [42, 42, 27, 182, 0, 74, 154, 0, 7, 4, 167, 0, 18, 28, 3, 16, 6, 184, 0, 70, 154, 0, 7, 5]
abbrev dktX6_cue_0 : List UInt8 := dkwX6_cue_0 ++ dktX6_cue_1
theorem dksX6_cue_0 : cX6_cue.data.toList.drop 0 = dktX6_cue_0 := by decide +kernel
theorem dksX6_cue_1 : cX6_cue.data.toList.drop 24 = dktX6_cue_1 := dk_seg dksX6_cue_0 24 rfl rfl
theorem dksX6_cue_2 : cX6_cue.data.toList.drop 47 = dktX6_cue_2 := dk_seg dksX6_cue_1 23 rfl rfl
theorem dksX6_cue_3 : cX6_cue.data.toList.drop 71 = dktX6_cue_3 := dk_seg dksX6_cue_2 24 rfl rfl
theorem dksX6_cue_4 : cX6_cue.data.toList.drop 93 = dktX6_cue_4 := dk_seg dksX6_cue_3 22 rfl rfl
theorem dksX6_cue_5 : cX6_cue.data.toList.drop 117 = dktX6_cue_5 := dk_seg dksX6_cue_4 24 rfl rfl
theorem dksX6_cue_6 : cX6_cue.data.toList.drop 140 = dktX6_cue_6 := dk_seg dksX6_cue_5 23 rfl rfl
theorem dX6_cue_0 : decode cX6_cue 0 = .ok (.aload_n 0, 1) := dk_42 (dk_at dksX6_cue_0 0 rfl rfl)
theorem dX6_cue_1 : decode cX6_cue 1 = .ok (.aload_n 0, 1) := dk_42 (dk_at dksX6_cue_0 1 rfl rfl)
theorem dX6_cue_2 : decode cX6_cue 2 = .ok (.iload_n 1, 1) := dk_27 (dk_at dksX6_cue_0 2 rfl rfl)
theorem dX6_cue_3 : decode cX6_cue 3 = .ok (.invokevirtual 74, 3) := dk_182 0 74 (dk_at dksX6_cue_0 3 rfl rfl)
theorem dX6_cue_6 : decode cX6_cue 6 = .ok (.ifCond .ne 7, 3) := dk_154 0 7 (dk_at dksX6_cue_0 6 rfl rfl)
theorem dX6_cue_9 : decode cX6_cue 9 = .ok (.iconst 1, 1) := dk_4 (dk_at dksX6_cue_0 9 rfl rfl)
theorem dX6_cue_10 : decode cX6_cue 10 = .ok (.goto 18, 3) := dk_167 0 18 (dk_at dksX6_cue_0 10 rfl rfl)
theorem dX6_cue_13 : decode cX6_cue 13 = .ok (.iload_n 2, 1) := dk_28 (dk_at dksX6_cue_0 13 rfl rfl)
theorem dX6_cue_14 : decode cX6_cue 14 = .ok (.iconst 0, 1) := dk_3 (dk_at dksX6_cue_0 14 rfl rfl)
theorem dX6_cue_15 : decode cX6_cue 15 = .ok (.bipush 6, 2) := dk_16 6 (dk_at dksX6_cue_0 15 rfl rfl)
theorem dX6_cue_17 : decode cX6_cue 17 = .ok (.invokestatic 70, 3) := dk_184 0 70 (dk_at dksX6_cue_0 17 rfl rfl)
theorem dX6_cue_20 : decode cX6_cue 20 = .ok (.ifCond .ne 7, 3) := dk_154 0 7 (dk_at dksX6_cue_0 20 rfl rfl)
theorem dX6_cue_23 : decode cX6_cue 23 = .ok (.iconst 2, 1) := dk_5 (dk_at dksX6_cue_0 23 rfl rfl)
theorem dX6_cue_24 : decode cX6_cue 24 = .ok (.goto 4, 3) := dk_167 0 4 (dk_at dksX6_cue_1 0 rfl rfl)
theorem dX6_cue_27 : decode cX6_cue 27 = .ok (.iconst 0, 1) := dk_3 (dk_at dksX6_cue_1 3 rfl rfl)
theorem dX6_cue_28 : decode cX6_cue 28 = .ok (.putfield 42, 3) := dk_181 0 42 (dk_at dksX6_cue_1 4 rfl rfl)
theorem dX6_cue_31 : decode cX6_cue 31 = .ok (.aload_n 0, 1) := dk_42 (dk_at dksX6_cue_1 7 rfl rfl)
theorem dX6_cue_32 : decode cX6_cue 32 = .ok (.getfield 42, 3) := dk_180 0 42 (dk_at dksX6_cue_1 8 rfl rfl)
theorem dX6_cue_35 : decode cX6_cue 35 = .ok (.ifCond .le 5, 3) := dk_158 0 5 (dk_at dksX6_cue_1 11 rfl rfl)
theorem dX6_cue_38 : decode cX6_cue 38 = .ok (.iconst 0, 1) := dk_3 (dk_at dksX6_cue_1 14 rfl rfl)
theorem dX6_cue_39 : decode cX6_cue 39 = .ok (.ireturn, 1) := dk_172 (dk_at dksX6_cue_1 15 rfl rfl)
theorem dX6_cue_40 : decode cX6_cue 40 = .ok (.aload_n 0, 1) := dk_42 (dk_at dksX6_cue_1 16 rfl rfl)
theorem dX6_cue_41 : decode cX6_cue 41 = .ok (.iload_n 1, 1) := dk_27 (dk_at dksX6_cue_1 17 rfl rfl)
theorem dX6_cue_42 : decode cX6_cue 42 = .ok (.invokevirtual 67, 3) := dk_182 0 67 (dk_at dksX6_cue_1 18 rfl rfl)
theorem dX6_cue_45 : decode cX6_cue 45 = .ok (.istore_n 3, 1) := dk_62 (dk_at dksX6_cue_1 21 rfl rfl)
theorem dX6_cue_46 : decode cX6_cue 46 = .ok (.iload_n 2, 1) := dk_28 (dk_at dksX6_cue_1 22 rfl rfl)
theorem dX6_cue_47 : decode cX6_cue 47 = .ok (.ifCond .ne 5, 3) := dk_154 0 5 (dk_at dksX6_cue_2 0 rfl rfl)
theorem dX6_cue_50 : decode cX6_cue 50 = .ok (.iload_n 3, 1) := dk_29 (dk_at dksX6_cue_2 3 rfl rfl)
theorem dX6_cue_51 : decode cX6_cue 51 = .ok (.ireturn, 1) := dk_172 (dk_at dksX6_cue_2 4 rfl rfl)
theorem dX6_cue_52 : decode cX6_cue 52 = .ok (.iload_n 2, 1) := dk_28 (dk_at dksX6_cue_2 5 rfl rfl)
theorem dX6_cue_53 : decode cX6_cue 53 = .ok (.iconst 4, 1) := dk_7 (dk_at dksX6_cue_2 6 rfl rfl)
theorem dX6_cue_54 : decode cX6_cue 54 = .ok (.if_icmp .ge 15, 3) := dk_162 0 15 (dk_at dksX6_cue_2 7 rfl rfl)
theorem dX6_cue_57 : decode cX6_cue 57 = .ok (.aload_n 0, 1) := dk_42 (dk_at dksX6_cue_2 10 rfl rfl)
theorem dX6_cue_58 : decode cX6_cue 58 = .ok (.getfield 9, 3) := dk_180 0 9 (dk_at dksX6_cue_2 11 rfl rfl)
theorem dX6_cue_61 : decode cX6_cue 61 = .ok (.iload_n 3, 1) := dk_29 (dk_at dksX6_cue_2 14 rfl rfl)
theorem dX6_cue_62 : decode cX6_cue 62 = .ok (.invokestatic 63, 3) := dk_184 0 63 (dk_at dksX6_cue_2 15 rfl rfl)
theorem dX6_cue_65 : decode cX6_cue 65 = .ok (.iload_n 2, 1) := dk_28 (dk_at dksX6_cue_2 18 rfl rfl)
theorem dX6_cue_66 : decode cX6_cue 66 = .ok (.iadd, 1) := dk_96 (dk_at dksX6_cue_2 19 rfl rfl)
theorem dX6_cue_67 : decode cX6_cue 67 = .ok (.iaload, 1) := dk_46 (dk_at dksX6_cue_2 20 rfl rfl)
theorem dX6_cue_68 : decode cX6_cue 68 = .ok (.ireturn, 1) := dk_172 (dk_at dksX6_cue_2 21 rfl rfl)
theorem dX6_cue_69 : decode cX6_cue 69 = .ok (.iload_n 2, 1) := dk_28 (dk_at dksX6_cue_2 22 rfl rfl)
theorem dX6_cue_70 : decode cX6_cue 70 = .ok (.iconst 4, 1) := dk_7 (dk_at dksX6_cue_2 23 rfl rfl)
theorem dX6_cue_71 : decode cX6_cue 71 = .ok (.if_icmp .ne 9, 3) := dk_160 0 9 (dk_at dksX6_cue_3 0 rfl rfl)
theorem dX6_cue_74 : decode cX6_cue 74 = .ok (.aload_n 0, 1) := dk_42 (dk_at dksX6_cue_3 3 rfl rfl)
theorem dX6_cue_75 : decode cX6_cue 75 = .ok (.iload_n 1, 1) := dk_27 (dk_at dksX6_cue_3 4 rfl rfl)
theorem dX6_cue_76 : decode cX6_cue 76 = .ok (.invokevirtual 107, 3) := dk_182 0 107 (dk_at dksX6_cue_3 5 rfl rfl)
theorem dX6_cue_79 : decode cX6_cue 79 = .ok (.ireturn, 1) := dk_172 (dk_at dksX6_cue_3 8 rfl rfl)
theorem dX6_cue_80 : decode cX6_cue 80 = .ok (.iconst 0, 1) := dk_3 (dk_at dksX6_cue_3 9 rfl rfl)
theorem dX6_cue_81 : decode cX6_cue 81 = .ok (.istore 4, 2) := dk_54 4 (dk_at dksX6_cue_3 10 rfl rfl)
theorem dX6_cue_83 : decode cX6_cue 83 = .ok (.iconst 0, 1) := dk_3 (dk_at dksX6_cue_3 12 rfl rfl)
theorem dX6_cue_84 : decode cX6_cue 84 = .ok (.istore 5, 2) := dk_54 5 (dk_at dksX6_cue_3 13 rfl rfl)
theorem dX6_cue_86 : decode cX6_cue 86 = .ok (.iconst 0, 1) := dk_3 (dk_at dksX6_cue_3 15 rfl rfl)
theorem dX6_cue_87 : decode cX6_cue 87 = .ok (.istore 6, 2) := dk_54 6 (dk_at dksX6_cue_3 16 rfl rfl)
theorem dX6_cue_89 : decode cX6_cue 89 = .ok (.iload 6, 2) := dk_21 6 (dk_at dksX6_cue_3 18 rfl rfl)
theorem dX6_cue_91 : decode cX6_cue 91 = .ok (.bipush 12, 2) := dk_16 12 (dk_at dksX6_cue_3 20 rfl rfl)
theorem dX6_cue_93 : decode cX6_cue 93 = .ok (.if_icmp .ge 42, 3) := dk_162 0 42 (dk_at dksX6_cue_4 0 rfl rfl)
theorem dX6_cue_96 : decode cX6_cue 96 = .ok (.aload_n 0, 1) := dk_42 (dk_at dksX6_cue_4 3 rfl rfl)
theorem dX6_cue_97 : decode cX6_cue 97 = .ok (.iload_n 3, 1) := dk_29 (dk_at dksX6_cue_4 4 rfl rfl)
theorem dX6_cue_98 : decode cX6_cue 98 = .ok (.iload 6, 2) := dk_21 6 (dk_at dksX6_cue_4 5 rfl rfl)
theorem dX6_cue_100 : decode cX6_cue 100 = .ok (.invokevirtual 110, 3) := dk_182 0 110 (dk_at dksX6_cue_4 7 rfl rfl)
theorem dX6_cue_103 : decode cX6_cue 103 = .ok (.ifCond .eq 26, 3) := dk_153 0 26 (dk_at dksX6_cue_4 10 rfl rfl)
theorem dX6_cue_106 : decode cX6_cue 106 = .ok (.iload 4, 2) := dk_21 4 (dk_at dksX6_cue_4 13 rfl rfl)
theorem dX6_cue_108 : decode cX6_cue 108 = .ok (.iconst 1, 1) := dk_4 (dk_at dksX6_cue_4 15 rfl rfl)
theorem dX6_cue_109 : decode cX6_cue 109 = .ok (.iload 6, 2) := dk_21 6 (dk_at dksX6_cue_4 16 rfl rfl)
theorem dX6_cue_111 : decode cX6_cue 111 = .ok (.ishl, 1) := dk_120 (dk_at dksX6_cue_4 18 rfl rfl)
theorem dX6_cue_112 : decode cX6_cue 112 = .ok (.ior, 1) := dk_128 (dk_at dksX6_cue_4 19 rfl rfl)
theorem dX6_cue_113 : decode cX6_cue 113 = .ok (.istore 4, 2) := dk_54 4 (dk_at dksX6_cue_4 20 rfl rfl)
theorem dX6_cue_115 : decode cX6_cue 115 = .ok (.iload 5, 2) := dk_21 5 (dk_at dksX6_cue_4 22 rfl rfl)
theorem dX6_cue_117 : decode cX6_cue 117 = .ok (.aload_n 0, 1) := dk_42 (dk_at dksX6_cue_5 0 rfl rfl)
theorem dX6_cue_118 : decode cX6_cue 118 = .ok (.iload_n 1, 1) := dk_27 (dk_at dksX6_cue_5 1 rfl rfl)
theorem dX6_cue_119 : decode cX6_cue 119 = .ok (.iload 6, 2) := dk_21 6 (dk_at dksX6_cue_5 2 rfl rfl)
theorem dX6_cue_121 : decode cX6_cue 121 = .ok (.invokevirtual 114, 3) := dk_182 0 114 (dk_at dksX6_cue_5 4 rfl rfl)
theorem dX6_cue_124 : decode cX6_cue 124 = .ok (.invokestatic 117, 3) := dk_184 0 117 (dk_at dksX6_cue_5 7 rfl rfl)
theorem dX6_cue_127 : decode cX6_cue 127 = .ok (.istore 5, 2) := dk_54 5 (dk_at dksX6_cue_5 10 rfl rfl)
theorem dX6_cue_129 : decode cX6_cue 129 = .ok (.iinc 6 1, 3) := dk_132 6 1 (dk_at dksX6_cue_5 12 rfl rfl)
theorem dX6_cue_132 : decode cX6_cue 132 = .ok (.goto (-43), 3) := dk_167 255 213 (dk_at dksX6_cue_5 15 rfl rfl)
theorem dX6_cue_135 : decode cX6_cue 135 = .ok (.iload_n 2, 1) := dk_28 (dk_at dksX6_cue_5 18 rfl rfl)
theorem dX6_cue_136 : decode cX6_cue 136 = .ok (.iconst 5, 1) := dk_8 (dk_at dksX6_cue_5 19 rfl rfl)
theorem dX6_cue_137 : decode cX6_cue 137 = .ok (.if_icmp .ne 8, 3) := dk_160 0 8 (dk_at dksX6_cue_5 20 rfl rfl)
theorem dX6_cue_140 : decode cX6_cue 140 = .ok (.iload 4, 2) := dk_21 4 (dk_at dksX6_cue_6 0 rfl rfl)
theorem dX6_cue_142 : decode cX6_cue 142 = .ok (.goto 5, 3) := dk_167 0 5 (dk_at dksX6_cue_6 2 rfl rfl)
theorem dX6_cue_145 : decode cX6_cue 145 = .ok (.iload 5, 2) := dk_21 5 (dk_at dksX6_cue_6 5 rfl rfl)
theorem dX6_cue_147 : decode cX6_cue 147 = .ok (.ireturn, 1) := dk_172 (dk_at dksX6_cue_6 7 rfl rfl)
abbrev cX6_countOf : ByteArray := prog_18_method_33_code
def yX6_countOf : MethodName := ⟨RX6, "countOf", "(I)I"⟩
def dkwX6_countOf_1 : List UInt8 := [104, 96, 46, 27, 160, 0, 7, 4, 167, 0, 4, 3, 96, 61, 132, 3, 1, 167, 255, 219, 28, 172]
abbrev dktX6_countOf_1 : List UInt8 := dkwX6_countOf_1 ++ []
def dkwX6_countOf_0 : List UInt8 := [3, 61, 3, 62, 29, 42, 180, 0, 9, 4, 46, 162, 0, 33, 28, 42, 180, 0, 9, 17, 0, 162, 7, 29]
abbrev dktX6_countOf_0 : List UInt8 := dkwX6_countOf_0 ++ dktX6_countOf_1
theorem dksX6_countOf_0 : cX6_countOf.data.toList.drop 0 = dktX6_countOf_0 := by decide +kernel
theorem dksX6_countOf_1 : cX6_countOf.data.toList.drop 24 = dktX6_countOf_1 := dk_seg dksX6_countOf_0 24 rfl rfl
theorem dX6_countOf_0 : decode cX6_countOf 0 = .ok (.iconst 0, 1) := dk_3 (dk_at dksX6_countOf_0 0 rfl rfl)
theorem dX6_countOf_1 : decode cX6_countOf 1 = .ok (.istore_n 2, 1) := dk_61 (dk_at dksX6_countOf_0 1 rfl rfl)
theorem dX6_countOf_2 : decode cX6_countOf 2 = .ok (.iconst 0, 1) := dk_3 (dk_at dksX6_countOf_0 2 rfl rfl)
theorem dX6_countOf_3 : decode cX6_countOf 3 = .ok (.istore_n 3, 1) := dk_62 (dk_at dksX6_countOf_0 3 rfl rfl)
theorem dX6_countOf_4 : decode cX6_countOf 4 = .ok (.iload_n 3, 1) := dk_29 (dk_at dksX6_countOf_0 4 rfl rfl)
theorem dX6_countOf_5 : decode cX6_countOf 5 = .ok (.aload_n 0, 1) := dk_42 (dk_at dksX6_countOf_0 5 rfl rfl)
theorem dX6_countOf_6 : decode cX6_countOf 6 = .ok (.getfield 9, 3) := dk_180 0 9 (dk_at dksX6_countOf_0 6 rfl rfl)
theorem dX6_countOf_9 : decode cX6_countOf 9 = .ok (.iconst 1, 1) := dk_4 (dk_at dksX6_countOf_0 9 rfl rfl)
theorem dX6_countOf_10 : decode cX6_countOf 10 = .ok (.iaload, 1) := dk_46 (dk_at dksX6_countOf_0 10 rfl rfl)
theorem dX6_countOf_11 : decode cX6_countOf 11 = .ok (.if_icmp .ge 33, 3) := dk_162 0 33 (dk_at dksX6_countOf_0 11 rfl rfl)
theorem dX6_countOf_14 : decode cX6_countOf 14 = .ok (.iload_n 2, 1) := dk_28 (dk_at dksX6_countOf_0 14 rfl rfl)
theorem dX6_countOf_15 : decode cX6_countOf 15 = .ok (.aload_n 0, 1) := dk_42 (dk_at dksX6_countOf_0 15 rfl rfl)
theorem dX6_countOf_16 : decode cX6_countOf 16 = .ok (.getfield 9, 3) := dk_180 0 9 (dk_at dksX6_countOf_0 16 rfl rfl)
theorem dX6_countOf_19 : decode cX6_countOf 19 = .ok (.sipush 162, 3) := dk_17 0 162 (dk_at dksX6_countOf_0 19 rfl rfl)
theorem dX6_countOf_22 : decode cX6_countOf 22 = .ok (.iconst 4, 1) := dk_7 (dk_at dksX6_countOf_0 22 rfl rfl)
theorem dX6_countOf_23 : decode cX6_countOf 23 = .ok (.iload_n 3, 1) := dk_29 (dk_at dksX6_countOf_0 23 rfl rfl)
theorem dX6_countOf_24 : decode cX6_countOf 24 = .ok (.imul, 1) := dk_104 (dk_at dksX6_countOf_1 0 rfl rfl)
theorem dX6_countOf_25 : decode cX6_countOf 25 = .ok (.iadd, 1) := dk_96 (dk_at dksX6_countOf_1 1 rfl rfl)
theorem dX6_countOf_26 : decode cX6_countOf 26 = .ok (.iaload, 1) := dk_46 (dk_at dksX6_countOf_1 2 rfl rfl)
theorem dX6_countOf_27 : decode cX6_countOf 27 = .ok (.iload_n 1, 1) := dk_27 (dk_at dksX6_countOf_1 3 rfl rfl)
theorem dX6_countOf_28 : decode cX6_countOf 28 = .ok (.if_icmp .ne 7, 3) := dk_160 0 7 (dk_at dksX6_countOf_1 4 rfl rfl)
theorem dX6_countOf_31 : decode cX6_countOf 31 = .ok (.iconst 1, 1) := dk_4 (dk_at dksX6_countOf_1 7 rfl rfl)
theorem dX6_countOf_32 : decode cX6_countOf 32 = .ok (.goto 4, 3) := dk_167 0 4 (dk_at dksX6_countOf_1 8 rfl rfl)
theorem dX6_countOf_35 : decode cX6_countOf 35 = .ok (.iconst 0, 1) := dk_3 (dk_at dksX6_countOf_1 11 rfl rfl)
theorem dX6_countOf_36 : decode cX6_countOf 36 = .ok (.iadd, 1) := dk_96 (dk_at dksX6_countOf_1 12 rfl rfl)
theorem dX6_countOf_37 : decode cX6_countOf 37 = .ok (.istore_n 2, 1) := dk_61 (dk_at dksX6_countOf_1 13 rfl rfl)
theorem dX6_countOf_38 : decode cX6_countOf 38 = .ok (.iinc 3 1, 3) := dk_132 3 1 (dk_at dksX6_countOf_1 14 rfl rfl)
theorem dX6_countOf_41 : decode cX6_countOf 41 = .ok (.goto (-37), 3) := dk_167 255 219 (dk_at dksX6_countOf_1 17 rfl rfl)
theorem dX6_countOf_44 : decode cX6_countOf 44 = .ok (.iload_n 2, 1) := dk_28 (dk_at dksX6_countOf_1 20 rfl rfl)
theorem dX6_countOf_45 : decode cX6_countOf 45 = .ok (.ireturn, 1) := dk_172 (dk_at dksX6_countOf_1 21 rfl rfl)
abbrev cX6_moves : ByteArray := prog_18_method_30_code
def yX6_moves : MethodName := ⟨RX6, "moves", "(II)Z"⟩
def dkwX6_moves_1 : List UInt8 := [62, 42, 27, 28, 182, 0, 84, 29, 159, 0, 7, 4, 167, 0, 4, 3, 172]
abbrev dktX6_moves_1 : List UInt8 := dkwX6_moves_1 ++ []
def dkwX6_moves_0 : List UInt8 := [27, 154, 0, 15, 42, 180, 0, 9, 16, 6, 28, 96, 46, 167, 0, 11, 42, 27, 4, 100, 28, 182, 0, 84]
abbrev dktX6_moves_0 : List UInt8 := dkwX6_moves_0 ++ dktX6_moves_1
theorem dksX6_moves_0 : cX6_moves.data.toList.drop 0 = dktX6_moves_0 := by decide +kernel
theorem dksX6_moves_1 : cX6_moves.data.toList.drop 24 = dktX6_moves_1 := dk_seg dksX6_moves_0 24 rfl rfl
theorem dX6_moves_0 : decode cX6_moves 0 = .ok (.iload_n 1, 1) := dk_27 (dk_at dksX6_moves_0 0 rfl rfl)
theorem dX6_moves_1 : decode cX6_moves 1 = .ok (.ifCond .ne 15, 3) := dk_154 0 15 (dk_at dksX6_moves_0 1 rfl rfl)
theorem dX6_moves_4 : decode cX6_moves 4 = .ok (.aload_n 0, 1) := dk_42 (dk_at dksX6_moves_0 4 rfl rfl)
theorem dX6_moves_5 : decode cX6_moves 5 = .ok (.getfield 9, 3) := dk_180 0 9 (dk_at dksX6_moves_0 5 rfl rfl)
theorem dX6_moves_8 : decode cX6_moves 8 = .ok (.bipush 6, 2) := dk_16 6 (dk_at dksX6_moves_0 8 rfl rfl)
theorem dX6_moves_10 : decode cX6_moves 10 = .ok (.iload_n 2, 1) := dk_28 (dk_at dksX6_moves_0 10 rfl rfl)
theorem dX6_moves_11 : decode cX6_moves 11 = .ok (.iadd, 1) := dk_96 (dk_at dksX6_moves_0 11 rfl rfl)
theorem dX6_moves_12 : decode cX6_moves 12 = .ok (.iaload, 1) := dk_46 (dk_at dksX6_moves_0 12 rfl rfl)
theorem dX6_moves_13 : decode cX6_moves 13 = .ok (.goto 11, 3) := dk_167 0 11 (dk_at dksX6_moves_0 13 rfl rfl)
theorem dX6_moves_16 : decode cX6_moves 16 = .ok (.aload_n 0, 1) := dk_42 (dk_at dksX6_moves_0 16 rfl rfl)
theorem dX6_moves_17 : decode cX6_moves 17 = .ok (.iload_n 1, 1) := dk_27 (dk_at dksX6_moves_0 17 rfl rfl)
theorem dX6_moves_18 : decode cX6_moves 18 = .ok (.iconst 1, 1) := dk_4 (dk_at dksX6_moves_0 18 rfl rfl)
theorem dX6_moves_19 : decode cX6_moves 19 = .ok (.isub, 1) := dk_100 (dk_at dksX6_moves_0 19 rfl rfl)
theorem dX6_moves_20 : decode cX6_moves 20 = .ok (.iload_n 2, 1) := dk_28 (dk_at dksX6_moves_0 20 rfl rfl)
theorem dX6_moves_21 : decode cX6_moves 21 = .ok (.invokevirtual 84, 3) := dk_182 0 84 (dk_at dksX6_moves_0 21 rfl rfl)
theorem dX6_moves_24 : decode cX6_moves 24 = .ok (.istore_n 3, 1) := dk_62 (dk_at dksX6_moves_1 0 rfl rfl)
theorem dX6_moves_25 : decode cX6_moves 25 = .ok (.aload_n 0, 1) := dk_42 (dk_at dksX6_moves_1 1 rfl rfl)
theorem dX6_moves_26 : decode cX6_moves 26 = .ok (.iload_n 1, 1) := dk_27 (dk_at dksX6_moves_1 2 rfl rfl)
theorem dX6_moves_27 : decode cX6_moves 27 = .ok (.iload_n 2, 1) := dk_28 (dk_at dksX6_moves_1 3 rfl rfl)
theorem dX6_moves_28 : decode cX6_moves 28 = .ok (.invokevirtual 84, 3) := dk_182 0 84 (dk_at dksX6_moves_1 4 rfl rfl)
theorem dX6_moves_31 : decode cX6_moves 31 = .ok (.iload_n 3, 1) := dk_29 (dk_at dksX6_moves_1 7 rfl rfl)
theorem dX6_moves_32 : decode cX6_moves 32 = .ok (.if_icmp .eq 7, 3) := dk_159 0 7 (dk_at dksX6_moves_1 8 rfl rfl)
theorem dX6_moves_35 : decode cX6_moves 35 = .ok (.iconst 1, 1) := dk_4 (dk_at dksX6_moves_1 11 rfl rfl)
theorem dX6_moves_36 : decode cX6_moves 36 = .ok (.goto 4, 3) := dk_167 0 4 (dk_at dksX6_moves_1 12 rfl rfl)
theorem dX6_moves_39 : decode cX6_moves 39 = .ok (.iconst 0, 1) := dk_3 (dk_at dksX6_moves_1 15 rfl rfl)
theorem dX6_moves_40 : decode cX6_moves 40 = .ok (.ireturn, 1) := dk_172 (dk_at dksX6_moves_1 16 rfl rfl)
abbrev cX6_lengthOf : ByteArray := prog_18_method_32_code
def yX6_lengthOf : MethodName := ⟨RX6, "lengthOf", "(II)I"⟩
def dkwX6_lengthOf_1 : List UInt8 := [27, 29, 3, 182, 0, 94, 46, 96, 172]
abbrev dktX6_lengthOf_1 : List UInt8 := dkwX6_lengthOf_1 ++ []
def dkwX6_lengthOf_0 : List UInt8 := [42, 27, 28, 182, 0, 104, 62, 42, 180, 0, 9, 42, 27, 29, 4, 182, 0, 94, 46, 42, 180, 0, 9, 42]
abbrev dktX6_lengthOf_0 : List UInt8 := dkwX6_lengthOf_0 ++ dktX6_lengthOf_1
theorem dksX6_lengthOf_0 : cX6_lengthOf.data.toList.drop 0 = dktX6_lengthOf_0 := by decide +kernel
theorem dksX6_lengthOf_1 : cX6_lengthOf.data.toList.drop 24 = dktX6_lengthOf_1 := dk_seg dksX6_lengthOf_0 24 rfl rfl
theorem dX6_lengthOf_0 : decode cX6_lengthOf 0 = .ok (.aload_n 0, 1) := dk_42 (dk_at dksX6_lengthOf_0 0 rfl rfl)
theorem dX6_lengthOf_1 : decode cX6_lengthOf 1 = .ok (.iload_n 1, 1) := dk_27 (dk_at dksX6_lengthOf_0 1 rfl rfl)
theorem dX6_lengthOf_2 : decode cX6_lengthOf 2 = .ok (.iload_n 2, 1) := dk_28 (dk_at dksX6_lengthOf_0 2 rfl rfl)
theorem dX6_lengthOf_3 : decode cX6_lengthOf 3 = .ok (.invokevirtual 104, 3) := dk_182 0 104 (dk_at dksX6_lengthOf_0 3 rfl rfl)
theorem dX6_lengthOf_6 : decode cX6_lengthOf 6 = .ok (.istore_n 3, 1) := dk_62 (dk_at dksX6_lengthOf_0 6 rfl rfl)
theorem dX6_lengthOf_7 : decode cX6_lengthOf 7 = .ok (.aload_n 0, 1) := dk_42 (dk_at dksX6_lengthOf_0 7 rfl rfl)
theorem dX6_lengthOf_8 : decode cX6_lengthOf 8 = .ok (.getfield 9, 3) := dk_180 0 9 (dk_at dksX6_lengthOf_0 8 rfl rfl)
theorem dX6_lengthOf_11 : decode cX6_lengthOf 11 = .ok (.aload_n 0, 1) := dk_42 (dk_at dksX6_lengthOf_0 11 rfl rfl)
theorem dX6_lengthOf_12 : decode cX6_lengthOf 12 = .ok (.iload_n 1, 1) := dk_27 (dk_at dksX6_lengthOf_0 12 rfl rfl)
theorem dX6_lengthOf_13 : decode cX6_lengthOf 13 = .ok (.iload_n 3, 1) := dk_29 (dk_at dksX6_lengthOf_0 13 rfl rfl)
theorem dX6_lengthOf_14 : decode cX6_lengthOf 14 = .ok (.iconst 1, 1) := dk_4 (dk_at dksX6_lengthOf_0 14 rfl rfl)
theorem dX6_lengthOf_15 : decode cX6_lengthOf 15 = .ok (.invokevirtual 94, 3) := dk_182 0 94 (dk_at dksX6_lengthOf_0 15 rfl rfl)
theorem dX6_lengthOf_18 : decode cX6_lengthOf 18 = .ok (.iaload, 1) := dk_46 (dk_at dksX6_lengthOf_0 18 rfl rfl)
theorem dX6_lengthOf_19 : decode cX6_lengthOf 19 = .ok (.aload_n 0, 1) := dk_42 (dk_at dksX6_lengthOf_0 19 rfl rfl)
theorem dX6_lengthOf_20 : decode cX6_lengthOf 20 = .ok (.getfield 9, 3) := dk_180 0 9 (dk_at dksX6_lengthOf_0 20 rfl rfl)
theorem dX6_lengthOf_23 : decode cX6_lengthOf 23 = .ok (.aload_n 0, 1) := dk_42 (dk_at dksX6_lengthOf_0 23 rfl rfl)
theorem dX6_lengthOf_24 : decode cX6_lengthOf 24 = .ok (.iload_n 1, 1) := dk_27 (dk_at dksX6_lengthOf_1 0 rfl rfl)
theorem dX6_lengthOf_25 : decode cX6_lengthOf 25 = .ok (.iload_n 3, 1) := dk_29 (dk_at dksX6_lengthOf_1 1 rfl rfl)
theorem dX6_lengthOf_26 : decode cX6_lengthOf 26 = .ok (.iconst 0, 1) := dk_3 (dk_at dksX6_lengthOf_1 2 rfl rfl)
theorem dX6_lengthOf_27 : decode cX6_lengthOf 27 = .ok (.invokevirtual 94, 3) := dk_182 0 94 (dk_at dksX6_lengthOf_1 3 rfl rfl)
theorem dX6_lengthOf_30 : decode cX6_lengthOf 30 = .ok (.iaload, 1) := dk_46 (dk_at dksX6_lengthOf_1 6 rfl rfl)
theorem dX6_lengthOf_31 : decode cX6_lengthOf 31 = .ok (.iadd, 1) := dk_96 (dk_at dksX6_lengthOf_1 7 rfl rfl)
theorem dX6_lengthOf_32 : decode cX6_lengthOf 32 = .ok (.ireturn, 1) := dk_172 (dk_at dksX6_lengthOf_1 8 rfl rfl)
abbrev cX6_partOf : ByteArray := prog_18_method_31_code
def yX6_partOf : MethodName := ⟨RX6, "partOf", "(II)I"⟩
def dkwX6_partOf_1 : List UInt8 := [104, 96, 6, 96, 46, 172]
abbrev dktX6_partOf_1 : List UInt8 := dkwX6_partOf_1 ++ []
def dkwX6_partOf_0 : List UInt8 := [42, 27, 28, 182, 0, 98, 62, 29, 156, 0, 7, 3, 167, 0, 17, 42, 180, 0, 9, 17, 0, 162, 7, 29]
abbrev dktX6_partOf_0 : List UInt8 := dkwX6_partOf_0 ++ dktX6_partOf_1
theorem dksX6_partOf_0 : cX6_partOf.data.toList.drop 0 = dktX6_partOf_0 := by decide +kernel
theorem dksX6_partOf_1 : cX6_partOf.data.toList.drop 24 = dktX6_partOf_1 := dk_seg dksX6_partOf_0 24 rfl rfl
theorem dX6_partOf_0 : decode cX6_partOf 0 = .ok (.aload_n 0, 1) := dk_42 (dk_at dksX6_partOf_0 0 rfl rfl)
theorem dX6_partOf_1 : decode cX6_partOf 1 = .ok (.iload_n 1, 1) := dk_27 (dk_at dksX6_partOf_0 1 rfl rfl)
theorem dX6_partOf_2 : decode cX6_partOf 2 = .ok (.iload_n 2, 1) := dk_28 (dk_at dksX6_partOf_0 2 rfl rfl)
theorem dX6_partOf_3 : decode cX6_partOf 3 = .ok (.invokevirtual 98, 3) := dk_182 0 98 (dk_at dksX6_partOf_0 3 rfl rfl)
theorem dX6_partOf_6 : decode cX6_partOf 6 = .ok (.istore_n 3, 1) := dk_62 (dk_at dksX6_partOf_0 6 rfl rfl)
theorem dX6_partOf_7 : decode cX6_partOf 7 = .ok (.iload_n 3, 1) := dk_29 (dk_at dksX6_partOf_0 7 rfl rfl)
theorem dX6_partOf_8 : decode cX6_partOf 8 = .ok (.ifCond .ge 7, 3) := dk_156 0 7 (dk_at dksX6_partOf_0 8 rfl rfl)
theorem dX6_partOf_11 : decode cX6_partOf 11 = .ok (.iconst 0, 1) := dk_3 (dk_at dksX6_partOf_0 11 rfl rfl)
theorem dX6_partOf_12 : decode cX6_partOf 12 = .ok (.goto 17, 3) := dk_167 0 17 (dk_at dksX6_partOf_0 12 rfl rfl)
theorem dX6_partOf_15 : decode cX6_partOf 15 = .ok (.aload_n 0, 1) := dk_42 (dk_at dksX6_partOf_0 15 rfl rfl)
theorem dX6_partOf_16 : decode cX6_partOf 16 = .ok (.getfield 9, 3) := dk_180 0 9 (dk_at dksX6_partOf_0 16 rfl rfl)
theorem dX6_partOf_19 : decode cX6_partOf 19 = .ok (.sipush 162, 3) := dk_17 0 162 (dk_at dksX6_partOf_0 19 rfl rfl)
theorem dX6_partOf_22 : decode cX6_partOf 22 = .ok (.iconst 4, 1) := dk_7 (dk_at dksX6_partOf_0 22 rfl rfl)
theorem dX6_partOf_23 : decode cX6_partOf 23 = .ok (.iload_n 3, 1) := dk_29 (dk_at dksX6_partOf_0 23 rfl rfl)
theorem dX6_partOf_24 : decode cX6_partOf 24 = .ok (.imul, 1) := dk_104 (dk_at dksX6_partOf_1 0 rfl rfl)
theorem dX6_partOf_25 : decode cX6_partOf 25 = .ok (.iadd, 1) := dk_96 (dk_at dksX6_partOf_1 1 rfl rfl)
theorem dX6_partOf_26 : decode cX6_partOf 26 = .ok (.iconst 3, 1) := dk_6 (dk_at dksX6_partOf_1 2 rfl rfl)
theorem dX6_partOf_27 : decode cX6_partOf 27 = .ok (.iadd, 1) := dk_96 (dk_at dksX6_partOf_1 3 rfl rfl)
theorem dX6_partOf_28 : decode cX6_partOf 28 = .ok (.iaload, 1) := dk_46 (dk_at dksX6_partOf_1 4 rfl rfl)
theorem dX6_partOf_29 : decode cX6_partOf 29 = .ok (.ireturn, 1) := dk_172 (dk_at dksX6_partOf_1 5 rfl rfl)
abbrev cX6_setHome : ByteArray := prog_18_method_35_code
def yX6_setHome : MethodName := ⟨RX6, "setHome", "(II)I"⟩
def dkwX6_setHome_2 : List UInt8 := [16, 6, 27, 96, 46, 62, 42, 180, 0, 9, 16, 6, 27, 96, 28, 79, 29, 172]
abbrev dktX6_setHome_2 : List UInt8 := dkwX6_setHome_2 ++ []
def dkwX6_setHome_1 : List UInt8 := [167, 0, 4, 3, 181, 0, 42, 42, 180, 0, 42, 158, 0, 5, 3, 172, 42, 182, 0, 81, 42, 180, 0, 9]
abbrev dktX6_setHome_1 : List UInt8 := dkwX6_setHome_1 ++ dktX6_setHome_2
def dkwX6_setHome_0 : List UInt8 := [42, 27, 184, 0, 122, 154, 0, 7, 4, 167, 0, 18, 28, 3, 16, 100, 184, 0, 70, 154, 0, 7, 5]
abbrev dktX6_setHome_0 : List UInt8 := dkwX6_setHome_0 ++ dktX6_setHome_1
theorem dksX6_setHome_0 : cX6_setHome.data.toList.drop 0 = dktX6_setHome_0 := by decide +kernel
theorem dksX6_setHome_1 : cX6_setHome.data.toList.drop 23 = dktX6_setHome_1 := dk_seg dksX6_setHome_0 23 rfl rfl
theorem dksX6_setHome_2 : cX6_setHome.data.toList.drop 47 = dktX6_setHome_2 := dk_seg dksX6_setHome_1 24 rfl rfl
theorem dX6_setHome_0 : decode cX6_setHome 0 = .ok (.aload_n 0, 1) := dk_42 (dk_at dksX6_setHome_0 0 rfl rfl)
theorem dX6_setHome_1 : decode cX6_setHome 1 = .ok (.iload_n 1, 1) := dk_27 (dk_at dksX6_setHome_0 1 rfl rfl)
theorem dX6_setHome_2 : decode cX6_setHome 2 = .ok (.invokestatic 122, 3) := dk_184 0 122 (dk_at dksX6_setHome_0 2 rfl rfl)
theorem dX6_setHome_5 : decode cX6_setHome 5 = .ok (.ifCond .ne 7, 3) := dk_154 0 7 (dk_at dksX6_setHome_0 5 rfl rfl)
theorem dX6_setHome_8 : decode cX6_setHome 8 = .ok (.iconst 1, 1) := dk_4 (dk_at dksX6_setHome_0 8 rfl rfl)
theorem dX6_setHome_9 : decode cX6_setHome 9 = .ok (.goto 18, 3) := dk_167 0 18 (dk_at dksX6_setHome_0 9 rfl rfl)
theorem dX6_setHome_12 : decode cX6_setHome 12 = .ok (.iload_n 2, 1) := dk_28 (dk_at dksX6_setHome_0 12 rfl rfl)
theorem dX6_setHome_13 : decode cX6_setHome 13 = .ok (.iconst 0, 1) := dk_3 (dk_at dksX6_setHome_0 13 rfl rfl)
theorem dX6_setHome_14 : decode cX6_setHome 14 = .ok (.bipush 100, 2) := dk_16 100 (dk_at dksX6_setHome_0 14 rfl rfl)
theorem dX6_setHome_16 : decode cX6_setHome 16 = .ok (.invokestatic 70, 3) := dk_184 0 70 (dk_at dksX6_setHome_0 16 rfl rfl)
theorem dX6_setHome_19 : decode cX6_setHome 19 = .ok (.ifCond .ne 7, 3) := dk_154 0 7 (dk_at dksX6_setHome_0 19 rfl rfl)
theorem dX6_setHome_22 : decode cX6_setHome 22 = .ok (.iconst 2, 1) := dk_5 (dk_at dksX6_setHome_0 22 rfl rfl)
theorem dX6_setHome_23 : decode cX6_setHome 23 = .ok (.goto 4, 3) := dk_167 0 4 (dk_at dksX6_setHome_1 0 rfl rfl)
theorem dX6_setHome_26 : decode cX6_setHome 26 = .ok (.iconst 0, 1) := dk_3 (dk_at dksX6_setHome_1 3 rfl rfl)
theorem dX6_setHome_27 : decode cX6_setHome 27 = .ok (.putfield 42, 3) := dk_181 0 42 (dk_at dksX6_setHome_1 4 rfl rfl)
theorem dX6_setHome_30 : decode cX6_setHome 30 = .ok (.aload_n 0, 1) := dk_42 (dk_at dksX6_setHome_1 7 rfl rfl)
theorem dX6_setHome_31 : decode cX6_setHome 31 = .ok (.getfield 42, 3) := dk_180 0 42 (dk_at dksX6_setHome_1 8 rfl rfl)
theorem dX6_setHome_34 : decode cX6_setHome 34 = .ok (.ifCond .le 5, 3) := dk_158 0 5 (dk_at dksX6_setHome_1 11 rfl rfl)
theorem dX6_setHome_37 : decode cX6_setHome 37 = .ok (.iconst 0, 1) := dk_3 (dk_at dksX6_setHome_1 14 rfl rfl)
theorem dX6_setHome_38 : decode cX6_setHome 38 = .ok (.ireturn, 1) := dk_172 (dk_at dksX6_setHome_1 15 rfl rfl)
theorem dX6_setHome_39 : decode cX6_setHome 39 = .ok (.aload_n 0, 1) := dk_42 (dk_at dksX6_setHome_1 16 rfl rfl)
theorem dX6_setHome_40 : decode cX6_setHome 40 = .ok (.invokevirtual 81, 3) := dk_182 0 81 (dk_at dksX6_setHome_1 17 rfl rfl)
theorem dX6_setHome_43 : decode cX6_setHome 43 = .ok (.aload_n 0, 1) := dk_42 (dk_at dksX6_setHome_1 20 rfl rfl)
theorem dX6_setHome_44 : decode cX6_setHome 44 = .ok (.getfield 9, 3) := dk_180 0 9 (dk_at dksX6_setHome_1 21 rfl rfl)
theorem dX6_setHome_47 : decode cX6_setHome 47 = .ok (.bipush 6, 2) := dk_16 6 (dk_at dksX6_setHome_2 0 rfl rfl)
theorem dX6_setHome_49 : decode cX6_setHome 49 = .ok (.iload_n 1, 1) := dk_27 (dk_at dksX6_setHome_2 2 rfl rfl)
theorem dX6_setHome_50 : decode cX6_setHome 50 = .ok (.iadd, 1) := dk_96 (dk_at dksX6_setHome_2 3 rfl rfl)
theorem dX6_setHome_51 : decode cX6_setHome 51 = .ok (.iaload, 1) := dk_46 (dk_at dksX6_setHome_2 4 rfl rfl)
theorem dX6_setHome_52 : decode cX6_setHome 52 = .ok (.istore_n 3, 1) := dk_62 (dk_at dksX6_setHome_2 5 rfl rfl)
theorem dX6_setHome_53 : decode cX6_setHome 53 = .ok (.aload_n 0, 1) := dk_42 (dk_at dksX6_setHome_2 6 rfl rfl)
theorem dX6_setHome_54 : decode cX6_setHome 54 = .ok (.getfield 9, 3) := dk_180 0 9 (dk_at dksX6_setHome_2 7 rfl rfl)
theorem dX6_setHome_57 : decode cX6_setHome 57 = .ok (.bipush 6, 2) := dk_16 6 (dk_at dksX6_setHome_2 10 rfl rfl)
theorem dX6_setHome_59 : decode cX6_setHome 59 = .ok (.iload_n 1, 1) := dk_27 (dk_at dksX6_setHome_2 12 rfl rfl)
theorem dX6_setHome_60 : decode cX6_setHome 60 = .ok (.iadd, 1) := dk_96 (dk_at dksX6_setHome_2 13 rfl rfl)
theorem dX6_setHome_61 : decode cX6_setHome 61 = .ok (.iload_n 2, 1) := dk_28 (dk_at dksX6_setHome_2 14 rfl rfl)
theorem dX6_setHome_62 : decode cX6_setHome 62 = .ok (.iastore, 1) := dk_79 (dk_at dksX6_setHome_2 15 rfl rfl)
theorem dX6_setHome_63 : decode cX6_setHome 63 = .ok (.iload_n 3, 1) := dk_29 (dk_at dksX6_setHome_2 16 rfl rfl)
theorem dX6_setHome_64 : decode cX6_setHome 64 = .ok (.ireturn, 1) := dk_172 (dk_at dksX6_setHome_2 17 rfl rfl)
abbrev cX6_isChannel : ByteArray := prog_18_method_14_code
def yX6_isChannel : MethodName := ⟨RX6, "isChannel", "(I)Z"⟩
def dkwX6_isChannel_0 : List UInt8 := [26, 3, 16, 11, 184, 0, 70, 172]
abbrev dktX6_isChannel_0 : List UInt8 := dkwX6_isChannel_0 ++ []
theorem dksX6_isChannel_0 : cX6_isChannel.data.toList.drop 0 = dktX6_isChannel_0 := by decide +kernel
theorem dX6_isChannel_0 : decode cX6_isChannel 0 = .ok (.iload_n 0, 1) := dk_26 (dk_at dksX6_isChannel_0 0 rfl rfl)
theorem dX6_isChannel_1 : decode cX6_isChannel 1 = .ok (.iconst 0, 1) := dk_3 (dk_at dksX6_isChannel_0 1 rfl rfl)
theorem dX6_isChannel_2 : decode cX6_isChannel 2 = .ok (.bipush 11, 2) := dk_16 11 (dk_at dksX6_isChannel_0 2 rfl rfl)
theorem dX6_isChannel_4 : decode cX6_isChannel 4 = .ok (.invokestatic 70, 3) := dk_184 0 70 (dk_at dksX6_isChannel_0 4 rfl rfl)
theorem dX6_isChannel_7 : decode cX6_isChannel 7 = .ok (.ireturn, 1) := dk_172 (dk_at dksX6_isChannel_0 7 rfl rfl)
abbrev cX6_set : ByteArray := prog_18_method_41_code
def yX6_set : MethodName := ⟨RX6, "set", "(IIIIZ)I"⟩
def dkwX6_set_3 : List UInt8 := [158, 0, 10, 42, 6, 181, 0, 42, 3, 172, 42, 182, 0, 57, 42, 28, 182, 0, 145, 172]
abbrev dktX6_set_3 : List UInt8 := dkwX6_set_3 ++ []
def dkwX6_set_2 : List UInt8 := [180, 0, 42, 158, 0, 5, 3, 172, 42, 182, 0, 54, 42, 27, 28, 29, 21, 4, 21, 5, 182, 0, 142]
abbrev dktX6_set_2 : List UInt8 := dkwX6_set_2 ++ dktX6_set_3
def dkwX6_set_1 : List UInt8 := [4, 167, 0, 18, 29, 3, 16, 100, 184, 0, 70, 154, 0, 7, 5, 167, 0, 4, 3, 181, 0, 42, 42]
abbrev dktX6_set_1 : List UInt8 := dkwX6_set_1 ++ dktX6_set_2
def dkwX6_set_0 : List UInt8 := [42, 42, 27, 182, 0, 74, 153, 0, 18, 28, 184, 0, 122, 153, 0, 11, 21, 4, 184, 0, 91, 154, 0, 7]
abbrev dktX6_set_0 : List UInt8 := dkwX6_set_0 ++ dktX6_set_1
theorem dksX6_set_0 : cX6_set.data.toList.drop 0 = dktX6_set_0 := by decide +kernel
theorem dksX6_set_1 : cX6_set.data.toList.drop 24 = dktX6_set_1 := dk_seg dksX6_set_0 24 rfl rfl
theorem dksX6_set_2 : cX6_set.data.toList.drop 47 = dktX6_set_2 := dk_seg dksX6_set_1 23 rfl rfl
theorem dksX6_set_3 : cX6_set.data.toList.drop 70 = dktX6_set_3 := dk_seg dksX6_set_2 23 rfl rfl
theorem dX6_set_0 : decode cX6_set 0 = .ok (.aload_n 0, 1) := dk_42 (dk_at dksX6_set_0 0 rfl rfl)
theorem dX6_set_1 : decode cX6_set 1 = .ok (.aload_n 0, 1) := dk_42 (dk_at dksX6_set_0 1 rfl rfl)
theorem dX6_set_2 : decode cX6_set 2 = .ok (.iload_n 1, 1) := dk_27 (dk_at dksX6_set_0 2 rfl rfl)
theorem dX6_set_3 : decode cX6_set 3 = .ok (.invokevirtual 74, 3) := dk_182 0 74 (dk_at dksX6_set_0 3 rfl rfl)
theorem dX6_set_6 : decode cX6_set 6 = .ok (.ifCond .eq 18, 3) := dk_153 0 18 (dk_at dksX6_set_0 6 rfl rfl)
theorem dX6_set_9 : decode cX6_set 9 = .ok (.iload_n 2, 1) := dk_28 (dk_at dksX6_set_0 9 rfl rfl)
theorem dX6_set_10 : decode cX6_set 10 = .ok (.invokestatic 122, 3) := dk_184 0 122 (dk_at dksX6_set_0 10 rfl rfl)
theorem dX6_set_13 : decode cX6_set 13 = .ok (.ifCond .eq 11, 3) := dk_153 0 11 (dk_at dksX6_set_0 13 rfl rfl)
theorem dX6_set_16 : decode cX6_set 16 = .ok (.iload 4, 2) := dk_21 4 (dk_at dksX6_set_0 16 rfl rfl)
theorem dX6_set_18 : decode cX6_set 18 = .ok (.invokestatic 91, 3) := dk_184 0 91 (dk_at dksX6_set_0 18 rfl rfl)
theorem dX6_set_21 : decode cX6_set 21 = .ok (.ifCond .ne 7, 3) := dk_154 0 7 (dk_at dksX6_set_0 21 rfl rfl)
theorem dX6_set_24 : decode cX6_set 24 = .ok (.iconst 1, 1) := dk_4 (dk_at dksX6_set_1 0 rfl rfl)
theorem dX6_set_25 : decode cX6_set 25 = .ok (.goto 18, 3) := dk_167 0 18 (dk_at dksX6_set_1 1 rfl rfl)
theorem dX6_set_28 : decode cX6_set 28 = .ok (.iload_n 3, 1) := dk_29 (dk_at dksX6_set_1 4 rfl rfl)
theorem dX6_set_29 : decode cX6_set 29 = .ok (.iconst 0, 1) := dk_3 (dk_at dksX6_set_1 5 rfl rfl)
theorem dX6_set_30 : decode cX6_set 30 = .ok (.bipush 100, 2) := dk_16 100 (dk_at dksX6_set_1 6 rfl rfl)
theorem dX6_set_32 : decode cX6_set 32 = .ok (.invokestatic 70, 3) := dk_184 0 70 (dk_at dksX6_set_1 8 rfl rfl)
theorem dX6_set_35 : decode cX6_set 35 = .ok (.ifCond .ne 7, 3) := dk_154 0 7 (dk_at dksX6_set_1 11 rfl rfl)
theorem dX6_set_38 : decode cX6_set 38 = .ok (.iconst 2, 1) := dk_5 (dk_at dksX6_set_1 14 rfl rfl)
theorem dX6_set_39 : decode cX6_set 39 = .ok (.goto 4, 3) := dk_167 0 4 (dk_at dksX6_set_1 15 rfl rfl)
theorem dX6_set_42 : decode cX6_set 42 = .ok (.iconst 0, 1) := dk_3 (dk_at dksX6_set_1 18 rfl rfl)
theorem dX6_set_43 : decode cX6_set 43 = .ok (.putfield 42, 3) := dk_181 0 42 (dk_at dksX6_set_1 19 rfl rfl)
theorem dX6_set_46 : decode cX6_set 46 = .ok (.aload_n 0, 1) := dk_42 (dk_at dksX6_set_1 22 rfl rfl)
theorem dX6_set_47 : decode cX6_set 47 = .ok (.getfield 42, 3) := dk_180 0 42 (dk_at dksX6_set_2 0 rfl rfl)
theorem dX6_set_50 : decode cX6_set 50 = .ok (.ifCond .le 5, 3) := dk_158 0 5 (dk_at dksX6_set_2 3 rfl rfl)
theorem dX6_set_53 : decode cX6_set 53 = .ok (.iconst 0, 1) := dk_3 (dk_at dksX6_set_2 6 rfl rfl)
theorem dX6_set_54 : decode cX6_set 54 = .ok (.ireturn, 1) := dk_172 (dk_at dksX6_set_2 7 rfl rfl)
theorem dX6_set_55 : decode cX6_set 55 = .ok (.aload_n 0, 1) := dk_42 (dk_at dksX6_set_2 8 rfl rfl)
theorem dX6_set_56 : decode cX6_set 56 = .ok (.invokevirtual 54, 3) := dk_182 0 54 (dk_at dksX6_set_2 9 rfl rfl)
theorem dX6_set_59 : decode cX6_set 59 = .ok (.aload_n 0, 1) := dk_42 (dk_at dksX6_set_2 12 rfl rfl)
theorem dX6_set_60 : decode cX6_set 60 = .ok (.iload_n 1, 1) := dk_27 (dk_at dksX6_set_2 13 rfl rfl)
theorem dX6_set_61 : decode cX6_set 61 = .ok (.iload_n 2, 1) := dk_28 (dk_at dksX6_set_2 14 rfl rfl)
theorem dX6_set_62 : decode cX6_set 62 = .ok (.iload_n 3, 1) := dk_29 (dk_at dksX6_set_2 15 rfl rfl)
theorem dX6_set_63 : decode cX6_set 63 = .ok (.iload 4, 2) := dk_21 4 (dk_at dksX6_set_2 16 rfl rfl)
theorem dX6_set_65 : decode cX6_set 65 = .ok (.iload 5, 2) := dk_21 5 (dk_at dksX6_set_2 18 rfl rfl)
theorem dX6_set_67 : decode cX6_set 67 = .ok (.invokevirtual 142, 3) := dk_182 0 142 (dk_at dksX6_set_2 20 rfl rfl)
theorem dX6_set_70 : decode cX6_set 70 = .ok (.ifCond .le 10, 3) := dk_158 0 10 (dk_at dksX6_set_3 0 rfl rfl)
theorem dX6_set_73 : decode cX6_set 73 = .ok (.aload_n 0, 1) := dk_42 (dk_at dksX6_set_3 3 rfl rfl)
theorem dX6_set_74 : decode cX6_set 74 = .ok (.iconst 3, 1) := dk_6 (dk_at dksX6_set_3 4 rfl rfl)
theorem dX6_set_75 : decode cX6_set 75 = .ok (.putfield 42, 3) := dk_181 0 42 (dk_at dksX6_set_3 5 rfl rfl)
theorem dX6_set_78 : decode cX6_set 78 = .ok (.iconst 0, 1) := dk_3 (dk_at dksX6_set_3 8 rfl rfl)
theorem dX6_set_79 : decode cX6_set 79 = .ok (.ireturn, 1) := dk_172 (dk_at dksX6_set_3 9 rfl rfl)
theorem dX6_set_80 : decode cX6_set 80 = .ok (.aload_n 0, 1) := dk_42 (dk_at dksX6_set_3 10 rfl rfl)
theorem dX6_set_81 : decode cX6_set 81 = .ok (.invokevirtual 57, 3) := dk_182 0 57 (dk_at dksX6_set_3 11 rfl rfl)
theorem dX6_set_84 : decode cX6_set 84 = .ok (.aload_n 0, 1) := dk_42 (dk_at dksX6_set_3 14 rfl rfl)
theorem dX6_set_85 : decode cX6_set 85 = .ok (.iload_n 2, 1) := dk_28 (dk_at dksX6_set_3 15 rfl rfl)
theorem dX6_set_86 : decode cX6_set 86 = .ok (.invokevirtual 145, 3) := dk_182 0 145 (dk_at dksX6_set_3 16 rfl rfl)
theorem dX6_set_89 : decode cX6_set 89 = .ok (.ireturn, 1) := dk_172 (dk_at dksX6_set_3 19 rfl rfl)
abbrev cX6_doGive : ByteArray := prog_18_method_40_code
def yX6_doGive : MethodName := ⟨RX6, "doGive", "(IIIIZ)I"⟩
def dkwX6_doGive_1 : List UInt8 := [167, 0, 4, 3, 172]
abbrev dktX6_doGive_1 : List UInt8 := dkwX6_doGive_1 ++ []
def dkwX6_doGive_0 : List UInt8 := [42, 27, 28, 29, 21, 4, 21, 5, 182, 0, 135, 54, 6, 21, 6, 158, 0, 12, 42, 21, 6, 182, 0, 139]
abbrev dktX6_doGive_0 : List UInt8 := dkwX6_doGive_0 ++ dktX6_doGive_1
theorem dksX6_doGive_0 : cX6_doGive.data.toList.drop 0 = dktX6_doGive_0 := by decide +kernel
theorem dksX6_doGive_1 : cX6_doGive.data.toList.drop 24 = dktX6_doGive_1 := dk_seg dksX6_doGive_0 24 rfl rfl
theorem dX6_doGive_0 : decode cX6_doGive 0 = .ok (.aload_n 0, 1) := dk_42 (dk_at dksX6_doGive_0 0 rfl rfl)
theorem dX6_doGive_1 : decode cX6_doGive 1 = .ok (.iload_n 1, 1) := dk_27 (dk_at dksX6_doGive_0 1 rfl rfl)
theorem dX6_doGive_2 : decode cX6_doGive 2 = .ok (.iload_n 2, 1) := dk_28 (dk_at dksX6_doGive_0 2 rfl rfl)
theorem dX6_doGive_3 : decode cX6_doGive 3 = .ok (.iload_n 3, 1) := dk_29 (dk_at dksX6_doGive_0 3 rfl rfl)
theorem dX6_doGive_4 : decode cX6_doGive 4 = .ok (.iload 4, 2) := dk_21 4 (dk_at dksX6_doGive_0 4 rfl rfl)
theorem dX6_doGive_6 : decode cX6_doGive 6 = .ok (.iload 5, 2) := dk_21 5 (dk_at dksX6_doGive_0 6 rfl rfl)
theorem dX6_doGive_8 : decode cX6_doGive 8 = .ok (.invokevirtual 135, 3) := dk_182 0 135 (dk_at dksX6_doGive_0 8 rfl rfl)
theorem dX6_doGive_11 : decode cX6_doGive 11 = .ok (.istore 6, 2) := dk_54 6 (dk_at dksX6_doGive_0 11 rfl rfl)
theorem dX6_doGive_13 : decode cX6_doGive 13 = .ok (.iload 6, 2) := dk_21 6 (dk_at dksX6_doGive_0 13 rfl rfl)
theorem dX6_doGive_15 : decode cX6_doGive 15 = .ok (.ifCond .le 12, 3) := dk_158 0 12 (dk_at dksX6_doGive_0 15 rfl rfl)
theorem dX6_doGive_18 : decode cX6_doGive 18 = .ok (.aload_n 0, 1) := dk_42 (dk_at dksX6_doGive_0 18 rfl rfl)
theorem dX6_doGive_19 : decode cX6_doGive 19 = .ok (.iload 6, 2) := dk_21 6 (dk_at dksX6_doGive_0 19 rfl rfl)
theorem dX6_doGive_21 : decode cX6_doGive 21 = .ok (.invokevirtual 139, 3) := dk_182 0 139 (dk_at dksX6_doGive_0 21 rfl rfl)
theorem dX6_doGive_24 : decode cX6_doGive 24 = .ok (.goto 4, 3) := dk_167 0 4 (dk_at dksX6_doGive_1 0 rfl rfl)
theorem dX6_doGive_27 : decode cX6_doGive 27 = .ok (.iconst 0, 1) := dk_3 (dk_at dksX6_doGive_1 3 rfl rfl)
theorem dX6_doGive_28 : decode cX6_doGive 28 = .ok (.ireturn, 1) := dk_172 (dk_at dksX6_doGive_1 4 rfl rfl)
abbrev cX6_giveHeld : ByteArray := prog_18_method_38_code
def yX6_giveHeld : MethodName := ⟨RX6, "giveHeld", "(IIIIZ)I"⟩
def dkwX6_giveHeld_4 : List UInt8 := [153, 0, 18, 42, 21, 6, 4, 96, 21, 6, 4, 96, 182, 0, 132, 167, 0, 4, 3, 172]
abbrev dktX6_giveHeld_4 : List UInt8 := dkwX6_giveHeld_4 ++ []
def dkwX6_giveHeld_3 : List UInt8 := [29, 182, 0, 129, 153, 0, 7, 4, 167, 0, 4, 5, 172, 42, 27, 28, 29, 21, 4, 182, 0, 125, 21, 5]
abbrev dktX6_giveHeld_3 : List UInt8 := dkwX6_giveHeld_3 ++ dktX6_giveHeld_4
def dkwX6_giveHeld_2 : List UInt8 := [156, 0, 7, 4, 167, 0, 4, 3, 54, 7, 21, 7, 153, 0, 25, 21, 5, 153, 0, 18, 42, 21, 6, 28]
abbrev dktX6_giveHeld_2 : List UInt8 := dkwX6_giveHeld_2 ++ dktX6_giveHeld_3
def dkwX6_giveHeld_1 : List UInt8 := [172, 42, 182, 0, 88, 42, 180, 0, 9, 4, 46, 16, 60, 160, 0, 16, 42, 27, 28, 182, 0, 98]
abbrev dktX6_giveHeld_1 : List UInt8 := dkwX6_giveHeld_1 ++ dktX6_giveHeld_2
def dkwX6_giveHeld_0 : List UInt8 := [42, 27, 182, 0, 67, 54, 6, 42, 180, 0, 9, 21, 6, 184, 0, 63, 6, 96, 46, 4, 160, 0, 5, 4]
abbrev dktX6_giveHeld_0 : List UInt8 := dkwX6_giveHeld_0 ++ dktX6_giveHeld_1
theorem dksX6_giveHeld_0 : cX6_giveHeld.data.toList.drop 0 = dktX6_giveHeld_0 := by decide +kernel
theorem dksX6_giveHeld_1 : cX6_giveHeld.data.toList.drop 24 = dktX6_giveHeld_1 := dk_seg dksX6_giveHeld_0 24 rfl rfl
theorem dksX6_giveHeld_2 : cX6_giveHeld.data.toList.drop 46 = dktX6_giveHeld_2 := dk_seg dksX6_giveHeld_1 22 rfl rfl
theorem dksX6_giveHeld_3 : cX6_giveHeld.data.toList.drop 70 = dktX6_giveHeld_3 := dk_seg dksX6_giveHeld_2 24 rfl rfl
theorem dksX6_giveHeld_4 : cX6_giveHeld.data.toList.drop 94 = dktX6_giveHeld_4 := dk_seg dksX6_giveHeld_3 24 rfl rfl
theorem dX6_giveHeld_0 : decode cX6_giveHeld 0 = .ok (.aload_n 0, 1) := dk_42 (dk_at dksX6_giveHeld_0 0 rfl rfl)
theorem dX6_giveHeld_1 : decode cX6_giveHeld 1 = .ok (.iload_n 1, 1) := dk_27 (dk_at dksX6_giveHeld_0 1 rfl rfl)
theorem dX6_giveHeld_2 : decode cX6_giveHeld 2 = .ok (.invokevirtual 67, 3) := dk_182 0 67 (dk_at dksX6_giveHeld_0 2 rfl rfl)
theorem dX6_giveHeld_5 : decode cX6_giveHeld 5 = .ok (.istore 6, 2) := dk_54 6 (dk_at dksX6_giveHeld_0 5 rfl rfl)
theorem dX6_giveHeld_7 : decode cX6_giveHeld 7 = .ok (.aload_n 0, 1) := dk_42 (dk_at dksX6_giveHeld_0 7 rfl rfl)
theorem dX6_giveHeld_8 : decode cX6_giveHeld 8 = .ok (.getfield 9, 3) := dk_180 0 9 (dk_at dksX6_giveHeld_0 8 rfl rfl)
theorem dX6_giveHeld_11 : decode cX6_giveHeld 11 = .ok (.iload 6, 2) := dk_21 6 (dk_at dksX6_giveHeld_0 11 rfl rfl)
theorem dX6_giveHeld_13 : decode cX6_giveHeld 13 = .ok (.invokestatic 63, 3) := dk_184 0 63 (dk_at dksX6_giveHeld_0 13 rfl rfl)
theorem dX6_giveHeld_16 : decode cX6_giveHeld 16 = .ok (.iconst 3, 1) := dk_6 (dk_at dksX6_giveHeld_0 16 rfl rfl)
theorem dX6_giveHeld_17 : decode cX6_giveHeld 17 = .ok (.iadd, 1) := dk_96 (dk_at dksX6_giveHeld_0 17 rfl rfl)
theorem dX6_giveHeld_18 : decode cX6_giveHeld 18 = .ok (.iaload, 1) := dk_46 (dk_at dksX6_giveHeld_0 18 rfl rfl)
theorem dX6_giveHeld_19 : decode cX6_giveHeld 19 = .ok (.iconst 1, 1) := dk_4 (dk_at dksX6_giveHeld_0 19 rfl rfl)
theorem dX6_giveHeld_20 : decode cX6_giveHeld 20 = .ok (.if_icmp .ne 5, 3) := dk_160 0 5 (dk_at dksX6_giveHeld_0 20 rfl rfl)
theorem dX6_giveHeld_23 : decode cX6_giveHeld 23 = .ok (.iconst 1, 1) := dk_4 (dk_at dksX6_giveHeld_0 23 rfl rfl)
theorem dX6_giveHeld_24 : decode cX6_giveHeld 24 = .ok (.ireturn, 1) := dk_172 (dk_at dksX6_giveHeld_1 0 rfl rfl)
theorem dX6_giveHeld_25 : decode cX6_giveHeld 25 = .ok (.aload_n 0, 1) := dk_42 (dk_at dksX6_giveHeld_1 1 rfl rfl)
theorem dX6_giveHeld_26 : decode cX6_giveHeld 26 = .ok (.invokevirtual 88, 3) := dk_182 0 88 (dk_at dksX6_giveHeld_1 2 rfl rfl)
theorem dX6_giveHeld_29 : decode cX6_giveHeld 29 = .ok (.aload_n 0, 1) := dk_42 (dk_at dksX6_giveHeld_1 5 rfl rfl)
theorem dX6_giveHeld_30 : decode cX6_giveHeld 30 = .ok (.getfield 9, 3) := dk_180 0 9 (dk_at dksX6_giveHeld_1 6 rfl rfl)
theorem dX6_giveHeld_33 : decode cX6_giveHeld 33 = .ok (.iconst 1, 1) := dk_4 (dk_at dksX6_giveHeld_1 9 rfl rfl)
theorem dX6_giveHeld_34 : decode cX6_giveHeld 34 = .ok (.iaload, 1) := dk_46 (dk_at dksX6_giveHeld_1 10 rfl rfl)
theorem dX6_giveHeld_35 : decode cX6_giveHeld 35 = .ok (.bipush 60, 2) := dk_16 60 (dk_at dksX6_giveHeld_1 11 rfl rfl)
theorem dX6_giveHeld_37 : decode cX6_giveHeld 37 = .ok (.if_icmp .ne 16, 3) := dk_160 0 16 (dk_at dksX6_giveHeld_1 13 rfl rfl)
theorem dX6_giveHeld_40 : decode cX6_giveHeld 40 = .ok (.aload_n 0, 1) := dk_42 (dk_at dksX6_giveHeld_1 16 rfl rfl)
theorem dX6_giveHeld_41 : decode cX6_giveHeld 41 = .ok (.iload_n 1, 1) := dk_27 (dk_at dksX6_giveHeld_1 17 rfl rfl)
theorem dX6_giveHeld_42 : decode cX6_giveHeld 42 = .ok (.iload_n 2, 1) := dk_28 (dk_at dksX6_giveHeld_1 18 rfl rfl)
theorem dX6_giveHeld_43 : decode cX6_giveHeld 43 = .ok (.invokevirtual 98, 3) := dk_182 0 98 (dk_at dksX6_giveHeld_1 19 rfl rfl)
theorem dX6_giveHeld_46 : decode cX6_giveHeld 46 = .ok (.ifCond .ge 7, 3) := dk_156 0 7 (dk_at dksX6_giveHeld_2 0 rfl rfl)
theorem dX6_giveHeld_49 : decode cX6_giveHeld 49 = .ok (.iconst 1, 1) := dk_4 (dk_at dksX6_giveHeld_2 3 rfl rfl)
theorem dX6_giveHeld_50 : decode cX6_giveHeld 50 = .ok (.goto 4, 3) := dk_167 0 4 (dk_at dksX6_giveHeld_2 4 rfl rfl)
theorem dX6_giveHeld_53 : decode cX6_giveHeld 53 = .ok (.iconst 0, 1) := dk_3 (dk_at dksX6_giveHeld_2 7 rfl rfl)
theorem dX6_giveHeld_54 : decode cX6_giveHeld 54 = .ok (.istore 7, 2) := dk_54 7 (dk_at dksX6_giveHeld_2 8 rfl rfl)
theorem dX6_giveHeld_56 : decode cX6_giveHeld 56 = .ok (.iload 7, 2) := dk_21 7 (dk_at dksX6_giveHeld_2 10 rfl rfl)
theorem dX6_giveHeld_58 : decode cX6_giveHeld 58 = .ok (.ifCond .eq 25, 3) := dk_153 0 25 (dk_at dksX6_giveHeld_2 12 rfl rfl)
theorem dX6_giveHeld_61 : decode cX6_giveHeld 61 = .ok (.iload 5, 2) := dk_21 5 (dk_at dksX6_giveHeld_2 15 rfl rfl)
theorem dX6_giveHeld_63 : decode cX6_giveHeld 63 = .ok (.ifCond .eq 18, 3) := dk_153 0 18 (dk_at dksX6_giveHeld_2 17 rfl rfl)
theorem dX6_giveHeld_66 : decode cX6_giveHeld 66 = .ok (.aload_n 0, 1) := dk_42 (dk_at dksX6_giveHeld_2 20 rfl rfl)
theorem dX6_giveHeld_67 : decode cX6_giveHeld 67 = .ok (.iload 6, 2) := dk_21 6 (dk_at dksX6_giveHeld_2 21 rfl rfl)
theorem dX6_giveHeld_69 : decode cX6_giveHeld 69 = .ok (.iload_n 2, 1) := dk_28 (dk_at dksX6_giveHeld_2 23 rfl rfl)
theorem dX6_giveHeld_70 : decode cX6_giveHeld 70 = .ok (.iload_n 3, 1) := dk_29 (dk_at dksX6_giveHeld_3 0 rfl rfl)
theorem dX6_giveHeld_71 : decode cX6_giveHeld 71 = .ok (.invokevirtual 129, 3) := dk_182 0 129 (dk_at dksX6_giveHeld_3 1 rfl rfl)
theorem dX6_giveHeld_74 : decode cX6_giveHeld 74 = .ok (.ifCond .eq 7, 3) := dk_153 0 7 (dk_at dksX6_giveHeld_3 4 rfl rfl)
theorem dX6_giveHeld_77 : decode cX6_giveHeld 77 = .ok (.iconst 1, 1) := dk_4 (dk_at dksX6_giveHeld_3 7 rfl rfl)
theorem dX6_giveHeld_78 : decode cX6_giveHeld 78 = .ok (.goto 4, 3) := dk_167 0 4 (dk_at dksX6_giveHeld_3 8 rfl rfl)
theorem dX6_giveHeld_81 : decode cX6_giveHeld 81 = .ok (.iconst 2, 1) := dk_5 (dk_at dksX6_giveHeld_3 11 rfl rfl)
theorem dX6_giveHeld_82 : decode cX6_giveHeld 82 = .ok (.ireturn, 1) := dk_172 (dk_at dksX6_giveHeld_3 12 rfl rfl)
theorem dX6_giveHeld_83 : decode cX6_giveHeld 83 = .ok (.aload_n 0, 1) := dk_42 (dk_at dksX6_giveHeld_3 13 rfl rfl)
theorem dX6_giveHeld_84 : decode cX6_giveHeld 84 = .ok (.iload_n 1, 1) := dk_27 (dk_at dksX6_giveHeld_3 14 rfl rfl)
theorem dX6_giveHeld_85 : decode cX6_giveHeld 85 = .ok (.iload_n 2, 1) := dk_28 (dk_at dksX6_giveHeld_3 15 rfl rfl)
theorem dX6_giveHeld_86 : decode cX6_giveHeld 86 = .ok (.iload_n 3, 1) := dk_29 (dk_at dksX6_giveHeld_3 16 rfl rfl)
theorem dX6_giveHeld_87 : decode cX6_giveHeld 87 = .ok (.iload 4, 2) := dk_21 4 (dk_at dksX6_giveHeld_3 17 rfl rfl)
theorem dX6_giveHeld_89 : decode cX6_giveHeld 89 = .ok (.invokevirtual 125, 3) := dk_182 0 125 (dk_at dksX6_giveHeld_3 19 rfl rfl)
theorem dX6_giveHeld_92 : decode cX6_giveHeld 92 = .ok (.iload 5, 2) := dk_21 5 (dk_at dksX6_giveHeld_3 22 rfl rfl)
theorem dX6_giveHeld_94 : decode cX6_giveHeld 94 = .ok (.ifCond .eq 18, 3) := dk_153 0 18 (dk_at dksX6_giveHeld_4 0 rfl rfl)
theorem dX6_giveHeld_97 : decode cX6_giveHeld 97 = .ok (.aload_n 0, 1) := dk_42 (dk_at dksX6_giveHeld_4 3 rfl rfl)
theorem dX6_giveHeld_98 : decode cX6_giveHeld 98 = .ok (.iload 6, 2) := dk_21 6 (dk_at dksX6_giveHeld_4 4 rfl rfl)
theorem dX6_giveHeld_100 : decode cX6_giveHeld 100 = .ok (.iconst 1, 1) := dk_4 (dk_at dksX6_giveHeld_4 6 rfl rfl)
theorem dX6_giveHeld_101 : decode cX6_giveHeld 101 = .ok (.iadd, 1) := dk_96 (dk_at dksX6_giveHeld_4 7 rfl rfl)
theorem dX6_giveHeld_102 : decode cX6_giveHeld 102 = .ok (.iload 6, 2) := dk_21 6 (dk_at dksX6_giveHeld_4 8 rfl rfl)
theorem dX6_giveHeld_104 : decode cX6_giveHeld 104 = .ok (.iconst 1, 1) := dk_4 (dk_at dksX6_giveHeld_4 10 rfl rfl)
theorem dX6_giveHeld_105 : decode cX6_giveHeld 105 = .ok (.iadd, 1) := dk_96 (dk_at dksX6_giveHeld_4 11 rfl rfl)
theorem dX6_giveHeld_106 : decode cX6_giveHeld 106 = .ok (.invokevirtual 132, 3) := dk_182 0 132 (dk_at dksX6_giveHeld_4 12 rfl rfl)
theorem dX6_giveHeld_109 : decode cX6_giveHeld 109 = .ok (.goto 4, 3) := dk_167 0 4 (dk_at dksX6_giveHeld_4 15 rfl rfl)
theorem dX6_giveHeld_112 : decode cX6_giveHeld 112 = .ok (.iconst 0, 1) := dk_3 (dk_at dksX6_giveHeld_4 18 rfl rfl)
theorem dX6_giveHeld_113 : decode cX6_giveHeld 113 = .ok (.ireturn, 1) := dk_172 (dk_at dksX6_giveHeld_4 19 rfl rfl)
abbrev cX6_wouldHoldProtected : ByteArray := prog_18_method_39_code
def yX6_wouldHoldProtected : MethodName := ⟨RX6, "wouldHoldProtected", "(III)Z"⟩
def dkwX6_wouldHoldProtected_4 : List UInt8 := [21, 6, 42, 27, 28, 182, 0, 84, 159, 0, 7, 4, 167, 0, 4, 3, 172]
abbrev dktX6_wouldHoldProtected_4 : List UInt8 := dkwX6_wouldHoldProtected_4 ++ []
def dkwX6_wouldHoldProtected_3 : List UInt8 := [160, 0, 15, 42, 180, 0, 9, 16, 6, 28, 96, 46, 167, 0, 4, 29, 54, 6, 21, 5, 153, 0, 18]
abbrev dktX6_wouldHoldProtected_3 : List UInt8 := dkwX6_wouldHoldProtected_3 ++ dktX6_wouldHoldProtected_4
def dkwX6_wouldHoldProtected_2 : List UInt8 := [21, 4, 184, 0, 63, 46, 28, 182, 0, 98, 156, 0, 7, 4, 167, 0, 4, 3, 54, 5, 29, 2]
abbrev dktX6_wouldHoldProtected_2 : List UInt8 := dkwX6_wouldHoldProtected_2 ++ dktX6_wouldHoldProtected_3
def dkwX6_wouldHoldProtected_1 : List UInt8 := [184, 0, 63, 6, 96, 46, 4, 160, 0, 34, 42, 21, 4, 182, 0, 101, 154, 0, 25, 42, 42, 180, 0, 9]
abbrev dktX6_wouldHoldProtected_1 : List UInt8 := dkwX6_wouldHoldProtected_1 ++ dktX6_wouldHoldProtected_2
def dkwX6_wouldHoldProtected_0 : List UInt8 := [27, 4, 96, 54, 4, 21, 4, 42, 180, 0, 9, 3, 46, 162, 0, 50, 42, 180, 0, 9, 21, 4]
abbrev dktX6_wouldHoldProtected_0 : List UInt8 := dkwX6_wouldHoldProtected_0 ++ dktX6_wouldHoldProtected_1
theorem dksX6_wouldHoldProtected_0 : cX6_wouldHoldProtected.data.toList.drop 0 = dktX6_wouldHoldProtected_0 := by decide +kernel
theorem dksX6_wouldHoldProtected_1 : cX6_wouldHoldProtected.data.toList.drop 22 = dktX6_wouldHoldProtected_1 := dk_seg dksX6_wouldHoldProtected_0 22 rfl rfl
theorem dksX6_wouldHoldProtected_2 : cX6_wouldHoldProtected.data.toList.drop 46 = dktX6_wouldHoldProtected_2 := dk_seg dksX6_wouldHoldProtected_1 24 rfl rfl
theorem dksX6_wouldHoldProtected_3 : cX6_wouldHoldProtected.data.toList.drop 68 = dktX6_wouldHoldProtected_3 := dk_seg dksX6_wouldHoldProtected_2 22 rfl rfl
theorem dksX6_wouldHoldProtected_4 : cX6_wouldHoldProtected.data.toList.drop 91 = dktX6_wouldHoldProtected_4 := dk_seg dksX6_wouldHoldProtected_3 23 rfl rfl
theorem dX6_wouldHoldProtected_0 : decode cX6_wouldHoldProtected 0 = .ok (.iload_n 1, 1) := dk_27 (dk_at dksX6_wouldHoldProtected_0 0 rfl rfl)
theorem dX6_wouldHoldProtected_1 : decode cX6_wouldHoldProtected 1 = .ok (.iconst 1, 1) := dk_4 (dk_at dksX6_wouldHoldProtected_0 1 rfl rfl)
theorem dX6_wouldHoldProtected_2 : decode cX6_wouldHoldProtected 2 = .ok (.iadd, 1) := dk_96 (dk_at dksX6_wouldHoldProtected_0 2 rfl rfl)
theorem dX6_wouldHoldProtected_3 : decode cX6_wouldHoldProtected 3 = .ok (.istore 4, 2) := dk_54 4 (dk_at dksX6_wouldHoldProtected_0 3 rfl rfl)
theorem dX6_wouldHoldProtected_5 : decode cX6_wouldHoldProtected 5 = .ok (.iload 4, 2) := dk_21 4 (dk_at dksX6_wouldHoldProtected_0 5 rfl rfl)
theorem dX6_wouldHoldProtected_7 : decode cX6_wouldHoldProtected 7 = .ok (.aload_n 0, 1) := dk_42 (dk_at dksX6_wouldHoldProtected_0 7 rfl rfl)
theorem dX6_wouldHoldProtected_8 : decode cX6_wouldHoldProtected 8 = .ok (.getfield 9, 3) := dk_180 0 9 (dk_at dksX6_wouldHoldProtected_0 8 rfl rfl)
theorem dX6_wouldHoldProtected_11 : decode cX6_wouldHoldProtected 11 = .ok (.iconst 0, 1) := dk_3 (dk_at dksX6_wouldHoldProtected_0 11 rfl rfl)
theorem dX6_wouldHoldProtected_12 : decode cX6_wouldHoldProtected 12 = .ok (.iaload, 1) := dk_46 (dk_at dksX6_wouldHoldProtected_0 12 rfl rfl)
theorem dX6_wouldHoldProtected_13 : decode cX6_wouldHoldProtected 13 = .ok (.if_icmp .ge 50, 3) := dk_162 0 50 (dk_at dksX6_wouldHoldProtected_0 13 rfl rfl)
theorem dX6_wouldHoldProtected_16 : decode cX6_wouldHoldProtected 16 = .ok (.aload_n 0, 1) := dk_42 (dk_at dksX6_wouldHoldProtected_0 16 rfl rfl)
theorem dX6_wouldHoldProtected_17 : decode cX6_wouldHoldProtected 17 = .ok (.getfield 9, 3) := dk_180 0 9 (dk_at dksX6_wouldHoldProtected_0 17 rfl rfl)
theorem dX6_wouldHoldProtected_20 : decode cX6_wouldHoldProtected 20 = .ok (.iload 4, 2) := dk_21 4 (dk_at dksX6_wouldHoldProtected_0 20 rfl rfl)
theorem dX6_wouldHoldProtected_22 : decode cX6_wouldHoldProtected 22 = .ok (.invokestatic 63, 3) := dk_184 0 63 (dk_at dksX6_wouldHoldProtected_1 0 rfl rfl)
theorem dX6_wouldHoldProtected_25 : decode cX6_wouldHoldProtected 25 = .ok (.iconst 3, 1) := dk_6 (dk_at dksX6_wouldHoldProtected_1 3 rfl rfl)
theorem dX6_wouldHoldProtected_26 : decode cX6_wouldHoldProtected 26 = .ok (.iadd, 1) := dk_96 (dk_at dksX6_wouldHoldProtected_1 4 rfl rfl)
theorem dX6_wouldHoldProtected_27 : decode cX6_wouldHoldProtected 27 = .ok (.iaload, 1) := dk_46 (dk_at dksX6_wouldHoldProtected_1 5 rfl rfl)
theorem dX6_wouldHoldProtected_28 : decode cX6_wouldHoldProtected 28 = .ok (.iconst 1, 1) := dk_4 (dk_at dksX6_wouldHoldProtected_1 6 rfl rfl)
theorem dX6_wouldHoldProtected_29 : decode cX6_wouldHoldProtected 29 = .ok (.if_icmp .ne 34, 3) := dk_160 0 34 (dk_at dksX6_wouldHoldProtected_1 7 rfl rfl)
theorem dX6_wouldHoldProtected_32 : decode cX6_wouldHoldProtected 32 = .ok (.aload_n 0, 1) := dk_42 (dk_at dksX6_wouldHoldProtected_1 10 rfl rfl)
theorem dX6_wouldHoldProtected_33 : decode cX6_wouldHoldProtected 33 = .ok (.iload 4, 2) := dk_21 4 (dk_at dksX6_wouldHoldProtected_1 11 rfl rfl)
theorem dX6_wouldHoldProtected_35 : decode cX6_wouldHoldProtected 35 = .ok (.invokevirtual 101, 3) := dk_182 0 101 (dk_at dksX6_wouldHoldProtected_1 13 rfl rfl)
theorem dX6_wouldHoldProtected_38 : decode cX6_wouldHoldProtected 38 = .ok (.ifCond .ne 25, 3) := dk_154 0 25 (dk_at dksX6_wouldHoldProtected_1 16 rfl rfl)
theorem dX6_wouldHoldProtected_41 : decode cX6_wouldHoldProtected 41 = .ok (.aload_n 0, 1) := dk_42 (dk_at dksX6_wouldHoldProtected_1 19 rfl rfl)
theorem dX6_wouldHoldProtected_42 : decode cX6_wouldHoldProtected 42 = .ok (.aload_n 0, 1) := dk_42 (dk_at dksX6_wouldHoldProtected_1 20 rfl rfl)
theorem dX6_wouldHoldProtected_43 : decode cX6_wouldHoldProtected 43 = .ok (.getfield 9, 3) := dk_180 0 9 (dk_at dksX6_wouldHoldProtected_1 21 rfl rfl)
theorem dX6_wouldHoldProtected_46 : decode cX6_wouldHoldProtected 46 = .ok (.iload 4, 2) := dk_21 4 (dk_at dksX6_wouldHoldProtected_2 0 rfl rfl)
theorem dX6_wouldHoldProtected_48 : decode cX6_wouldHoldProtected 48 = .ok (.invokestatic 63, 3) := dk_184 0 63 (dk_at dksX6_wouldHoldProtected_2 2 rfl rfl)
theorem dX6_wouldHoldProtected_51 : decode cX6_wouldHoldProtected 51 = .ok (.iaload, 1) := dk_46 (dk_at dksX6_wouldHoldProtected_2 5 rfl rfl)
theorem dX6_wouldHoldProtected_52 : decode cX6_wouldHoldProtected 52 = .ok (.iload_n 2, 1) := dk_28 (dk_at dksX6_wouldHoldProtected_2 6 rfl rfl)
theorem dX6_wouldHoldProtected_53 : decode cX6_wouldHoldProtected 53 = .ok (.invokevirtual 98, 3) := dk_182 0 98 (dk_at dksX6_wouldHoldProtected_2 7 rfl rfl)
theorem dX6_wouldHoldProtected_56 : decode cX6_wouldHoldProtected 56 = .ok (.ifCond .ge 7, 3) := dk_156 0 7 (dk_at dksX6_wouldHoldProtected_2 10 rfl rfl)
theorem dX6_wouldHoldProtected_59 : decode cX6_wouldHoldProtected 59 = .ok (.iconst 1, 1) := dk_4 (dk_at dksX6_wouldHoldProtected_2 13 rfl rfl)
theorem dX6_wouldHoldProtected_60 : decode cX6_wouldHoldProtected 60 = .ok (.goto 4, 3) := dk_167 0 4 (dk_at dksX6_wouldHoldProtected_2 14 rfl rfl)
theorem dX6_wouldHoldProtected_63 : decode cX6_wouldHoldProtected 63 = .ok (.iconst 0, 1) := dk_3 (dk_at dksX6_wouldHoldProtected_2 17 rfl rfl)
theorem dX6_wouldHoldProtected_64 : decode cX6_wouldHoldProtected 64 = .ok (.istore 5, 2) := dk_54 5 (dk_at dksX6_wouldHoldProtected_2 18 rfl rfl)
theorem dX6_wouldHoldProtected_66 : decode cX6_wouldHoldProtected 66 = .ok (.iload_n 3, 1) := dk_29 (dk_at dksX6_wouldHoldProtected_2 20 rfl rfl)
theorem dX6_wouldHoldProtected_67 : decode cX6_wouldHoldProtected 67 = .ok (.iconst (-1), 1) := dk_2 (dk_at dksX6_wouldHoldProtected_2 21 rfl rfl)
theorem dX6_wouldHoldProtected_68 : decode cX6_wouldHoldProtected 68 = .ok (.if_icmp .ne 15, 3) := dk_160 0 15 (dk_at dksX6_wouldHoldProtected_3 0 rfl rfl)
theorem dX6_wouldHoldProtected_71 : decode cX6_wouldHoldProtected 71 = .ok (.aload_n 0, 1) := dk_42 (dk_at dksX6_wouldHoldProtected_3 3 rfl rfl)
theorem dX6_wouldHoldProtected_72 : decode cX6_wouldHoldProtected 72 = .ok (.getfield 9, 3) := dk_180 0 9 (dk_at dksX6_wouldHoldProtected_3 4 rfl rfl)
theorem dX6_wouldHoldProtected_75 : decode cX6_wouldHoldProtected 75 = .ok (.bipush 6, 2) := dk_16 6 (dk_at dksX6_wouldHoldProtected_3 7 rfl rfl)
theorem dX6_wouldHoldProtected_77 : decode cX6_wouldHoldProtected 77 = .ok (.iload_n 2, 1) := dk_28 (dk_at dksX6_wouldHoldProtected_3 9 rfl rfl)
theorem dX6_wouldHoldProtected_78 : decode cX6_wouldHoldProtected 78 = .ok (.iadd, 1) := dk_96 (dk_at dksX6_wouldHoldProtected_3 10 rfl rfl)
theorem dX6_wouldHoldProtected_79 : decode cX6_wouldHoldProtected 79 = .ok (.iaload, 1) := dk_46 (dk_at dksX6_wouldHoldProtected_3 11 rfl rfl)
theorem dX6_wouldHoldProtected_80 : decode cX6_wouldHoldProtected 80 = .ok (.goto 4, 3) := dk_167 0 4 (dk_at dksX6_wouldHoldProtected_3 12 rfl rfl)
theorem dX6_wouldHoldProtected_83 : decode cX6_wouldHoldProtected 83 = .ok (.iload_n 3, 1) := dk_29 (dk_at dksX6_wouldHoldProtected_3 15 rfl rfl)
theorem dX6_wouldHoldProtected_84 : decode cX6_wouldHoldProtected 84 = .ok (.istore 6, 2) := dk_54 6 (dk_at dksX6_wouldHoldProtected_3 16 rfl rfl)
theorem dX6_wouldHoldProtected_86 : decode cX6_wouldHoldProtected 86 = .ok (.iload 5, 2) := dk_21 5 (dk_at dksX6_wouldHoldProtected_3 18 rfl rfl)
theorem dX6_wouldHoldProtected_88 : decode cX6_wouldHoldProtected 88 = .ok (.ifCond .eq 18, 3) := dk_153 0 18 (dk_at dksX6_wouldHoldProtected_3 20 rfl rfl)
theorem dX6_wouldHoldProtected_91 : decode cX6_wouldHoldProtected 91 = .ok (.iload 6, 2) := dk_21 6 (dk_at dksX6_wouldHoldProtected_4 0 rfl rfl)
theorem dX6_wouldHoldProtected_93 : decode cX6_wouldHoldProtected 93 = .ok (.aload_n 0, 1) := dk_42 (dk_at dksX6_wouldHoldProtected_4 2 rfl rfl)
theorem dX6_wouldHoldProtected_94 : decode cX6_wouldHoldProtected 94 = .ok (.iload_n 1, 1) := dk_27 (dk_at dksX6_wouldHoldProtected_4 3 rfl rfl)
theorem dX6_wouldHoldProtected_95 : decode cX6_wouldHoldProtected 95 = .ok (.iload_n 2, 1) := dk_28 (dk_at dksX6_wouldHoldProtected_4 4 rfl rfl)
theorem dX6_wouldHoldProtected_96 : decode cX6_wouldHoldProtected 96 = .ok (.invokevirtual 84, 3) := dk_182 0 84 (dk_at dksX6_wouldHoldProtected_4 5 rfl rfl)
theorem dX6_wouldHoldProtected_99 : decode cX6_wouldHoldProtected 99 = .ok (.if_icmp .eq 7, 3) := dk_159 0 7 (dk_at dksX6_wouldHoldProtected_4 8 rfl rfl)
theorem dX6_wouldHoldProtected_102 : decode cX6_wouldHoldProtected 102 = .ok (.iconst 1, 1) := dk_4 (dk_at dksX6_wouldHoldProtected_4 11 rfl rfl)
theorem dX6_wouldHoldProtected_103 : decode cX6_wouldHoldProtected 103 = .ok (.goto 4, 3) := dk_167 0 4 (dk_at dksX6_wouldHoldProtected_4 12 rfl rfl)
theorem dX6_wouldHoldProtected_106 : decode cX6_wouldHoldProtected 106 = .ok (.iconst 0, 1) := dk_3 (dk_at dksX6_wouldHoldProtected_4 15 rfl rfl)
theorem dX6_wouldHoldProtected_107 : decode cX6_wouldHoldProtected 107 = .ok (.ireturn, 1) := dk_172 (dk_at dksX6_wouldHoldProtected_4 16 rfl rfl)
abbrev cX6_give : ByteArray := prog_18_method_27_code
def yX6_give : MethodName := ⟨RX6, "give", "(IIII)V"⟩
def dkwX6_give_3 : List UInt8 := [42, 180, 0, 9, 21, 6, 6, 96, 21, 4, 79, 177]
abbrev dktX6_give_3 : List UInt8 := dkwX6_give_3 ++ []
def dkwX6_give_2 : List UInt8 := [21, 6, 27, 79, 42, 180, 0, 9, 21, 6, 4, 96, 28, 79, 42, 180, 0, 9, 21, 6, 5, 96, 29, 79]
abbrev dktX6_give_2 : List UInt8 := dkwX6_give_2 ++ dktX6_give_3
def dkwX6_give_1 : List UInt8 := [180, 0, 9, 4, 92, 46, 4, 96, 79, 17, 0, 162, 7, 21, 5, 104, 96, 54, 6, 42, 180, 0, 9]
abbrev dktX6_give_1 : List UInt8 := dkwX6_give_1 ++ dktX6_give_2
def dkwX6_give_0 : List UInt8 := [42, 27, 28, 182, 0, 98, 54, 5, 21, 5, 156, 0, 21, 42, 180, 0, 9, 4, 46, 54, 5, 42]
abbrev dktX6_give_0 : List UInt8 := dkwX6_give_0 ++ dktX6_give_1
theorem dksX6_give_0 : cX6_give.data.toList.drop 0 = dktX6_give_0 := by decide +kernel
theorem dksX6_give_1 : cX6_give.data.toList.drop 22 = dktX6_give_1 := dk_seg dksX6_give_0 22 rfl rfl
theorem dksX6_give_2 : cX6_give.data.toList.drop 45 = dktX6_give_2 := dk_seg dksX6_give_1 23 rfl rfl
theorem dksX6_give_3 : cX6_give.data.toList.drop 69 = dktX6_give_3 := dk_seg dksX6_give_2 24 rfl rfl
theorem dX6_give_0 : decode cX6_give 0 = .ok (.aload_n 0, 1) := dk_42 (dk_at dksX6_give_0 0 rfl rfl)
theorem dX6_give_1 : decode cX6_give 1 = .ok (.iload_n 1, 1) := dk_27 (dk_at dksX6_give_0 1 rfl rfl)
theorem dX6_give_2 : decode cX6_give 2 = .ok (.iload_n 2, 1) := dk_28 (dk_at dksX6_give_0 2 rfl rfl)
theorem dX6_give_3 : decode cX6_give 3 = .ok (.invokevirtual 98, 3) := dk_182 0 98 (dk_at dksX6_give_0 3 rfl rfl)
theorem dX6_give_6 : decode cX6_give 6 = .ok (.istore 5, 2) := dk_54 5 (dk_at dksX6_give_0 6 rfl rfl)
theorem dX6_give_8 : decode cX6_give 8 = .ok (.iload 5, 2) := dk_21 5 (dk_at dksX6_give_0 8 rfl rfl)
theorem dX6_give_10 : decode cX6_give 10 = .ok (.ifCond .ge 21, 3) := dk_156 0 21 (dk_at dksX6_give_0 10 rfl rfl)
theorem dX6_give_13 : decode cX6_give 13 = .ok (.aload_n 0, 1) := dk_42 (dk_at dksX6_give_0 13 rfl rfl)
theorem dX6_give_14 : decode cX6_give 14 = .ok (.getfield 9, 3) := dk_180 0 9 (dk_at dksX6_give_0 14 rfl rfl)
theorem dX6_give_17 : decode cX6_give 17 = .ok (.iconst 1, 1) := dk_4 (dk_at dksX6_give_0 17 rfl rfl)
theorem dX6_give_18 : decode cX6_give 18 = .ok (.iaload, 1) := dk_46 (dk_at dksX6_give_0 18 rfl rfl)
theorem dX6_give_19 : decode cX6_give 19 = .ok (.istore 5, 2) := dk_54 5 (dk_at dksX6_give_0 19 rfl rfl)
theorem dX6_give_21 : decode cX6_give 21 = .ok (.aload_n 0, 1) := dk_42 (dk_at dksX6_give_0 21 rfl rfl)
theorem dX6_give_22 : decode cX6_give 22 = .ok (.getfield 9, 3) := dk_180 0 9 (dk_at dksX6_give_1 0 rfl rfl)
theorem dX6_give_25 : decode cX6_give 25 = .ok (.iconst 1, 1) := dk_4 (dk_at dksX6_give_1 3 rfl rfl)
theorem dX6_give_26 : decode cX6_give 26 = .ok (.dup2, 1) := dk_92 (dk_at dksX6_give_1 4 rfl rfl)
theorem dX6_give_27 : decode cX6_give 27 = .ok (.iaload, 1) := dk_46 (dk_at dksX6_give_1 5 rfl rfl)
theorem dX6_give_28 : decode cX6_give 28 = .ok (.iconst 1, 1) := dk_4 (dk_at dksX6_give_1 6 rfl rfl)
theorem dX6_give_29 : decode cX6_give 29 = .ok (.iadd, 1) := dk_96 (dk_at dksX6_give_1 7 rfl rfl)
theorem dX6_give_30 : decode cX6_give 30 = .ok (.iastore, 1) := dk_79 (dk_at dksX6_give_1 8 rfl rfl)
theorem dX6_give_31 : decode cX6_give 31 = .ok (.sipush 162, 3) := dk_17 0 162 (dk_at dksX6_give_1 9 rfl rfl)
theorem dX6_give_34 : decode cX6_give 34 = .ok (.iconst 4, 1) := dk_7 (dk_at dksX6_give_1 12 rfl rfl)
theorem dX6_give_35 : decode cX6_give 35 = .ok (.iload 5, 2) := dk_21 5 (dk_at dksX6_give_1 13 rfl rfl)
theorem dX6_give_37 : decode cX6_give 37 = .ok (.imul, 1) := dk_104 (dk_at dksX6_give_1 15 rfl rfl)
theorem dX6_give_38 : decode cX6_give 38 = .ok (.iadd, 1) := dk_96 (dk_at dksX6_give_1 16 rfl rfl)
theorem dX6_give_39 : decode cX6_give 39 = .ok (.istore 6, 2) := dk_54 6 (dk_at dksX6_give_1 17 rfl rfl)
theorem dX6_give_41 : decode cX6_give 41 = .ok (.aload_n 0, 1) := dk_42 (dk_at dksX6_give_1 19 rfl rfl)
theorem dX6_give_42 : decode cX6_give 42 = .ok (.getfield 9, 3) := dk_180 0 9 (dk_at dksX6_give_1 20 rfl rfl)
theorem dX6_give_45 : decode cX6_give 45 = .ok (.iload 6, 2) := dk_21 6 (dk_at dksX6_give_2 0 rfl rfl)
theorem dX6_give_47 : decode cX6_give 47 = .ok (.iload_n 1, 1) := dk_27 (dk_at dksX6_give_2 2 rfl rfl)
theorem dX6_give_48 : decode cX6_give 48 = .ok (.iastore, 1) := dk_79 (dk_at dksX6_give_2 3 rfl rfl)
theorem dX6_give_49 : decode cX6_give 49 = .ok (.aload_n 0, 1) := dk_42 (dk_at dksX6_give_2 4 rfl rfl)
theorem dX6_give_50 : decode cX6_give 50 = .ok (.getfield 9, 3) := dk_180 0 9 (dk_at dksX6_give_2 5 rfl rfl)
theorem dX6_give_53 : decode cX6_give 53 = .ok (.iload 6, 2) := dk_21 6 (dk_at dksX6_give_2 8 rfl rfl)
theorem dX6_give_55 : decode cX6_give 55 = .ok (.iconst 1, 1) := dk_4 (dk_at dksX6_give_2 10 rfl rfl)
theorem dX6_give_56 : decode cX6_give 56 = .ok (.iadd, 1) := dk_96 (dk_at dksX6_give_2 11 rfl rfl)
theorem dX6_give_57 : decode cX6_give 57 = .ok (.iload_n 2, 1) := dk_28 (dk_at dksX6_give_2 12 rfl rfl)
theorem dX6_give_58 : decode cX6_give 58 = .ok (.iastore, 1) := dk_79 (dk_at dksX6_give_2 13 rfl rfl)
theorem dX6_give_59 : decode cX6_give 59 = .ok (.aload_n 0, 1) := dk_42 (dk_at dksX6_give_2 14 rfl rfl)
theorem dX6_give_60 : decode cX6_give 60 = .ok (.getfield 9, 3) := dk_180 0 9 (dk_at dksX6_give_2 15 rfl rfl)
theorem dX6_give_63 : decode cX6_give 63 = .ok (.iload 6, 2) := dk_21 6 (dk_at dksX6_give_2 18 rfl rfl)
theorem dX6_give_65 : decode cX6_give 65 = .ok (.iconst 2, 1) := dk_5 (dk_at dksX6_give_2 20 rfl rfl)
theorem dX6_give_66 : decode cX6_give 66 = .ok (.iadd, 1) := dk_96 (dk_at dksX6_give_2 21 rfl rfl)
theorem dX6_give_67 : decode cX6_give 67 = .ok (.iload_n 3, 1) := dk_29 (dk_at dksX6_give_2 22 rfl rfl)
theorem dX6_give_68 : decode cX6_give 68 = .ok (.iastore, 1) := dk_79 (dk_at dksX6_give_2 23 rfl rfl)
theorem dX6_give_69 : decode cX6_give 69 = .ok (.aload_n 0, 1) := dk_42 (dk_at dksX6_give_3 0 rfl rfl)
theorem dX6_give_70 : decode cX6_give 70 = .ok (.getfield 9, 3) := dk_180 0 9 (dk_at dksX6_give_3 1 rfl rfl)
theorem dX6_give_73 : decode cX6_give 73 = .ok (.iload 6, 2) := dk_21 6 (dk_at dksX6_give_3 4 rfl rfl)
theorem dX6_give_75 : decode cX6_give 75 = .ok (.iconst 3, 1) := dk_6 (dk_at dksX6_give_3 6 rfl rfl)
theorem dX6_give_76 : decode cX6_give 76 = .ok (.iadd, 1) := dk_96 (dk_at dksX6_give_3 7 rfl rfl)
theorem dX6_give_77 : decode cX6_give 77 = .ok (.iload 4, 2) := dk_21 4 (dk_at dksX6_give_3 8 rfl rfl)
theorem dX6_give_79 : decode cX6_give 79 = .ok (.iastore, 1) := dk_79 (dk_at dksX6_give_3 10 rfl rfl)
theorem dX6_give_80 : decode cX6_give 80 = .ok (.return_, 1) := dk_177 (dk_at dksX6_give_3 11 rfl rfl)
abbrev cX6_hold : ByteArray := prog_18_method_36_code
def yX6_hold : MethodName := ⟨RX6, "hold", "(II)I"⟩
def dkwX6_hold_5 : List UInt8 := [182, 0, 125, 132, 3, 1, 167, 255, 159, 3, 172]
abbrev dktX6_hold_5 : List UInt8 := dkwX6_hold_5 ++ []
def dkwX6_hold_4 : List UInt8 := [4, 46, 16, 60, 160, 0, 5, 5, 172, 42, 42, 180, 0, 9, 27, 184, 0, 63, 46, 29, 21, 4, 3]
abbrev dktX6_hold_4 : List UInt8 := dkwX6_hold_4 ++ dktX6_hold_5
def dkwX6_hold_3 : List UInt8 := [159, 0, 50, 42, 180, 0, 9, 27, 184, 0, 63, 6, 96, 46, 4, 160, 0, 5, 4, 172, 42, 180, 0, 9]
abbrev dktX6_hold_3 : List UInt8 := dkwX6_hold_3 ++ dktX6_hold_4
def dkwX6_hold_2 : List UInt8 := [42, 180, 0, 9, 27, 184, 0, 63, 46, 29, 182, 0, 98, 156, 0, 61, 42, 27, 29, 182, 0, 84, 21, 4]
abbrev dktX6_hold_2 : List UInt8 := dkwX6_hold_2 ++ dktX6_hold_3
def dkwX6_hold_1 : List UInt8 := [3, 172, 3, 62, 29, 16, 12, 162, 0, 97, 42, 180, 0, 22, 16, 12, 28, 104, 29, 96, 46, 54, 4, 42]
abbrev dktX6_hold_1 : List UInt8 := dkwX6_hold_1 ++ dktX6_hold_2
def dkwX6_hold_0 : List UInt8 := [27, 3, 42, 180, 0, 9, 3, 46, 4, 100, 184, 0, 70, 153, 0, 11, 42, 27, 182, 0, 101, 153, 0, 5]
abbrev dktX6_hold_0 : List UInt8 := dkwX6_hold_0 ++ dktX6_hold_1
theorem dksX6_hold_0 : cX6_hold.data.toList.drop 0 = dktX6_hold_0 := by decide +kernel
theorem dksX6_hold_1 : cX6_hold.data.toList.drop 24 = dktX6_hold_1 := dk_seg dksX6_hold_0 24 rfl rfl
theorem dksX6_hold_2 : cX6_hold.data.toList.drop 48 = dktX6_hold_2 := dk_seg dksX6_hold_1 24 rfl rfl
theorem dksX6_hold_3 : cX6_hold.data.toList.drop 72 = dktX6_hold_3 := dk_seg dksX6_hold_2 24 rfl rfl
theorem dksX6_hold_4 : cX6_hold.data.toList.drop 96 = dktX6_hold_4 := dk_seg dksX6_hold_3 24 rfl rfl
theorem dksX6_hold_5 : cX6_hold.data.toList.drop 119 = dktX6_hold_5 := dk_seg dksX6_hold_4 23 rfl rfl
theorem dX6_hold_0 : decode cX6_hold 0 = .ok (.iload_n 1, 1) := dk_27 (dk_at dksX6_hold_0 0 rfl rfl)
theorem dX6_hold_1 : decode cX6_hold 1 = .ok (.iconst 0, 1) := dk_3 (dk_at dksX6_hold_0 1 rfl rfl)
theorem dX6_hold_2 : decode cX6_hold 2 = .ok (.aload_n 0, 1) := dk_42 (dk_at dksX6_hold_0 2 rfl rfl)
theorem dX6_hold_3 : decode cX6_hold 3 = .ok (.getfield 9, 3) := dk_180 0 9 (dk_at dksX6_hold_0 3 rfl rfl)
theorem dX6_hold_6 : decode cX6_hold 6 = .ok (.iconst 0, 1) := dk_3 (dk_at dksX6_hold_0 6 rfl rfl)
theorem dX6_hold_7 : decode cX6_hold 7 = .ok (.iaload, 1) := dk_46 (dk_at dksX6_hold_0 7 rfl rfl)
theorem dX6_hold_8 : decode cX6_hold 8 = .ok (.iconst 1, 1) := dk_4 (dk_at dksX6_hold_0 8 rfl rfl)
theorem dX6_hold_9 : decode cX6_hold 9 = .ok (.isub, 1) := dk_100 (dk_at dksX6_hold_0 9 rfl rfl)
theorem dX6_hold_10 : decode cX6_hold 10 = .ok (.invokestatic 70, 3) := dk_184 0 70 (dk_at dksX6_hold_0 10 rfl rfl)
theorem dX6_hold_13 : decode cX6_hold 13 = .ok (.ifCond .eq 11, 3) := dk_153 0 11 (dk_at dksX6_hold_0 13 rfl rfl)
theorem dX6_hold_16 : decode cX6_hold 16 = .ok (.aload_n 0, 1) := dk_42 (dk_at dksX6_hold_0 16 rfl rfl)
theorem dX6_hold_17 : decode cX6_hold 17 = .ok (.iload_n 1, 1) := dk_27 (dk_at dksX6_hold_0 17 rfl rfl)
theorem dX6_hold_18 : decode cX6_hold 18 = .ok (.invokevirtual 101, 3) := dk_182 0 101 (dk_at dksX6_hold_0 18 rfl rfl)
theorem dX6_hold_21 : decode cX6_hold 21 = .ok (.ifCond .eq 5, 3) := dk_153 0 5 (dk_at dksX6_hold_0 21 rfl rfl)
theorem dX6_hold_24 : decode cX6_hold 24 = .ok (.iconst 0, 1) := dk_3 (dk_at dksX6_hold_1 0 rfl rfl)
theorem dX6_hold_25 : decode cX6_hold 25 = .ok (.ireturn, 1) := dk_172 (dk_at dksX6_hold_1 1 rfl rfl)
theorem dX6_hold_26 : decode cX6_hold 26 = .ok (.iconst 0, 1) := dk_3 (dk_at dksX6_hold_1 2 rfl rfl)
theorem dX6_hold_27 : decode cX6_hold 27 = .ok (.istore_n 3, 1) := dk_62 (dk_at dksX6_hold_1 3 rfl rfl)
theorem dX6_hold_28 : decode cX6_hold 28 = .ok (.iload_n 3, 1) := dk_29 (dk_at dksX6_hold_1 4 rfl rfl)
theorem dX6_hold_29 : decode cX6_hold 29 = .ok (.bipush 12, 2) := dk_16 12 (dk_at dksX6_hold_1 5 rfl rfl)
theorem dX6_hold_31 : decode cX6_hold 31 = .ok (.if_icmp .ge 97, 3) := dk_162 0 97 (dk_at dksX6_hold_1 7 rfl rfl)
theorem dX6_hold_34 : decode cX6_hold 34 = .ok (.aload_n 0, 1) := dk_42 (dk_at dksX6_hold_1 10 rfl rfl)
theorem dX6_hold_35 : decode cX6_hold 35 = .ok (.getfield 22, 3) := dk_180 0 22 (dk_at dksX6_hold_1 11 rfl rfl)
theorem dX6_hold_38 : decode cX6_hold 38 = .ok (.bipush 12, 2) := dk_16 12 (dk_at dksX6_hold_1 14 rfl rfl)
theorem dX6_hold_40 : decode cX6_hold 40 = .ok (.iload_n 2, 1) := dk_28 (dk_at dksX6_hold_1 16 rfl rfl)
theorem dX6_hold_41 : decode cX6_hold 41 = .ok (.imul, 1) := dk_104 (dk_at dksX6_hold_1 17 rfl rfl)
theorem dX6_hold_42 : decode cX6_hold 42 = .ok (.iload_n 3, 1) := dk_29 (dk_at dksX6_hold_1 18 rfl rfl)
theorem dX6_hold_43 : decode cX6_hold 43 = .ok (.iadd, 1) := dk_96 (dk_at dksX6_hold_1 19 rfl rfl)
theorem dX6_hold_44 : decode cX6_hold 44 = .ok (.iaload, 1) := dk_46 (dk_at dksX6_hold_1 20 rfl rfl)
theorem dX6_hold_45 : decode cX6_hold 45 = .ok (.istore 4, 2) := dk_54 4 (dk_at dksX6_hold_1 21 rfl rfl)
theorem dX6_hold_47 : decode cX6_hold 47 = .ok (.aload_n 0, 1) := dk_42 (dk_at dksX6_hold_1 23 rfl rfl)
theorem dX6_hold_48 : decode cX6_hold 48 = .ok (.aload_n 0, 1) := dk_42 (dk_at dksX6_hold_2 0 rfl rfl)
theorem dX6_hold_49 : decode cX6_hold 49 = .ok (.getfield 9, 3) := dk_180 0 9 (dk_at dksX6_hold_2 1 rfl rfl)
theorem dX6_hold_52 : decode cX6_hold 52 = .ok (.iload_n 1, 1) := dk_27 (dk_at dksX6_hold_2 4 rfl rfl)
theorem dX6_hold_53 : decode cX6_hold 53 = .ok (.invokestatic 63, 3) := dk_184 0 63 (dk_at dksX6_hold_2 5 rfl rfl)
theorem dX6_hold_56 : decode cX6_hold 56 = .ok (.iaload, 1) := dk_46 (dk_at dksX6_hold_2 8 rfl rfl)
theorem dX6_hold_57 : decode cX6_hold 57 = .ok (.iload_n 3, 1) := dk_29 (dk_at dksX6_hold_2 9 rfl rfl)
theorem dX6_hold_58 : decode cX6_hold 58 = .ok (.invokevirtual 98, 3) := dk_182 0 98 (dk_at dksX6_hold_2 10 rfl rfl)
theorem dX6_hold_61 : decode cX6_hold 61 = .ok (.ifCond .ge 61, 3) := dk_156 0 61 (dk_at dksX6_hold_2 13 rfl rfl)
theorem dX6_hold_64 : decode cX6_hold 64 = .ok (.aload_n 0, 1) := dk_42 (dk_at dksX6_hold_2 16 rfl rfl)
theorem dX6_hold_65 : decode cX6_hold 65 = .ok (.iload_n 1, 1) := dk_27 (dk_at dksX6_hold_2 17 rfl rfl)
theorem dX6_hold_66 : decode cX6_hold 66 = .ok (.iload_n 3, 1) := dk_29 (dk_at dksX6_hold_2 18 rfl rfl)
theorem dX6_hold_67 : decode cX6_hold 67 = .ok (.invokevirtual 84, 3) := dk_182 0 84 (dk_at dksX6_hold_2 19 rfl rfl)
theorem dX6_hold_70 : decode cX6_hold 70 = .ok (.iload 4, 2) := dk_21 4 (dk_at dksX6_hold_2 22 rfl rfl)
theorem dX6_hold_72 : decode cX6_hold 72 = .ok (.if_icmp .eq 50, 3) := dk_159 0 50 (dk_at dksX6_hold_3 0 rfl rfl)
theorem dX6_hold_75 : decode cX6_hold 75 = .ok (.aload_n 0, 1) := dk_42 (dk_at dksX6_hold_3 3 rfl rfl)
theorem dX6_hold_76 : decode cX6_hold 76 = .ok (.getfield 9, 3) := dk_180 0 9 (dk_at dksX6_hold_3 4 rfl rfl)
theorem dX6_hold_79 : decode cX6_hold 79 = .ok (.iload_n 1, 1) := dk_27 (dk_at dksX6_hold_3 7 rfl rfl)
theorem dX6_hold_80 : decode cX6_hold 80 = .ok (.invokestatic 63, 3) := dk_184 0 63 (dk_at dksX6_hold_3 8 rfl rfl)
theorem dX6_hold_83 : decode cX6_hold 83 = .ok (.iconst 3, 1) := dk_6 (dk_at dksX6_hold_3 11 rfl rfl)
theorem dX6_hold_84 : decode cX6_hold 84 = .ok (.iadd, 1) := dk_96 (dk_at dksX6_hold_3 12 rfl rfl)
theorem dX6_hold_85 : decode cX6_hold 85 = .ok (.iaload, 1) := dk_46 (dk_at dksX6_hold_3 13 rfl rfl)
theorem dX6_hold_86 : decode cX6_hold 86 = .ok (.iconst 1, 1) := dk_4 (dk_at dksX6_hold_3 14 rfl rfl)
theorem dX6_hold_87 : decode cX6_hold 87 = .ok (.if_icmp .ne 5, 3) := dk_160 0 5 (dk_at dksX6_hold_3 15 rfl rfl)
theorem dX6_hold_90 : decode cX6_hold 90 = .ok (.iconst 1, 1) := dk_4 (dk_at dksX6_hold_3 18 rfl rfl)
theorem dX6_hold_91 : decode cX6_hold 91 = .ok (.ireturn, 1) := dk_172 (dk_at dksX6_hold_3 19 rfl rfl)
theorem dX6_hold_92 : decode cX6_hold 92 = .ok (.aload_n 0, 1) := dk_42 (dk_at dksX6_hold_3 20 rfl rfl)
theorem dX6_hold_93 : decode cX6_hold 93 = .ok (.getfield 9, 3) := dk_180 0 9 (dk_at dksX6_hold_3 21 rfl rfl)
theorem dX6_hold_96 : decode cX6_hold 96 = .ok (.iconst 1, 1) := dk_4 (dk_at dksX6_hold_4 0 rfl rfl)
theorem dX6_hold_97 : decode cX6_hold 97 = .ok (.iaload, 1) := dk_46 (dk_at dksX6_hold_4 1 rfl rfl)
theorem dX6_hold_98 : decode cX6_hold 98 = .ok (.bipush 60, 2) := dk_16 60 (dk_at dksX6_hold_4 2 rfl rfl)
theorem dX6_hold_100 : decode cX6_hold 100 = .ok (.if_icmp .ne 5, 3) := dk_160 0 5 (dk_at dksX6_hold_4 4 rfl rfl)
theorem dX6_hold_103 : decode cX6_hold 103 = .ok (.iconst 2, 1) := dk_5 (dk_at dksX6_hold_4 7 rfl rfl)
theorem dX6_hold_104 : decode cX6_hold 104 = .ok (.ireturn, 1) := dk_172 (dk_at dksX6_hold_4 8 rfl rfl)
theorem dX6_hold_105 : decode cX6_hold 105 = .ok (.aload_n 0, 1) := dk_42 (dk_at dksX6_hold_4 9 rfl rfl)
theorem dX6_hold_106 : decode cX6_hold 106 = .ok (.aload_n 0, 1) := dk_42 (dk_at dksX6_hold_4 10 rfl rfl)
theorem dX6_hold_107 : decode cX6_hold 107 = .ok (.getfield 9, 3) := dk_180 0 9 (dk_at dksX6_hold_4 11 rfl rfl)
theorem dX6_hold_110 : decode cX6_hold 110 = .ok (.iload_n 1, 1) := dk_27 (dk_at dksX6_hold_4 14 rfl rfl)
theorem dX6_hold_111 : decode cX6_hold 111 = .ok (.invokestatic 63, 3) := dk_184 0 63 (dk_at dksX6_hold_4 15 rfl rfl)
theorem dX6_hold_114 : decode cX6_hold 114 = .ok (.iaload, 1) := dk_46 (dk_at dksX6_hold_4 18 rfl rfl)
theorem dX6_hold_115 : decode cX6_hold 115 = .ok (.iload_n 3, 1) := dk_29 (dk_at dksX6_hold_4 19 rfl rfl)
theorem dX6_hold_116 : decode cX6_hold 116 = .ok (.iload 4, 2) := dk_21 4 (dk_at dksX6_hold_4 20 rfl rfl)
theorem dX6_hold_118 : decode cX6_hold 118 = .ok (.iconst 0, 1) := dk_3 (dk_at dksX6_hold_4 22 rfl rfl)
theorem dX6_hold_119 : decode cX6_hold 119 = .ok (.invokevirtual 125, 3) := dk_182 0 125 (dk_at dksX6_hold_5 0 rfl rfl)
theorem dX6_hold_122 : decode cX6_hold 122 = .ok (.iinc 3 1, 3) := dk_132 3 1 (dk_at dksX6_hold_5 3 rfl rfl)
theorem dX6_hold_125 : decode cX6_hold 125 = .ok (.goto (-97), 3) := dk_167 255 159 (dk_at dksX6_hold_5 6 rfl rfl)
theorem dX6_hold_128 : decode cX6_hold 128 = .ok (.iconst 0, 1) := dk_3 (dk_at dksX6_hold_5 9 rfl rfl)
theorem dX6_hold_129 : decode cX6_hold 129 = .ok (.ireturn, 1) := dk_172 (dk_at dksX6_hold_5 10 rfl rfl)
abbrev cX6_refuse : ByteArray := prog_18_method_8_code
def yX6_refuse : MethodName := ⟨RX6, "refuse", "(I)I"⟩
def dkwX6_refuse_0 : List UInt8 := [42, 27, 181, 0, 60, 42, 180, 0, 13, 3, 42, 180, 0, 9, 3, 17, 1, 206, 184, 0, 48, 27, 172]
abbrev dktX6_refuse_0 : List UInt8 := dkwX6_refuse_0 ++ []
theorem dksX6_refuse_0 : cX6_refuse.data.toList.drop 0 = dktX6_refuse_0 := by decide +kernel
theorem dX6_refuse_0 : decode cX6_refuse 0 = .ok (.aload_n 0, 1) := dk_42 (dk_at dksX6_refuse_0 0 rfl rfl)
theorem dX6_refuse_1 : decode cX6_refuse 1 = .ok (.iload_n 1, 1) := dk_27 (dk_at dksX6_refuse_0 1 rfl rfl)
theorem dX6_refuse_2 : decode cX6_refuse 2 = .ok (.putfield 60, 3) := dk_181 0 60 (dk_at dksX6_refuse_0 2 rfl rfl)
theorem dX6_refuse_5 : decode cX6_refuse 5 = .ok (.aload_n 0, 1) := dk_42 (dk_at dksX6_refuse_0 5 rfl rfl)
theorem dX6_refuse_6 : decode cX6_refuse 6 = .ok (.getfield 13, 3) := dk_180 0 13 (dk_at dksX6_refuse_0 6 rfl rfl)
theorem dX6_refuse_9 : decode cX6_refuse 9 = .ok (.iconst 0, 1) := dk_3 (dk_at dksX6_refuse_0 9 rfl rfl)
theorem dX6_refuse_10 : decode cX6_refuse 10 = .ok (.aload_n 0, 1) := dk_42 (dk_at dksX6_refuse_0 10 rfl rfl)
theorem dX6_refuse_11 : decode cX6_refuse 11 = .ok (.getfield 9, 3) := dk_180 0 9 (dk_at dksX6_refuse_0 11 rfl rfl)
theorem dX6_refuse_14 : decode cX6_refuse 14 = .ok (.iconst 0, 1) := dk_3 (dk_at dksX6_refuse_0 14 rfl rfl)
theorem dX6_refuse_15 : decode cX6_refuse 15 = .ok (.sipush 462, 3) := dk_17 1 206 (dk_at dksX6_refuse_0 15 rfl rfl)
theorem dX6_refuse_18 : decode cX6_refuse 18 = .ok (.invokestatic 48, 3) := dk_184 0 48 (dk_at dksX6_refuse_0 18 rfl rfl)
theorem dX6_refuse_21 : decode cX6_refuse 21 = .ok (.iload_n 1, 1) := dk_27 (dk_at dksX6_refuse_0 21 rfl rfl)
theorem dX6_refuse_22 : decode cX6_refuse 22 = .ok (.ireturn, 1) := dk_172 (dk_at dksX6_refuse_0 22 rfl rfl)
abbrev cX6_changed : ByteArray := prog_18_method_37_code
def yX6_changed : MethodName := ⟨RX6, "changed", "(I)I"⟩
def dkwX6_changed_2 : List UInt8 := [167, 255, 215, 28, 172]
abbrev dktX6_changed_2 : List UInt8 := dkwX6_changed_2 ++ []
def dkwX6_changed_1 : List UInt8 := [180, 0, 22, 16, 12, 29, 104, 27, 96, 46, 159, 0, 7, 4, 167, 0, 4, 3, 96, 61, 132, 3, 1]
abbrev dktX6_changed_1 : List UInt8 := dkwX6_changed_1 ++ dktX6_changed_2
def dkwX6_changed_0 : List UInt8 := [3, 61, 3, 62, 29, 42, 180, 0, 9, 3, 46, 162, 0, 37, 28, 42, 29, 27, 182, 0, 84, 42]
abbrev dktX6_changed_0 : List UInt8 := dkwX6_changed_0 ++ dktX6_changed_1
theorem dksX6_changed_0 : cX6_changed.data.toList.drop 0 = dktX6_changed_0 := by decide +kernel
theorem dksX6_changed_1 : cX6_changed.data.toList.drop 22 = dktX6_changed_1 := dk_seg dksX6_changed_0 22 rfl rfl
theorem dksX6_changed_2 : cX6_changed.data.toList.drop 45 = dktX6_changed_2 := dk_seg dksX6_changed_1 23 rfl rfl
theorem dX6_changed_0 : decode cX6_changed 0 = .ok (.iconst 0, 1) := dk_3 (dk_at dksX6_changed_0 0 rfl rfl)
theorem dX6_changed_1 : decode cX6_changed 1 = .ok (.istore_n 2, 1) := dk_61 (dk_at dksX6_changed_0 1 rfl rfl)
theorem dX6_changed_2 : decode cX6_changed 2 = .ok (.iconst 0, 1) := dk_3 (dk_at dksX6_changed_0 2 rfl rfl)
theorem dX6_changed_3 : decode cX6_changed 3 = .ok (.istore_n 3, 1) := dk_62 (dk_at dksX6_changed_0 3 rfl rfl)
theorem dX6_changed_4 : decode cX6_changed 4 = .ok (.iload_n 3, 1) := dk_29 (dk_at dksX6_changed_0 4 rfl rfl)
theorem dX6_changed_5 : decode cX6_changed 5 = .ok (.aload_n 0, 1) := dk_42 (dk_at dksX6_changed_0 5 rfl rfl)
theorem dX6_changed_6 : decode cX6_changed 6 = .ok (.getfield 9, 3) := dk_180 0 9 (dk_at dksX6_changed_0 6 rfl rfl)
theorem dX6_changed_9 : decode cX6_changed 9 = .ok (.iconst 0, 1) := dk_3 (dk_at dksX6_changed_0 9 rfl rfl)
theorem dX6_changed_10 : decode cX6_changed 10 = .ok (.iaload, 1) := dk_46 (dk_at dksX6_changed_0 10 rfl rfl)
theorem dX6_changed_11 : decode cX6_changed 11 = .ok (.if_icmp .ge 37, 3) := dk_162 0 37 (dk_at dksX6_changed_0 11 rfl rfl)
theorem dX6_changed_14 : decode cX6_changed 14 = .ok (.iload_n 2, 1) := dk_28 (dk_at dksX6_changed_0 14 rfl rfl)
theorem dX6_changed_15 : decode cX6_changed 15 = .ok (.aload_n 0, 1) := dk_42 (dk_at dksX6_changed_0 15 rfl rfl)
theorem dX6_changed_16 : decode cX6_changed 16 = .ok (.iload_n 3, 1) := dk_29 (dk_at dksX6_changed_0 16 rfl rfl)
theorem dX6_changed_17 : decode cX6_changed 17 = .ok (.iload_n 1, 1) := dk_27 (dk_at dksX6_changed_0 17 rfl rfl)
theorem dX6_changed_18 : decode cX6_changed 18 = .ok (.invokevirtual 84, 3) := dk_182 0 84 (dk_at dksX6_changed_0 18 rfl rfl)
theorem dX6_changed_21 : decode cX6_changed 21 = .ok (.aload_n 0, 1) := dk_42 (dk_at dksX6_changed_0 21 rfl rfl)
theorem dX6_changed_22 : decode cX6_changed 22 = .ok (.getfield 22, 3) := dk_180 0 22 (dk_at dksX6_changed_1 0 rfl rfl)
theorem dX6_changed_25 : decode cX6_changed 25 = .ok (.bipush 12, 2) := dk_16 12 (dk_at dksX6_changed_1 3 rfl rfl)
theorem dX6_changed_27 : decode cX6_changed 27 = .ok (.iload_n 3, 1) := dk_29 (dk_at dksX6_changed_1 5 rfl rfl)
theorem dX6_changed_28 : decode cX6_changed 28 = .ok (.imul, 1) := dk_104 (dk_at dksX6_changed_1 6 rfl rfl)
theorem dX6_changed_29 : decode cX6_changed 29 = .ok (.iload_n 1, 1) := dk_27 (dk_at dksX6_changed_1 7 rfl rfl)
theorem dX6_changed_30 : decode cX6_changed 30 = .ok (.iadd, 1) := dk_96 (dk_at dksX6_changed_1 8 rfl rfl)
theorem dX6_changed_31 : decode cX6_changed 31 = .ok (.iaload, 1) := dk_46 (dk_at dksX6_changed_1 9 rfl rfl)
theorem dX6_changed_32 : decode cX6_changed 32 = .ok (.if_icmp .eq 7, 3) := dk_159 0 7 (dk_at dksX6_changed_1 10 rfl rfl)
theorem dX6_changed_35 : decode cX6_changed 35 = .ok (.iconst 1, 1) := dk_4 (dk_at dksX6_changed_1 13 rfl rfl)
theorem dX6_changed_36 : decode cX6_changed 36 = .ok (.goto 4, 3) := dk_167 0 4 (dk_at dksX6_changed_1 14 rfl rfl)
theorem dX6_changed_39 : decode cX6_changed 39 = .ok (.iconst 0, 1) := dk_3 (dk_at dksX6_changed_1 17 rfl rfl)
theorem dX6_changed_40 : decode cX6_changed 40 = .ok (.iadd, 1) := dk_96 (dk_at dksX6_changed_1 18 rfl rfl)
theorem dX6_changed_41 : decode cX6_changed 41 = .ok (.istore_n 2, 1) := dk_61 (dk_at dksX6_changed_1 19 rfl rfl)
theorem dX6_changed_42 : decode cX6_changed 42 = .ok (.iinc 3 1, 3) := dk_132 3 1 (dk_at dksX6_changed_1 20 rfl rfl)
theorem dX6_changed_45 : decode cX6_changed 45 = .ok (.goto (-41), 3) := dk_167 255 215 (dk_at dksX6_changed_2 0 rfl rfl)
theorem dX6_changed_48 : decode cX6_changed 48 = .ok (.iload_n 2, 1) := dk_28 (dk_at dksX6_changed_2 3 rfl rfl)
theorem dX6_changed_49 : decode cX6_changed 49 = .ok (.ireturn, 1) := dk_172 (dk_at dksX6_changed_2 4 rfl rfl)
abbrev cX6_release : ByteArray := prog_18_method_42_code
def yX6_release : MethodName := ⟨RX6, "release", "(IIIZ)I"⟩
def dkwX6_release_3 : List UInt8 := [182, 0, 145, 172]
abbrev dktX6_release_3 : List UInt8 := dkwX6_release_3 ++ []
def dkwX6_release_2 : List UInt8 := [29, 21, 4, 182, 0, 142, 158, 0, 10, 42, 5, 181, 0, 42, 3, 172, 42, 182, 0, 57, 42, 28]
abbrev dktX6_release_2 : List UInt8 := dkwX6_release_2 ++ dktX6_release_3
def dkwX6_release_1 : List UInt8 := [167, 0, 4, 4, 181, 0, 42, 42, 180, 0, 42, 158, 0, 5, 3, 172, 42, 182, 0, 54, 42, 27, 28, 2]
abbrev dktX6_release_1 : List UInt8 := dkwX6_release_1 ++ dktX6_release_2
def dkwX6_release_0 : List UInt8 := [42, 42, 27, 182, 0, 74, 153, 0, 21, 28, 184, 0, 122, 153, 0, 14, 29, 184, 0, 91, 153, 0, 7, 3]
abbrev dktX6_release_0 : List UInt8 := dkwX6_release_0 ++ dktX6_release_1
theorem dksX6_release_0 : cX6_release.data.toList.drop 0 = dktX6_release_0 := by decide +kernel
theorem dksX6_release_1 : cX6_release.data.toList.drop 24 = dktX6_release_1 := dk_seg dksX6_release_0 24 rfl rfl
theorem dksX6_release_2 : cX6_release.data.toList.drop 48 = dktX6_release_2 := dk_seg dksX6_release_1 24 rfl rfl
theorem dksX6_release_3 : cX6_release.data.toList.drop 70 = dktX6_release_3 := dk_seg dksX6_release_2 22 rfl rfl
theorem dX6_release_0 : decode cX6_release 0 = .ok (.aload_n 0, 1) := dk_42 (dk_at dksX6_release_0 0 rfl rfl)
theorem dX6_release_1 : decode cX6_release 1 = .ok (.aload_n 0, 1) := dk_42 (dk_at dksX6_release_0 1 rfl rfl)
theorem dX6_release_2 : decode cX6_release 2 = .ok (.iload_n 1, 1) := dk_27 (dk_at dksX6_release_0 2 rfl rfl)
theorem dX6_release_3 : decode cX6_release 3 = .ok (.invokevirtual 74, 3) := dk_182 0 74 (dk_at dksX6_release_0 3 rfl rfl)
theorem dX6_release_6 : decode cX6_release 6 = .ok (.ifCond .eq 21, 3) := dk_153 0 21 (dk_at dksX6_release_0 6 rfl rfl)
theorem dX6_release_9 : decode cX6_release 9 = .ok (.iload_n 2, 1) := dk_28 (dk_at dksX6_release_0 9 rfl rfl)
theorem dX6_release_10 : decode cX6_release 10 = .ok (.invokestatic 122, 3) := dk_184 0 122 (dk_at dksX6_release_0 10 rfl rfl)
theorem dX6_release_13 : decode cX6_release 13 = .ok (.ifCond .eq 14, 3) := dk_153 0 14 (dk_at dksX6_release_0 13 rfl rfl)
theorem dX6_release_16 : decode cX6_release 16 = .ok (.iload_n 3, 1) := dk_29 (dk_at dksX6_release_0 16 rfl rfl)
theorem dX6_release_17 : decode cX6_release 17 = .ok (.invokestatic 91, 3) := dk_184 0 91 (dk_at dksX6_release_0 17 rfl rfl)
theorem dX6_release_20 : decode cX6_release 20 = .ok (.ifCond .eq 7, 3) := dk_153 0 7 (dk_at dksX6_release_0 20 rfl rfl)
theorem dX6_release_23 : decode cX6_release 23 = .ok (.iconst 0, 1) := dk_3 (dk_at dksX6_release_0 23 rfl rfl)
theorem dX6_release_24 : decode cX6_release 24 = .ok (.goto 4, 3) := dk_167 0 4 (dk_at dksX6_release_1 0 rfl rfl)
theorem dX6_release_27 : decode cX6_release 27 = .ok (.iconst 1, 1) := dk_4 (dk_at dksX6_release_1 3 rfl rfl)
theorem dX6_release_28 : decode cX6_release 28 = .ok (.putfield 42, 3) := dk_181 0 42 (dk_at dksX6_release_1 4 rfl rfl)
theorem dX6_release_31 : decode cX6_release 31 = .ok (.aload_n 0, 1) := dk_42 (dk_at dksX6_release_1 7 rfl rfl)
theorem dX6_release_32 : decode cX6_release 32 = .ok (.getfield 42, 3) := dk_180 0 42 (dk_at dksX6_release_1 8 rfl rfl)
theorem dX6_release_35 : decode cX6_release 35 = .ok (.ifCond .le 5, 3) := dk_158 0 5 (dk_at dksX6_release_1 11 rfl rfl)
theorem dX6_release_38 : decode cX6_release 38 = .ok (.iconst 0, 1) := dk_3 (dk_at dksX6_release_1 14 rfl rfl)
theorem dX6_release_39 : decode cX6_release 39 = .ok (.ireturn, 1) := dk_172 (dk_at dksX6_release_1 15 rfl rfl)
theorem dX6_release_40 : decode cX6_release 40 = .ok (.aload_n 0, 1) := dk_42 (dk_at dksX6_release_1 16 rfl rfl)
theorem dX6_release_41 : decode cX6_release 41 = .ok (.invokevirtual 54, 3) := dk_182 0 54 (dk_at dksX6_release_1 17 rfl rfl)
theorem dX6_release_44 : decode cX6_release 44 = .ok (.aload_n 0, 1) := dk_42 (dk_at dksX6_release_1 20 rfl rfl)
theorem dX6_release_45 : decode cX6_release 45 = .ok (.iload_n 1, 1) := dk_27 (dk_at dksX6_release_1 21 rfl rfl)
theorem dX6_release_46 : decode cX6_release 46 = .ok (.iload_n 2, 1) := dk_28 (dk_at dksX6_release_1 22 rfl rfl)
theorem dX6_release_47 : decode cX6_release 47 = .ok (.iconst (-1), 1) := dk_2 (dk_at dksX6_release_1 23 rfl rfl)
theorem dX6_release_48 : decode cX6_release 48 = .ok (.iload_n 3, 1) := dk_29 (dk_at dksX6_release_2 0 rfl rfl)
theorem dX6_release_49 : decode cX6_release 49 = .ok (.iload 4, 2) := dk_21 4 (dk_at dksX6_release_2 1 rfl rfl)
theorem dX6_release_51 : decode cX6_release 51 = .ok (.invokevirtual 142, 3) := dk_182 0 142 (dk_at dksX6_release_2 3 rfl rfl)
theorem dX6_release_54 : decode cX6_release 54 = .ok (.ifCond .le 10, 3) := dk_158 0 10 (dk_at dksX6_release_2 6 rfl rfl)
theorem dX6_release_57 : decode cX6_release 57 = .ok (.aload_n 0, 1) := dk_42 (dk_at dksX6_release_2 9 rfl rfl)
theorem dX6_release_58 : decode cX6_release 58 = .ok (.iconst 2, 1) := dk_5 (dk_at dksX6_release_2 10 rfl rfl)
theorem dX6_release_59 : decode cX6_release 59 = .ok (.putfield 42, 3) := dk_181 0 42 (dk_at dksX6_release_2 11 rfl rfl)
theorem dX6_release_62 : decode cX6_release 62 = .ok (.iconst 0, 1) := dk_3 (dk_at dksX6_release_2 14 rfl rfl)
theorem dX6_release_63 : decode cX6_release 63 = .ok (.ireturn, 1) := dk_172 (dk_at dksX6_release_2 15 rfl rfl)
theorem dX6_release_64 : decode cX6_release 64 = .ok (.aload_n 0, 1) := dk_42 (dk_at dksX6_release_2 16 rfl rfl)
theorem dX6_release_65 : decode cX6_release 65 = .ok (.invokevirtual 57, 3) := dk_182 0 57 (dk_at dksX6_release_2 17 rfl rfl)
theorem dX6_release_68 : decode cX6_release 68 = .ok (.aload_n 0, 1) := dk_42 (dk_at dksX6_release_2 20 rfl rfl)
theorem dX6_release_69 : decode cX6_release 69 = .ok (.iload_n 2, 1) := dk_28 (dk_at dksX6_release_2 21 rfl rfl)
theorem dX6_release_70 : decode cX6_release 70 = .ok (.invokevirtual 145, 3) := dk_182 0 145 (dk_at dksX6_release_3 0 rfl rfl)
theorem dX6_release_73 : decode cX6_release 73 = .ok (.ireturn, 1) := dk_172 (dk_at dksX6_release_3 3 rfl rfl)
abbrev cX6_unset : ByteArray := prog_18_method_44_code
def yX6_unset : MethodName := ⟨RX6, "unset", "(IIZ)I"⟩
def dkwX6_unset_3 : List UInt8 := [182, 0, 145, 172]
abbrev dktX6_unset_3 : List UInt8 := dkwX6_unset_3 ++ []
def dkwX6_unset_2 : List UInt8 := [158, 0, 17, 42, 21, 4, 182, 0, 139, 87, 42, 5, 181, 0, 42, 3, 172, 42, 182, 0, 57, 42, 28]
abbrev dktX6_unset_2 : List UInt8 := dkwX6_unset_2 ++ dktX6_unset_3
def dkwX6_unset_1 : List UInt8 := [42, 180, 0, 42, 158, 0, 5, 3, 172, 42, 182, 0, 54, 42, 27, 28, 29, 182, 0, 152, 54, 4, 21, 4]
abbrev dktX6_unset_1 : List UInt8 := dkwX6_unset_1 ++ dktX6_unset_2
def dkwX6_unset_0 : List UInt8 := [42, 42, 27, 182, 0, 74, 153, 0, 14, 28, 184, 0, 122, 153, 0, 7, 3, 167, 0, 4, 4, 181, 0, 42]
abbrev dktX6_unset_0 : List UInt8 := dkwX6_unset_0 ++ dktX6_unset_1
theorem dksX6_unset_0 : cX6_unset.data.toList.drop 0 = dktX6_unset_0 := by decide +kernel
theorem dksX6_unset_1 : cX6_unset.data.toList.drop 24 = dktX6_unset_1 := dk_seg dksX6_unset_0 24 rfl rfl
theorem dksX6_unset_2 : cX6_unset.data.toList.drop 48 = dktX6_unset_2 := dk_seg dksX6_unset_1 24 rfl rfl
theorem dksX6_unset_3 : cX6_unset.data.toList.drop 71 = dktX6_unset_3 := dk_seg dksX6_unset_2 23 rfl rfl
theorem dX6_unset_0 : decode cX6_unset 0 = .ok (.aload_n 0, 1) := dk_42 (dk_at dksX6_unset_0 0 rfl rfl)
theorem dX6_unset_1 : decode cX6_unset 1 = .ok (.aload_n 0, 1) := dk_42 (dk_at dksX6_unset_0 1 rfl rfl)
theorem dX6_unset_2 : decode cX6_unset 2 = .ok (.iload_n 1, 1) := dk_27 (dk_at dksX6_unset_0 2 rfl rfl)
theorem dX6_unset_3 : decode cX6_unset 3 = .ok (.invokevirtual 74, 3) := dk_182 0 74 (dk_at dksX6_unset_0 3 rfl rfl)
theorem dX6_unset_6 : decode cX6_unset 6 = .ok (.ifCond .eq 14, 3) := dk_153 0 14 (dk_at dksX6_unset_0 6 rfl rfl)
theorem dX6_unset_9 : decode cX6_unset 9 = .ok (.iload_n 2, 1) := dk_28 (dk_at dksX6_unset_0 9 rfl rfl)
theorem dX6_unset_10 : decode cX6_unset 10 = .ok (.invokestatic 122, 3) := dk_184 0 122 (dk_at dksX6_unset_0 10 rfl rfl)
theorem dX6_unset_13 : decode cX6_unset 13 = .ok (.ifCond .eq 7, 3) := dk_153 0 7 (dk_at dksX6_unset_0 13 rfl rfl)
theorem dX6_unset_16 : decode cX6_unset 16 = .ok (.iconst 0, 1) := dk_3 (dk_at dksX6_unset_0 16 rfl rfl)
theorem dX6_unset_17 : decode cX6_unset 17 = .ok (.goto 4, 3) := dk_167 0 4 (dk_at dksX6_unset_0 17 rfl rfl)
theorem dX6_unset_20 : decode cX6_unset 20 = .ok (.iconst 1, 1) := dk_4 (dk_at dksX6_unset_0 20 rfl rfl)
theorem dX6_unset_21 : decode cX6_unset 21 = .ok (.putfield 42, 3) := dk_181 0 42 (dk_at dksX6_unset_0 21 rfl rfl)
theorem dX6_unset_24 : decode cX6_unset 24 = .ok (.aload_n 0, 1) := dk_42 (dk_at dksX6_unset_1 0 rfl rfl)
theorem dX6_unset_25 : decode cX6_unset 25 = .ok (.getfield 42, 3) := dk_180 0 42 (dk_at dksX6_unset_1 1 rfl rfl)
theorem dX6_unset_28 : decode cX6_unset 28 = .ok (.ifCond .le 5, 3) := dk_158 0 5 (dk_at dksX6_unset_1 4 rfl rfl)
theorem dX6_unset_31 : decode cX6_unset 31 = .ok (.iconst 0, 1) := dk_3 (dk_at dksX6_unset_1 7 rfl rfl)
theorem dX6_unset_32 : decode cX6_unset 32 = .ok (.ireturn, 1) := dk_172 (dk_at dksX6_unset_1 8 rfl rfl)
theorem dX6_unset_33 : decode cX6_unset 33 = .ok (.aload_n 0, 1) := dk_42 (dk_at dksX6_unset_1 9 rfl rfl)
theorem dX6_unset_34 : decode cX6_unset 34 = .ok (.invokevirtual 54, 3) := dk_182 0 54 (dk_at dksX6_unset_1 10 rfl rfl)
theorem dX6_unset_37 : decode cX6_unset 37 = .ok (.aload_n 0, 1) := dk_42 (dk_at dksX6_unset_1 13 rfl rfl)
theorem dX6_unset_38 : decode cX6_unset 38 = .ok (.iload_n 1, 1) := dk_27 (dk_at dksX6_unset_1 14 rfl rfl)
theorem dX6_unset_39 : decode cX6_unset 39 = .ok (.iload_n 2, 1) := dk_28 (dk_at dksX6_unset_1 15 rfl rfl)
theorem dX6_unset_40 : decode cX6_unset 40 = .ok (.iload_n 3, 1) := dk_29 (dk_at dksX6_unset_1 16 rfl rfl)
theorem dX6_unset_41 : decode cX6_unset 41 = .ok (.invokevirtual 152, 3) := dk_182 0 152 (dk_at dksX6_unset_1 17 rfl rfl)
theorem dX6_unset_44 : decode cX6_unset 44 = .ok (.istore 4, 2) := dk_54 4 (dk_at dksX6_unset_1 20 rfl rfl)
theorem dX6_unset_46 : decode cX6_unset 46 = .ok (.iload 4, 2) := dk_21 4 (dk_at dksX6_unset_1 22 rfl rfl)
theorem dX6_unset_48 : decode cX6_unset 48 = .ok (.ifCond .le 17, 3) := dk_158 0 17 (dk_at dksX6_unset_2 0 rfl rfl)
theorem dX6_unset_51 : decode cX6_unset 51 = .ok (.aload_n 0, 1) := dk_42 (dk_at dksX6_unset_2 3 rfl rfl)
theorem dX6_unset_52 : decode cX6_unset 52 = .ok (.iload 4, 2) := dk_21 4 (dk_at dksX6_unset_2 4 rfl rfl)
theorem dX6_unset_54 : decode cX6_unset 54 = .ok (.invokevirtual 139, 3) := dk_182 0 139 (dk_at dksX6_unset_2 6 rfl rfl)
theorem dX6_unset_57 : decode cX6_unset 57 = .ok (.pop, 1) := dk_87 (dk_at dksX6_unset_2 9 rfl rfl)
theorem dX6_unset_58 : decode cX6_unset 58 = .ok (.aload_n 0, 1) := dk_42 (dk_at dksX6_unset_2 10 rfl rfl)
theorem dX6_unset_59 : decode cX6_unset 59 = .ok (.iconst 2, 1) := dk_5 (dk_at dksX6_unset_2 11 rfl rfl)
theorem dX6_unset_60 : decode cX6_unset 60 = .ok (.putfield 42, 3) := dk_181 0 42 (dk_at dksX6_unset_2 12 rfl rfl)
theorem dX6_unset_63 : decode cX6_unset 63 = .ok (.iconst 0, 1) := dk_3 (dk_at dksX6_unset_2 15 rfl rfl)
theorem dX6_unset_64 : decode cX6_unset 64 = .ok (.ireturn, 1) := dk_172 (dk_at dksX6_unset_2 16 rfl rfl)
theorem dX6_unset_65 : decode cX6_unset 65 = .ok (.aload_n 0, 1) := dk_42 (dk_at dksX6_unset_2 17 rfl rfl)
theorem dX6_unset_66 : decode cX6_unset 66 = .ok (.invokevirtual 57, 3) := dk_182 0 57 (dk_at dksX6_unset_2 18 rfl rfl)
theorem dX6_unset_69 : decode cX6_unset 69 = .ok (.aload_n 0, 1) := dk_42 (dk_at dksX6_unset_2 21 rfl rfl)
theorem dX6_unset_70 : decode cX6_unset 70 = .ok (.iload_n 2, 1) := dk_28 (dk_at dksX6_unset_2 22 rfl rfl)
theorem dX6_unset_71 : decode cX6_unset 71 = .ok (.invokevirtual 145, 3) := dk_182 0 145 (dk_at dksX6_unset_3 0 rfl rfl)
theorem dX6_unset_74 : decode cX6_unset 74 = .ok (.ireturn, 1) := dk_172 (dk_at dksX6_unset_3 3 rfl rfl)
abbrev cX6_takeHeld : ByteArray := prog_18_method_43_code
def yX6_takeHeld : MethodName := ⟨RX6, "takeHeld", "(IIZ)I"⟩
def dkwX6_takeHeld_2 : List UInt8 := [182, 0, 148, 29, 153, 0, 18, 42, 21, 4, 4, 96, 21, 4, 4, 96, 182, 0, 132, 167, 0, 4, 3, 172]
abbrev dktX6_takeHeld_2 : List UInt8 := dkwX6_takeHeld_2 ++ []
def dkwX6_takeHeld_1 : List UInt8 := [6, 96, 46, 4, 160, 0, 5, 4, 172, 21, 5, 156, 0, 5, 6, 172, 42, 182, 0, 88, 42, 21, 5]
abbrev dktX6_takeHeld_1 : List UInt8 := dkwX6_takeHeld_1 ++ dktX6_takeHeld_2
def dkwX6_takeHeld_0 : List UInt8 := [42, 27, 182, 0, 67, 54, 4, 42, 27, 28, 182, 0, 98, 54, 5, 42, 180, 0, 9, 21, 4, 184, 0, 63]
abbrev dktX6_takeHeld_0 : List UInt8 := dkwX6_takeHeld_0 ++ dktX6_takeHeld_1
theorem dksX6_takeHeld_0 : cX6_takeHeld.data.toList.drop 0 = dktX6_takeHeld_0 := by decide +kernel
theorem dksX6_takeHeld_1 : cX6_takeHeld.data.toList.drop 24 = dktX6_takeHeld_1 := dk_seg dksX6_takeHeld_0 24 rfl rfl
theorem dksX6_takeHeld_2 : cX6_takeHeld.data.toList.drop 47 = dktX6_takeHeld_2 := dk_seg dksX6_takeHeld_1 23 rfl rfl
theorem dX6_takeHeld_0 : decode cX6_takeHeld 0 = .ok (.aload_n 0, 1) := dk_42 (dk_at dksX6_takeHeld_0 0 rfl rfl)
theorem dX6_takeHeld_1 : decode cX6_takeHeld 1 = .ok (.iload_n 1, 1) := dk_27 (dk_at dksX6_takeHeld_0 1 rfl rfl)
theorem dX6_takeHeld_2 : decode cX6_takeHeld 2 = .ok (.invokevirtual 67, 3) := dk_182 0 67 (dk_at dksX6_takeHeld_0 2 rfl rfl)
theorem dX6_takeHeld_5 : decode cX6_takeHeld 5 = .ok (.istore 4, 2) := dk_54 4 (dk_at dksX6_takeHeld_0 5 rfl rfl)
theorem dX6_takeHeld_7 : decode cX6_takeHeld 7 = .ok (.aload_n 0, 1) := dk_42 (dk_at dksX6_takeHeld_0 7 rfl rfl)
theorem dX6_takeHeld_8 : decode cX6_takeHeld 8 = .ok (.iload_n 1, 1) := dk_27 (dk_at dksX6_takeHeld_0 8 rfl rfl)
theorem dX6_takeHeld_9 : decode cX6_takeHeld 9 = .ok (.iload_n 2, 1) := dk_28 (dk_at dksX6_takeHeld_0 9 rfl rfl)
theorem dX6_takeHeld_10 : decode cX6_takeHeld 10 = .ok (.invokevirtual 98, 3) := dk_182 0 98 (dk_at dksX6_takeHeld_0 10 rfl rfl)
theorem dX6_takeHeld_13 : decode cX6_takeHeld 13 = .ok (.istore 5, 2) := dk_54 5 (dk_at dksX6_takeHeld_0 13 rfl rfl)
theorem dX6_takeHeld_15 : decode cX6_takeHeld 15 = .ok (.aload_n 0, 1) := dk_42 (dk_at dksX6_takeHeld_0 15 rfl rfl)
theorem dX6_takeHeld_16 : decode cX6_takeHeld 16 = .ok (.getfield 9, 3) := dk_180 0 9 (dk_at dksX6_takeHeld_0 16 rfl rfl)
theorem dX6_takeHeld_19 : decode cX6_takeHeld 19 = .ok (.iload 4, 2) := dk_21 4 (dk_at dksX6_takeHeld_0 19 rfl rfl)
theorem dX6_takeHeld_21 : decode cX6_takeHeld 21 = .ok (.invokestatic 63, 3) := dk_184 0 63 (dk_at dksX6_takeHeld_0 21 rfl rfl)
theorem dX6_takeHeld_24 : decode cX6_takeHeld 24 = .ok (.iconst 3, 1) := dk_6 (dk_at dksX6_takeHeld_1 0 rfl rfl)
theorem dX6_takeHeld_25 : decode cX6_takeHeld 25 = .ok (.iadd, 1) := dk_96 (dk_at dksX6_takeHeld_1 1 rfl rfl)
theorem dX6_takeHeld_26 : decode cX6_takeHeld 26 = .ok (.iaload, 1) := dk_46 (dk_at dksX6_takeHeld_1 2 rfl rfl)
theorem dX6_takeHeld_27 : decode cX6_takeHeld 27 = .ok (.iconst 1, 1) := dk_4 (dk_at dksX6_takeHeld_1 3 rfl rfl)
theorem dX6_takeHeld_28 : decode cX6_takeHeld 28 = .ok (.if_icmp .ne 5, 3) := dk_160 0 5 (dk_at dksX6_takeHeld_1 4 rfl rfl)
theorem dX6_takeHeld_31 : decode cX6_takeHeld 31 = .ok (.iconst 1, 1) := dk_4 (dk_at dksX6_takeHeld_1 7 rfl rfl)
theorem dX6_takeHeld_32 : decode cX6_takeHeld 32 = .ok (.ireturn, 1) := dk_172 (dk_at dksX6_takeHeld_1 8 rfl rfl)
theorem dX6_takeHeld_33 : decode cX6_takeHeld 33 = .ok (.iload 5, 2) := dk_21 5 (dk_at dksX6_takeHeld_1 9 rfl rfl)
theorem dX6_takeHeld_35 : decode cX6_takeHeld 35 = .ok (.ifCond .ge 5, 3) := dk_156 0 5 (dk_at dksX6_takeHeld_1 11 rfl rfl)
theorem dX6_takeHeld_38 : decode cX6_takeHeld 38 = .ok (.iconst 3, 1) := dk_6 (dk_at dksX6_takeHeld_1 14 rfl rfl)
theorem dX6_takeHeld_39 : decode cX6_takeHeld 39 = .ok (.ireturn, 1) := dk_172 (dk_at dksX6_takeHeld_1 15 rfl rfl)
theorem dX6_takeHeld_40 : decode cX6_takeHeld 40 = .ok (.aload_n 0, 1) := dk_42 (dk_at dksX6_takeHeld_1 16 rfl rfl)
theorem dX6_takeHeld_41 : decode cX6_takeHeld 41 = .ok (.invokevirtual 88, 3) := dk_182 0 88 (dk_at dksX6_takeHeld_1 17 rfl rfl)
theorem dX6_takeHeld_44 : decode cX6_takeHeld 44 = .ok (.aload_n 0, 1) := dk_42 (dk_at dksX6_takeHeld_1 20 rfl rfl)
theorem dX6_takeHeld_45 : decode cX6_takeHeld 45 = .ok (.iload 5, 2) := dk_21 5 (dk_at dksX6_takeHeld_1 21 rfl rfl)
theorem dX6_takeHeld_47 : decode cX6_takeHeld 47 = .ok (.invokevirtual 148, 3) := dk_182 0 148 (dk_at dksX6_takeHeld_2 0 rfl rfl)
theorem dX6_takeHeld_50 : decode cX6_takeHeld 50 = .ok (.iload_n 3, 1) := dk_29 (dk_at dksX6_takeHeld_2 3 rfl rfl)
theorem dX6_takeHeld_51 : decode cX6_takeHeld 51 = .ok (.ifCond .eq 18, 3) := dk_153 0 18 (dk_at dksX6_takeHeld_2 4 rfl rfl)
theorem dX6_takeHeld_54 : decode cX6_takeHeld 54 = .ok (.aload_n 0, 1) := dk_42 (dk_at dksX6_takeHeld_2 7 rfl rfl)
theorem dX6_takeHeld_55 : decode cX6_takeHeld 55 = .ok (.iload 4, 2) := dk_21 4 (dk_at dksX6_takeHeld_2 8 rfl rfl)
theorem dX6_takeHeld_57 : decode cX6_takeHeld 57 = .ok (.iconst 1, 1) := dk_4 (dk_at dksX6_takeHeld_2 10 rfl rfl)
theorem dX6_takeHeld_58 : decode cX6_takeHeld 58 = .ok (.iadd, 1) := dk_96 (dk_at dksX6_takeHeld_2 11 rfl rfl)
theorem dX6_takeHeld_59 : decode cX6_takeHeld 59 = .ok (.iload 4, 2) := dk_21 4 (dk_at dksX6_takeHeld_2 12 rfl rfl)
theorem dX6_takeHeld_61 : decode cX6_takeHeld 61 = .ok (.iconst 1, 1) := dk_4 (dk_at dksX6_takeHeld_2 14 rfl rfl)
theorem dX6_takeHeld_62 : decode cX6_takeHeld 62 = .ok (.iadd, 1) := dk_96 (dk_at dksX6_takeHeld_2 15 rfl rfl)
theorem dX6_takeHeld_63 : decode cX6_takeHeld 63 = .ok (.invokevirtual 132, 3) := dk_182 0 132 (dk_at dksX6_takeHeld_2 16 rfl rfl)
theorem dX6_takeHeld_66 : decode cX6_takeHeld 66 = .ok (.goto 4, 3) := dk_167 0 4 (dk_at dksX6_takeHeld_2 19 rfl rfl)
theorem dX6_takeHeld_69 : decode cX6_takeHeld 69 = .ok (.iconst 0, 1) := dk_3 (dk_at dksX6_takeHeld_2 22 rfl rfl)
theorem dX6_takeHeld_70 : decode cX6_takeHeld 70 = .ok (.ireturn, 1) := dk_172 (dk_at dksX6_takeHeld_2 23 rfl rfl)
abbrev cX6_takeAway : ByteArray := prog_18_method_28_code
def yX6_takeAway : MethodName := ⟨RX6, "takeAway", "(I)V"⟩
def dkwX6_takeAway_1 : List UInt8 := [180, 0, 9, 17, 0, 162, 7, 27, 104, 96, 7, 42, 180, 0, 9, 4, 46, 27, 100, 104, 184, 0, 48, 177]
abbrev dktX6_takeAway_1 : List UInt8 := dkwX6_takeAway_1 ++ []
def dkwX6_takeAway_0 : List UInt8 := [42, 180, 0, 9, 4, 92, 46, 4, 100, 79, 42, 180, 0, 9, 17, 0, 162, 7, 27, 104, 96, 7, 96, 42]
abbrev dktX6_takeAway_0 : List UInt8 := dkwX6_takeAway_0 ++ dktX6_takeAway_1
theorem dksX6_takeAway_0 : cX6_takeAway.data.toList.drop 0 = dktX6_takeAway_0 := by decide +kernel
theorem dksX6_takeAway_1 : cX6_takeAway.data.toList.drop 24 = dktX6_takeAway_1 := dk_seg dksX6_takeAway_0 24 rfl rfl
theorem dX6_takeAway_0 : decode cX6_takeAway 0 = .ok (.aload_n 0, 1) := dk_42 (dk_at dksX6_takeAway_0 0 rfl rfl)
theorem dX6_takeAway_1 : decode cX6_takeAway 1 = .ok (.getfield 9, 3) := dk_180 0 9 (dk_at dksX6_takeAway_0 1 rfl rfl)
theorem dX6_takeAway_4 : decode cX6_takeAway 4 = .ok (.iconst 1, 1) := dk_4 (dk_at dksX6_takeAway_0 4 rfl rfl)
theorem dX6_takeAway_5 : decode cX6_takeAway 5 = .ok (.dup2, 1) := dk_92 (dk_at dksX6_takeAway_0 5 rfl rfl)
theorem dX6_takeAway_6 : decode cX6_takeAway 6 = .ok (.iaload, 1) := dk_46 (dk_at dksX6_takeAway_0 6 rfl rfl)
theorem dX6_takeAway_7 : decode cX6_takeAway 7 = .ok (.iconst 1, 1) := dk_4 (dk_at dksX6_takeAway_0 7 rfl rfl)
theorem dX6_takeAway_8 : decode cX6_takeAway 8 = .ok (.isub, 1) := dk_100 (dk_at dksX6_takeAway_0 8 rfl rfl)
theorem dX6_takeAway_9 : decode cX6_takeAway 9 = .ok (.iastore, 1) := dk_79 (dk_at dksX6_takeAway_0 9 rfl rfl)
theorem dX6_takeAway_10 : decode cX6_takeAway 10 = .ok (.aload_n 0, 1) := dk_42 (dk_at dksX6_takeAway_0 10 rfl rfl)
theorem dX6_takeAway_11 : decode cX6_takeAway 11 = .ok (.getfield 9, 3) := dk_180 0 9 (dk_at dksX6_takeAway_0 11 rfl rfl)
theorem dX6_takeAway_14 : decode cX6_takeAway 14 = .ok (.sipush 162, 3) := dk_17 0 162 (dk_at dksX6_takeAway_0 14 rfl rfl)
theorem dX6_takeAway_17 : decode cX6_takeAway 17 = .ok (.iconst 4, 1) := dk_7 (dk_at dksX6_takeAway_0 17 rfl rfl)
theorem dX6_takeAway_18 : decode cX6_takeAway 18 = .ok (.iload_n 1, 1) := dk_27 (dk_at dksX6_takeAway_0 18 rfl rfl)
theorem dX6_takeAway_19 : decode cX6_takeAway 19 = .ok (.imul, 1) := dk_104 (dk_at dksX6_takeAway_0 19 rfl rfl)
theorem dX6_takeAway_20 : decode cX6_takeAway 20 = .ok (.iadd, 1) := dk_96 (dk_at dksX6_takeAway_0 20 rfl rfl)
theorem dX6_takeAway_21 : decode cX6_takeAway 21 = .ok (.iconst 4, 1) := dk_7 (dk_at dksX6_takeAway_0 21 rfl rfl)
theorem dX6_takeAway_22 : decode cX6_takeAway 22 = .ok (.iadd, 1) := dk_96 (dk_at dksX6_takeAway_0 22 rfl rfl)
theorem dX6_takeAway_23 : decode cX6_takeAway 23 = .ok (.aload_n 0, 1) := dk_42 (dk_at dksX6_takeAway_0 23 rfl rfl)
theorem dX6_takeAway_24 : decode cX6_takeAway 24 = .ok (.getfield 9, 3) := dk_180 0 9 (dk_at dksX6_takeAway_1 0 rfl rfl)
theorem dX6_takeAway_27 : decode cX6_takeAway 27 = .ok (.sipush 162, 3) := dk_17 0 162 (dk_at dksX6_takeAway_1 3 rfl rfl)
theorem dX6_takeAway_30 : decode cX6_takeAway 30 = .ok (.iconst 4, 1) := dk_7 (dk_at dksX6_takeAway_1 6 rfl rfl)
theorem dX6_takeAway_31 : decode cX6_takeAway 31 = .ok (.iload_n 1, 1) := dk_27 (dk_at dksX6_takeAway_1 7 rfl rfl)
theorem dX6_takeAway_32 : decode cX6_takeAway 32 = .ok (.imul, 1) := dk_104 (dk_at dksX6_takeAway_1 8 rfl rfl)
theorem dX6_takeAway_33 : decode cX6_takeAway 33 = .ok (.iadd, 1) := dk_96 (dk_at dksX6_takeAway_1 9 rfl rfl)
theorem dX6_takeAway_34 : decode cX6_takeAway 34 = .ok (.iconst 4, 1) := dk_7 (dk_at dksX6_takeAway_1 10 rfl rfl)
theorem dX6_takeAway_35 : decode cX6_takeAway 35 = .ok (.aload_n 0, 1) := dk_42 (dk_at dksX6_takeAway_1 11 rfl rfl)
theorem dX6_takeAway_36 : decode cX6_takeAway 36 = .ok (.getfield 9, 3) := dk_180 0 9 (dk_at dksX6_takeAway_1 12 rfl rfl)
theorem dX6_takeAway_39 : decode cX6_takeAway 39 = .ok (.iconst 1, 1) := dk_4 (dk_at dksX6_takeAway_1 15 rfl rfl)
theorem dX6_takeAway_40 : decode cX6_takeAway 40 = .ok (.iaload, 1) := dk_46 (dk_at dksX6_takeAway_1 16 rfl rfl)
theorem dX6_takeAway_41 : decode cX6_takeAway 41 = .ok (.iload_n 1, 1) := dk_27 (dk_at dksX6_takeAway_1 17 rfl rfl)
theorem dX6_takeAway_42 : decode cX6_takeAway 42 = .ok (.isub, 1) := dk_100 (dk_at dksX6_takeAway_1 18 rfl rfl)
theorem dX6_takeAway_43 : decode cX6_takeAway 43 = .ok (.imul, 1) := dk_104 (dk_at dksX6_takeAway_1 19 rfl rfl)
theorem dX6_takeAway_44 : decode cX6_takeAway 44 = .ok (.invokestatic 48, 3) := dk_184 0 48 (dk_at dksX6_takeAway_1 20 rfl rfl)
theorem dX6_takeAway_47 : decode cX6_takeAway 47 = .ok (.return_, 1) := dk_177 (dk_at dksX6_takeAway_1 23 rfl rfl)
abbrev cX6_removeCue : ByteArray := prog_18_method_46_code
def yX6_removeCue : MethodName := ⟨RX6, "removeCue", "(IZ)I"⟩
def dkwX6_removeCue_1 : List UInt8 := [158, 0, 5, 3, 172, 42, 182, 0, 57, 29, 172]
abbrev dktX6_removeCue_1 : List UInt8 := dkwX6_removeCue_1 ++ []
def dkwX6_removeCue_0 : List UInt8 := [42, 27, 182, 0, 107, 62, 42, 182, 0, 54, 42, 42, 27, 28, 182, 0, 155, 181, 0, 42, 42, 180, 0, 42]
abbrev dktX6_removeCue_0 : List UInt8 := dkwX6_removeCue_0 ++ dktX6_removeCue_1
theorem dksX6_removeCue_0 : cX6_removeCue.data.toList.drop 0 = dktX6_removeCue_0 := by decide +kernel
theorem dksX6_removeCue_1 : cX6_removeCue.data.toList.drop 24 = dktX6_removeCue_1 := dk_seg dksX6_removeCue_0 24 rfl rfl
theorem dX6_removeCue_0 : decode cX6_removeCue 0 = .ok (.aload_n 0, 1) := dk_42 (dk_at dksX6_removeCue_0 0 rfl rfl)
theorem dX6_removeCue_1 : decode cX6_removeCue 1 = .ok (.iload_n 1, 1) := dk_27 (dk_at dksX6_removeCue_0 1 rfl rfl)
theorem dX6_removeCue_2 : decode cX6_removeCue 2 = .ok (.invokevirtual 107, 3) := dk_182 0 107 (dk_at dksX6_removeCue_0 2 rfl rfl)
theorem dX6_removeCue_5 : decode cX6_removeCue 5 = .ok (.istore_n 3, 1) := dk_62 (dk_at dksX6_removeCue_0 5 rfl rfl)
theorem dX6_removeCue_6 : decode cX6_removeCue 6 = .ok (.aload_n 0, 1) := dk_42 (dk_at dksX6_removeCue_0 6 rfl rfl)
theorem dX6_removeCue_7 : decode cX6_removeCue 7 = .ok (.invokevirtual 54, 3) := dk_182 0 54 (dk_at dksX6_removeCue_0 7 rfl rfl)
theorem dX6_removeCue_10 : decode cX6_removeCue 10 = .ok (.aload_n 0, 1) := dk_42 (dk_at dksX6_removeCue_0 10 rfl rfl)
theorem dX6_removeCue_11 : decode cX6_removeCue 11 = .ok (.aload_n 0, 1) := dk_42 (dk_at dksX6_removeCue_0 11 rfl rfl)
theorem dX6_removeCue_12 : decode cX6_removeCue 12 = .ok (.iload_n 1, 1) := dk_27 (dk_at dksX6_removeCue_0 12 rfl rfl)
theorem dX6_removeCue_13 : decode cX6_removeCue 13 = .ok (.iload_n 2, 1) := dk_28 (dk_at dksX6_removeCue_0 13 rfl rfl)
theorem dX6_removeCue_14 : decode cX6_removeCue 14 = .ok (.invokevirtual 155, 3) := dk_182 0 155 (dk_at dksX6_removeCue_0 14 rfl rfl)
theorem dX6_removeCue_17 : decode cX6_removeCue 17 = .ok (.putfield 42, 3) := dk_181 0 42 (dk_at dksX6_removeCue_0 17 rfl rfl)
theorem dX6_removeCue_20 : decode cX6_removeCue 20 = .ok (.aload_n 0, 1) := dk_42 (dk_at dksX6_removeCue_0 20 rfl rfl)
theorem dX6_removeCue_21 : decode cX6_removeCue 21 = .ok (.getfield 42, 3) := dk_180 0 42 (dk_at dksX6_removeCue_0 21 rfl rfl)
theorem dX6_removeCue_24 : decode cX6_removeCue 24 = .ok (.ifCond .le 5, 3) := dk_158 0 5 (dk_at dksX6_removeCue_1 0 rfl rfl)
theorem dX6_removeCue_27 : decode cX6_removeCue 27 = .ok (.iconst 0, 1) := dk_3 (dk_at dksX6_removeCue_1 3 rfl rfl)
theorem dX6_removeCue_28 : decode cX6_removeCue 28 = .ok (.ireturn, 1) := dk_172 (dk_at dksX6_removeCue_1 4 rfl rfl)
theorem dX6_removeCue_29 : decode cX6_removeCue 29 = .ok (.aload_n 0, 1) := dk_42 (dk_at dksX6_removeCue_1 5 rfl rfl)
theorem dX6_removeCue_30 : decode cX6_removeCue 30 = .ok (.invokevirtual 57, 3) := dk_182 0 57 (dk_at dksX6_removeCue_1 6 rfl rfl)
theorem dX6_removeCue_33 : decode cX6_removeCue 33 = .ok (.iload_n 3, 1) := dk_29 (dk_at dksX6_removeCue_1 9 rfl rfl)
theorem dX6_removeCue_34 : decode cX6_removeCue 34 = .ok (.ireturn, 1) := dk_172 (dk_at dksX6_removeCue_1 10 rfl rfl)
abbrev cX6_doRemove : ByteArray := prog_18_method_45_code
def yX6_doRemove : MethodName := ⟨RX6, "doRemove", "(IZ)I"⟩
def dkwX6_doRemove_6 : List UInt8 := [54, 4, 21, 4, 158, 0, 12, 42, 21, 4, 182, 0, 139, 87, 5, 172, 3, 172]
abbrev dktX6_doRemove_6 : List UInt8 := dkwX6_doRemove_6 ++ []
def dkwX6_doRemove_5 : List UInt8 := [46, 29, 100, 104, 184, 0, 48, 28, 153, 0, 14, 42, 29, 29, 4, 96, 182, 0, 132, 167, 0, 4, 3]
abbrev dktX6_doRemove_5 : List UInt8 := dkwX6_doRemove_5 ++ dktX6_doRemove_6
def dkwX6_doRemove_4 : List UInt8 := [180, 0, 9, 29, 4, 96, 184, 0, 63, 42, 180, 0, 9, 29, 184, 0, 63, 16, 12, 42, 180, 0, 9, 3]
abbrev dktX6_doRemove_4 : List UInt8 := dkwX6_doRemove_4 ++ dktX6_doRemove_5
def dkwX6_doRemove_3 : List UInt8 := [42, 21, 4, 182, 0, 148, 132, 4, 255, 167, 255, 225, 42, 180, 0, 9, 3, 92, 46, 4, 100, 79, 42]
abbrev dktX6_doRemove_3 : List UInt8 := dkwX6_doRemove_3 ++ dktX6_doRemove_4
def dkwX6_doRemove_2 : List UInt8 := [54, 4, 21, 4, 155, 0, 32, 42, 180, 0, 9, 17, 0, 162, 7, 21, 4, 104, 96, 46, 27, 160, 0, 9]
abbrev dktX6_doRemove_2 : List UInt8 := dkwX6_doRemove_2 ++ dktX6_doRemove_3
def dkwX6_doRemove_1 : List UInt8 := [160, 0, 11, 42, 4, 182, 0, 139, 87, 5, 172, 42, 182, 0, 88, 42, 180, 0, 9, 4, 46, 4, 100]
abbrev dktX6_doRemove_1 : List UInt8 := dkwX6_doRemove_1 ++ dktX6_doRemove_2
def dkwX6_doRemove_0 : List UInt8 := [42, 27, 182, 0, 67, 62, 29, 156, 0, 5, 4, 172, 42, 180, 0, 9, 29, 184, 0, 63, 6, 96, 46, 4]
abbrev dktX6_doRemove_0 : List UInt8 := dkwX6_doRemove_0 ++ dktX6_doRemove_1
theorem dksX6_doRemove_0 : cX6_doRemove.data.toList.drop 0 = dktX6_doRemove_0 := by decide +kernel
theorem dksX6_doRemove_1 : cX6_doRemove.data.toList.drop 24 = dktX6_doRemove_1 := dk_seg dksX6_doRemove_0 24 rfl rfl
theorem dksX6_doRemove_2 : cX6_doRemove.data.toList.drop 47 = dktX6_doRemove_2 := dk_seg dksX6_doRemove_1 23 rfl rfl
theorem dksX6_doRemove_3 : cX6_doRemove.data.toList.drop 71 = dktX6_doRemove_3 := dk_seg dksX6_doRemove_2 24 rfl rfl
theorem dksX6_doRemove_4 : cX6_doRemove.data.toList.drop 94 = dktX6_doRemove_4 := dk_seg dksX6_doRemove_3 23 rfl rfl
theorem dksX6_doRemove_5 : cX6_doRemove.data.toList.drop 118 = dktX6_doRemove_5 := dk_seg dksX6_doRemove_4 24 rfl rfl
theorem dksX6_doRemove_6 : cX6_doRemove.data.toList.drop 141 = dktX6_doRemove_6 := dk_seg dksX6_doRemove_5 23 rfl rfl
theorem dX6_doRemove_0 : decode cX6_doRemove 0 = .ok (.aload_n 0, 1) := dk_42 (dk_at dksX6_doRemove_0 0 rfl rfl)
theorem dX6_doRemove_1 : decode cX6_doRemove 1 = .ok (.iload_n 1, 1) := dk_27 (dk_at dksX6_doRemove_0 1 rfl rfl)
theorem dX6_doRemove_2 : decode cX6_doRemove 2 = .ok (.invokevirtual 67, 3) := dk_182 0 67 (dk_at dksX6_doRemove_0 2 rfl rfl)
theorem dX6_doRemove_5 : decode cX6_doRemove 5 = .ok (.istore_n 3, 1) := dk_62 (dk_at dksX6_doRemove_0 5 rfl rfl)
theorem dX6_doRemove_6 : decode cX6_doRemove 6 = .ok (.iload_n 3, 1) := dk_29 (dk_at dksX6_doRemove_0 6 rfl rfl)
theorem dX6_doRemove_7 : decode cX6_doRemove 7 = .ok (.ifCond .ge 5, 3) := dk_156 0 5 (dk_at dksX6_doRemove_0 7 rfl rfl)
theorem dX6_doRemove_10 : decode cX6_doRemove 10 = .ok (.iconst 1, 1) := dk_4 (dk_at dksX6_doRemove_0 10 rfl rfl)
theorem dX6_doRemove_11 : decode cX6_doRemove 11 = .ok (.ireturn, 1) := dk_172 (dk_at dksX6_doRemove_0 11 rfl rfl)
theorem dX6_doRemove_12 : decode cX6_doRemove 12 = .ok (.aload_n 0, 1) := dk_42 (dk_at dksX6_doRemove_0 12 rfl rfl)
theorem dX6_doRemove_13 : decode cX6_doRemove 13 = .ok (.getfield 9, 3) := dk_180 0 9 (dk_at dksX6_doRemove_0 13 rfl rfl)
theorem dX6_doRemove_16 : decode cX6_doRemove 16 = .ok (.iload_n 3, 1) := dk_29 (dk_at dksX6_doRemove_0 16 rfl rfl)
theorem dX6_doRemove_17 : decode cX6_doRemove 17 = .ok (.invokestatic 63, 3) := dk_184 0 63 (dk_at dksX6_doRemove_0 17 rfl rfl)
theorem dX6_doRemove_20 : decode cX6_doRemove 20 = .ok (.iconst 3, 1) := dk_6 (dk_at dksX6_doRemove_0 20 rfl rfl)
theorem dX6_doRemove_21 : decode cX6_doRemove 21 = .ok (.iadd, 1) := dk_96 (dk_at dksX6_doRemove_0 21 rfl rfl)
theorem dX6_doRemove_22 : decode cX6_doRemove 22 = .ok (.iaload, 1) := dk_46 (dk_at dksX6_doRemove_0 22 rfl rfl)
theorem dX6_doRemove_23 : decode cX6_doRemove 23 = .ok (.iconst 1, 1) := dk_4 (dk_at dksX6_doRemove_0 23 rfl rfl)
theorem dX6_doRemove_24 : decode cX6_doRemove 24 = .ok (.if_icmp .ne 11, 3) := dk_160 0 11 (dk_at dksX6_doRemove_1 0 rfl rfl)
theorem dX6_doRemove_27 : decode cX6_doRemove 27 = .ok (.aload_n 0, 1) := dk_42 (dk_at dksX6_doRemove_1 3 rfl rfl)
theorem dX6_doRemove_28 : decode cX6_doRemove 28 = .ok (.iconst 1, 1) := dk_4 (dk_at dksX6_doRemove_1 4 rfl rfl)
theorem dX6_doRemove_29 : decode cX6_doRemove 29 = .ok (.invokevirtual 139, 3) := dk_182 0 139 (dk_at dksX6_doRemove_1 5 rfl rfl)
theorem dX6_doRemove_32 : decode cX6_doRemove 32 = .ok (.pop, 1) := dk_87 (dk_at dksX6_doRemove_1 8 rfl rfl)
theorem dX6_doRemove_33 : decode cX6_doRemove 33 = .ok (.iconst 2, 1) := dk_5 (dk_at dksX6_doRemove_1 9 rfl rfl)
theorem dX6_doRemove_34 : decode cX6_doRemove 34 = .ok (.ireturn, 1) := dk_172 (dk_at dksX6_doRemove_1 10 rfl rfl)
theorem dX6_doRemove_35 : decode cX6_doRemove 35 = .ok (.aload_n 0, 1) := dk_42 (dk_at dksX6_doRemove_1 11 rfl rfl)
theorem dX6_doRemove_36 : decode cX6_doRemove 36 = .ok (.invokevirtual 88, 3) := dk_182 0 88 (dk_at dksX6_doRemove_1 12 rfl rfl)
theorem dX6_doRemove_39 : decode cX6_doRemove 39 = .ok (.aload_n 0, 1) := dk_42 (dk_at dksX6_doRemove_1 15 rfl rfl)
theorem dX6_doRemove_40 : decode cX6_doRemove 40 = .ok (.getfield 9, 3) := dk_180 0 9 (dk_at dksX6_doRemove_1 16 rfl rfl)
theorem dX6_doRemove_43 : decode cX6_doRemove 43 = .ok (.iconst 1, 1) := dk_4 (dk_at dksX6_doRemove_1 19 rfl rfl)
theorem dX6_doRemove_44 : decode cX6_doRemove 44 = .ok (.iaload, 1) := dk_46 (dk_at dksX6_doRemove_1 20 rfl rfl)
theorem dX6_doRemove_45 : decode cX6_doRemove 45 = .ok (.iconst 1, 1) := dk_4 (dk_at dksX6_doRemove_1 21 rfl rfl)
theorem dX6_doRemove_46 : decode cX6_doRemove 46 = .ok (.isub, 1) := dk_100 (dk_at dksX6_doRemove_1 22 rfl rfl)
theorem dX6_doRemove_47 : decode cX6_doRemove 47 = .ok (.istore 4, 2) := dk_54 4 (dk_at dksX6_doRemove_2 0 rfl rfl)
theorem dX6_doRemove_49 : decode cX6_doRemove 49 = .ok (.iload 4, 2) := dk_21 4 (dk_at dksX6_doRemove_2 2 rfl rfl)
theorem dX6_doRemove_51 : decode cX6_doRemove 51 = .ok (.ifCond .lt 32, 3) := dk_155 0 32 (dk_at dksX6_doRemove_2 4 rfl rfl)
theorem dX6_doRemove_54 : decode cX6_doRemove 54 = .ok (.aload_n 0, 1) := dk_42 (dk_at dksX6_doRemove_2 7 rfl rfl)
theorem dX6_doRemove_55 : decode cX6_doRemove 55 = .ok (.getfield 9, 3) := dk_180 0 9 (dk_at dksX6_doRemove_2 8 rfl rfl)
theorem dX6_doRemove_58 : decode cX6_doRemove 58 = .ok (.sipush 162, 3) := dk_17 0 162 (dk_at dksX6_doRemove_2 11 rfl rfl)
theorem dX6_doRemove_61 : decode cX6_doRemove 61 = .ok (.iconst 4, 1) := dk_7 (dk_at dksX6_doRemove_2 14 rfl rfl)
theorem dX6_doRemove_62 : decode cX6_doRemove 62 = .ok (.iload 4, 2) := dk_21 4 (dk_at dksX6_doRemove_2 15 rfl rfl)
theorem dX6_doRemove_64 : decode cX6_doRemove 64 = .ok (.imul, 1) := dk_104 (dk_at dksX6_doRemove_2 17 rfl rfl)
theorem dX6_doRemove_65 : decode cX6_doRemove 65 = .ok (.iadd, 1) := dk_96 (dk_at dksX6_doRemove_2 18 rfl rfl)
theorem dX6_doRemove_66 : decode cX6_doRemove 66 = .ok (.iaload, 1) := dk_46 (dk_at dksX6_doRemove_2 19 rfl rfl)
theorem dX6_doRemove_67 : decode cX6_doRemove 67 = .ok (.iload_n 1, 1) := dk_27 (dk_at dksX6_doRemove_2 20 rfl rfl)
theorem dX6_doRemove_68 : decode cX6_doRemove 68 = .ok (.if_icmp .ne 9, 3) := dk_160 0 9 (dk_at dksX6_doRemove_2 21 rfl rfl)
theorem dX6_doRemove_71 : decode cX6_doRemove 71 = .ok (.aload_n 0, 1) := dk_42 (dk_at dksX6_doRemove_3 0 rfl rfl)
theorem dX6_doRemove_72 : decode cX6_doRemove 72 = .ok (.iload 4, 2) := dk_21 4 (dk_at dksX6_doRemove_3 1 rfl rfl)
theorem dX6_doRemove_74 : decode cX6_doRemove 74 = .ok (.invokevirtual 148, 3) := dk_182 0 148 (dk_at dksX6_doRemove_3 3 rfl rfl)
theorem dX6_doRemove_77 : decode cX6_doRemove 77 = .ok (.iinc 4 (-1), 3) := dk_132 4 255 (dk_at dksX6_doRemove_3 6 rfl rfl)
theorem dX6_doRemove_80 : decode cX6_doRemove 80 = .ok (.goto (-31), 3) := dk_167 255 225 (dk_at dksX6_doRemove_3 9 rfl rfl)
theorem dX6_doRemove_83 : decode cX6_doRemove 83 = .ok (.aload_n 0, 1) := dk_42 (dk_at dksX6_doRemove_3 12 rfl rfl)
theorem dX6_doRemove_84 : decode cX6_doRemove 84 = .ok (.getfield 9, 3) := dk_180 0 9 (dk_at dksX6_doRemove_3 13 rfl rfl)
theorem dX6_doRemove_87 : decode cX6_doRemove 87 = .ok (.iconst 0, 1) := dk_3 (dk_at dksX6_doRemove_3 16 rfl rfl)
theorem dX6_doRemove_88 : decode cX6_doRemove 88 = .ok (.dup2, 1) := dk_92 (dk_at dksX6_doRemove_3 17 rfl rfl)
theorem dX6_doRemove_89 : decode cX6_doRemove 89 = .ok (.iaload, 1) := dk_46 (dk_at dksX6_doRemove_3 18 rfl rfl)
theorem dX6_doRemove_90 : decode cX6_doRemove 90 = .ok (.iconst 1, 1) := dk_4 (dk_at dksX6_doRemove_3 19 rfl rfl)
theorem dX6_doRemove_91 : decode cX6_doRemove 91 = .ok (.isub, 1) := dk_100 (dk_at dksX6_doRemove_3 20 rfl rfl)
theorem dX6_doRemove_92 : decode cX6_doRemove 92 = .ok (.iastore, 1) := dk_79 (dk_at dksX6_doRemove_3 21 rfl rfl)
theorem dX6_doRemove_93 : decode cX6_doRemove 93 = .ok (.aload_n 0, 1) := dk_42 (dk_at dksX6_doRemove_3 22 rfl rfl)
theorem dX6_doRemove_94 : decode cX6_doRemove 94 = .ok (.getfield 9, 3) := dk_180 0 9 (dk_at dksX6_doRemove_4 0 rfl rfl)
theorem dX6_doRemove_97 : decode cX6_doRemove 97 = .ok (.iload_n 3, 1) := dk_29 (dk_at dksX6_doRemove_4 3 rfl rfl)
theorem dX6_doRemove_98 : decode cX6_doRemove 98 = .ok (.iconst 1, 1) := dk_4 (dk_at dksX6_doRemove_4 4 rfl rfl)
theorem dX6_doRemove_99 : decode cX6_doRemove 99 = .ok (.iadd, 1) := dk_96 (dk_at dksX6_doRemove_4 5 rfl rfl)
theorem dX6_doRemove_100 : decode cX6_doRemove 100 = .ok (.invokestatic 63, 3) := dk_184 0 63 (dk_at dksX6_doRemove_4 6 rfl rfl)
theorem dX6_doRemove_103 : decode cX6_doRemove 103 = .ok (.aload_n 0, 1) := dk_42 (dk_at dksX6_doRemove_4 9 rfl rfl)
theorem dX6_doRemove_104 : decode cX6_doRemove 104 = .ok (.getfield 9, 3) := dk_180 0 9 (dk_at dksX6_doRemove_4 10 rfl rfl)
theorem dX6_doRemove_107 : decode cX6_doRemove 107 = .ok (.iload_n 3, 1) := dk_29 (dk_at dksX6_doRemove_4 13 rfl rfl)
theorem dX6_doRemove_108 : decode cX6_doRemove 108 = .ok (.invokestatic 63, 3) := dk_184 0 63 (dk_at dksX6_doRemove_4 14 rfl rfl)
theorem dX6_doRemove_111 : decode cX6_doRemove 111 = .ok (.bipush 12, 2) := dk_16 12 (dk_at dksX6_doRemove_4 17 rfl rfl)
theorem dX6_doRemove_113 : decode cX6_doRemove 113 = .ok (.aload_n 0, 1) := dk_42 (dk_at dksX6_doRemove_4 19 rfl rfl)
theorem dX6_doRemove_114 : decode cX6_doRemove 114 = .ok (.getfield 9, 3) := dk_180 0 9 (dk_at dksX6_doRemove_4 20 rfl rfl)
theorem dX6_doRemove_117 : decode cX6_doRemove 117 = .ok (.iconst 0, 1) := dk_3 (dk_at dksX6_doRemove_4 23 rfl rfl)
theorem dX6_doRemove_118 : decode cX6_doRemove 118 = .ok (.iaload, 1) := dk_46 (dk_at dksX6_doRemove_5 0 rfl rfl)
theorem dX6_doRemove_119 : decode cX6_doRemove 119 = .ok (.iload_n 3, 1) := dk_29 (dk_at dksX6_doRemove_5 1 rfl rfl)
theorem dX6_doRemove_120 : decode cX6_doRemove 120 = .ok (.isub, 1) := dk_100 (dk_at dksX6_doRemove_5 2 rfl rfl)
theorem dX6_doRemove_121 : decode cX6_doRemove 121 = .ok (.imul, 1) := dk_104 (dk_at dksX6_doRemove_5 3 rfl rfl)
theorem dX6_doRemove_122 : decode cX6_doRemove 122 = .ok (.invokestatic 48, 3) := dk_184 0 48 (dk_at dksX6_doRemove_5 4 rfl rfl)
theorem dX6_doRemove_125 : decode cX6_doRemove 125 = .ok (.iload_n 2, 1) := dk_28 (dk_at dksX6_doRemove_5 7 rfl rfl)
theorem dX6_doRemove_126 : decode cX6_doRemove 126 = .ok (.ifCond .eq 14, 3) := dk_153 0 14 (dk_at dksX6_doRemove_5 8 rfl rfl)
theorem dX6_doRemove_129 : decode cX6_doRemove 129 = .ok (.aload_n 0, 1) := dk_42 (dk_at dksX6_doRemove_5 11 rfl rfl)
theorem dX6_doRemove_130 : decode cX6_doRemove 130 = .ok (.iload_n 3, 1) := dk_29 (dk_at dksX6_doRemove_5 12 rfl rfl)
theorem dX6_doRemove_131 : decode cX6_doRemove 131 = .ok (.iload_n 3, 1) := dk_29 (dk_at dksX6_doRemove_5 13 rfl rfl)
theorem dX6_doRemove_132 : decode cX6_doRemove 132 = .ok (.iconst 1, 1) := dk_4 (dk_at dksX6_doRemove_5 14 rfl rfl)
theorem dX6_doRemove_133 : decode cX6_doRemove 133 = .ok (.iadd, 1) := dk_96 (dk_at dksX6_doRemove_5 15 rfl rfl)
theorem dX6_doRemove_134 : decode cX6_doRemove 134 = .ok (.invokevirtual 132, 3) := dk_182 0 132 (dk_at dksX6_doRemove_5 16 rfl rfl)
theorem dX6_doRemove_137 : decode cX6_doRemove 137 = .ok (.goto 4, 3) := dk_167 0 4 (dk_at dksX6_doRemove_5 19 rfl rfl)
theorem dX6_doRemove_140 : decode cX6_doRemove 140 = .ok (.iconst 0, 1) := dk_3 (dk_at dksX6_doRemove_5 22 rfl rfl)
theorem dX6_doRemove_141 : decode cX6_doRemove 141 = .ok (.istore 4, 2) := dk_54 4 (dk_at dksX6_doRemove_6 0 rfl rfl)
theorem dX6_doRemove_143 : decode cX6_doRemove 143 = .ok (.iload 4, 2) := dk_21 4 (dk_at dksX6_doRemove_6 2 rfl rfl)
theorem dX6_doRemove_145 : decode cX6_doRemove 145 = .ok (.ifCond .le 12, 3) := dk_158 0 12 (dk_at dksX6_doRemove_6 4 rfl rfl)
theorem dX6_doRemove_148 : decode cX6_doRemove 148 = .ok (.aload_n 0, 1) := dk_42 (dk_at dksX6_doRemove_6 7 rfl rfl)
theorem dX6_doRemove_149 : decode cX6_doRemove 149 = .ok (.iload 4, 2) := dk_21 4 (dk_at dksX6_doRemove_6 8 rfl rfl)
theorem dX6_doRemove_151 : decode cX6_doRemove 151 = .ok (.invokevirtual 139, 3) := dk_182 0 139 (dk_at dksX6_doRemove_6 10 rfl rfl)
theorem dX6_doRemove_154 : decode cX6_doRemove 154 = .ok (.pop, 1) := dk_87 (dk_at dksX6_doRemove_6 13 rfl rfl)
theorem dX6_doRemove_155 : decode cX6_doRemove 155 = .ok (.iconst 2, 1) := dk_5 (dk_at dksX6_doRemove_6 14 rfl rfl)
theorem dX6_doRemove_156 : decode cX6_doRemove 156 = .ok (.ireturn, 1) := dk_172 (dk_at dksX6_doRemove_6 15 rfl rfl)
theorem dX6_doRemove_157 : decode cX6_doRemove 157 = .ok (.iconst 0, 1) := dk_3 (dk_at dksX6_doRemove_6 16 rfl rfl)
theorem dX6_doRemove_158 : decode cX6_doRemove 158 = .ok (.ireturn, 1) := dk_172 (dk_at dksX6_doRemove_6 17 rfl rfl)
abbrev cX6_instruction : ByteArray := prog_18_method_47_code
def yX6_instruction : MethodName := ⟨RX6, "instruction", "(II)I"⟩
def dkwX6_instruction_2 : List UInt8 := [167, 0, 17, 42, 180, 0, 9, 17, 0, 162, 7, 27, 104, 96, 28, 96, 46, 172]
abbrev dktX6_instruction_2 : List UInt8 := dkwX6_instruction_2 ++ []
def dkwX6_instruction_1 : List UInt8 := [184, 0, 70, 154, 0, 7, 5, 167, 0, 4, 3, 181, 0, 42, 42, 180, 0, 42, 158, 0, 7, 3]
abbrev dktX6_instruction_1 : List UInt8 := dkwX6_instruction_1 ++ dktX6_instruction_2
def dkwX6_instruction_0 : List UInt8 := [42, 27, 3, 42, 180, 0, 9, 4, 46, 4, 100, 184, 0, 70, 154, 0, 7, 4, 167, 0, 17, 28, 3, 6]
abbrev dktX6_instruction_0 : List UInt8 := dkwX6_instruction_0 ++ dktX6_instruction_1
theorem dksX6_instruction_0 : cX6_instruction.data.toList.drop 0 = dktX6_instruction_0 := by decide +kernel
theorem dksX6_instruction_1 : cX6_instruction.data.toList.drop 24 = dktX6_instruction_1 := dk_seg dksX6_instruction_0 24 rfl rfl
theorem dksX6_instruction_2 : cX6_instruction.data.toList.drop 46 = dktX6_instruction_2 := dk_seg dksX6_instruction_1 22 rfl rfl
theorem dX6_instruction_0 : decode cX6_instruction 0 = .ok (.aload_n 0, 1) := dk_42 (dk_at dksX6_instruction_0 0 rfl rfl)
theorem dX6_instruction_1 : decode cX6_instruction 1 = .ok (.iload_n 1, 1) := dk_27 (dk_at dksX6_instruction_0 1 rfl rfl)
theorem dX6_instruction_2 : decode cX6_instruction 2 = .ok (.iconst 0, 1) := dk_3 (dk_at dksX6_instruction_0 2 rfl rfl)
theorem dX6_instruction_3 : decode cX6_instruction 3 = .ok (.aload_n 0, 1) := dk_42 (dk_at dksX6_instruction_0 3 rfl rfl)
theorem dX6_instruction_4 : decode cX6_instruction 4 = .ok (.getfield 9, 3) := dk_180 0 9 (dk_at dksX6_instruction_0 4 rfl rfl)
theorem dX6_instruction_7 : decode cX6_instruction 7 = .ok (.iconst 1, 1) := dk_4 (dk_at dksX6_instruction_0 7 rfl rfl)
theorem dX6_instruction_8 : decode cX6_instruction 8 = .ok (.iaload, 1) := dk_46 (dk_at dksX6_instruction_0 8 rfl rfl)
theorem dX6_instruction_9 : decode cX6_instruction 9 = .ok (.iconst 1, 1) := dk_4 (dk_at dksX6_instruction_0 9 rfl rfl)
theorem dX6_instruction_10 : decode cX6_instruction 10 = .ok (.isub, 1) := dk_100 (dk_at dksX6_instruction_0 10 rfl rfl)
theorem dX6_instruction_11 : decode cX6_instruction 11 = .ok (.invokestatic 70, 3) := dk_184 0 70 (dk_at dksX6_instruction_0 11 rfl rfl)
theorem dX6_instruction_14 : decode cX6_instruction 14 = .ok (.ifCond .ne 7, 3) := dk_154 0 7 (dk_at dksX6_instruction_0 14 rfl rfl)
theorem dX6_instruction_17 : decode cX6_instruction 17 = .ok (.iconst 1, 1) := dk_4 (dk_at dksX6_instruction_0 17 rfl rfl)
theorem dX6_instruction_18 : decode cX6_instruction 18 = .ok (.goto 17, 3) := dk_167 0 17 (dk_at dksX6_instruction_0 18 rfl rfl)
theorem dX6_instruction_21 : decode cX6_instruction 21 = .ok (.iload_n 2, 1) := dk_28 (dk_at dksX6_instruction_0 21 rfl rfl)
theorem dX6_instruction_22 : decode cX6_instruction 22 = .ok (.iconst 0, 1) := dk_3 (dk_at dksX6_instruction_0 22 rfl rfl)
theorem dX6_instruction_23 : decode cX6_instruction 23 = .ok (.iconst 3, 1) := dk_6 (dk_at dksX6_instruction_0 23 rfl rfl)
theorem dX6_instruction_24 : decode cX6_instruction 24 = .ok (.invokestatic 70, 3) := dk_184 0 70 (dk_at dksX6_instruction_1 0 rfl rfl)
theorem dX6_instruction_27 : decode cX6_instruction 27 = .ok (.ifCond .ne 7, 3) := dk_154 0 7 (dk_at dksX6_instruction_1 3 rfl rfl)
theorem dX6_instruction_30 : decode cX6_instruction 30 = .ok (.iconst 2, 1) := dk_5 (dk_at dksX6_instruction_1 6 rfl rfl)
theorem dX6_instruction_31 : decode cX6_instruction 31 = .ok (.goto 4, 3) := dk_167 0 4 (dk_at dksX6_instruction_1 7 rfl rfl)
theorem dX6_instruction_34 : decode cX6_instruction 34 = .ok (.iconst 0, 1) := dk_3 (dk_at dksX6_instruction_1 10 rfl rfl)
theorem dX6_instruction_35 : decode cX6_instruction 35 = .ok (.putfield 42, 3) := dk_181 0 42 (dk_at dksX6_instruction_1 11 rfl rfl)
theorem dX6_instruction_38 : decode cX6_instruction 38 = .ok (.aload_n 0, 1) := dk_42 (dk_at dksX6_instruction_1 14 rfl rfl)
theorem dX6_instruction_39 : decode cX6_instruction 39 = .ok (.getfield 42, 3) := dk_180 0 42 (dk_at dksX6_instruction_1 15 rfl rfl)
theorem dX6_instruction_42 : decode cX6_instruction 42 = .ok (.ifCond .le 7, 3) := dk_158 0 7 (dk_at dksX6_instruction_1 18 rfl rfl)
theorem dX6_instruction_45 : decode cX6_instruction 45 = .ok (.iconst 0, 1) := dk_3 (dk_at dksX6_instruction_1 21 rfl rfl)
theorem dX6_instruction_46 : decode cX6_instruction 46 = .ok (.goto 17, 3) := dk_167 0 17 (dk_at dksX6_instruction_2 0 rfl rfl)
theorem dX6_instruction_49 : decode cX6_instruction 49 = .ok (.aload_n 0, 1) := dk_42 (dk_at dksX6_instruction_2 3 rfl rfl)
theorem dX6_instruction_50 : decode cX6_instruction 50 = .ok (.getfield 9, 3) := dk_180 0 9 (dk_at dksX6_instruction_2 4 rfl rfl)
theorem dX6_instruction_53 : decode cX6_instruction 53 = .ok (.sipush 162, 3) := dk_17 0 162 (dk_at dksX6_instruction_2 7 rfl rfl)
theorem dX6_instruction_56 : decode cX6_instruction 56 = .ok (.iconst 4, 1) := dk_7 (dk_at dksX6_instruction_2 10 rfl rfl)
theorem dX6_instruction_57 : decode cX6_instruction 57 = .ok (.iload_n 1, 1) := dk_27 (dk_at dksX6_instruction_2 11 rfl rfl)
theorem dX6_instruction_58 : decode cX6_instruction 58 = .ok (.imul, 1) := dk_104 (dk_at dksX6_instruction_2 12 rfl rfl)
theorem dX6_instruction_59 : decode cX6_instruction 59 = .ok (.iadd, 1) := dk_96 (dk_at dksX6_instruction_2 13 rfl rfl)
theorem dX6_instruction_60 : decode cX6_instruction 60 = .ok (.iload_n 2, 1) := dk_28 (dk_at dksX6_instruction_2 14 rfl rfl)
theorem dX6_instruction_61 : decode cX6_instruction 61 = .ok (.iadd, 1) := dk_96 (dk_at dksX6_instruction_2 15 rfl rfl)
theorem dX6_instruction_62 : decode cX6_instruction 62 = .ok (.iaload, 1) := dk_46 (dk_at dksX6_instruction_2 16 rfl rfl)
theorem dX6_instruction_63 : decode cX6_instruction 63 = .ok (.ireturn, 1) := dk_172 (dk_at dksX6_instruction_2 17 rfl rfl)
abbrev cX6_level : ByteArray := prog_18_method_48_code
def yX6_level : MethodName := ⟨RX6, "level", "(II)I"⟩
def dkwX6_level_1 : List UInt8 := [42, 180, 0, 42, 158, 0, 7, 3, 167, 0, 13, 42, 42, 27, 182, 0, 67, 28, 182, 0, 84, 172]
abbrev dktX6_level_1 : List UInt8 := dkwX6_level_1 ++ []
def dkwX6_level_0 : List UInt8 := [42, 42, 27, 182, 0, 74, 153, 0, 14, 28, 184, 0, 122, 153, 0, 7, 3, 167, 0, 4, 4, 181, 0, 42]
abbrev dktX6_level_0 : List UInt8 := dkwX6_level_0 ++ dktX6_level_1
theorem dksX6_level_0 : cX6_level.data.toList.drop 0 = dktX6_level_0 := by decide +kernel
theorem dksX6_level_1 : cX6_level.data.toList.drop 24 = dktX6_level_1 := dk_seg dksX6_level_0 24 rfl rfl
theorem dX6_level_0 : decode cX6_level 0 = .ok (.aload_n 0, 1) := dk_42 (dk_at dksX6_level_0 0 rfl rfl)
theorem dX6_level_1 : decode cX6_level 1 = .ok (.aload_n 0, 1) := dk_42 (dk_at dksX6_level_0 1 rfl rfl)
theorem dX6_level_2 : decode cX6_level 2 = .ok (.iload_n 1, 1) := dk_27 (dk_at dksX6_level_0 2 rfl rfl)
theorem dX6_level_3 : decode cX6_level 3 = .ok (.invokevirtual 74, 3) := dk_182 0 74 (dk_at dksX6_level_0 3 rfl rfl)
theorem dX6_level_6 : decode cX6_level 6 = .ok (.ifCond .eq 14, 3) := dk_153 0 14 (dk_at dksX6_level_0 6 rfl rfl)
theorem dX6_level_9 : decode cX6_level 9 = .ok (.iload_n 2, 1) := dk_28 (dk_at dksX6_level_0 9 rfl rfl)
theorem dX6_level_10 : decode cX6_level 10 = .ok (.invokestatic 122, 3) := dk_184 0 122 (dk_at dksX6_level_0 10 rfl rfl)
theorem dX6_level_13 : decode cX6_level 13 = .ok (.ifCond .eq 7, 3) := dk_153 0 7 (dk_at dksX6_level_0 13 rfl rfl)
theorem dX6_level_16 : decode cX6_level 16 = .ok (.iconst 0, 1) := dk_3 (dk_at dksX6_level_0 16 rfl rfl)
theorem dX6_level_17 : decode cX6_level 17 = .ok (.goto 4, 3) := dk_167 0 4 (dk_at dksX6_level_0 17 rfl rfl)
theorem dX6_level_20 : decode cX6_level 20 = .ok (.iconst 1, 1) := dk_4 (dk_at dksX6_level_0 20 rfl rfl)
theorem dX6_level_21 : decode cX6_level 21 = .ok (.putfield 42, 3) := dk_181 0 42 (dk_at dksX6_level_0 21 rfl rfl)
theorem dX6_level_24 : decode cX6_level 24 = .ok (.aload_n 0, 1) := dk_42 (dk_at dksX6_level_1 0 rfl rfl)
theorem dX6_level_25 : decode cX6_level 25 = .ok (.getfield 42, 3) := dk_180 0 42 (dk_at dksX6_level_1 1 rfl rfl)
theorem dX6_level_28 : decode cX6_level 28 = .ok (.ifCond .le 7, 3) := dk_158 0 7 (dk_at dksX6_level_1 4 rfl rfl)
theorem dX6_level_31 : decode cX6_level 31 = .ok (.iconst 0, 1) := dk_3 (dk_at dksX6_level_1 7 rfl rfl)
theorem dX6_level_32 : decode cX6_level 32 = .ok (.goto 13, 3) := dk_167 0 13 (dk_at dksX6_level_1 8 rfl rfl)
theorem dX6_level_35 : decode cX6_level 35 = .ok (.aload_n 0, 1) := dk_42 (dk_at dksX6_level_1 11 rfl rfl)
theorem dX6_level_36 : decode cX6_level 36 = .ok (.aload_n 0, 1) := dk_42 (dk_at dksX6_level_1 12 rfl rfl)
theorem dX6_level_37 : decode cX6_level 37 = .ok (.iload_n 1, 1) := dk_27 (dk_at dksX6_level_1 13 rfl rfl)
theorem dX6_level_38 : decode cX6_level 38 = .ok (.invokevirtual 67, 3) := dk_182 0 67 (dk_at dksX6_level_1 14 rfl rfl)
theorem dX6_level_41 : decode cX6_level 41 = .ok (.iload_n 2, 1) := dk_28 (dk_at dksX6_level_1 17 rfl rfl)
theorem dX6_level_42 : decode cX6_level 42 = .ok (.invokevirtual 84, 3) := dk_182 0 84 (dk_at dksX6_level_1 18 rfl rfl)
theorem dX6_level_45 : decode cX6_level 45 = .ok (.ireturn, 1) := dk_172 (dk_at dksX6_level_1 21 rfl rfl)
abbrev cX6_levelAgain : ByteArray := prog_18_method_49_code
def yX6_levelAgain : MethodName := ⟨RX6, "levelAgain", "(II)I"⟩
def dkwX6_levelAgain_0 : List UInt8 := [42, 27, 28, 182, 0, 159, 172]
abbrev dktX6_levelAgain_0 : List UInt8 := dkwX6_levelAgain_0 ++ []
theorem dksX6_levelAgain_0 : cX6_levelAgain.data.toList.drop 0 = dktX6_levelAgain_0 := by decide +kernel
theorem dX6_levelAgain_0 : decode cX6_levelAgain 0 = .ok (.aload_n 0, 1) := dk_42 (dk_at dksX6_levelAgain_0 0 rfl rfl)
theorem dX6_levelAgain_1 : decode cX6_levelAgain 1 = .ok (.iload_n 1, 1) := dk_27 (dk_at dksX6_levelAgain_0 1 rfl rfl)
theorem dX6_levelAgain_2 : decode cX6_levelAgain 2 = .ok (.iload_n 2, 1) := dk_28 (dk_at dksX6_levelAgain_0 2 rfl rfl)
theorem dX6_levelAgain_3 : decode cX6_levelAgain 3 = .ok (.invokevirtual 159, 3) := dk_182 0 159 (dk_at dksX6_levelAgain_0 3 rfl rfl)
theorem dX6_levelAgain_6 : decode cX6_levelAgain 6 = .ok (.ireturn, 1) := dk_172 (dk_at dksX6_levelAgain_0 6 rfl rfl)
abbrev cX6_source : ByteArray := prog_18_method_50_code
def yX6_source : MethodName := ⟨RX6, "source", "(II)I"⟩
def dkwX6_source_3 : List UInt8 := [167, 255, 224, 42, 180, 0, 9, 29, 184, 0, 63, 46, 172]
abbrev dktX6_source_3 : List UInt8 := dkwX6_source_3 ++ []
def dkwX6_source_2 : List UInt8 := [29, 184, 0, 63, 46, 28, 182, 0, 98, 156, 0, 17, 42, 29, 182, 0, 101, 154, 0, 9, 132, 3, 255]
abbrev dktX6_source_2 : List UInt8 := dkwX6_source_2 ++ dktX6_source_3
def dkwX6_source_1 : List UInt8 := [42, 180, 0, 42, 158, 0, 5, 3, 172, 42, 27, 182, 0, 67, 62, 29, 158, 0, 34, 42, 42, 180, 0, 9]
abbrev dktX6_source_1 : List UInt8 := dkwX6_source_1 ++ dktX6_source_2
def dkwX6_source_0 : List UInt8 := [42, 42, 27, 182, 0, 74, 153, 0, 14, 28, 184, 0, 122, 153, 0, 7, 3, 167, 0, 4, 4, 181, 0, 42]
abbrev dktX6_source_0 : List UInt8 := dkwX6_source_0 ++ dktX6_source_1
theorem dksX6_source_0 : cX6_source.data.toList.drop 0 = dktX6_source_0 := by decide +kernel
theorem dksX6_source_1 : cX6_source.data.toList.drop 24 = dktX6_source_1 := dk_seg dksX6_source_0 24 rfl rfl
theorem dksX6_source_2 : cX6_source.data.toList.drop 48 = dktX6_source_2 := dk_seg dksX6_source_1 24 rfl rfl
theorem dksX6_source_3 : cX6_source.data.toList.drop 71 = dktX6_source_3 := dk_seg dksX6_source_2 23 rfl rfl
theorem dX6_source_0 : decode cX6_source 0 = .ok (.aload_n 0, 1) := dk_42 (dk_at dksX6_source_0 0 rfl rfl)
theorem dX6_source_1 : decode cX6_source 1 = .ok (.aload_n 0, 1) := dk_42 (dk_at dksX6_source_0 1 rfl rfl)
theorem dX6_source_2 : decode cX6_source 2 = .ok (.iload_n 1, 1) := dk_27 (dk_at dksX6_source_0 2 rfl rfl)
theorem dX6_source_3 : decode cX6_source 3 = .ok (.invokevirtual 74, 3) := dk_182 0 74 (dk_at dksX6_source_0 3 rfl rfl)
theorem dX6_source_6 : decode cX6_source 6 = .ok (.ifCond .eq 14, 3) := dk_153 0 14 (dk_at dksX6_source_0 6 rfl rfl)
theorem dX6_source_9 : decode cX6_source 9 = .ok (.iload_n 2, 1) := dk_28 (dk_at dksX6_source_0 9 rfl rfl)
theorem dX6_source_10 : decode cX6_source 10 = .ok (.invokestatic 122, 3) := dk_184 0 122 (dk_at dksX6_source_0 10 rfl rfl)
theorem dX6_source_13 : decode cX6_source 13 = .ok (.ifCond .eq 7, 3) := dk_153 0 7 (dk_at dksX6_source_0 13 rfl rfl)
theorem dX6_source_16 : decode cX6_source 16 = .ok (.iconst 0, 1) := dk_3 (dk_at dksX6_source_0 16 rfl rfl)
theorem dX6_source_17 : decode cX6_source 17 = .ok (.goto 4, 3) := dk_167 0 4 (dk_at dksX6_source_0 17 rfl rfl)
theorem dX6_source_20 : decode cX6_source 20 = .ok (.iconst 1, 1) := dk_4 (dk_at dksX6_source_0 20 rfl rfl)
theorem dX6_source_21 : decode cX6_source 21 = .ok (.putfield 42, 3) := dk_181 0 42 (dk_at dksX6_source_0 21 rfl rfl)
theorem dX6_source_24 : decode cX6_source 24 = .ok (.aload_n 0, 1) := dk_42 (dk_at dksX6_source_1 0 rfl rfl)
theorem dX6_source_25 : decode cX6_source 25 = .ok (.getfield 42, 3) := dk_180 0 42 (dk_at dksX6_source_1 1 rfl rfl)
theorem dX6_source_28 : decode cX6_source 28 = .ok (.ifCond .le 5, 3) := dk_158 0 5 (dk_at dksX6_source_1 4 rfl rfl)
theorem dX6_source_31 : decode cX6_source 31 = .ok (.iconst 0, 1) := dk_3 (dk_at dksX6_source_1 7 rfl rfl)
theorem dX6_source_32 : decode cX6_source 32 = .ok (.ireturn, 1) := dk_172 (dk_at dksX6_source_1 8 rfl rfl)
theorem dX6_source_33 : decode cX6_source 33 = .ok (.aload_n 0, 1) := dk_42 (dk_at dksX6_source_1 9 rfl rfl)
theorem dX6_source_34 : decode cX6_source 34 = .ok (.iload_n 1, 1) := dk_27 (dk_at dksX6_source_1 10 rfl rfl)
theorem dX6_source_35 : decode cX6_source 35 = .ok (.invokevirtual 67, 3) := dk_182 0 67 (dk_at dksX6_source_1 11 rfl rfl)
theorem dX6_source_38 : decode cX6_source 38 = .ok (.istore_n 3, 1) := dk_62 (dk_at dksX6_source_1 14 rfl rfl)
theorem dX6_source_39 : decode cX6_source 39 = .ok (.iload_n 3, 1) := dk_29 (dk_at dksX6_source_1 15 rfl rfl)
theorem dX6_source_40 : decode cX6_source 40 = .ok (.ifCond .le 34, 3) := dk_158 0 34 (dk_at dksX6_source_1 16 rfl rfl)
theorem dX6_source_43 : decode cX6_source 43 = .ok (.aload_n 0, 1) := dk_42 (dk_at dksX6_source_1 19 rfl rfl)
theorem dX6_source_44 : decode cX6_source 44 = .ok (.aload_n 0, 1) := dk_42 (dk_at dksX6_source_1 20 rfl rfl)
theorem dX6_source_45 : decode cX6_source 45 = .ok (.getfield 9, 3) := dk_180 0 9 (dk_at dksX6_source_1 21 rfl rfl)
theorem dX6_source_48 : decode cX6_source 48 = .ok (.iload_n 3, 1) := dk_29 (dk_at dksX6_source_2 0 rfl rfl)
theorem dX6_source_49 : decode cX6_source 49 = .ok (.invokestatic 63, 3) := dk_184 0 63 (dk_at dksX6_source_2 1 rfl rfl)
theorem dX6_source_52 : decode cX6_source 52 = .ok (.iaload, 1) := dk_46 (dk_at dksX6_source_2 4 rfl rfl)
theorem dX6_source_53 : decode cX6_source 53 = .ok (.iload_n 2, 1) := dk_28 (dk_at dksX6_source_2 5 rfl rfl)
theorem dX6_source_54 : decode cX6_source 54 = .ok (.invokevirtual 98, 3) := dk_182 0 98 (dk_at dksX6_source_2 6 rfl rfl)
theorem dX6_source_57 : decode cX6_source 57 = .ok (.ifCond .ge 17, 3) := dk_156 0 17 (dk_at dksX6_source_2 9 rfl rfl)
theorem dX6_source_60 : decode cX6_source 60 = .ok (.aload_n 0, 1) := dk_42 (dk_at dksX6_source_2 12 rfl rfl)
theorem dX6_source_61 : decode cX6_source 61 = .ok (.iload_n 3, 1) := dk_29 (dk_at dksX6_source_2 13 rfl rfl)
theorem dX6_source_62 : decode cX6_source 62 = .ok (.invokevirtual 101, 3) := dk_182 0 101 (dk_at dksX6_source_2 14 rfl rfl)
theorem dX6_source_65 : decode cX6_source 65 = .ok (.ifCond .ne 9, 3) := dk_154 0 9 (dk_at dksX6_source_2 17 rfl rfl)
theorem dX6_source_68 : decode cX6_source 68 = .ok (.iinc 3 (-1), 3) := dk_132 3 255 (dk_at dksX6_source_2 20 rfl rfl)
theorem dX6_source_71 : decode cX6_source 71 = .ok (.goto (-32), 3) := dk_167 255 224 (dk_at dksX6_source_3 0 rfl rfl)
theorem dX6_source_74 : decode cX6_source 74 = .ok (.aload_n 0, 1) := dk_42 (dk_at dksX6_source_3 3 rfl rfl)
theorem dX6_source_75 : decode cX6_source 75 = .ok (.getfield 9, 3) := dk_180 0 9 (dk_at dksX6_source_3 4 rfl rfl)
theorem dX6_source_78 : decode cX6_source 78 = .ok (.iload_n 3, 1) := dk_29 (dk_at dksX6_source_3 7 rfl rfl)
theorem dX6_source_79 : decode cX6_source 79 = .ok (.invokestatic 63, 3) := dk_184 0 63 (dk_at dksX6_source_3 8 rfl rfl)
theorem dX6_source_82 : decode cX6_source 82 = .ok (.iaload, 1) := dk_46 (dk_at dksX6_source_3 11 rfl rfl)
theorem dX6_source_83 : decode cX6_source 83 = .ok (.ireturn, 1) := dk_172 (dk_at dksX6_source_3 12 rfl rfl)
abbrev cX6_sum : ByteArray := prog_18_method_51_code
def yX6_sum : MethodName := ⟨RX6, "sum", "(I)I"⟩
def dkwX6_sum_2 : List UInt8 := [132, 3, 1, 167, 255, 227, 28, 172]
abbrev dktX6_sum_2 : List UInt8 := dkwX6_sum_2 ++ []
def dkwX6_sum_1 : List UInt8 := [162, 0, 29, 42, 180, 0, 42, 154, 0, 22, 28, 42, 42, 27, 182, 0, 67, 29, 182, 0, 84, 96, 61]
abbrev dktX6_sum_1 : List UInt8 := dkwX6_sum_1 ++ dktX6_sum_2
def dkwX6_sum_0 : List UInt8 := [42, 42, 27, 182, 0, 74, 153, 0, 7, 3, 167, 0, 4, 4, 181, 0, 42, 3, 61, 3, 62, 29, 16, 12]
abbrev dktX6_sum_0 : List UInt8 := dkwX6_sum_0 ++ dktX6_sum_1
theorem dksX6_sum_0 : cX6_sum.data.toList.drop 0 = dktX6_sum_0 := by decide +kernel
theorem dksX6_sum_1 : cX6_sum.data.toList.drop 24 = dktX6_sum_1 := dk_seg dksX6_sum_0 24 rfl rfl
theorem dksX6_sum_2 : cX6_sum.data.toList.drop 47 = dktX6_sum_2 := dk_seg dksX6_sum_1 23 rfl rfl
theorem dX6_sum_0 : decode cX6_sum 0 = .ok (.aload_n 0, 1) := dk_42 (dk_at dksX6_sum_0 0 rfl rfl)
theorem dX6_sum_1 : decode cX6_sum 1 = .ok (.aload_n 0, 1) := dk_42 (dk_at dksX6_sum_0 1 rfl rfl)
theorem dX6_sum_2 : decode cX6_sum 2 = .ok (.iload_n 1, 1) := dk_27 (dk_at dksX6_sum_0 2 rfl rfl)
theorem dX6_sum_3 : decode cX6_sum 3 = .ok (.invokevirtual 74, 3) := dk_182 0 74 (dk_at dksX6_sum_0 3 rfl rfl)
theorem dX6_sum_6 : decode cX6_sum 6 = .ok (.ifCond .eq 7, 3) := dk_153 0 7 (dk_at dksX6_sum_0 6 rfl rfl)
theorem dX6_sum_9 : decode cX6_sum 9 = .ok (.iconst 0, 1) := dk_3 (dk_at dksX6_sum_0 9 rfl rfl)
theorem dX6_sum_10 : decode cX6_sum 10 = .ok (.goto 4, 3) := dk_167 0 4 (dk_at dksX6_sum_0 10 rfl rfl)
theorem dX6_sum_13 : decode cX6_sum 13 = .ok (.iconst 1, 1) := dk_4 (dk_at dksX6_sum_0 13 rfl rfl)
theorem dX6_sum_14 : decode cX6_sum 14 = .ok (.putfield 42, 3) := dk_181 0 42 (dk_at dksX6_sum_0 14 rfl rfl)
theorem dX6_sum_17 : decode cX6_sum 17 = .ok (.iconst 0, 1) := dk_3 (dk_at dksX6_sum_0 17 rfl rfl)
theorem dX6_sum_18 : decode cX6_sum 18 = .ok (.istore_n 2, 1) := dk_61 (dk_at dksX6_sum_0 18 rfl rfl)
theorem dX6_sum_19 : decode cX6_sum 19 = .ok (.iconst 0, 1) := dk_3 (dk_at dksX6_sum_0 19 rfl rfl)
theorem dX6_sum_20 : decode cX6_sum 20 = .ok (.istore_n 3, 1) := dk_62 (dk_at dksX6_sum_0 20 rfl rfl)
theorem dX6_sum_21 : decode cX6_sum 21 = .ok (.iload_n 3, 1) := dk_29 (dk_at dksX6_sum_0 21 rfl rfl)
theorem dX6_sum_22 : decode cX6_sum 22 = .ok (.bipush 12, 2) := dk_16 12 (dk_at dksX6_sum_0 22 rfl rfl)
theorem dX6_sum_24 : decode cX6_sum 24 = .ok (.if_icmp .ge 29, 3) := dk_162 0 29 (dk_at dksX6_sum_1 0 rfl rfl)
theorem dX6_sum_27 : decode cX6_sum 27 = .ok (.aload_n 0, 1) := dk_42 (dk_at dksX6_sum_1 3 rfl rfl)
theorem dX6_sum_28 : decode cX6_sum 28 = .ok (.getfield 42, 3) := dk_180 0 42 (dk_at dksX6_sum_1 4 rfl rfl)
theorem dX6_sum_31 : decode cX6_sum 31 = .ok (.ifCond .ne 22, 3) := dk_154 0 22 (dk_at dksX6_sum_1 7 rfl rfl)
theorem dX6_sum_34 : decode cX6_sum 34 = .ok (.iload_n 2, 1) := dk_28 (dk_at dksX6_sum_1 10 rfl rfl)
theorem dX6_sum_35 : decode cX6_sum 35 = .ok (.aload_n 0, 1) := dk_42 (dk_at dksX6_sum_1 11 rfl rfl)
theorem dX6_sum_36 : decode cX6_sum 36 = .ok (.aload_n 0, 1) := dk_42 (dk_at dksX6_sum_1 12 rfl rfl)
theorem dX6_sum_37 : decode cX6_sum 37 = .ok (.iload_n 1, 1) := dk_27 (dk_at dksX6_sum_1 13 rfl rfl)
theorem dX6_sum_38 : decode cX6_sum 38 = .ok (.invokevirtual 67, 3) := dk_182 0 67 (dk_at dksX6_sum_1 14 rfl rfl)
theorem dX6_sum_41 : decode cX6_sum 41 = .ok (.iload_n 3, 1) := dk_29 (dk_at dksX6_sum_1 17 rfl rfl)
theorem dX6_sum_42 : decode cX6_sum 42 = .ok (.invokevirtual 84, 3) := dk_182 0 84 (dk_at dksX6_sum_1 18 rfl rfl)
theorem dX6_sum_45 : decode cX6_sum 45 = .ok (.iadd, 1) := dk_96 (dk_at dksX6_sum_1 21 rfl rfl)
theorem dX6_sum_46 : decode cX6_sum 46 = .ok (.istore_n 2, 1) := dk_61 (dk_at dksX6_sum_1 22 rfl rfl)
theorem dX6_sum_47 : decode cX6_sum 47 = .ok (.iinc 3 1, 3) := dk_132 3 1 (dk_at dksX6_sum_2 0 rfl rfl)
theorem dX6_sum_50 : decode cX6_sum 50 = .ok (.goto (-29), 3) := dk_167 255 227 (dk_at dksX6_sum_2 3 rfl rfl)
theorem dX6_sum_53 : decode cX6_sum 53 = .ok (.iload_n 2, 1) := dk_28 (dk_at dksX6_sum_2 6 rfl rfl)
theorem dX6_sum_54 : decode cX6_sum 54 = .ok (.ireturn, 1) := dk_172 (dk_at dksX6_sum_2 7 rfl rfl)
abbrev cX6_apart : ByteArray := prog_18_method_52_code
def yX6_apart : MethodName := ⟨RX6, "apart", "(II)I"⟩
def dkwX6_apart_3 : List UInt8 := [4, 167, 0, 4, 3, 96, 62, 132, 4, 1, 167, 255, 206, 29, 172]
abbrev dktX6_apart_3 : List UInt8 := dkwX6_apart_3 ++ []
def dkwX6_apart_2 : List UInt8 := [42, 27, 182, 0, 67, 21, 4, 182, 0, 84, 42, 42, 28, 182, 0, 67, 21, 4, 182, 0, 84, 159, 0, 7]
abbrev dktX6_apart_2 : List UInt8 := dkwX6_apart_2 ++ dktX6_apart_3
def dkwX6_apart_1 : List UInt8 := [181, 0, 42, 3, 62, 3, 54, 4, 21, 4, 16, 12, 162, 0, 49, 42, 180, 0, 42, 154, 0, 42, 29, 42]
abbrev dktX6_apart_1 : List UInt8 := dkwX6_apart_1 ++ dktX6_apart_2
def dkwX6_apart_0 : List UInt8 := [42, 42, 27, 182, 0, 74, 153, 0, 15, 42, 28, 182, 0, 74, 153, 0, 7, 3, 167, 0, 4, 4]
abbrev dktX6_apart_0 : List UInt8 := dkwX6_apart_0 ++ dktX6_apart_1
theorem dksX6_apart_0 : cX6_apart.data.toList.drop 0 = dktX6_apart_0 := by decide +kernel
theorem dksX6_apart_1 : cX6_apart.data.toList.drop 22 = dktX6_apart_1 := dk_seg dksX6_apart_0 22 rfl rfl
theorem dksX6_apart_2 : cX6_apart.data.toList.drop 46 = dktX6_apart_2 := dk_seg dksX6_apart_1 24 rfl rfl
theorem dksX6_apart_3 : cX6_apart.data.toList.drop 70 = dktX6_apart_3 := dk_seg dksX6_apart_2 24 rfl rfl
theorem dX6_apart_0 : decode cX6_apart 0 = .ok (.aload_n 0, 1) := dk_42 (dk_at dksX6_apart_0 0 rfl rfl)
theorem dX6_apart_1 : decode cX6_apart 1 = .ok (.aload_n 0, 1) := dk_42 (dk_at dksX6_apart_0 1 rfl rfl)
theorem dX6_apart_2 : decode cX6_apart 2 = .ok (.iload_n 1, 1) := dk_27 (dk_at dksX6_apart_0 2 rfl rfl)
theorem dX6_apart_3 : decode cX6_apart 3 = .ok (.invokevirtual 74, 3) := dk_182 0 74 (dk_at dksX6_apart_0 3 rfl rfl)
theorem dX6_apart_6 : decode cX6_apart 6 = .ok (.ifCond .eq 15, 3) := dk_153 0 15 (dk_at dksX6_apart_0 6 rfl rfl)
theorem dX6_apart_9 : decode cX6_apart 9 = .ok (.aload_n 0, 1) := dk_42 (dk_at dksX6_apart_0 9 rfl rfl)
theorem dX6_apart_10 : decode cX6_apart 10 = .ok (.iload_n 2, 1) := dk_28 (dk_at dksX6_apart_0 10 rfl rfl)
theorem dX6_apart_11 : decode cX6_apart 11 = .ok (.invokevirtual 74, 3) := dk_182 0 74 (dk_at dksX6_apart_0 11 rfl rfl)
theorem dX6_apart_14 : decode cX6_apart 14 = .ok (.ifCond .eq 7, 3) := dk_153 0 7 (dk_at dksX6_apart_0 14 rfl rfl)
theorem dX6_apart_17 : decode cX6_apart 17 = .ok (.iconst 0, 1) := dk_3 (dk_at dksX6_apart_0 17 rfl rfl)
theorem dX6_apart_18 : decode cX6_apart 18 = .ok (.goto 4, 3) := dk_167 0 4 (dk_at dksX6_apart_0 18 rfl rfl)
theorem dX6_apart_21 : decode cX6_apart 21 = .ok (.iconst 1, 1) := dk_4 (dk_at dksX6_apart_0 21 rfl rfl)
theorem dX6_apart_22 : decode cX6_apart 22 = .ok (.putfield 42, 3) := dk_181 0 42 (dk_at dksX6_apart_1 0 rfl rfl)
theorem dX6_apart_25 : decode cX6_apart 25 = .ok (.iconst 0, 1) := dk_3 (dk_at dksX6_apart_1 3 rfl rfl)
theorem dX6_apart_26 : decode cX6_apart 26 = .ok (.istore_n 3, 1) := dk_62 (dk_at dksX6_apart_1 4 rfl rfl)
theorem dX6_apart_27 : decode cX6_apart 27 = .ok (.iconst 0, 1) := dk_3 (dk_at dksX6_apart_1 5 rfl rfl)
theorem dX6_apart_28 : decode cX6_apart 28 = .ok (.istore 4, 2) := dk_54 4 (dk_at dksX6_apart_1 6 rfl rfl)
theorem dX6_apart_30 : decode cX6_apart 30 = .ok (.iload 4, 2) := dk_21 4 (dk_at dksX6_apart_1 8 rfl rfl)
theorem dX6_apart_32 : decode cX6_apart 32 = .ok (.bipush 12, 2) := dk_16 12 (dk_at dksX6_apart_1 10 rfl rfl)
theorem dX6_apart_34 : decode cX6_apart 34 = .ok (.if_icmp .ge 49, 3) := dk_162 0 49 (dk_at dksX6_apart_1 12 rfl rfl)
theorem dX6_apart_37 : decode cX6_apart 37 = .ok (.aload_n 0, 1) := dk_42 (dk_at dksX6_apart_1 15 rfl rfl)
theorem dX6_apart_38 : decode cX6_apart 38 = .ok (.getfield 42, 3) := dk_180 0 42 (dk_at dksX6_apart_1 16 rfl rfl)
theorem dX6_apart_41 : decode cX6_apart 41 = .ok (.ifCond .ne 42, 3) := dk_154 0 42 (dk_at dksX6_apart_1 19 rfl rfl)
theorem dX6_apart_44 : decode cX6_apart 44 = .ok (.iload_n 3, 1) := dk_29 (dk_at dksX6_apart_1 22 rfl rfl)
theorem dX6_apart_45 : decode cX6_apart 45 = .ok (.aload_n 0, 1) := dk_42 (dk_at dksX6_apart_1 23 rfl rfl)
theorem dX6_apart_46 : decode cX6_apart 46 = .ok (.aload_n 0, 1) := dk_42 (dk_at dksX6_apart_2 0 rfl rfl)
theorem dX6_apart_47 : decode cX6_apart 47 = .ok (.iload_n 1, 1) := dk_27 (dk_at dksX6_apart_2 1 rfl rfl)
theorem dX6_apart_48 : decode cX6_apart 48 = .ok (.invokevirtual 67, 3) := dk_182 0 67 (dk_at dksX6_apart_2 2 rfl rfl)
theorem dX6_apart_51 : decode cX6_apart 51 = .ok (.iload 4, 2) := dk_21 4 (dk_at dksX6_apart_2 5 rfl rfl)
theorem dX6_apart_53 : decode cX6_apart 53 = .ok (.invokevirtual 84, 3) := dk_182 0 84 (dk_at dksX6_apart_2 7 rfl rfl)
theorem dX6_apart_56 : decode cX6_apart 56 = .ok (.aload_n 0, 1) := dk_42 (dk_at dksX6_apart_2 10 rfl rfl)
theorem dX6_apart_57 : decode cX6_apart 57 = .ok (.aload_n 0, 1) := dk_42 (dk_at dksX6_apart_2 11 rfl rfl)
theorem dX6_apart_58 : decode cX6_apart 58 = .ok (.iload_n 2, 1) := dk_28 (dk_at dksX6_apart_2 12 rfl rfl)
theorem dX6_apart_59 : decode cX6_apart 59 = .ok (.invokevirtual 67, 3) := dk_182 0 67 (dk_at dksX6_apart_2 13 rfl rfl)
theorem dX6_apart_62 : decode cX6_apart 62 = .ok (.iload 4, 2) := dk_21 4 (dk_at dksX6_apart_2 16 rfl rfl)
theorem dX6_apart_64 : decode cX6_apart 64 = .ok (.invokevirtual 84, 3) := dk_182 0 84 (dk_at dksX6_apart_2 18 rfl rfl)
theorem dX6_apart_67 : decode cX6_apart 67 = .ok (.if_icmp .eq 7, 3) := dk_159 0 7 (dk_at dksX6_apart_2 21 rfl rfl)
theorem dX6_apart_70 : decode cX6_apart 70 = .ok (.iconst 1, 1) := dk_4 (dk_at dksX6_apart_3 0 rfl rfl)
theorem dX6_apart_71 : decode cX6_apart 71 = .ok (.goto 4, 3) := dk_167 0 4 (dk_at dksX6_apart_3 1 rfl rfl)
theorem dX6_apart_74 : decode cX6_apart 74 = .ok (.iconst 0, 1) := dk_3 (dk_at dksX6_apart_3 4 rfl rfl)
theorem dX6_apart_75 : decode cX6_apart 75 = .ok (.iadd, 1) := dk_96 (dk_at dksX6_apart_3 5 rfl rfl)
theorem dX6_apart_76 : decode cX6_apart 76 = .ok (.istore_n 3, 1) := dk_62 (dk_at dksX6_apart_3 6 rfl rfl)
theorem dX6_apart_77 : decode cX6_apart 77 = .ok (.iinc 4 1, 3) := dk_132 4 1 (dk_at dksX6_apart_3 7 rfl rfl)
theorem dX6_apart_80 : decode cX6_apart 80 = .ok (.goto (-50), 3) := dk_167 255 206 (dk_at dksX6_apart_3 10 rfl rfl)
theorem dX6_apart_83 : decode cX6_apart 83 = .ok (.iload_n 3, 1) := dk_29 (dk_at dksX6_apart_3 13 rfl rfl)
theorem dX6_apart_84 : decode cX6_apart 84 = .ok (.ireturn, 1) := dk_172 (dk_at dksX6_apart_3 14 rfl rfl)
abbrev cX6_reason : ByteArray := prog_18_method_53_code
def yX6_reason : MethodName := ⟨RX6, "reason", "()I"⟩
def dkwX6_reason_0 : List UInt8 := [42, 42, 180, 0, 60, 154, 0, 7, 4, 167, 0, 4, 3, 181, 0, 42, 42, 180, 0, 60, 172]
abbrev dktX6_reason_0 : List UInt8 := dkwX6_reason_0 ++ []
theorem dksX6_reason_0 : cX6_reason.data.toList.drop 0 = dktX6_reason_0 := by decide +kernel
theorem dX6_reason_0 : decode cX6_reason 0 = .ok (.aload_n 0, 1) := dk_42 (dk_at dksX6_reason_0 0 rfl rfl)
theorem dX6_reason_1 : decode cX6_reason 1 = .ok (.aload_n 0, 1) := dk_42 (dk_at dksX6_reason_0 1 rfl rfl)
theorem dX6_reason_2 : decode cX6_reason 2 = .ok (.getfield 60, 3) := dk_180 0 60 (dk_at dksX6_reason_0 2 rfl rfl)
theorem dX6_reason_5 : decode cX6_reason 5 = .ok (.ifCond .ne 7, 3) := dk_154 0 7 (dk_at dksX6_reason_0 5 rfl rfl)
theorem dX6_reason_8 : decode cX6_reason 8 = .ok (.iconst 1, 1) := dk_4 (dk_at dksX6_reason_0 8 rfl rfl)
theorem dX6_reason_9 : decode cX6_reason 9 = .ok (.goto 4, 3) := dk_167 0 4 (dk_at dksX6_reason_0 9 rfl rfl)
theorem dX6_reason_12 : decode cX6_reason 12 = .ok (.iconst 0, 1) := dk_3 (dk_at dksX6_reason_0 12 rfl rfl)
theorem dX6_reason_13 : decode cX6_reason 13 = .ok (.putfield 42, 3) := dk_181 0 42 (dk_at dksX6_reason_0 13 rfl rfl)
theorem dX6_reason_16 : decode cX6_reason 16 = .ok (.aload_n 0, 1) := dk_42 (dk_at dksX6_reason_0 16 rfl rfl)
theorem dX6_reason_17 : decode cX6_reason 17 = .ok (.getfield 60, 3) := dk_180 0 60 (dk_at dksX6_reason_0 17 rfl rfl)
theorem dX6_reason_20 : decode cX6_reason 20 = .ok (.ireturn, 1) := dk_172 (dk_at dksX6_reason_0 20 rfl rfl)
abbrev cX6_go : ByteArray := prog_18_method_62_code
def yX6_go : MethodName := ⟨RX6, "go", "()I"⟩
def dkwX6_go_0 : List UInt8 := [42, 3, 182, 0, 181, 172]
abbrev dktX6_go_0 : List UInt8 := dkwX6_go_0 ++ []
theorem dksX6_go_0 : cX6_go.data.toList.drop 0 = dktX6_go_0 := by decide +kernel
theorem dX6_go_0 : decode cX6_go 0 = .ok (.aload_n 0, 1) := dk_42 (dk_at dksX6_go_0 0 rfl rfl)
theorem dX6_go_1 : decode cX6_go 1 = .ok (.iconst 0, 1) := dk_3 (dk_at dksX6_go_0 1 rfl rfl)
theorem dX6_go_2 : decode cX6_go 2 = .ok (.invokevirtual 181, 3) := dk_182 0 181 (dk_at dksX6_go_0 2 rfl rfl)
theorem dX6_go_5 : decode cX6_go 5 = .ok (.ireturn, 1) := dk_172 (dk_at dksX6_go_0 5 rfl rfl)
abbrev cX6_steps : ByteArray := prog_18_method_61_code
def yX6_steps : MethodName := ⟨RX6, "steps", "(Z)I"⟩
def dkwX6_steps_1 : List UInt8 := [180, 0, 42, 158, 0, 5, 3, 172, 42, 182, 0, 57, 42, 180, 0, 9, 5, 46, 172]
abbrev dktX6_steps_1 : List UInt8 := dkwX6_steps_1 ++ []
def dkwX6_steps_0 : List UInt8 := [42, 182, 0, 54, 42, 42, 27, 182, 0, 177, 158, 0, 7, 4, 167, 0, 4, 3, 181, 0, 42, 42]
abbrev dktX6_steps_0 : List UInt8 := dkwX6_steps_0 ++ dktX6_steps_1
theorem dksX6_steps_0 : cX6_steps.data.toList.drop 0 = dktX6_steps_0 := by decide +kernel
theorem dksX6_steps_1 : cX6_steps.data.toList.drop 22 = dktX6_steps_1 := dk_seg dksX6_steps_0 22 rfl rfl
theorem dX6_steps_0 : decode cX6_steps 0 = .ok (.aload_n 0, 1) := dk_42 (dk_at dksX6_steps_0 0 rfl rfl)
theorem dX6_steps_1 : decode cX6_steps 1 = .ok (.invokevirtual 54, 3) := dk_182 0 54 (dk_at dksX6_steps_0 1 rfl rfl)
theorem dX6_steps_4 : decode cX6_steps 4 = .ok (.aload_n 0, 1) := dk_42 (dk_at dksX6_steps_0 4 rfl rfl)
theorem dX6_steps_5 : decode cX6_steps 5 = .ok (.aload_n 0, 1) := dk_42 (dk_at dksX6_steps_0 5 rfl rfl)
theorem dX6_steps_6 : decode cX6_steps 6 = .ok (.iload_n 1, 1) := dk_27 (dk_at dksX6_steps_0 6 rfl rfl)
theorem dX6_steps_7 : decode cX6_steps 7 = .ok (.invokevirtual 177, 3) := dk_182 0 177 (dk_at dksX6_steps_0 7 rfl rfl)
theorem dX6_steps_10 : decode cX6_steps 10 = .ok (.ifCond .le 7, 3) := dk_158 0 7 (dk_at dksX6_steps_0 10 rfl rfl)
theorem dX6_steps_13 : decode cX6_steps 13 = .ok (.iconst 1, 1) := dk_4 (dk_at dksX6_steps_0 13 rfl rfl)
theorem dX6_steps_14 : decode cX6_steps 14 = .ok (.goto 4, 3) := dk_167 0 4 (dk_at dksX6_steps_0 14 rfl rfl)
theorem dX6_steps_17 : decode cX6_steps 17 = .ok (.iconst 0, 1) := dk_3 (dk_at dksX6_steps_0 17 rfl rfl)
theorem dX6_steps_18 : decode cX6_steps 18 = .ok (.putfield 42, 3) := dk_181 0 42 (dk_at dksX6_steps_0 18 rfl rfl)
theorem dX6_steps_21 : decode cX6_steps 21 = .ok (.aload_n 0, 1) := dk_42 (dk_at dksX6_steps_0 21 rfl rfl)
theorem dX6_steps_22 : decode cX6_steps 22 = .ok (.getfield 42, 3) := dk_180 0 42 (dk_at dksX6_steps_1 0 rfl rfl)
theorem dX6_steps_25 : decode cX6_steps 25 = .ok (.ifCond .le 5, 3) := dk_158 0 5 (dk_at dksX6_steps_1 3 rfl rfl)
theorem dX6_steps_28 : decode cX6_steps 28 = .ok (.iconst 0, 1) := dk_3 (dk_at dksX6_steps_1 6 rfl rfl)
theorem dX6_steps_29 : decode cX6_steps 29 = .ok (.ireturn, 1) := dk_172 (dk_at dksX6_steps_1 7 rfl rfl)
theorem dX6_steps_30 : decode cX6_steps 30 = .ok (.aload_n 0, 1) := dk_42 (dk_at dksX6_steps_1 8 rfl rfl)
theorem dX6_steps_31 : decode cX6_steps 31 = .ok (.invokevirtual 57, 3) := dk_182 0 57 (dk_at dksX6_steps_1 9 rfl rfl)
theorem dX6_steps_34 : decode cX6_steps 34 = .ok (.aload_n 0, 1) := dk_42 (dk_at dksX6_steps_1 12 rfl rfl)
theorem dX6_steps_35 : decode cX6_steps 35 = .ok (.getfield 9, 3) := dk_180 0 9 (dk_at dksX6_steps_1 13 rfl rfl)
theorem dX6_steps_38 : decode cX6_steps 38 = .ok (.iconst 2, 1) := dk_5 (dk_at dksX6_steps_1 16 rfl rfl)
theorem dX6_steps_39 : decode cX6_steps 39 = .ok (.iaload, 1) := dk_46 (dk_at dksX6_steps_1 17 rfl rfl)
theorem dX6_steps_40 : decode cX6_steps 40 = .ok (.ireturn, 1) := dk_172 (dk_at dksX6_steps_1 18 rfl rfl)
abbrev cX6_doGo : ByteArray := prog_18_method_60_code
def yX6_doGo : MethodName := ⟨RX6, "doGo", "(Z)I"⟩
def dkwX6_doGo_2 : List UInt8 := [182, 0, 174, 87, 3, 172]
abbrev dktX6_doGo_2 : List UInt8 := dkwX6_doGo_2 ++ []
def dkwX6_doGo_1 : List UInt8 := [182, 0, 171, 61, 28, 154, 0, 17, 42, 27, 153, 0, 7, 8, 167, 0, 4, 7, 182, 0, 139, 172, 42, 28]
abbrev dktX6_doGo_1 : List UInt8 := dkwX6_doGo_1 ++ dktX6_doGo_2
def dkwX6_doGo_0 : List UInt8 := [27, 153, 0, 16, 42, 42, 180, 0, 9, 5, 46, 182, 0, 168, 167, 0, 13, 42, 42, 180, 0, 9, 5, 46]
abbrev dktX6_doGo_0 : List UInt8 := dkwX6_doGo_0 ++ dktX6_doGo_1
theorem dksX6_doGo_0 : cX6_doGo.data.toList.drop 0 = dktX6_doGo_0 := by decide +kernel
theorem dksX6_doGo_1 : cX6_doGo.data.toList.drop 24 = dktX6_doGo_1 := dk_seg dksX6_doGo_0 24 rfl rfl
theorem dksX6_doGo_2 : cX6_doGo.data.toList.drop 48 = dktX6_doGo_2 := dk_seg dksX6_doGo_1 24 rfl rfl
theorem dX6_doGo_0 : decode cX6_doGo 0 = .ok (.iload_n 1, 1) := dk_27 (dk_at dksX6_doGo_0 0 rfl rfl)
theorem dX6_doGo_1 : decode cX6_doGo 1 = .ok (.ifCond .eq 16, 3) := dk_153 0 16 (dk_at dksX6_doGo_0 1 rfl rfl)
theorem dX6_doGo_4 : decode cX6_doGo 4 = .ok (.aload_n 0, 1) := dk_42 (dk_at dksX6_doGo_0 4 rfl rfl)
theorem dX6_doGo_5 : decode cX6_doGo 5 = .ok (.aload_n 0, 1) := dk_42 (dk_at dksX6_doGo_0 5 rfl rfl)
theorem dX6_doGo_6 : decode cX6_doGo 6 = .ok (.getfield 9, 3) := dk_180 0 9 (dk_at dksX6_doGo_0 6 rfl rfl)
theorem dX6_doGo_9 : decode cX6_doGo 9 = .ok (.iconst 2, 1) := dk_5 (dk_at dksX6_doGo_0 9 rfl rfl)
theorem dX6_doGo_10 : decode cX6_doGo 10 = .ok (.iaload, 1) := dk_46 (dk_at dksX6_doGo_0 10 rfl rfl)
theorem dX6_doGo_11 : decode cX6_doGo 11 = .ok (.invokevirtual 168, 3) := dk_182 0 168 (dk_at dksX6_doGo_0 11 rfl rfl)
theorem dX6_doGo_14 : decode cX6_doGo 14 = .ok (.goto 13, 3) := dk_167 0 13 (dk_at dksX6_doGo_0 14 rfl rfl)
theorem dX6_doGo_17 : decode cX6_doGo 17 = .ok (.aload_n 0, 1) := dk_42 (dk_at dksX6_doGo_0 17 rfl rfl)
theorem dX6_doGo_18 : decode cX6_doGo 18 = .ok (.aload_n 0, 1) := dk_42 (dk_at dksX6_doGo_0 18 rfl rfl)
theorem dX6_doGo_19 : decode cX6_doGo 19 = .ok (.getfield 9, 3) := dk_180 0 9 (dk_at dksX6_doGo_0 19 rfl rfl)
theorem dX6_doGo_22 : decode cX6_doGo 22 = .ok (.iconst 2, 1) := dk_5 (dk_at dksX6_doGo_0 22 rfl rfl)
theorem dX6_doGo_23 : decode cX6_doGo 23 = .ok (.iaload, 1) := dk_46 (dk_at dksX6_doGo_0 23 rfl rfl)
theorem dX6_doGo_24 : decode cX6_doGo 24 = .ok (.invokevirtual 171, 3) := dk_182 0 171 (dk_at dksX6_doGo_1 0 rfl rfl)
theorem dX6_doGo_27 : decode cX6_doGo 27 = .ok (.istore_n 2, 1) := dk_61 (dk_at dksX6_doGo_1 3 rfl rfl)
theorem dX6_doGo_28 : decode cX6_doGo 28 = .ok (.iload_n 2, 1) := dk_28 (dk_at dksX6_doGo_1 4 rfl rfl)
theorem dX6_doGo_29 : decode cX6_doGo 29 = .ok (.ifCond .ne 17, 3) := dk_154 0 17 (dk_at dksX6_doGo_1 5 rfl rfl)
theorem dX6_doGo_32 : decode cX6_doGo 32 = .ok (.aload_n 0, 1) := dk_42 (dk_at dksX6_doGo_1 8 rfl rfl)
theorem dX6_doGo_33 : decode cX6_doGo 33 = .ok (.iload_n 1, 1) := dk_27 (dk_at dksX6_doGo_1 9 rfl rfl)
theorem dX6_doGo_34 : decode cX6_doGo 34 = .ok (.ifCond .eq 7, 3) := dk_153 0 7 (dk_at dksX6_doGo_1 10 rfl rfl)
theorem dX6_doGo_37 : decode cX6_doGo 37 = .ok (.iconst 5, 1) := dk_8 (dk_at dksX6_doGo_1 13 rfl rfl)
theorem dX6_doGo_38 : decode cX6_doGo 38 = .ok (.goto 4, 3) := dk_167 0 4 (dk_at dksX6_doGo_1 14 rfl rfl)
theorem dX6_doGo_41 : decode cX6_doGo 41 = .ok (.iconst 4, 1) := dk_7 (dk_at dksX6_doGo_1 17 rfl rfl)
theorem dX6_doGo_42 : decode cX6_doGo 42 = .ok (.invokevirtual 139, 3) := dk_182 0 139 (dk_at dksX6_doGo_1 18 rfl rfl)
theorem dX6_doGo_45 : decode cX6_doGo 45 = .ok (.ireturn, 1) := dk_172 (dk_at dksX6_doGo_1 21 rfl rfl)
theorem dX6_doGo_46 : decode cX6_doGo 46 = .ok (.aload_n 0, 1) := dk_42 (dk_at dksX6_doGo_1 22 rfl rfl)
theorem dX6_doGo_47 : decode cX6_doGo 47 = .ok (.iload_n 2, 1) := dk_28 (dk_at dksX6_doGo_1 23 rfl rfl)
theorem dX6_doGo_48 : decode cX6_doGo 48 = .ok (.invokevirtual 174, 3) := dk_182 0 174 (dk_at dksX6_doGo_2 0 rfl rfl)
theorem dX6_doGo_51 : decode cX6_doGo 51 = .ok (.pop, 1) := dk_87 (dk_at dksX6_doGo_2 3 rfl rfl)
theorem dX6_doGo_52 : decode cX6_doGo 52 = .ok (.iconst 0, 1) := dk_3 (dk_at dksX6_doGo_2 4 rfl rfl)
theorem dX6_doGo_53 : decode cX6_doGo 53 = .ok (.ireturn, 1) := dk_172 (dk_at dksX6_doGo_2 5 rfl rfl)
abbrev cX6_cueAhead : ByteArray := prog_18_method_59_code
def yX6_cueAhead : MethodName := ⟨RX6, "cueAhead", "(I)I"⟩
def dkwX6_cueAhead_2 : List UInt8 := [172]
abbrev dktX6_cueAhead_2 : List UInt8 := dkwX6_cueAhead_2 ++ []
def dkwX6_cueAhead_1 : List UInt8 := [162, 0, 15, 42, 180, 0, 9, 29, 184, 0, 63, 46, 167, 0, 4, 28, 61, 132, 3, 1, 167, 255, 216, 28]
abbrev dktX6_cueAhead_1 : List UInt8 := dkwX6_cueAhead_1 ++ dktX6_cueAhead_2
def dkwX6_cueAhead_0 : List UInt8 := [3, 61, 3, 62, 29, 42, 180, 0, 9, 3, 46, 162, 0, 36, 42, 180, 0, 9, 29, 184, 0, 63, 46, 27]
abbrev dktX6_cueAhead_0 : List UInt8 := dkwX6_cueAhead_0 ++ dktX6_cueAhead_1
theorem dksX6_cueAhead_0 : cX6_cueAhead.data.toList.drop 0 = dktX6_cueAhead_0 := by decide +kernel
theorem dksX6_cueAhead_1 : cX6_cueAhead.data.toList.drop 24 = dktX6_cueAhead_1 := dk_seg dksX6_cueAhead_0 24 rfl rfl
theorem dksX6_cueAhead_2 : cX6_cueAhead.data.toList.drop 48 = dktX6_cueAhead_2 := dk_seg dksX6_cueAhead_1 24 rfl rfl
theorem dX6_cueAhead_0 : decode cX6_cueAhead 0 = .ok (.iconst 0, 1) := dk_3 (dk_at dksX6_cueAhead_0 0 rfl rfl)
theorem dX6_cueAhead_1 : decode cX6_cueAhead 1 = .ok (.istore_n 2, 1) := dk_61 (dk_at dksX6_cueAhead_0 1 rfl rfl)
theorem dX6_cueAhead_2 : decode cX6_cueAhead 2 = .ok (.iconst 0, 1) := dk_3 (dk_at dksX6_cueAhead_0 2 rfl rfl)
theorem dX6_cueAhead_3 : decode cX6_cueAhead 3 = .ok (.istore_n 3, 1) := dk_62 (dk_at dksX6_cueAhead_0 3 rfl rfl)
theorem dX6_cueAhead_4 : decode cX6_cueAhead 4 = .ok (.iload_n 3, 1) := dk_29 (dk_at dksX6_cueAhead_0 4 rfl rfl)
theorem dX6_cueAhead_5 : decode cX6_cueAhead 5 = .ok (.aload_n 0, 1) := dk_42 (dk_at dksX6_cueAhead_0 5 rfl rfl)
theorem dX6_cueAhead_6 : decode cX6_cueAhead 6 = .ok (.getfield 9, 3) := dk_180 0 9 (dk_at dksX6_cueAhead_0 6 rfl rfl)
theorem dX6_cueAhead_9 : decode cX6_cueAhead 9 = .ok (.iconst 0, 1) := dk_3 (dk_at dksX6_cueAhead_0 9 rfl rfl)
theorem dX6_cueAhead_10 : decode cX6_cueAhead 10 = .ok (.iaload, 1) := dk_46 (dk_at dksX6_cueAhead_0 10 rfl rfl)
theorem dX6_cueAhead_11 : decode cX6_cueAhead 11 = .ok (.if_icmp .ge 36, 3) := dk_162 0 36 (dk_at dksX6_cueAhead_0 11 rfl rfl)
theorem dX6_cueAhead_14 : decode cX6_cueAhead 14 = .ok (.aload_n 0, 1) := dk_42 (dk_at dksX6_cueAhead_0 14 rfl rfl)
theorem dX6_cueAhead_15 : decode cX6_cueAhead 15 = .ok (.getfield 9, 3) := dk_180 0 9 (dk_at dksX6_cueAhead_0 15 rfl rfl)
theorem dX6_cueAhead_18 : decode cX6_cueAhead 18 = .ok (.iload_n 3, 1) := dk_29 (dk_at dksX6_cueAhead_0 18 rfl rfl)
theorem dX6_cueAhead_19 : decode cX6_cueAhead 19 = .ok (.invokestatic 63, 3) := dk_184 0 63 (dk_at dksX6_cueAhead_0 19 rfl rfl)
theorem dX6_cueAhead_22 : decode cX6_cueAhead 22 = .ok (.iaload, 1) := dk_46 (dk_at dksX6_cueAhead_0 22 rfl rfl)
theorem dX6_cueAhead_23 : decode cX6_cueAhead 23 = .ok (.iload_n 1, 1) := dk_27 (dk_at dksX6_cueAhead_0 23 rfl rfl)
theorem dX6_cueAhead_24 : decode cX6_cueAhead 24 = .ok (.if_icmp .ge 15, 3) := dk_162 0 15 (dk_at dksX6_cueAhead_1 0 rfl rfl)
theorem dX6_cueAhead_27 : decode cX6_cueAhead 27 = .ok (.aload_n 0, 1) := dk_42 (dk_at dksX6_cueAhead_1 3 rfl rfl)
theorem dX6_cueAhead_28 : decode cX6_cueAhead 28 = .ok (.getfield 9, 3) := dk_180 0 9 (dk_at dksX6_cueAhead_1 4 rfl rfl)
theorem dX6_cueAhead_31 : decode cX6_cueAhead 31 = .ok (.iload_n 3, 1) := dk_29 (dk_at dksX6_cueAhead_1 7 rfl rfl)
theorem dX6_cueAhead_32 : decode cX6_cueAhead 32 = .ok (.invokestatic 63, 3) := dk_184 0 63 (dk_at dksX6_cueAhead_1 8 rfl rfl)
theorem dX6_cueAhead_35 : decode cX6_cueAhead 35 = .ok (.iaload, 1) := dk_46 (dk_at dksX6_cueAhead_1 11 rfl rfl)
theorem dX6_cueAhead_36 : decode cX6_cueAhead 36 = .ok (.goto 4, 3) := dk_167 0 4 (dk_at dksX6_cueAhead_1 12 rfl rfl)
theorem dX6_cueAhead_39 : decode cX6_cueAhead 39 = .ok (.iload_n 2, 1) := dk_28 (dk_at dksX6_cueAhead_1 15 rfl rfl)
theorem dX6_cueAhead_40 : decode cX6_cueAhead 40 = .ok (.istore_n 2, 1) := dk_61 (dk_at dksX6_cueAhead_1 16 rfl rfl)
theorem dX6_cueAhead_41 : decode cX6_cueAhead 41 = .ok (.iinc 3 1, 3) := dk_132 3 1 (dk_at dksX6_cueAhead_1 17 rfl rfl)
theorem dX6_cueAhead_44 : decode cX6_cueAhead 44 = .ok (.goto (-40), 3) := dk_167 255 216 (dk_at dksX6_cueAhead_1 20 rfl rfl)
theorem dX6_cueAhead_47 : decode cX6_cueAhead 47 = .ok (.iload_n 2, 1) := dk_28 (dk_at dksX6_cueAhead_1 23 rfl rfl)
theorem dX6_cueAhead_48 : decode cX6_cueAhead 48 = .ok (.ireturn, 1) := dk_172 (dk_at dksX6_cueAhead_2 0 rfl rfl)
abbrev cX6_nextCue : ByteArray := prog_18_method_58_code
def yX6_nextCue : MethodName := ⟨RX6, "nextCue", "(I)I"⟩
def dkwX6_nextCue_1 : List UInt8 := [164, 0, 13, 42, 180, 0, 9, 28, 184, 0, 63, 46, 172, 132, 2, 1, 167, 255, 220, 3, 172]
abbrev dktX6_nextCue_1 : List UInt8 := dkwX6_nextCue_1 ++ []
def dkwX6_nextCue_0 : List UInt8 := [3, 61, 28, 42, 180, 0, 9, 3, 46, 162, 0, 32, 42, 180, 0, 9, 28, 184, 0, 63, 46, 27]
abbrev dktX6_nextCue_0 : List UInt8 := dkwX6_nextCue_0 ++ dktX6_nextCue_1
theorem dksX6_nextCue_0 : cX6_nextCue.data.toList.drop 0 = dktX6_nextCue_0 := by decide +kernel
theorem dksX6_nextCue_1 : cX6_nextCue.data.toList.drop 22 = dktX6_nextCue_1 := dk_seg dksX6_nextCue_0 22 rfl rfl
theorem dX6_nextCue_0 : decode cX6_nextCue 0 = .ok (.iconst 0, 1) := dk_3 (dk_at dksX6_nextCue_0 0 rfl rfl)
theorem dX6_nextCue_1 : decode cX6_nextCue 1 = .ok (.istore_n 2, 1) := dk_61 (dk_at dksX6_nextCue_0 1 rfl rfl)
theorem dX6_nextCue_2 : decode cX6_nextCue 2 = .ok (.iload_n 2, 1) := dk_28 (dk_at dksX6_nextCue_0 2 rfl rfl)
theorem dX6_nextCue_3 : decode cX6_nextCue 3 = .ok (.aload_n 0, 1) := dk_42 (dk_at dksX6_nextCue_0 3 rfl rfl)
theorem dX6_nextCue_4 : decode cX6_nextCue 4 = .ok (.getfield 9, 3) := dk_180 0 9 (dk_at dksX6_nextCue_0 4 rfl rfl)
theorem dX6_nextCue_7 : decode cX6_nextCue 7 = .ok (.iconst 0, 1) := dk_3 (dk_at dksX6_nextCue_0 7 rfl rfl)
theorem dX6_nextCue_8 : decode cX6_nextCue 8 = .ok (.iaload, 1) := dk_46 (dk_at dksX6_nextCue_0 8 rfl rfl)
theorem dX6_nextCue_9 : decode cX6_nextCue 9 = .ok (.if_icmp .ge 32, 3) := dk_162 0 32 (dk_at dksX6_nextCue_0 9 rfl rfl)
theorem dX6_nextCue_12 : decode cX6_nextCue 12 = .ok (.aload_n 0, 1) := dk_42 (dk_at dksX6_nextCue_0 12 rfl rfl)
theorem dX6_nextCue_13 : decode cX6_nextCue 13 = .ok (.getfield 9, 3) := dk_180 0 9 (dk_at dksX6_nextCue_0 13 rfl rfl)
theorem dX6_nextCue_16 : decode cX6_nextCue 16 = .ok (.iload_n 2, 1) := dk_28 (dk_at dksX6_nextCue_0 16 rfl rfl)
theorem dX6_nextCue_17 : decode cX6_nextCue 17 = .ok (.invokestatic 63, 3) := dk_184 0 63 (dk_at dksX6_nextCue_0 17 rfl rfl)
theorem dX6_nextCue_20 : decode cX6_nextCue 20 = .ok (.iaload, 1) := dk_46 (dk_at dksX6_nextCue_0 20 rfl rfl)
theorem dX6_nextCue_21 : decode cX6_nextCue 21 = .ok (.iload_n 1, 1) := dk_27 (dk_at dksX6_nextCue_0 21 rfl rfl)
theorem dX6_nextCue_22 : decode cX6_nextCue 22 = .ok (.if_icmp .le 13, 3) := dk_164 0 13 (dk_at dksX6_nextCue_1 0 rfl rfl)
theorem dX6_nextCue_25 : decode cX6_nextCue 25 = .ok (.aload_n 0, 1) := dk_42 (dk_at dksX6_nextCue_1 3 rfl rfl)
theorem dX6_nextCue_26 : decode cX6_nextCue 26 = .ok (.getfield 9, 3) := dk_180 0 9 (dk_at dksX6_nextCue_1 4 rfl rfl)
theorem dX6_nextCue_29 : decode cX6_nextCue 29 = .ok (.iload_n 2, 1) := dk_28 (dk_at dksX6_nextCue_1 7 rfl rfl)
theorem dX6_nextCue_30 : decode cX6_nextCue 30 = .ok (.invokestatic 63, 3) := dk_184 0 63 (dk_at dksX6_nextCue_1 8 rfl rfl)
theorem dX6_nextCue_33 : decode cX6_nextCue 33 = .ok (.iaload, 1) := dk_46 (dk_at dksX6_nextCue_1 11 rfl rfl)
theorem dX6_nextCue_34 : decode cX6_nextCue 34 = .ok (.ireturn, 1) := dk_172 (dk_at dksX6_nextCue_1 12 rfl rfl)
theorem dX6_nextCue_35 : decode cX6_nextCue 35 = .ok (.iinc 2 1, 3) := dk_132 2 1 (dk_at dksX6_nextCue_1 13 rfl rfl)
theorem dX6_nextCue_38 : decode cX6_nextCue 38 = .ok (.goto (-36), 3) := dk_167 255 220 (dk_at dksX6_nextCue_1 16 rfl rfl)
theorem dX6_nextCue_41 : decode cX6_nextCue 41 = .ok (.iconst 0, 1) := dk_3 (dk_at dksX6_nextCue_1 19 rfl rfl)
theorem dX6_nextCue_42 : decode cX6_nextCue 42 = .ok (.ireturn, 1) := dk_172 (dk_at dksX6_nextCue_1 20 rfl rfl)
abbrev cX6_goes : ByteArray := prog_18_method_57_code
def yX6_goes : MethodName := ⟨RX6, "goes", "(I)I"⟩
def dkwX6_goes_7 : List UInt8 := [7, 92, 46, 4, 96, 79, 28, 172]
abbrev dktX6_goes_7 : List UInt8 := dkwX6_goes_7 ++ []
def dkwX6_goes_6 : List UInt8 := [132, 4, 1, 167, 255, 126, 42, 180, 0, 9, 5, 27, 79, 42, 180, 0, 9, 6, 3, 79, 42, 180, 0, 9]
abbrev dktX6_goes_6 : List UInt8 := dkwX6_goes_6 ++ dktX6_goes_7
def dkwX6_goes_5 : List UInt8 := [180, 0, 9, 21, 6, 7, 96, 42, 180, 0, 9, 42, 27, 21, 7, 3, 182, 0, 94, 46, 79, 132, 2, 1]
abbrev dktX6_goes_5 : List UInt8 := dkwX6_goes_5 ++ dktX6_goes_6
def dkwX6_goes_4 : List UInt8 := [180, 0, 9, 21, 6, 6, 96, 42, 180, 0, 9, 42, 27, 21, 7, 4, 182, 0, 94, 46, 79, 42]
abbrev dktX6_goes_4 : List UInt8 := dkwX6_goes_4 ++ dktX6_goes_5
def dkwX6_goes_3 : List UInt8 := [79, 42, 180, 0, 9, 21, 6, 4, 96, 21, 5, 79, 42, 180, 0, 9, 21, 6, 5, 96, 3, 79, 42]
abbrev dktX6_goes_3 : List UInt8 := dkwX6_goes_3 ++ dktX6_goes_4
def dkwX6_goes_2 : List UInt8 := [159, 0, 93, 42, 27, 21, 4, 182, 0, 104, 54, 7, 42, 180, 0, 9, 21, 6, 42, 21, 4, 182, 0, 165]
abbrev dktX6_goes_2 : List UInt8 := dkwX6_goes_2 ++ dktX6_goes_3
def dkwX6_goes_1 : List UInt8 := [182, 0, 84, 54, 5, 21, 4, 184, 0, 162, 54, 6, 21, 5, 42, 180, 0, 9, 21, 6, 4, 96, 46]
abbrev dktX6_goes_1 : List UInt8 := dkwX6_goes_1 ++ dktX6_goes_2
def dkwX6_goes_0 : List UInt8 := [3, 61, 42, 27, 182, 0, 67, 62, 3, 54, 4, 21, 4, 16, 12, 162, 0, 129, 42, 29, 21, 4]
abbrev dktX6_goes_0 : List UInt8 := dkwX6_goes_0 ++ dktX6_goes_1
theorem dksX6_goes_0 : cX6_goes.data.toList.drop 0 = dktX6_goes_0 := by decide +kernel
theorem dksX6_goes_1 : cX6_goes.data.toList.drop 22 = dktX6_goes_1 := dk_seg dksX6_goes_0 22 rfl rfl
theorem dksX6_goes_2 : cX6_goes.data.toList.drop 45 = dktX6_goes_2 := dk_seg dksX6_goes_1 23 rfl rfl
theorem dksX6_goes_3 : cX6_goes.data.toList.drop 69 = dktX6_goes_3 := dk_seg dksX6_goes_2 24 rfl rfl
theorem dksX6_goes_4 : cX6_goes.data.toList.drop 92 = dktX6_goes_4 := dk_seg dksX6_goes_3 23 rfl rfl
theorem dksX6_goes_5 : cX6_goes.data.toList.drop 114 = dktX6_goes_5 := dk_seg dksX6_goes_4 22 rfl rfl
theorem dksX6_goes_6 : cX6_goes.data.toList.drop 138 = dktX6_goes_6 := dk_seg dksX6_goes_5 24 rfl rfl
theorem dksX6_goes_7 : cX6_goes.data.toList.drop 162 = dktX6_goes_7 := dk_seg dksX6_goes_6 24 rfl rfl
theorem dX6_goes_0 : decode cX6_goes 0 = .ok (.iconst 0, 1) := dk_3 (dk_at dksX6_goes_0 0 rfl rfl)
theorem dX6_goes_1 : decode cX6_goes 1 = .ok (.istore_n 2, 1) := dk_61 (dk_at dksX6_goes_0 1 rfl rfl)
theorem dX6_goes_2 : decode cX6_goes 2 = .ok (.aload_n 0, 1) := dk_42 (dk_at dksX6_goes_0 2 rfl rfl)
theorem dX6_goes_3 : decode cX6_goes 3 = .ok (.iload_n 1, 1) := dk_27 (dk_at dksX6_goes_0 3 rfl rfl)
theorem dX6_goes_4 : decode cX6_goes 4 = .ok (.invokevirtual 67, 3) := dk_182 0 67 (dk_at dksX6_goes_0 4 rfl rfl)
theorem dX6_goes_7 : decode cX6_goes 7 = .ok (.istore_n 3, 1) := dk_62 (dk_at dksX6_goes_0 7 rfl rfl)
theorem dX6_goes_8 : decode cX6_goes 8 = .ok (.iconst 0, 1) := dk_3 (dk_at dksX6_goes_0 8 rfl rfl)
theorem dX6_goes_9 : decode cX6_goes 9 = .ok (.istore 4, 2) := dk_54 4 (dk_at dksX6_goes_0 9 rfl rfl)
theorem dX6_goes_11 : decode cX6_goes 11 = .ok (.iload 4, 2) := dk_21 4 (dk_at dksX6_goes_0 11 rfl rfl)
theorem dX6_goes_13 : decode cX6_goes 13 = .ok (.bipush 12, 2) := dk_16 12 (dk_at dksX6_goes_0 13 rfl rfl)
theorem dX6_goes_15 : decode cX6_goes 15 = .ok (.if_icmp .ge 129, 3) := dk_162 0 129 (dk_at dksX6_goes_0 15 rfl rfl)
theorem dX6_goes_18 : decode cX6_goes 18 = .ok (.aload_n 0, 1) := dk_42 (dk_at dksX6_goes_0 18 rfl rfl)
theorem dX6_goes_19 : decode cX6_goes 19 = .ok (.iload_n 3, 1) := dk_29 (dk_at dksX6_goes_0 19 rfl rfl)
theorem dX6_goes_20 : decode cX6_goes 20 = .ok (.iload 4, 2) := dk_21 4 (dk_at dksX6_goes_0 20 rfl rfl)
theorem dX6_goes_22 : decode cX6_goes 22 = .ok (.invokevirtual 84, 3) := dk_182 0 84 (dk_at dksX6_goes_1 0 rfl rfl)
theorem dX6_goes_25 : decode cX6_goes 25 = .ok (.istore 5, 2) := dk_54 5 (dk_at dksX6_goes_1 3 rfl rfl)
theorem dX6_goes_27 : decode cX6_goes 27 = .ok (.iload 4, 2) := dk_21 4 (dk_at dksX6_goes_1 5 rfl rfl)
theorem dX6_goes_29 : decode cX6_goes 29 = .ok (.invokestatic 162, 3) := dk_184 0 162 (dk_at dksX6_goes_1 7 rfl rfl)
theorem dX6_goes_32 : decode cX6_goes 32 = .ok (.istore 6, 2) := dk_54 6 (dk_at dksX6_goes_1 10 rfl rfl)
theorem dX6_goes_34 : decode cX6_goes 34 = .ok (.iload 5, 2) := dk_21 5 (dk_at dksX6_goes_1 12 rfl rfl)
theorem dX6_goes_36 : decode cX6_goes 36 = .ok (.aload_n 0, 1) := dk_42 (dk_at dksX6_goes_1 14 rfl rfl)
theorem dX6_goes_37 : decode cX6_goes 37 = .ok (.getfield 9, 3) := dk_180 0 9 (dk_at dksX6_goes_1 15 rfl rfl)
theorem dX6_goes_40 : decode cX6_goes 40 = .ok (.iload 6, 2) := dk_21 6 (dk_at dksX6_goes_1 18 rfl rfl)
theorem dX6_goes_42 : decode cX6_goes 42 = .ok (.iconst 1, 1) := dk_4 (dk_at dksX6_goes_1 20 rfl rfl)
theorem dX6_goes_43 : decode cX6_goes 43 = .ok (.iadd, 1) := dk_96 (dk_at dksX6_goes_1 21 rfl rfl)
theorem dX6_goes_44 : decode cX6_goes 44 = .ok (.iaload, 1) := dk_46 (dk_at dksX6_goes_1 22 rfl rfl)
theorem dX6_goes_45 : decode cX6_goes 45 = .ok (.if_icmp .eq 93, 3) := dk_159 0 93 (dk_at dksX6_goes_2 0 rfl rfl)
theorem dX6_goes_48 : decode cX6_goes 48 = .ok (.aload_n 0, 1) := dk_42 (dk_at dksX6_goes_2 3 rfl rfl)
theorem dX6_goes_49 : decode cX6_goes 49 = .ok (.iload_n 1, 1) := dk_27 (dk_at dksX6_goes_2 4 rfl rfl)
theorem dX6_goes_50 : decode cX6_goes 50 = .ok (.iload 4, 2) := dk_21 4 (dk_at dksX6_goes_2 5 rfl rfl)
theorem dX6_goes_52 : decode cX6_goes 52 = .ok (.invokevirtual 104, 3) := dk_182 0 104 (dk_at dksX6_goes_2 7 rfl rfl)
theorem dX6_goes_55 : decode cX6_goes 55 = .ok (.istore 7, 2) := dk_54 7 (dk_at dksX6_goes_2 10 rfl rfl)
theorem dX6_goes_57 : decode cX6_goes 57 = .ok (.aload_n 0, 1) := dk_42 (dk_at dksX6_goes_2 12 rfl rfl)
theorem dX6_goes_58 : decode cX6_goes 58 = .ok (.getfield 9, 3) := dk_180 0 9 (dk_at dksX6_goes_2 13 rfl rfl)
theorem dX6_goes_61 : decode cX6_goes 61 = .ok (.iload 6, 2) := dk_21 6 (dk_at dksX6_goes_2 16 rfl rfl)
theorem dX6_goes_63 : decode cX6_goes 63 = .ok (.aload_n 0, 1) := dk_42 (dk_at dksX6_goes_2 18 rfl rfl)
theorem dX6_goes_64 : decode cX6_goes 64 = .ok (.iload 4, 2) := dk_21 4 (dk_at dksX6_goes_2 19 rfl rfl)
theorem dX6_goes_66 : decode cX6_goes 66 = .ok (.invokevirtual 165, 3) := dk_182 0 165 (dk_at dksX6_goes_2 21 rfl rfl)
theorem dX6_goes_69 : decode cX6_goes 69 = .ok (.iastore, 1) := dk_79 (dk_at dksX6_goes_3 0 rfl rfl)
theorem dX6_goes_70 : decode cX6_goes 70 = .ok (.aload_n 0, 1) := dk_42 (dk_at dksX6_goes_3 1 rfl rfl)
theorem dX6_goes_71 : decode cX6_goes 71 = .ok (.getfield 9, 3) := dk_180 0 9 (dk_at dksX6_goes_3 2 rfl rfl)
theorem dX6_goes_74 : decode cX6_goes 74 = .ok (.iload 6, 2) := dk_21 6 (dk_at dksX6_goes_3 5 rfl rfl)
theorem dX6_goes_76 : decode cX6_goes 76 = .ok (.iconst 1, 1) := dk_4 (dk_at dksX6_goes_3 7 rfl rfl)
theorem dX6_goes_77 : decode cX6_goes 77 = .ok (.iadd, 1) := dk_96 (dk_at dksX6_goes_3 8 rfl rfl)
theorem dX6_goes_78 : decode cX6_goes 78 = .ok (.iload 5, 2) := dk_21 5 (dk_at dksX6_goes_3 9 rfl rfl)
theorem dX6_goes_80 : decode cX6_goes 80 = .ok (.iastore, 1) := dk_79 (dk_at dksX6_goes_3 11 rfl rfl)
theorem dX6_goes_81 : decode cX6_goes 81 = .ok (.aload_n 0, 1) := dk_42 (dk_at dksX6_goes_3 12 rfl rfl)
theorem dX6_goes_82 : decode cX6_goes 82 = .ok (.getfield 9, 3) := dk_180 0 9 (dk_at dksX6_goes_3 13 rfl rfl)
theorem dX6_goes_85 : decode cX6_goes 85 = .ok (.iload 6, 2) := dk_21 6 (dk_at dksX6_goes_3 16 rfl rfl)
theorem dX6_goes_87 : decode cX6_goes 87 = .ok (.iconst 2, 1) := dk_5 (dk_at dksX6_goes_3 18 rfl rfl)
theorem dX6_goes_88 : decode cX6_goes 88 = .ok (.iadd, 1) := dk_96 (dk_at dksX6_goes_3 19 rfl rfl)
theorem dX6_goes_89 : decode cX6_goes 89 = .ok (.iconst 0, 1) := dk_3 (dk_at dksX6_goes_3 20 rfl rfl)
theorem dX6_goes_90 : decode cX6_goes 90 = .ok (.iastore, 1) := dk_79 (dk_at dksX6_goes_3 21 rfl rfl)
theorem dX6_goes_91 : decode cX6_goes 91 = .ok (.aload_n 0, 1) := dk_42 (dk_at dksX6_goes_3 22 rfl rfl)
theorem dX6_goes_92 : decode cX6_goes 92 = .ok (.getfield 9, 3) := dk_180 0 9 (dk_at dksX6_goes_4 0 rfl rfl)
theorem dX6_goes_95 : decode cX6_goes 95 = .ok (.iload 6, 2) := dk_21 6 (dk_at dksX6_goes_4 3 rfl rfl)
theorem dX6_goes_97 : decode cX6_goes 97 = .ok (.iconst 3, 1) := dk_6 (dk_at dksX6_goes_4 5 rfl rfl)
theorem dX6_goes_98 : decode cX6_goes 98 = .ok (.iadd, 1) := dk_96 (dk_at dksX6_goes_4 6 rfl rfl)
theorem dX6_goes_99 : decode cX6_goes 99 = .ok (.aload_n 0, 1) := dk_42 (dk_at dksX6_goes_4 7 rfl rfl)
theorem dX6_goes_100 : decode cX6_goes 100 = .ok (.getfield 9, 3) := dk_180 0 9 (dk_at dksX6_goes_4 8 rfl rfl)
theorem dX6_goes_103 : decode cX6_goes 103 = .ok (.aload_n 0, 1) := dk_42 (dk_at dksX6_goes_4 11 rfl rfl)
theorem dX6_goes_104 : decode cX6_goes 104 = .ok (.iload_n 1, 1) := dk_27 (dk_at dksX6_goes_4 12 rfl rfl)
theorem dX6_goes_105 : decode cX6_goes 105 = .ok (.iload 7, 2) := dk_21 7 (dk_at dksX6_goes_4 13 rfl rfl)
theorem dX6_goes_107 : decode cX6_goes 107 = .ok (.iconst 1, 1) := dk_4 (dk_at dksX6_goes_4 15 rfl rfl)
theorem dX6_goes_108 : decode cX6_goes 108 = .ok (.invokevirtual 94, 3) := dk_182 0 94 (dk_at dksX6_goes_4 16 rfl rfl)
theorem dX6_goes_111 : decode cX6_goes 111 = .ok (.iaload, 1) := dk_46 (dk_at dksX6_goes_4 19 rfl rfl)
theorem dX6_goes_112 : decode cX6_goes 112 = .ok (.iastore, 1) := dk_79 (dk_at dksX6_goes_4 20 rfl rfl)
theorem dX6_goes_113 : decode cX6_goes 113 = .ok (.aload_n 0, 1) := dk_42 (dk_at dksX6_goes_4 21 rfl rfl)
theorem dX6_goes_114 : decode cX6_goes 114 = .ok (.getfield 9, 3) := dk_180 0 9 (dk_at dksX6_goes_5 0 rfl rfl)
theorem dX6_goes_117 : decode cX6_goes 117 = .ok (.iload 6, 2) := dk_21 6 (dk_at dksX6_goes_5 3 rfl rfl)
theorem dX6_goes_119 : decode cX6_goes 119 = .ok (.iconst 4, 1) := dk_7 (dk_at dksX6_goes_5 5 rfl rfl)
theorem dX6_goes_120 : decode cX6_goes 120 = .ok (.iadd, 1) := dk_96 (dk_at dksX6_goes_5 6 rfl rfl)
theorem dX6_goes_121 : decode cX6_goes 121 = .ok (.aload_n 0, 1) := dk_42 (dk_at dksX6_goes_5 7 rfl rfl)
theorem dX6_goes_122 : decode cX6_goes 122 = .ok (.getfield 9, 3) := dk_180 0 9 (dk_at dksX6_goes_5 8 rfl rfl)
theorem dX6_goes_125 : decode cX6_goes 125 = .ok (.aload_n 0, 1) := dk_42 (dk_at dksX6_goes_5 11 rfl rfl)
theorem dX6_goes_126 : decode cX6_goes 126 = .ok (.iload_n 1, 1) := dk_27 (dk_at dksX6_goes_5 12 rfl rfl)
theorem dX6_goes_127 : decode cX6_goes 127 = .ok (.iload 7, 2) := dk_21 7 (dk_at dksX6_goes_5 13 rfl rfl)
theorem dX6_goes_129 : decode cX6_goes 129 = .ok (.iconst 0, 1) := dk_3 (dk_at dksX6_goes_5 15 rfl rfl)
theorem dX6_goes_130 : decode cX6_goes 130 = .ok (.invokevirtual 94, 3) := dk_182 0 94 (dk_at dksX6_goes_5 16 rfl rfl)
theorem dX6_goes_133 : decode cX6_goes 133 = .ok (.iaload, 1) := dk_46 (dk_at dksX6_goes_5 19 rfl rfl)
theorem dX6_goes_134 : decode cX6_goes 134 = .ok (.iastore, 1) := dk_79 (dk_at dksX6_goes_5 20 rfl rfl)
theorem dX6_goes_135 : decode cX6_goes 135 = .ok (.iinc 2 1, 3) := dk_132 2 1 (dk_at dksX6_goes_5 21 rfl rfl)
theorem dX6_goes_138 : decode cX6_goes 138 = .ok (.iinc 4 1, 3) := dk_132 4 1 (dk_at dksX6_goes_6 0 rfl rfl)
theorem dX6_goes_141 : decode cX6_goes 141 = .ok (.goto (-130), 3) := dk_167 255 126 (dk_at dksX6_goes_6 3 rfl rfl)
theorem dX6_goes_144 : decode cX6_goes 144 = .ok (.aload_n 0, 1) := dk_42 (dk_at dksX6_goes_6 6 rfl rfl)
theorem dX6_goes_145 : decode cX6_goes 145 = .ok (.getfield 9, 3) := dk_180 0 9 (dk_at dksX6_goes_6 7 rfl rfl)
theorem dX6_goes_148 : decode cX6_goes 148 = .ok (.iconst 2, 1) := dk_5 (dk_at dksX6_goes_6 10 rfl rfl)
theorem dX6_goes_149 : decode cX6_goes 149 = .ok (.iload_n 1, 1) := dk_27 (dk_at dksX6_goes_6 11 rfl rfl)
theorem dX6_goes_150 : decode cX6_goes 150 = .ok (.iastore, 1) := dk_79 (dk_at dksX6_goes_6 12 rfl rfl)
theorem dX6_goes_151 : decode cX6_goes 151 = .ok (.aload_n 0, 1) := dk_42 (dk_at dksX6_goes_6 13 rfl rfl)
theorem dX6_goes_152 : decode cX6_goes 152 = .ok (.getfield 9, 3) := dk_180 0 9 (dk_at dksX6_goes_6 14 rfl rfl)
theorem dX6_goes_155 : decode cX6_goes 155 = .ok (.iconst 3, 1) := dk_6 (dk_at dksX6_goes_6 17 rfl rfl)
theorem dX6_goes_156 : decode cX6_goes 156 = .ok (.iconst 0, 1) := dk_3 (dk_at dksX6_goes_6 18 rfl rfl)
theorem dX6_goes_157 : decode cX6_goes 157 = .ok (.iastore, 1) := dk_79 (dk_at dksX6_goes_6 19 rfl rfl)
theorem dX6_goes_158 : decode cX6_goes 158 = .ok (.aload_n 0, 1) := dk_42 (dk_at dksX6_goes_6 20 rfl rfl)
theorem dX6_goes_159 : decode cX6_goes 159 = .ok (.getfield 9, 3) := dk_180 0 9 (dk_at dksX6_goes_6 21 rfl rfl)
theorem dX6_goes_162 : decode cX6_goes 162 = .ok (.iconst 4, 1) := dk_7 (dk_at dksX6_goes_7 0 rfl rfl)
theorem dX6_goes_163 : decode cX6_goes 163 = .ok (.dup2, 1) := dk_92 (dk_at dksX6_goes_7 1 rfl rfl)
theorem dX6_goes_164 : decode cX6_goes 164 = .ok (.iaload, 1) := dk_46 (dk_at dksX6_goes_7 2 rfl rfl)
theorem dX6_goes_165 : decode cX6_goes 165 = .ok (.iconst 1, 1) := dk_4 (dk_at dksX6_goes_7 3 rfl rfl)
theorem dX6_goes_166 : decode cX6_goes 166 = .ok (.iadd, 1) := dk_96 (dk_at dksX6_goes_7 4 rfl rfl)
theorem dX6_goes_167 : decode cX6_goes 167 = .ok (.iastore, 1) := dk_79 (dk_at dksX6_goes_7 5 rfl rfl)
theorem dX6_goes_168 : decode cX6_goes 168 = .ok (.iload_n 2, 1) := dk_28 (dk_at dksX6_goes_7 6 rfl rfl)
theorem dX6_goes_169 : decode cX6_goes 169 = .ok (.ireturn, 1) := dk_172 (dk_at dksX6_goes_7 7 rfl rfl)
abbrev cX6_fade : ByteArray := prog_18_method_54_code
def yX6_fade : MethodName := ⟨RX6, "fade", "(I)I"⟩
def dkwX6_fade_0 : List UInt8 := [17, 1, 146, 8, 26, 104, 96, 172]
abbrev dktX6_fade_0 : List UInt8 := dkwX6_fade_0 ++ []
theorem dksX6_fade_0 : cX6_fade.data.toList.drop 0 = dktX6_fade_0 := by decide +kernel
theorem dX6_fade_0 : decode cX6_fade 0 = .ok (.sipush 402, 3) := dk_17 1 146 (dk_at dksX6_fade_0 0 rfl rfl)
theorem dX6_fade_3 : decode cX6_fade 3 = .ok (.iconst 5, 1) := dk_8 (dk_at dksX6_fade_0 3 rfl rfl)
theorem dX6_fade_4 : decode cX6_fade 4 = .ok (.iload_n 0, 1) := dk_26 (dk_at dksX6_fade_0 4 rfl rfl)
theorem dX6_fade_5 : decode cX6_fade 5 = .ok (.imul, 1) := dk_104 (dk_at dksX6_fade_0 5 rfl rfl)
theorem dX6_fade_6 : decode cX6_fade 6 = .ok (.iadd, 1) := dk_96 (dk_at dksX6_fade_0 6 rfl rfl)
theorem dX6_fade_7 : decode cX6_fade 7 = .ok (.ireturn, 1) := dk_172 (dk_at dksX6_fade_0 7 rfl rfl)
abbrev cX6_nowOf : ByteArray := prog_18_method_55_code
def yX6_nowOf : MethodName := ⟨RX6, "nowOf", "(I)I"⟩
def dkwX6_nowOf_3 : List UInt8 := [163, 0, 7, 29, 167, 0, 18, 29, 21, 4, 29, 100, 21, 5, 21, 6, 100, 104, 21, 7, 108, 96, 172]
abbrev dktX6_nowOf_3 : List UInt8 := dkwX6_nowOf_3 ++ []
def dkwX6_nowOf_2 : List UInt8 := [7, 96, 46, 54, 7, 21, 5, 21, 6, 21, 7, 96, 161, 0, 6, 21, 4, 172, 21, 5, 21, 6]
abbrev dktX6_nowOf_2 : List UInt8 := dkwX6_nowOf_2 ++ dktX6_nowOf_3
def dkwX6_nowOf_1 : List UInt8 := [180, 0, 9, 28, 5, 96, 46, 54, 5, 42, 180, 0, 9, 28, 6, 96, 46, 54, 6, 42, 180, 0, 9, 28]
abbrev dktX6_nowOf_1 : List UInt8 := dkwX6_nowOf_1 ++ dktX6_nowOf_2
def dkwX6_nowOf_0 : List UInt8 := [27, 184, 0, 162, 61, 42, 180, 0, 9, 28, 46, 62, 42, 180, 0, 9, 28, 4, 96, 46, 54, 4, 42]
abbrev dktX6_nowOf_0 : List UInt8 := dkwX6_nowOf_0 ++ dktX6_nowOf_1
theorem dksX6_nowOf_0 : cX6_nowOf.data.toList.drop 0 = dktX6_nowOf_0 := by decide +kernel
theorem dksX6_nowOf_1 : cX6_nowOf.data.toList.drop 23 = dktX6_nowOf_1 := dk_seg dksX6_nowOf_0 23 rfl rfl
theorem dksX6_nowOf_2 : cX6_nowOf.data.toList.drop 47 = dktX6_nowOf_2 := dk_seg dksX6_nowOf_1 24 rfl rfl
theorem dksX6_nowOf_3 : cX6_nowOf.data.toList.drop 69 = dktX6_nowOf_3 := dk_seg dksX6_nowOf_2 22 rfl rfl
theorem dX6_nowOf_0 : decode cX6_nowOf 0 = .ok (.iload_n 1, 1) := dk_27 (dk_at dksX6_nowOf_0 0 rfl rfl)
theorem dX6_nowOf_1 : decode cX6_nowOf 1 = .ok (.invokestatic 162, 3) := dk_184 0 162 (dk_at dksX6_nowOf_0 1 rfl rfl)
theorem dX6_nowOf_4 : decode cX6_nowOf 4 = .ok (.istore_n 2, 1) := dk_61 (dk_at dksX6_nowOf_0 4 rfl rfl)
theorem dX6_nowOf_5 : decode cX6_nowOf 5 = .ok (.aload_n 0, 1) := dk_42 (dk_at dksX6_nowOf_0 5 rfl rfl)
theorem dX6_nowOf_6 : decode cX6_nowOf 6 = .ok (.getfield 9, 3) := dk_180 0 9 (dk_at dksX6_nowOf_0 6 rfl rfl)
theorem dX6_nowOf_9 : decode cX6_nowOf 9 = .ok (.iload_n 2, 1) := dk_28 (dk_at dksX6_nowOf_0 9 rfl rfl)
theorem dX6_nowOf_10 : decode cX6_nowOf 10 = .ok (.iaload, 1) := dk_46 (dk_at dksX6_nowOf_0 10 rfl rfl)
theorem dX6_nowOf_11 : decode cX6_nowOf 11 = .ok (.istore_n 3, 1) := dk_62 (dk_at dksX6_nowOf_0 11 rfl rfl)
theorem dX6_nowOf_12 : decode cX6_nowOf 12 = .ok (.aload_n 0, 1) := dk_42 (dk_at dksX6_nowOf_0 12 rfl rfl)
theorem dX6_nowOf_13 : decode cX6_nowOf 13 = .ok (.getfield 9, 3) := dk_180 0 9 (dk_at dksX6_nowOf_0 13 rfl rfl)
theorem dX6_nowOf_16 : decode cX6_nowOf 16 = .ok (.iload_n 2, 1) := dk_28 (dk_at dksX6_nowOf_0 16 rfl rfl)
theorem dX6_nowOf_17 : decode cX6_nowOf 17 = .ok (.iconst 1, 1) := dk_4 (dk_at dksX6_nowOf_0 17 rfl rfl)
theorem dX6_nowOf_18 : decode cX6_nowOf 18 = .ok (.iadd, 1) := dk_96 (dk_at dksX6_nowOf_0 18 rfl rfl)
theorem dX6_nowOf_19 : decode cX6_nowOf 19 = .ok (.iaload, 1) := dk_46 (dk_at dksX6_nowOf_0 19 rfl rfl)
theorem dX6_nowOf_20 : decode cX6_nowOf 20 = .ok (.istore 4, 2) := dk_54 4 (dk_at dksX6_nowOf_0 20 rfl rfl)
theorem dX6_nowOf_22 : decode cX6_nowOf 22 = .ok (.aload_n 0, 1) := dk_42 (dk_at dksX6_nowOf_0 22 rfl rfl)
theorem dX6_nowOf_23 : decode cX6_nowOf 23 = .ok (.getfield 9, 3) := dk_180 0 9 (dk_at dksX6_nowOf_1 0 rfl rfl)
theorem dX6_nowOf_26 : decode cX6_nowOf 26 = .ok (.iload_n 2, 1) := dk_28 (dk_at dksX6_nowOf_1 3 rfl rfl)
theorem dX6_nowOf_27 : decode cX6_nowOf 27 = .ok (.iconst 2, 1) := dk_5 (dk_at dksX6_nowOf_1 4 rfl rfl)
theorem dX6_nowOf_28 : decode cX6_nowOf 28 = .ok (.iadd, 1) := dk_96 (dk_at dksX6_nowOf_1 5 rfl rfl)
theorem dX6_nowOf_29 : decode cX6_nowOf 29 = .ok (.iaload, 1) := dk_46 (dk_at dksX6_nowOf_1 6 rfl rfl)
theorem dX6_nowOf_30 : decode cX6_nowOf 30 = .ok (.istore 5, 2) := dk_54 5 (dk_at dksX6_nowOf_1 7 rfl rfl)
theorem dX6_nowOf_32 : decode cX6_nowOf 32 = .ok (.aload_n 0, 1) := dk_42 (dk_at dksX6_nowOf_1 9 rfl rfl)
theorem dX6_nowOf_33 : decode cX6_nowOf 33 = .ok (.getfield 9, 3) := dk_180 0 9 (dk_at dksX6_nowOf_1 10 rfl rfl)
theorem dX6_nowOf_36 : decode cX6_nowOf 36 = .ok (.iload_n 2, 1) := dk_28 (dk_at dksX6_nowOf_1 13 rfl rfl)
theorem dX6_nowOf_37 : decode cX6_nowOf 37 = .ok (.iconst 3, 1) := dk_6 (dk_at dksX6_nowOf_1 14 rfl rfl)
theorem dX6_nowOf_38 : decode cX6_nowOf 38 = .ok (.iadd, 1) := dk_96 (dk_at dksX6_nowOf_1 15 rfl rfl)
theorem dX6_nowOf_39 : decode cX6_nowOf 39 = .ok (.iaload, 1) := dk_46 (dk_at dksX6_nowOf_1 16 rfl rfl)
theorem dX6_nowOf_40 : decode cX6_nowOf 40 = .ok (.istore 6, 2) := dk_54 6 (dk_at dksX6_nowOf_1 17 rfl rfl)
theorem dX6_nowOf_42 : decode cX6_nowOf 42 = .ok (.aload_n 0, 1) := dk_42 (dk_at dksX6_nowOf_1 19 rfl rfl)
theorem dX6_nowOf_43 : decode cX6_nowOf 43 = .ok (.getfield 9, 3) := dk_180 0 9 (dk_at dksX6_nowOf_1 20 rfl rfl)
theorem dX6_nowOf_46 : decode cX6_nowOf 46 = .ok (.iload_n 2, 1) := dk_28 (dk_at dksX6_nowOf_1 23 rfl rfl)
theorem dX6_nowOf_47 : decode cX6_nowOf 47 = .ok (.iconst 4, 1) := dk_7 (dk_at dksX6_nowOf_2 0 rfl rfl)
theorem dX6_nowOf_48 : decode cX6_nowOf 48 = .ok (.iadd, 1) := dk_96 (dk_at dksX6_nowOf_2 1 rfl rfl)
theorem dX6_nowOf_49 : decode cX6_nowOf 49 = .ok (.iaload, 1) := dk_46 (dk_at dksX6_nowOf_2 2 rfl rfl)
theorem dX6_nowOf_50 : decode cX6_nowOf 50 = .ok (.istore 7, 2) := dk_54 7 (dk_at dksX6_nowOf_2 3 rfl rfl)
theorem dX6_nowOf_52 : decode cX6_nowOf 52 = .ok (.iload 5, 2) := dk_21 5 (dk_at dksX6_nowOf_2 5 rfl rfl)
theorem dX6_nowOf_54 : decode cX6_nowOf 54 = .ok (.iload 6, 2) := dk_21 6 (dk_at dksX6_nowOf_2 7 rfl rfl)
theorem dX6_nowOf_56 : decode cX6_nowOf 56 = .ok (.iload 7, 2) := dk_21 7 (dk_at dksX6_nowOf_2 9 rfl rfl)
theorem dX6_nowOf_58 : decode cX6_nowOf 58 = .ok (.iadd, 1) := dk_96 (dk_at dksX6_nowOf_2 11 rfl rfl)
theorem dX6_nowOf_59 : decode cX6_nowOf 59 = .ok (.if_icmp .lt 6, 3) := dk_161 0 6 (dk_at dksX6_nowOf_2 12 rfl rfl)
theorem dX6_nowOf_62 : decode cX6_nowOf 62 = .ok (.iload 4, 2) := dk_21 4 (dk_at dksX6_nowOf_2 15 rfl rfl)
theorem dX6_nowOf_64 : decode cX6_nowOf 64 = .ok (.ireturn, 1) := dk_172 (dk_at dksX6_nowOf_2 17 rfl rfl)
theorem dX6_nowOf_65 : decode cX6_nowOf 65 = .ok (.iload 5, 2) := dk_21 5 (dk_at dksX6_nowOf_2 18 rfl rfl)
theorem dX6_nowOf_67 : decode cX6_nowOf 67 = .ok (.iload 6, 2) := dk_21 6 (dk_at dksX6_nowOf_2 20 rfl rfl)
theorem dX6_nowOf_69 : decode cX6_nowOf 69 = .ok (.if_icmp .gt 7, 3) := dk_163 0 7 (dk_at dksX6_nowOf_3 0 rfl rfl)
theorem dX6_nowOf_72 : decode cX6_nowOf 72 = .ok (.iload_n 3, 1) := dk_29 (dk_at dksX6_nowOf_3 3 rfl rfl)
theorem dX6_nowOf_73 : decode cX6_nowOf 73 = .ok (.goto 18, 3) := dk_167 0 18 (dk_at dksX6_nowOf_3 4 rfl rfl)
theorem dX6_nowOf_76 : decode cX6_nowOf 76 = .ok (.iload_n 3, 1) := dk_29 (dk_at dksX6_nowOf_3 7 rfl rfl)
theorem dX6_nowOf_77 : decode cX6_nowOf 77 = .ok (.iload 4, 2) := dk_21 4 (dk_at dksX6_nowOf_3 8 rfl rfl)
theorem dX6_nowOf_79 : decode cX6_nowOf 79 = .ok (.iload_n 3, 1) := dk_29 (dk_at dksX6_nowOf_3 10 rfl rfl)
theorem dX6_nowOf_80 : decode cX6_nowOf 80 = .ok (.isub, 1) := dk_100 (dk_at dksX6_nowOf_3 11 rfl rfl)
theorem dX6_nowOf_81 : decode cX6_nowOf 81 = .ok (.iload 5, 2) := dk_21 5 (dk_at dksX6_nowOf_3 12 rfl rfl)
theorem dX6_nowOf_83 : decode cX6_nowOf 83 = .ok (.iload 6, 2) := dk_21 6 (dk_at dksX6_nowOf_3 14 rfl rfl)
theorem dX6_nowOf_85 : decode cX6_nowOf 85 = .ok (.isub, 1) := dk_100 (dk_at dksX6_nowOf_3 16 rfl rfl)
theorem dX6_nowOf_86 : decode cX6_nowOf 86 = .ok (.imul, 1) := dk_104 (dk_at dksX6_nowOf_3 17 rfl rfl)
theorem dX6_nowOf_87 : decode cX6_nowOf 87 = .ok (.iload 7, 2) := dk_21 7 (dk_at dksX6_nowOf_3 18 rfl rfl)
theorem dX6_nowOf_89 : decode cX6_nowOf 89 = .ok (.idiv, 1) := dk_108 (dk_at dksX6_nowOf_3 20 rfl rfl)
theorem dX6_nowOf_90 : decode cX6_nowOf 90 = .ok (.iadd, 1) := dk_96 (dk_at dksX6_nowOf_3 21 rfl rfl)
theorem dX6_nowOf_91 : decode cX6_nowOf 91 = .ok (.ireturn, 1) := dk_172 (dk_at dksX6_nowOf_3 22 rfl rfl)
abbrev cX6_back : ByteArray := prog_18_method_63_code
def yX6_back : MethodName := ⟨RX6, "back", "()I"⟩
def dkwX6_back_0 : List UInt8 := [42, 4, 182, 0, 181, 172]
abbrev dktX6_back_0 : List UInt8 := dkwX6_back_0 ++ []
theorem dksX6_back_0 : cX6_back.data.toList.drop 0 = dktX6_back_0 := by decide +kernel
theorem dX6_back_0 : decode cX6_back 0 = .ok (.aload_n 0, 1) := dk_42 (dk_at dksX6_back_0 0 rfl rfl)
theorem dX6_back_1 : decode cX6_back 1 = .ok (.iconst 1, 1) := dk_4 (dk_at dksX6_back_0 1 rfl rfl)
theorem dX6_back_2 : decode cX6_back 2 = .ok (.invokevirtual 181, 3) := dk_182 0 181 (dk_at dksX6_back_0 2 rfl rfl)
theorem dX6_back_5 : decode cX6_back 5 = .ok (.ireturn, 1) := dk_172 (dk_at dksX6_back_0 5 rfl rfl)
abbrev cX6_jump : ByteArray := prog_18_method_64_code
def yX6_jump : MethodName := ⟨RX6, "jump", "(I)I"⟩
def dkwX6_jump_1 : List UInt8 := [3, 172, 42, 182, 0, 81, 42, 27, 182, 0, 174, 172]
abbrev dktX6_jump_1 : List UInt8 := dkwX6_jump_1 ++ []
def dkwX6_jump_0 : List UInt8 := [42, 42, 27, 182, 0, 74, 153, 0, 7, 3, 167, 0, 4, 4, 181, 0, 42, 42, 180, 0, 42, 158, 0, 5]
abbrev dktX6_jump_0 : List UInt8 := dkwX6_jump_0 ++ dktX6_jump_1
theorem dksX6_jump_0 : cX6_jump.data.toList.drop 0 = dktX6_jump_0 := by decide +kernel
theorem dksX6_jump_1 : cX6_jump.data.toList.drop 24 = dktX6_jump_1 := dk_seg dksX6_jump_0 24 rfl rfl
theorem dX6_jump_0 : decode cX6_jump 0 = .ok (.aload_n 0, 1) := dk_42 (dk_at dksX6_jump_0 0 rfl rfl)
theorem dX6_jump_1 : decode cX6_jump 1 = .ok (.aload_n 0, 1) := dk_42 (dk_at dksX6_jump_0 1 rfl rfl)
theorem dX6_jump_2 : decode cX6_jump 2 = .ok (.iload_n 1, 1) := dk_27 (dk_at dksX6_jump_0 2 rfl rfl)
theorem dX6_jump_3 : decode cX6_jump 3 = .ok (.invokevirtual 74, 3) := dk_182 0 74 (dk_at dksX6_jump_0 3 rfl rfl)
theorem dX6_jump_6 : decode cX6_jump 6 = .ok (.ifCond .eq 7, 3) := dk_153 0 7 (dk_at dksX6_jump_0 6 rfl rfl)
theorem dX6_jump_9 : decode cX6_jump 9 = .ok (.iconst 0, 1) := dk_3 (dk_at dksX6_jump_0 9 rfl rfl)
theorem dX6_jump_10 : decode cX6_jump 10 = .ok (.goto 4, 3) := dk_167 0 4 (dk_at dksX6_jump_0 10 rfl rfl)
theorem dX6_jump_13 : decode cX6_jump 13 = .ok (.iconst 1, 1) := dk_4 (dk_at dksX6_jump_0 13 rfl rfl)
theorem dX6_jump_14 : decode cX6_jump 14 = .ok (.putfield 42, 3) := dk_181 0 42 (dk_at dksX6_jump_0 14 rfl rfl)
theorem dX6_jump_17 : decode cX6_jump 17 = .ok (.aload_n 0, 1) := dk_42 (dk_at dksX6_jump_0 17 rfl rfl)
theorem dX6_jump_18 : decode cX6_jump 18 = .ok (.getfield 42, 3) := dk_180 0 42 (dk_at dksX6_jump_0 18 rfl rfl)
theorem dX6_jump_21 : decode cX6_jump 21 = .ok (.ifCond .le 5, 3) := dk_158 0 5 (dk_at dksX6_jump_0 21 rfl rfl)
theorem dX6_jump_24 : decode cX6_jump 24 = .ok (.iconst 0, 1) := dk_3 (dk_at dksX6_jump_1 0 rfl rfl)
theorem dX6_jump_25 : decode cX6_jump 25 = .ok (.ireturn, 1) := dk_172 (dk_at dksX6_jump_1 1 rfl rfl)
theorem dX6_jump_26 : decode cX6_jump 26 = .ok (.aload_n 0, 1) := dk_42 (dk_at dksX6_jump_1 2 rfl rfl)
theorem dX6_jump_27 : decode cX6_jump 27 = .ok (.invokevirtual 81, 3) := dk_182 0 81 (dk_at dksX6_jump_1 3 rfl rfl)
theorem dX6_jump_30 : decode cX6_jump 30 = .ok (.aload_n 0, 1) := dk_42 (dk_at dksX6_jump_1 6 rfl rfl)
theorem dX6_jump_31 : decode cX6_jump 31 = .ok (.iload_n 1, 1) := dk_27 (dk_at dksX6_jump_1 7 rfl rfl)
theorem dX6_jump_32 : decode cX6_jump 32 = .ok (.invokevirtual 174, 3) := dk_182 0 174 (dk_at dksX6_jump_1 8 rfl rfl)
theorem dX6_jump_35 : decode cX6_jump 35 = .ok (.ireturn, 1) := dk_172 (dk_at dksX6_jump_1 11 rfl rfl)
abbrev cX6_pass : ByteArray := prog_18_method_67_code
def yX6_pass : MethodName := ⟨RX6, "pass", "(I)I"⟩
def dkwX6_pass_1 : List UInt8 := [158, 0, 5, 3, 172, 42, 182, 0, 57, 42, 180, 0, 9, 7, 46, 28, 100, 172]
abbrev dktX6_pass_1 : List UInt8 := dkwX6_pass_1 ++ []
def dkwX6_pass_0 : List UInt8 := [42, 180, 0, 9, 7, 46, 61, 42, 182, 0, 54, 42, 42, 27, 182, 0, 189, 181, 0, 42, 42, 180, 0, 42]
abbrev dktX6_pass_0 : List UInt8 := dkwX6_pass_0 ++ dktX6_pass_1
theorem dksX6_pass_0 : cX6_pass.data.toList.drop 0 = dktX6_pass_0 := by decide +kernel
theorem dksX6_pass_1 : cX6_pass.data.toList.drop 24 = dktX6_pass_1 := dk_seg dksX6_pass_0 24 rfl rfl
theorem dX6_pass_0 : decode cX6_pass 0 = .ok (.aload_n 0, 1) := dk_42 (dk_at dksX6_pass_0 0 rfl rfl)
theorem dX6_pass_1 : decode cX6_pass 1 = .ok (.getfield 9, 3) := dk_180 0 9 (dk_at dksX6_pass_0 1 rfl rfl)
theorem dX6_pass_4 : decode cX6_pass 4 = .ok (.iconst 4, 1) := dk_7 (dk_at dksX6_pass_0 4 rfl rfl)
theorem dX6_pass_5 : decode cX6_pass 5 = .ok (.iaload, 1) := dk_46 (dk_at dksX6_pass_0 5 rfl rfl)
theorem dX6_pass_6 : decode cX6_pass 6 = .ok (.istore_n 2, 1) := dk_61 (dk_at dksX6_pass_0 6 rfl rfl)
theorem dX6_pass_7 : decode cX6_pass 7 = .ok (.aload_n 0, 1) := dk_42 (dk_at dksX6_pass_0 7 rfl rfl)
theorem dX6_pass_8 : decode cX6_pass 8 = .ok (.invokevirtual 54, 3) := dk_182 0 54 (dk_at dksX6_pass_0 8 rfl rfl)
theorem dX6_pass_11 : decode cX6_pass 11 = .ok (.aload_n 0, 1) := dk_42 (dk_at dksX6_pass_0 11 rfl rfl)
theorem dX6_pass_12 : decode cX6_pass 12 = .ok (.aload_n 0, 1) := dk_42 (dk_at dksX6_pass_0 12 rfl rfl)
theorem dX6_pass_13 : decode cX6_pass 13 = .ok (.iload_n 1, 1) := dk_27 (dk_at dksX6_pass_0 13 rfl rfl)
theorem dX6_pass_14 : decode cX6_pass 14 = .ok (.invokevirtual 189, 3) := dk_182 0 189 (dk_at dksX6_pass_0 14 rfl rfl)
theorem dX6_pass_17 : decode cX6_pass 17 = .ok (.putfield 42, 3) := dk_181 0 42 (dk_at dksX6_pass_0 17 rfl rfl)
theorem dX6_pass_20 : decode cX6_pass 20 = .ok (.aload_n 0, 1) := dk_42 (dk_at dksX6_pass_0 20 rfl rfl)
theorem dX6_pass_21 : decode cX6_pass 21 = .ok (.getfield 42, 3) := dk_180 0 42 (dk_at dksX6_pass_0 21 rfl rfl)
theorem dX6_pass_24 : decode cX6_pass 24 = .ok (.ifCond .le 5, 3) := dk_158 0 5 (dk_at dksX6_pass_1 0 rfl rfl)
theorem dX6_pass_27 : decode cX6_pass 27 = .ok (.iconst 0, 1) := dk_3 (dk_at dksX6_pass_1 3 rfl rfl)
theorem dX6_pass_28 : decode cX6_pass 28 = .ok (.ireturn, 1) := dk_172 (dk_at dksX6_pass_1 4 rfl rfl)
theorem dX6_pass_29 : decode cX6_pass 29 = .ok (.aload_n 0, 1) := dk_42 (dk_at dksX6_pass_1 5 rfl rfl)
theorem dX6_pass_30 : decode cX6_pass 30 = .ok (.invokevirtual 57, 3) := dk_182 0 57 (dk_at dksX6_pass_1 6 rfl rfl)
theorem dX6_pass_33 : decode cX6_pass 33 = .ok (.aload_n 0, 1) := dk_42 (dk_at dksX6_pass_1 9 rfl rfl)
theorem dX6_pass_34 : decode cX6_pass 34 = .ok (.getfield 9, 3) := dk_180 0 9 (dk_at dksX6_pass_1 10 rfl rfl)
theorem dX6_pass_37 : decode cX6_pass 37 = .ok (.iconst 4, 1) := dk_7 (dk_at dksX6_pass_1 13 rfl rfl)
theorem dX6_pass_38 : decode cX6_pass 38 = .ok (.iaload, 1) := dk_46 (dk_at dksX6_pass_1 14 rfl rfl)
theorem dX6_pass_39 : decode cX6_pass 39 = .ok (.iload_n 2, 1) := dk_28 (dk_at dksX6_pass_1 15 rfl rfl)
theorem dX6_pass_40 : decode cX6_pass 40 = .ok (.isub, 1) := dk_100 (dk_at dksX6_pass_1 16 rfl rfl)
theorem dX6_pass_41 : decode cX6_pass 41 = .ok (.ireturn, 1) := dk_172 (dk_at dksX6_pass_1 17 rfl rfl)
abbrev cX6_doPass : ByteArray := prog_18_method_66_code
def yX6_doPass : MethodName := ⟨RX6, "doPass", "(I)I"⟩
def dkwX6_doPass_6 : List UInt8 := [182, 0, 171, 182, 0, 174, 87, 132, 2, 1, 167, 255, 135, 3, 172]
abbrev dktX6_doPass_6 : List UInt8 := dkwX6_doPass_6 ++ []
def dkwX6_doPass_5 : List UInt8 := [184, 0, 63, 4, 96, 46, 42, 180, 0, 9, 6, 46, 163, 0, 18, 42, 42, 42, 180, 0, 9, 5, 46]
abbrev dktX6_doPass_5 : List UInt8 := dkwX6_doPass_5 ++ dktX6_doPass_6
def dkwX6_doPass_4 : List UInt8 := [167, 255, 232, 42, 182, 0, 185, 153, 0, 47, 42, 180, 0, 9, 42, 42, 180, 0, 9, 5, 46, 182, 0, 67]
abbrev dktX6_doPass_4 : List UInt8 := dkwX6_doPass_4 ++ dktX6_doPass_5
def dkwX6_doPass_3 : List UInt8 := [29, 16, 12, 162, 0, 24, 42, 180, 0, 9, 29, 184, 0, 162, 5, 96, 92, 46, 4, 96, 79, 132, 3, 1]
abbrev dktX6_doPass_3 : List UInt8 := dkwX6_doPass_3 ++ dktX6_doPass_4
def dkwX6_doPass_2 : List UInt8 := [180, 0, 9, 6, 92, 46, 42, 180, 0, 9, 5, 46, 158, 0, 7, 4, 167, 0, 4, 3, 96, 79, 3, 62]
abbrev dktX6_doPass_2 : List UInt8 := dkwX6_doPass_2 ++ dktX6_doPass_3
def dkwX6_doPass_1 : List UInt8 := [164, 0, 5, 5, 172, 3, 61, 28, 27, 162, 0, 122, 42, 180, 0, 9, 8, 92, 46, 4, 96, 79, 42]
abbrev dktX6_doPass_1 : List UInt8 := dkwX6_doPass_1 ++ dktX6_doPass_2
def dkwX6_doPass_0 : List UInt8 := [27, 3, 17, 23, 112, 184, 0, 70, 154, 0, 5, 4, 172, 42, 180, 0, 9, 8, 46, 27, 96, 18, 184]
abbrev dktX6_doPass_0 : List UInt8 := dkwX6_doPass_0 ++ dktX6_doPass_1
theorem dksX6_doPass_0 : cX6_doPass.data.toList.drop 0 = dktX6_doPass_0 := by decide +kernel
theorem dksX6_doPass_1 : cX6_doPass.data.toList.drop 23 = dktX6_doPass_1 := dk_seg dksX6_doPass_0 23 rfl rfl
theorem dksX6_doPass_2 : cX6_doPass.data.toList.drop 46 = dktX6_doPass_2 := dk_seg dksX6_doPass_1 23 rfl rfl
theorem dksX6_doPass_3 : cX6_doPass.data.toList.drop 70 = dktX6_doPass_3 := dk_seg dksX6_doPass_2 24 rfl rfl
theorem dksX6_doPass_4 : cX6_doPass.data.toList.drop 94 = dktX6_doPass_4 := dk_seg dksX6_doPass_3 24 rfl rfl
theorem dksX6_doPass_5 : cX6_doPass.data.toList.drop 118 = dktX6_doPass_5 := dk_seg dksX6_doPass_4 24 rfl rfl
theorem dksX6_doPass_6 : cX6_doPass.data.toList.drop 141 = dktX6_doPass_6 := dk_seg dksX6_doPass_5 23 rfl rfl
theorem dX6_doPass_0 : decode cX6_doPass 0 = .ok (.iload_n 1, 1) := dk_27 (dk_at dksX6_doPass_0 0 rfl rfl)
theorem dX6_doPass_1 : decode cX6_doPass 1 = .ok (.iconst 0, 1) := dk_3 (dk_at dksX6_doPass_0 1 rfl rfl)
theorem dX6_doPass_2 : decode cX6_doPass 2 = .ok (.sipush 6000, 3) := dk_17 23 112 (dk_at dksX6_doPass_0 2 rfl rfl)
theorem dX6_doPass_5 : decode cX6_doPass 5 = .ok (.invokestatic 70, 3) := dk_184 0 70 (dk_at dksX6_doPass_0 5 rfl rfl)
theorem dX6_doPass_8 : decode cX6_doPass 8 = .ok (.ifCond .ne 5, 3) := dk_154 0 5 (dk_at dksX6_doPass_0 8 rfl rfl)
theorem dX6_doPass_11 : decode cX6_doPass 11 = .ok (.iconst 1, 1) := dk_4 (dk_at dksX6_doPass_0 11 rfl rfl)
theorem dX6_doPass_12 : decode cX6_doPass 12 = .ok (.ireturn, 1) := dk_172 (dk_at dksX6_doPass_0 12 rfl rfl)
theorem dX6_doPass_13 : decode cX6_doPass 13 = .ok (.aload_n 0, 1) := dk_42 (dk_at dksX6_doPass_0 13 rfl rfl)
theorem dX6_doPass_14 : decode cX6_doPass 14 = .ok (.getfield 9, 3) := dk_180 0 9 (dk_at dksX6_doPass_0 14 rfl rfl)
theorem dX6_doPass_17 : decode cX6_doPass 17 = .ok (.iconst 5, 1) := dk_8 (dk_at dksX6_doPass_0 17 rfl rfl)
theorem dX6_doPass_18 : decode cX6_doPass 18 = .ok (.iaload, 1) := dk_46 (dk_at dksX6_doPass_0 18 rfl rfl)
theorem dX6_doPass_19 : decode cX6_doPass 19 = .ok (.iload_n 1, 1) := dk_27 (dk_at dksX6_doPass_0 19 rfl rfl)
theorem dX6_doPass_20 : decode cX6_doPass 20 = .ok (.iadd, 1) := dk_96 (dk_at dksX6_doPass_0 20 rfl rfl)
theorem dX6_doPass_21 : decode cX6_doPass 21 = .ok (.ldc 184, 2) := dk_18 184 (dk_at dksX6_doPass_0 21 rfl rfl)
theorem dX6_doPass_23 : decode cX6_doPass 23 = .ok (.if_icmp .le 5, 3) := dk_164 0 5 (dk_at dksX6_doPass_1 0 rfl rfl)
theorem dX6_doPass_26 : decode cX6_doPass 26 = .ok (.iconst 2, 1) := dk_5 (dk_at dksX6_doPass_1 3 rfl rfl)
theorem dX6_doPass_27 : decode cX6_doPass 27 = .ok (.ireturn, 1) := dk_172 (dk_at dksX6_doPass_1 4 rfl rfl)
theorem dX6_doPass_28 : decode cX6_doPass 28 = .ok (.iconst 0, 1) := dk_3 (dk_at dksX6_doPass_1 5 rfl rfl)
theorem dX6_doPass_29 : decode cX6_doPass 29 = .ok (.istore_n 2, 1) := dk_61 (dk_at dksX6_doPass_1 6 rfl rfl)
theorem dX6_doPass_30 : decode cX6_doPass 30 = .ok (.iload_n 2, 1) := dk_28 (dk_at dksX6_doPass_1 7 rfl rfl)
theorem dX6_doPass_31 : decode cX6_doPass 31 = .ok (.iload_n 1, 1) := dk_27 (dk_at dksX6_doPass_1 8 rfl rfl)
theorem dX6_doPass_32 : decode cX6_doPass 32 = .ok (.if_icmp .ge 122, 3) := dk_162 0 122 (dk_at dksX6_doPass_1 9 rfl rfl)
theorem dX6_doPass_35 : decode cX6_doPass 35 = .ok (.aload_n 0, 1) := dk_42 (dk_at dksX6_doPass_1 12 rfl rfl)
theorem dX6_doPass_36 : decode cX6_doPass 36 = .ok (.getfield 9, 3) := dk_180 0 9 (dk_at dksX6_doPass_1 13 rfl rfl)
theorem dX6_doPass_39 : decode cX6_doPass 39 = .ok (.iconst 5, 1) := dk_8 (dk_at dksX6_doPass_1 16 rfl rfl)
theorem dX6_doPass_40 : decode cX6_doPass 40 = .ok (.dup2, 1) := dk_92 (dk_at dksX6_doPass_1 17 rfl rfl)
theorem dX6_doPass_41 : decode cX6_doPass 41 = .ok (.iaload, 1) := dk_46 (dk_at dksX6_doPass_1 18 rfl rfl)
theorem dX6_doPass_42 : decode cX6_doPass 42 = .ok (.iconst 1, 1) := dk_4 (dk_at dksX6_doPass_1 19 rfl rfl)
theorem dX6_doPass_43 : decode cX6_doPass 43 = .ok (.iadd, 1) := dk_96 (dk_at dksX6_doPass_1 20 rfl rfl)
theorem dX6_doPass_44 : decode cX6_doPass 44 = .ok (.iastore, 1) := dk_79 (dk_at dksX6_doPass_1 21 rfl rfl)
theorem dX6_doPass_45 : decode cX6_doPass 45 = .ok (.aload_n 0, 1) := dk_42 (dk_at dksX6_doPass_1 22 rfl rfl)
theorem dX6_doPass_46 : decode cX6_doPass 46 = .ok (.getfield 9, 3) := dk_180 0 9 (dk_at dksX6_doPass_2 0 rfl rfl)
theorem dX6_doPass_49 : decode cX6_doPass 49 = .ok (.iconst 3, 1) := dk_6 (dk_at dksX6_doPass_2 3 rfl rfl)
theorem dX6_doPass_50 : decode cX6_doPass 50 = .ok (.dup2, 1) := dk_92 (dk_at dksX6_doPass_2 4 rfl rfl)
theorem dX6_doPass_51 : decode cX6_doPass 51 = .ok (.iaload, 1) := dk_46 (dk_at dksX6_doPass_2 5 rfl rfl)
theorem dX6_doPass_52 : decode cX6_doPass 52 = .ok (.aload_n 0, 1) := dk_42 (dk_at dksX6_doPass_2 6 rfl rfl)
theorem dX6_doPass_53 : decode cX6_doPass 53 = .ok (.getfield 9, 3) := dk_180 0 9 (dk_at dksX6_doPass_2 7 rfl rfl)
theorem dX6_doPass_56 : decode cX6_doPass 56 = .ok (.iconst 2, 1) := dk_5 (dk_at dksX6_doPass_2 10 rfl rfl)
theorem dX6_doPass_57 : decode cX6_doPass 57 = .ok (.iaload, 1) := dk_46 (dk_at dksX6_doPass_2 11 rfl rfl)
theorem dX6_doPass_58 : decode cX6_doPass 58 = .ok (.ifCond .le 7, 3) := dk_158 0 7 (dk_at dksX6_doPass_2 12 rfl rfl)
theorem dX6_doPass_61 : decode cX6_doPass 61 = .ok (.iconst 1, 1) := dk_4 (dk_at dksX6_doPass_2 15 rfl rfl)
theorem dX6_doPass_62 : decode cX6_doPass 62 = .ok (.goto 4, 3) := dk_167 0 4 (dk_at dksX6_doPass_2 16 rfl rfl)
theorem dX6_doPass_65 : decode cX6_doPass 65 = .ok (.iconst 0, 1) := dk_3 (dk_at dksX6_doPass_2 19 rfl rfl)
theorem dX6_doPass_66 : decode cX6_doPass 66 = .ok (.iadd, 1) := dk_96 (dk_at dksX6_doPass_2 20 rfl rfl)
theorem dX6_doPass_67 : decode cX6_doPass 67 = .ok (.iastore, 1) := dk_79 (dk_at dksX6_doPass_2 21 rfl rfl)
theorem dX6_doPass_68 : decode cX6_doPass 68 = .ok (.iconst 0, 1) := dk_3 (dk_at dksX6_doPass_2 22 rfl rfl)
theorem dX6_doPass_69 : decode cX6_doPass 69 = .ok (.istore_n 3, 1) := dk_62 (dk_at dksX6_doPass_2 23 rfl rfl)
theorem dX6_doPass_70 : decode cX6_doPass 70 = .ok (.iload_n 3, 1) := dk_29 (dk_at dksX6_doPass_3 0 rfl rfl)
theorem dX6_doPass_71 : decode cX6_doPass 71 = .ok (.bipush 12, 2) := dk_16 12 (dk_at dksX6_doPass_3 1 rfl rfl)
theorem dX6_doPass_73 : decode cX6_doPass 73 = .ok (.if_icmp .ge 24, 3) := dk_162 0 24 (dk_at dksX6_doPass_3 3 rfl rfl)
theorem dX6_doPass_76 : decode cX6_doPass 76 = .ok (.aload_n 0, 1) := dk_42 (dk_at dksX6_doPass_3 6 rfl rfl)
theorem dX6_doPass_77 : decode cX6_doPass 77 = .ok (.getfield 9, 3) := dk_180 0 9 (dk_at dksX6_doPass_3 7 rfl rfl)
theorem dX6_doPass_80 : decode cX6_doPass 80 = .ok (.iload_n 3, 1) := dk_29 (dk_at dksX6_doPass_3 10 rfl rfl)
theorem dX6_doPass_81 : decode cX6_doPass 81 = .ok (.invokestatic 162, 3) := dk_184 0 162 (dk_at dksX6_doPass_3 11 rfl rfl)
theorem dX6_doPass_84 : decode cX6_doPass 84 = .ok (.iconst 2, 1) := dk_5 (dk_at dksX6_doPass_3 14 rfl rfl)
theorem dX6_doPass_85 : decode cX6_doPass 85 = .ok (.iadd, 1) := dk_96 (dk_at dksX6_doPass_3 15 rfl rfl)
theorem dX6_doPass_86 : decode cX6_doPass 86 = .ok (.dup2, 1) := dk_92 (dk_at dksX6_doPass_3 16 rfl rfl)
theorem dX6_doPass_87 : decode cX6_doPass 87 = .ok (.iaload, 1) := dk_46 (dk_at dksX6_doPass_3 17 rfl rfl)
theorem dX6_doPass_88 : decode cX6_doPass 88 = .ok (.iconst 1, 1) := dk_4 (dk_at dksX6_doPass_3 18 rfl rfl)
theorem dX6_doPass_89 : decode cX6_doPass 89 = .ok (.iadd, 1) := dk_96 (dk_at dksX6_doPass_3 19 rfl rfl)
theorem dX6_doPass_90 : decode cX6_doPass 90 = .ok (.iastore, 1) := dk_79 (dk_at dksX6_doPass_3 20 rfl rfl)
theorem dX6_doPass_91 : decode cX6_doPass 91 = .ok (.iinc 3 1, 3) := dk_132 3 1 (dk_at dksX6_doPass_3 21 rfl rfl)
theorem dX6_doPass_94 : decode cX6_doPass 94 = .ok (.goto (-24), 3) := dk_167 255 232 (dk_at dksX6_doPass_4 0 rfl rfl)
theorem dX6_doPass_97 : decode cX6_doPass 97 = .ok (.aload_n 0, 1) := dk_42 (dk_at dksX6_doPass_4 3 rfl rfl)
theorem dX6_doPass_98 : decode cX6_doPass 98 = .ok (.invokevirtual 185, 3) := dk_182 0 185 (dk_at dksX6_doPass_4 4 rfl rfl)
theorem dX6_doPass_101 : decode cX6_doPass 101 = .ok (.ifCond .eq 47, 3) := dk_153 0 47 (dk_at dksX6_doPass_4 7 rfl rfl)
theorem dX6_doPass_104 : decode cX6_doPass 104 = .ok (.aload_n 0, 1) := dk_42 (dk_at dksX6_doPass_4 10 rfl rfl)
theorem dX6_doPass_105 : decode cX6_doPass 105 = .ok (.getfield 9, 3) := dk_180 0 9 (dk_at dksX6_doPass_4 11 rfl rfl)
theorem dX6_doPass_108 : decode cX6_doPass 108 = .ok (.aload_n 0, 1) := dk_42 (dk_at dksX6_doPass_4 14 rfl rfl)
theorem dX6_doPass_109 : decode cX6_doPass 109 = .ok (.aload_n 0, 1) := dk_42 (dk_at dksX6_doPass_4 15 rfl rfl)
theorem dX6_doPass_110 : decode cX6_doPass 110 = .ok (.getfield 9, 3) := dk_180 0 9 (dk_at dksX6_doPass_4 16 rfl rfl)
theorem dX6_doPass_113 : decode cX6_doPass 113 = .ok (.iconst 2, 1) := dk_5 (dk_at dksX6_doPass_4 19 rfl rfl)
theorem dX6_doPass_114 : decode cX6_doPass 114 = .ok (.iaload, 1) := dk_46 (dk_at dksX6_doPass_4 20 rfl rfl)
theorem dX6_doPass_115 : decode cX6_doPass 115 = .ok (.invokevirtual 67, 3) := dk_182 0 67 (dk_at dksX6_doPass_4 21 rfl rfl)
theorem dX6_doPass_118 : decode cX6_doPass 118 = .ok (.invokestatic 63, 3) := dk_184 0 63 (dk_at dksX6_doPass_5 0 rfl rfl)
theorem dX6_doPass_121 : decode cX6_doPass 121 = .ok (.iconst 1, 1) := dk_4 (dk_at dksX6_doPass_5 3 rfl rfl)
theorem dX6_doPass_122 : decode cX6_doPass 122 = .ok (.iadd, 1) := dk_96 (dk_at dksX6_doPass_5 4 rfl rfl)
theorem dX6_doPass_123 : decode cX6_doPass 123 = .ok (.iaload, 1) := dk_46 (dk_at dksX6_doPass_5 5 rfl rfl)
theorem dX6_doPass_124 : decode cX6_doPass 124 = .ok (.aload_n 0, 1) := dk_42 (dk_at dksX6_doPass_5 6 rfl rfl)
theorem dX6_doPass_125 : decode cX6_doPass 125 = .ok (.getfield 9, 3) := dk_180 0 9 (dk_at dksX6_doPass_5 7 rfl rfl)
theorem dX6_doPass_128 : decode cX6_doPass 128 = .ok (.iconst 3, 1) := dk_6 (dk_at dksX6_doPass_5 10 rfl rfl)
theorem dX6_doPass_129 : decode cX6_doPass 129 = .ok (.iaload, 1) := dk_46 (dk_at dksX6_doPass_5 11 rfl rfl)
theorem dX6_doPass_130 : decode cX6_doPass 130 = .ok (.if_icmp .gt 18, 3) := dk_163 0 18 (dk_at dksX6_doPass_5 12 rfl rfl)
theorem dX6_doPass_133 : decode cX6_doPass 133 = .ok (.aload_n 0, 1) := dk_42 (dk_at dksX6_doPass_5 15 rfl rfl)
theorem dX6_doPass_134 : decode cX6_doPass 134 = .ok (.aload_n 0, 1) := dk_42 (dk_at dksX6_doPass_5 16 rfl rfl)
theorem dX6_doPass_135 : decode cX6_doPass 135 = .ok (.aload_n 0, 1) := dk_42 (dk_at dksX6_doPass_5 17 rfl rfl)
theorem dX6_doPass_136 : decode cX6_doPass 136 = .ok (.getfield 9, 3) := dk_180 0 9 (dk_at dksX6_doPass_5 18 rfl rfl)
theorem dX6_doPass_139 : decode cX6_doPass 139 = .ok (.iconst 2, 1) := dk_5 (dk_at dksX6_doPass_5 21 rfl rfl)
theorem dX6_doPass_140 : decode cX6_doPass 140 = .ok (.iaload, 1) := dk_46 (dk_at dksX6_doPass_5 22 rfl rfl)
theorem dX6_doPass_141 : decode cX6_doPass 141 = .ok (.invokevirtual 171, 3) := dk_182 0 171 (dk_at dksX6_doPass_6 0 rfl rfl)
theorem dX6_doPass_144 : decode cX6_doPass 144 = .ok (.invokevirtual 174, 3) := dk_182 0 174 (dk_at dksX6_doPass_6 3 rfl rfl)
theorem dX6_doPass_147 : decode cX6_doPass 147 = .ok (.pop, 1) := dk_87 (dk_at dksX6_doPass_6 6 rfl rfl)
theorem dX6_doPass_148 : decode cX6_doPass 148 = .ok (.iinc 2 1, 3) := dk_132 2 1 (dk_at dksX6_doPass_6 7 rfl rfl)
theorem dX6_doPass_151 : decode cX6_doPass 151 = .ok (.goto (-121), 3) := dk_167 255 135 (dk_at dksX6_doPass_6 10 rfl rfl)
theorem dX6_doPass_154 : decode cX6_doPass 154 = .ok (.iconst 0, 1) := dk_3 (dk_at dksX6_doPass_6 13 rfl rfl)
theorem dX6_doPass_155 : decode cX6_doPass 155 = .ok (.ireturn, 1) := dk_172 (dk_at dksX6_doPass_6 14 rfl rfl)
abbrev cX6_follows : ByteArray := prog_18_method_65_code
def yX6_follows : MethodName := ⟨RX6, "follows", "()Z"⟩
def dkwX6_follows_2 : List UInt8 := [46, 182, 0, 171, 158, 0, 7, 4, 167, 0, 4, 3, 172]
abbrev dktX6_follows_2 : List UInt8 := dkwX6_follows_2 ++ []
def dkwX6_follows_1 : List UInt8 := [27, 155, 0, 34, 42, 180, 0, 9, 27, 184, 0, 63, 4, 96, 46, 158, 0, 20, 42, 42, 180, 0, 9, 5]
abbrev dktX6_follows_1 : List UInt8 := dkwX6_follows_1 ++ dktX6_follows_2
def dkwX6_follows_0 : List UInt8 := [42, 180, 0, 9, 5, 46, 154, 0, 7, 2, 167, 0, 13, 42, 42, 180, 0, 9, 5, 46, 182, 0, 67, 60]
abbrev dktX6_follows_0 : List UInt8 := dkwX6_follows_0 ++ dktX6_follows_1
theorem dksX6_follows_0 : cX6_follows.data.toList.drop 0 = dktX6_follows_0 := by decide +kernel
theorem dksX6_follows_1 : cX6_follows.data.toList.drop 24 = dktX6_follows_1 := dk_seg dksX6_follows_0 24 rfl rfl
theorem dksX6_follows_2 : cX6_follows.data.toList.drop 48 = dktX6_follows_2 := dk_seg dksX6_follows_1 24 rfl rfl
theorem dX6_follows_0 : decode cX6_follows 0 = .ok (.aload_n 0, 1) := dk_42 (dk_at dksX6_follows_0 0 rfl rfl)
theorem dX6_follows_1 : decode cX6_follows 1 = .ok (.getfield 9, 3) := dk_180 0 9 (dk_at dksX6_follows_0 1 rfl rfl)
theorem dX6_follows_4 : decode cX6_follows 4 = .ok (.iconst 2, 1) := dk_5 (dk_at dksX6_follows_0 4 rfl rfl)
theorem dX6_follows_5 : decode cX6_follows 5 = .ok (.iaload, 1) := dk_46 (dk_at dksX6_follows_0 5 rfl rfl)
theorem dX6_follows_6 : decode cX6_follows 6 = .ok (.ifCond .ne 7, 3) := dk_154 0 7 (dk_at dksX6_follows_0 6 rfl rfl)
theorem dX6_follows_9 : decode cX6_follows 9 = .ok (.iconst (-1), 1) := dk_2 (dk_at dksX6_follows_0 9 rfl rfl)
theorem dX6_follows_10 : decode cX6_follows 10 = .ok (.goto 13, 3) := dk_167 0 13 (dk_at dksX6_follows_0 10 rfl rfl)
theorem dX6_follows_13 : decode cX6_follows 13 = .ok (.aload_n 0, 1) := dk_42 (dk_at dksX6_follows_0 13 rfl rfl)
theorem dX6_follows_14 : decode cX6_follows 14 = .ok (.aload_n 0, 1) := dk_42 (dk_at dksX6_follows_0 14 rfl rfl)
theorem dX6_follows_15 : decode cX6_follows 15 = .ok (.getfield 9, 3) := dk_180 0 9 (dk_at dksX6_follows_0 15 rfl rfl)
theorem dX6_follows_18 : decode cX6_follows 18 = .ok (.iconst 2, 1) := dk_5 (dk_at dksX6_follows_0 18 rfl rfl)
theorem dX6_follows_19 : decode cX6_follows 19 = .ok (.iaload, 1) := dk_46 (dk_at dksX6_follows_0 19 rfl rfl)
theorem dX6_follows_20 : decode cX6_follows 20 = .ok (.invokevirtual 67, 3) := dk_182 0 67 (dk_at dksX6_follows_0 20 rfl rfl)
theorem dX6_follows_23 : decode cX6_follows 23 = .ok (.istore_n 1, 1) := dk_60 (dk_at dksX6_follows_0 23 rfl rfl)
theorem dX6_follows_24 : decode cX6_follows 24 = .ok (.iload_n 1, 1) := dk_27 (dk_at dksX6_follows_1 0 rfl rfl)
theorem dX6_follows_25 : decode cX6_follows 25 = .ok (.ifCond .lt 34, 3) := dk_155 0 34 (dk_at dksX6_follows_1 1 rfl rfl)
theorem dX6_follows_28 : decode cX6_follows 28 = .ok (.aload_n 0, 1) := dk_42 (dk_at dksX6_follows_1 4 rfl rfl)
theorem dX6_follows_29 : decode cX6_follows 29 = .ok (.getfield 9, 3) := dk_180 0 9 (dk_at dksX6_follows_1 5 rfl rfl)
theorem dX6_follows_32 : decode cX6_follows 32 = .ok (.iload_n 1, 1) := dk_27 (dk_at dksX6_follows_1 8 rfl rfl)
theorem dX6_follows_33 : decode cX6_follows 33 = .ok (.invokestatic 63, 3) := dk_184 0 63 (dk_at dksX6_follows_1 9 rfl rfl)
theorem dX6_follows_36 : decode cX6_follows 36 = .ok (.iconst 1, 1) := dk_4 (dk_at dksX6_follows_1 12 rfl rfl)
theorem dX6_follows_37 : decode cX6_follows 37 = .ok (.iadd, 1) := dk_96 (dk_at dksX6_follows_1 13 rfl rfl)
theorem dX6_follows_38 : decode cX6_follows 38 = .ok (.iaload, 1) := dk_46 (dk_at dksX6_follows_1 14 rfl rfl)
theorem dX6_follows_39 : decode cX6_follows 39 = .ok (.ifCond .le 20, 3) := dk_158 0 20 (dk_at dksX6_follows_1 15 rfl rfl)
theorem dX6_follows_42 : decode cX6_follows 42 = .ok (.aload_n 0, 1) := dk_42 (dk_at dksX6_follows_1 18 rfl rfl)
theorem dX6_follows_43 : decode cX6_follows 43 = .ok (.aload_n 0, 1) := dk_42 (dk_at dksX6_follows_1 19 rfl rfl)
theorem dX6_follows_44 : decode cX6_follows 44 = .ok (.getfield 9, 3) := dk_180 0 9 (dk_at dksX6_follows_1 20 rfl rfl)
theorem dX6_follows_47 : decode cX6_follows 47 = .ok (.iconst 2, 1) := dk_5 (dk_at dksX6_follows_1 23 rfl rfl)
theorem dX6_follows_48 : decode cX6_follows 48 = .ok (.iaload, 1) := dk_46 (dk_at dksX6_follows_2 0 rfl rfl)
theorem dX6_follows_49 : decode cX6_follows 49 = .ok (.invokevirtual 171, 3) := dk_182 0 171 (dk_at dksX6_follows_2 1 rfl rfl)
theorem dX6_follows_52 : decode cX6_follows 52 = .ok (.ifCond .le 7, 3) := dk_158 0 7 (dk_at dksX6_follows_2 4 rfl rfl)
theorem dX6_follows_55 : decode cX6_follows 55 = .ok (.iconst 1, 1) := dk_4 (dk_at dksX6_follows_2 7 rfl rfl)
theorem dX6_follows_56 : decode cX6_follows 56 = .ok (.goto 4, 3) := dk_167 0 4 (dk_at dksX6_follows_2 8 rfl rfl)
theorem dX6_follows_59 : decode cX6_follows 59 = .ok (.iconst 0, 1) := dk_3 (dk_at dksX6_follows_2 11 rfl rfl)
theorem dX6_follows_60 : decode cX6_follows 60 = .ok (.ireturn, 1) := dk_172 (dk_at dksX6_follows_2 12 rfl rfl)
abbrev cX6_now : ByteArray := prog_18_method_68_code
def yX6_now : MethodName := ⟨RX6, "now", "(I)I"⟩
def dkwX6_now_1 : List UInt8 := [167, 0, 8, 42, 27, 182, 0, 165, 172]
abbrev dktX6_now_1 : List UInt8 := dkwX6_now_1 ++ []
def dkwX6_now_0 : List UInt8 := [42, 27, 184, 0, 122, 153, 0, 7, 3, 167, 0, 4, 4, 181, 0, 42, 42, 180, 0, 42, 158, 0, 7, 3]
abbrev dktX6_now_0 : List UInt8 := dkwX6_now_0 ++ dktX6_now_1
theorem dksX6_now_0 : cX6_now.data.toList.drop 0 = dktX6_now_0 := by decide +kernel
theorem dksX6_now_1 : cX6_now.data.toList.drop 24 = dktX6_now_1 := dk_seg dksX6_now_0 24 rfl rfl
theorem dX6_now_0 : decode cX6_now 0 = .ok (.aload_n 0, 1) := dk_42 (dk_at dksX6_now_0 0 rfl rfl)
theorem dX6_now_1 : decode cX6_now 1 = .ok (.iload_n 1, 1) := dk_27 (dk_at dksX6_now_0 1 rfl rfl)
theorem dX6_now_2 : decode cX6_now 2 = .ok (.invokestatic 122, 3) := dk_184 0 122 (dk_at dksX6_now_0 2 rfl rfl)
theorem dX6_now_5 : decode cX6_now 5 = .ok (.ifCond .eq 7, 3) := dk_153 0 7 (dk_at dksX6_now_0 5 rfl rfl)
theorem dX6_now_8 : decode cX6_now 8 = .ok (.iconst 0, 1) := dk_3 (dk_at dksX6_now_0 8 rfl rfl)
theorem dX6_now_9 : decode cX6_now 9 = .ok (.goto 4, 3) := dk_167 0 4 (dk_at dksX6_now_0 9 rfl rfl)
theorem dX6_now_12 : decode cX6_now 12 = .ok (.iconst 1, 1) := dk_4 (dk_at dksX6_now_0 12 rfl rfl)
theorem dX6_now_13 : decode cX6_now 13 = .ok (.putfield 42, 3) := dk_181 0 42 (dk_at dksX6_now_0 13 rfl rfl)
theorem dX6_now_16 : decode cX6_now 16 = .ok (.aload_n 0, 1) := dk_42 (dk_at dksX6_now_0 16 rfl rfl)
theorem dX6_now_17 : decode cX6_now 17 = .ok (.getfield 42, 3) := dk_180 0 42 (dk_at dksX6_now_0 17 rfl rfl)
theorem dX6_now_20 : decode cX6_now 20 = .ok (.ifCond .le 7, 3) := dk_158 0 7 (dk_at dksX6_now_0 20 rfl rfl)
theorem dX6_now_23 : decode cX6_now 23 = .ok (.iconst 0, 1) := dk_3 (dk_at dksX6_now_0 23 rfl rfl)
theorem dX6_now_24 : decode cX6_now 24 = .ok (.goto 8, 3) := dk_167 0 8 (dk_at dksX6_now_1 0 rfl rfl)
theorem dX6_now_27 : decode cX6_now 27 = .ok (.aload_n 0, 1) := dk_42 (dk_at dksX6_now_1 3 rfl rfl)
theorem dX6_now_28 : decode cX6_now 28 = .ok (.iload_n 1, 1) := dk_27 (dk_at dksX6_now_1 4 rfl rfl)
theorem dX6_now_29 : decode cX6_now 29 = .ok (.invokevirtual 165, 3) := dk_182 0 165 (dk_at dksX6_now_1 5 rfl rfl)
theorem dX6_now_32 : decode cX6_now 32 = .ok (.ireturn, 1) := dk_172 (dk_at dksX6_now_1 8 rfl rfl)
abbrev cX6_target : ByteArray := prog_18_method_69_code
def yX6_target : MethodName := ⟨RX6, "target", "(I)I"⟩
def dkwX6_target_1 : List UInt8 := [167, 0, 14, 42, 180, 0, 9, 27, 184, 0, 162, 4, 96, 46, 172]
abbrev dktX6_target_1 : List UInt8 := dkwX6_target_1 ++ []
def dkwX6_target_0 : List UInt8 := [42, 27, 184, 0, 122, 153, 0, 7, 3, 167, 0, 4, 4, 181, 0, 42, 42, 180, 0, 42, 158, 0, 7, 3]
abbrev dktX6_target_0 : List UInt8 := dkwX6_target_0 ++ dktX6_target_1
theorem dksX6_target_0 : cX6_target.data.toList.drop 0 = dktX6_target_0 := by decide +kernel
theorem dksX6_target_1 : cX6_target.data.toList.drop 24 = dktX6_target_1 := dk_seg dksX6_target_0 24 rfl rfl
theorem dX6_target_0 : decode cX6_target 0 = .ok (.aload_n 0, 1) := dk_42 (dk_at dksX6_target_0 0 rfl rfl)
theorem dX6_target_1 : decode cX6_target 1 = .ok (.iload_n 1, 1) := dk_27 (dk_at dksX6_target_0 1 rfl rfl)
theorem dX6_target_2 : decode cX6_target 2 = .ok (.invokestatic 122, 3) := dk_184 0 122 (dk_at dksX6_target_0 2 rfl rfl)
theorem dX6_target_5 : decode cX6_target 5 = .ok (.ifCond .eq 7, 3) := dk_153 0 7 (dk_at dksX6_target_0 5 rfl rfl)
theorem dX6_target_8 : decode cX6_target 8 = .ok (.iconst 0, 1) := dk_3 (dk_at dksX6_target_0 8 rfl rfl)
theorem dX6_target_9 : decode cX6_target 9 = .ok (.goto 4, 3) := dk_167 0 4 (dk_at dksX6_target_0 9 rfl rfl)
theorem dX6_target_12 : decode cX6_target 12 = .ok (.iconst 1, 1) := dk_4 (dk_at dksX6_target_0 12 rfl rfl)
theorem dX6_target_13 : decode cX6_target 13 = .ok (.putfield 42, 3) := dk_181 0 42 (dk_at dksX6_target_0 13 rfl rfl)
theorem dX6_target_16 : decode cX6_target 16 = .ok (.aload_n 0, 1) := dk_42 (dk_at dksX6_target_0 16 rfl rfl)
theorem dX6_target_17 : decode cX6_target 17 = .ok (.getfield 42, 3) := dk_180 0 42 (dk_at dksX6_target_0 17 rfl rfl)
theorem dX6_target_20 : decode cX6_target 20 = .ok (.ifCond .le 7, 3) := dk_158 0 7 (dk_at dksX6_target_0 20 rfl rfl)
theorem dX6_target_23 : decode cX6_target 23 = .ok (.iconst 0, 1) := dk_3 (dk_at dksX6_target_0 23 rfl rfl)
theorem dX6_target_24 : decode cX6_target 24 = .ok (.goto 14, 3) := dk_167 0 14 (dk_at dksX6_target_1 0 rfl rfl)
theorem dX6_target_27 : decode cX6_target 27 = .ok (.aload_n 0, 1) := dk_42 (dk_at dksX6_target_1 3 rfl rfl)
theorem dX6_target_28 : decode cX6_target 28 = .ok (.getfield 9, 3) := dk_180 0 9 (dk_at dksX6_target_1 4 rfl rfl)
theorem dX6_target_31 : decode cX6_target 31 = .ok (.iload_n 1, 1) := dk_27 (dk_at dksX6_target_1 7 rfl rfl)
theorem dX6_target_32 : decode cX6_target 32 = .ok (.invokestatic 162, 3) := dk_184 0 162 (dk_at dksX6_target_1 8 rfl rfl)
theorem dX6_target_35 : decode cX6_target 35 = .ok (.iconst 1, 1) := dk_4 (dk_at dksX6_target_1 11 rfl rfl)
theorem dX6_target_36 : decode cX6_target 36 = .ok (.iadd, 1) := dk_96 (dk_at dksX6_target_1 12 rfl rfl)
theorem dX6_target_37 : decode cX6_target 37 = .ok (.iaload, 1) := dk_46 (dk_at dksX6_target_1 13 rfl rfl)
theorem dX6_target_38 : decode cX6_target 38 = .ok (.ireturn, 1) := dk_172 (dk_at dksX6_target_1 14 rfl rfl)
abbrev cX6_playing : ByteArray := prog_18_method_71_code
def yX6_playing : MethodName := ⟨RX6, "playing", "(I)I"⟩
def dkwX6_playing_6 : List UInt8 := [172]
abbrev dktX6_playing_6 : List UInt8 := dkwX6_playing_6 ++ []
def dkwX6_playing_5 : List UInt8 := [46, 182, 0, 67, 184, 0, 63, 4, 96, 46, 42, 180, 0, 9, 6, 46, 100, 184, 0, 117, 167, 0, 4, 2]
abbrev dktX6_playing_5 : List UInt8 := dkwX6_playing_5 ++ dktX6_playing_6
def dkwX6_playing_4 : List UInt8 := [172, 42, 182, 0, 195, 172, 42, 182, 0, 185, 153, 0, 37, 4, 42, 180, 0, 9, 42, 42, 180, 0, 9, 5]
abbrev dktX6_playing_4 : List UInt8 := dkwX6_playing_4 ++ dktX6_playing_5
def dkwX6_playing_3 : List UInt8 := [42, 180, 0, 9, 5, 46, 172, 42, 180, 0, 9, 6, 46, 172, 42, 42, 180, 0, 9, 5, 46, 182, 0, 171]
abbrev dktX6_playing_3 : List UInt8 := dkwX6_playing_3 ++ dktX6_playing_4
def dkwX6_playing_2 : List UInt8 := [170, 0, 0, 0, 0, 0, 0, 62, 0, 0, 0, 0, 0, 0, 0, 3, 0, 0, 0, 32, 0, 0, 0, 39, 0, 0, 0, 46, 0, 0, 0, 57]
abbrev dktX6_playing_2 : List UInt8 := dkwX6_playing_2 ++ dktX6_playing_3
def dkwX6_playing_1 : List UInt8 := [158, 0, 5, 3, 172, 27]
abbrev dktX6_playing_1 : List UInt8 := dkwX6_playing_1 ++ dktX6_playing_2
def dkwX6_playing_0 : List UInt8 := [42, 27, 3, 7, 184, 0, 70, 153, 0, 7, 3, 167, 0, 4, 4, 181, 0, 42, 42, 180, 0, 42]
abbrev dktX6_playing_0 : List UInt8 := dkwX6_playing_0 ++ dktX6_playing_1
theorem dksX6_playing_0 : cX6_playing.data.toList.drop 0 = dktX6_playing_0 := by decide +kernel
theorem dksX6_playing_1 : cX6_playing.data.toList.drop 22 = dktX6_playing_1 := dk_seg dksX6_playing_0 22 rfl rfl
theorem dksX6_playing_2 : cX6_playing.data.toList.drop 28 = dktX6_playing_2 := dk_seg dksX6_playing_1 6 rfl rfl
theorem dksX6_playing_3 : cX6_playing.data.toList.drop 60 = dktX6_playing_3 := dk_seg dksX6_playing_2 32 rfl rfl
theorem dksX6_playing_4 : cX6_playing.data.toList.drop 84 = dktX6_playing_4 := dk_seg dksX6_playing_3 24 rfl rfl
theorem dksX6_playing_5 : cX6_playing.data.toList.drop 108 = dktX6_playing_5 := dk_seg dksX6_playing_4 24 rfl rfl
theorem dksX6_playing_6 : cX6_playing.data.toList.drop 132 = dktX6_playing_6 := dk_seg dksX6_playing_5 24 rfl rfl
theorem dX6_playing_0 : decode cX6_playing 0 = .ok (.aload_n 0, 1) := dk_42 (dk_at dksX6_playing_0 0 rfl rfl)
theorem dX6_playing_1 : decode cX6_playing 1 = .ok (.iload_n 1, 1) := dk_27 (dk_at dksX6_playing_0 1 rfl rfl)
theorem dX6_playing_2 : decode cX6_playing 2 = .ok (.iconst 0, 1) := dk_3 (dk_at dksX6_playing_0 2 rfl rfl)
theorem dX6_playing_3 : decode cX6_playing 3 = .ok (.iconst 4, 1) := dk_7 (dk_at dksX6_playing_0 3 rfl rfl)
theorem dX6_playing_4 : decode cX6_playing 4 = .ok (.invokestatic 70, 3) := dk_184 0 70 (dk_at dksX6_playing_0 4 rfl rfl)
theorem dX6_playing_7 : decode cX6_playing 7 = .ok (.ifCond .eq 7, 3) := dk_153 0 7 (dk_at dksX6_playing_0 7 rfl rfl)
theorem dX6_playing_10 : decode cX6_playing 10 = .ok (.iconst 0, 1) := dk_3 (dk_at dksX6_playing_0 10 rfl rfl)
theorem dX6_playing_11 : decode cX6_playing 11 = .ok (.goto 4, 3) := dk_167 0 4 (dk_at dksX6_playing_0 11 rfl rfl)
theorem dX6_playing_14 : decode cX6_playing 14 = .ok (.iconst 1, 1) := dk_4 (dk_at dksX6_playing_0 14 rfl rfl)
theorem dX6_playing_15 : decode cX6_playing 15 = .ok (.putfield 42, 3) := dk_181 0 42 (dk_at dksX6_playing_0 15 rfl rfl)
theorem dX6_playing_18 : decode cX6_playing 18 = .ok (.aload_n 0, 1) := dk_42 (dk_at dksX6_playing_0 18 rfl rfl)
theorem dX6_playing_19 : decode cX6_playing 19 = .ok (.getfield 42, 3) := dk_180 0 42 (dk_at dksX6_playing_0 19 rfl rfl)
theorem dX6_playing_22 : decode cX6_playing 22 = .ok (.ifCond .le 5, 3) := dk_158 0 5 (dk_at dksX6_playing_1 0 rfl rfl)
theorem dX6_playing_25 : decode cX6_playing 25 = .ok (.iconst 0, 1) := dk_3 (dk_at dksX6_playing_1 3 rfl rfl)
theorem dX6_playing_26 : decode cX6_playing 26 = .ok (.ireturn, 1) := dk_172 (dk_at dksX6_playing_1 4 rfl rfl)
theorem dX6_playing_27 : decode cX6_playing 27 = .ok (.iload_n 1, 1) := dk_27 (dk_at dksX6_playing_1 5 rfl rfl)
theorem dX6_playing_28 : decode cX6_playing 28 = .ok (.tableswitch 62 0 3 #[32, 39, 46, 57], 32) := by decide +kernel
theorem dX6_playing_60 : decode cX6_playing 60 = .ok (.aload_n 0, 1) := dk_42 (dk_at dksX6_playing_3 0 rfl rfl)
theorem dX6_playing_61 : decode cX6_playing 61 = .ok (.getfield 9, 3) := dk_180 0 9 (dk_at dksX6_playing_3 1 rfl rfl)
theorem dX6_playing_64 : decode cX6_playing 64 = .ok (.iconst 2, 1) := dk_5 (dk_at dksX6_playing_3 4 rfl rfl)
theorem dX6_playing_65 : decode cX6_playing 65 = .ok (.iaload, 1) := dk_46 (dk_at dksX6_playing_3 5 rfl rfl)
theorem dX6_playing_66 : decode cX6_playing 66 = .ok (.ireturn, 1) := dk_172 (dk_at dksX6_playing_3 6 rfl rfl)
theorem dX6_playing_67 : decode cX6_playing 67 = .ok (.aload_n 0, 1) := dk_42 (dk_at dksX6_playing_3 7 rfl rfl)
theorem dX6_playing_68 : decode cX6_playing 68 = .ok (.getfield 9, 3) := dk_180 0 9 (dk_at dksX6_playing_3 8 rfl rfl)
theorem dX6_playing_71 : decode cX6_playing 71 = .ok (.iconst 3, 1) := dk_6 (dk_at dksX6_playing_3 11 rfl rfl)
theorem dX6_playing_72 : decode cX6_playing 72 = .ok (.iaload, 1) := dk_46 (dk_at dksX6_playing_3 12 rfl rfl)
theorem dX6_playing_73 : decode cX6_playing 73 = .ok (.ireturn, 1) := dk_172 (dk_at dksX6_playing_3 13 rfl rfl)
theorem dX6_playing_74 : decode cX6_playing 74 = .ok (.aload_n 0, 1) := dk_42 (dk_at dksX6_playing_3 14 rfl rfl)
theorem dX6_playing_75 : decode cX6_playing 75 = .ok (.aload_n 0, 1) := dk_42 (dk_at dksX6_playing_3 15 rfl rfl)
theorem dX6_playing_76 : decode cX6_playing 76 = .ok (.getfield 9, 3) := dk_180 0 9 (dk_at dksX6_playing_3 16 rfl rfl)
theorem dX6_playing_79 : decode cX6_playing 79 = .ok (.iconst 2, 1) := dk_5 (dk_at dksX6_playing_3 19 rfl rfl)
theorem dX6_playing_80 : decode cX6_playing 80 = .ok (.iaload, 1) := dk_46 (dk_at dksX6_playing_3 20 rfl rfl)
theorem dX6_playing_81 : decode cX6_playing 81 = .ok (.invokevirtual 171, 3) := dk_182 0 171 (dk_at dksX6_playing_3 21 rfl rfl)
theorem dX6_playing_84 : decode cX6_playing 84 = .ok (.ireturn, 1) := dk_172 (dk_at dksX6_playing_4 0 rfl rfl)
theorem dX6_playing_85 : decode cX6_playing 85 = .ok (.aload_n 0, 1) := dk_42 (dk_at dksX6_playing_4 1 rfl rfl)
theorem dX6_playing_86 : decode cX6_playing 86 = .ok (.invokevirtual 195, 3) := dk_182 0 195 (dk_at dksX6_playing_4 2 rfl rfl)
theorem dX6_playing_89 : decode cX6_playing 89 = .ok (.ireturn, 1) := dk_172 (dk_at dksX6_playing_4 5 rfl rfl)
theorem dX6_playing_90 : decode cX6_playing 90 = .ok (.aload_n 0, 1) := dk_42 (dk_at dksX6_playing_4 6 rfl rfl)
theorem dX6_playing_91 : decode cX6_playing 91 = .ok (.invokevirtual 185, 3) := dk_182 0 185 (dk_at dksX6_playing_4 7 rfl rfl)
theorem dX6_playing_94 : decode cX6_playing 94 = .ok (.ifCond .eq 37, 3) := dk_153 0 37 (dk_at dksX6_playing_4 10 rfl rfl)
theorem dX6_playing_97 : decode cX6_playing 97 = .ok (.iconst 1, 1) := dk_4 (dk_at dksX6_playing_4 13 rfl rfl)
theorem dX6_playing_98 : decode cX6_playing 98 = .ok (.aload_n 0, 1) := dk_42 (dk_at dksX6_playing_4 14 rfl rfl)
theorem dX6_playing_99 : decode cX6_playing 99 = .ok (.getfield 9, 3) := dk_180 0 9 (dk_at dksX6_playing_4 15 rfl rfl)
theorem dX6_playing_102 : decode cX6_playing 102 = .ok (.aload_n 0, 1) := dk_42 (dk_at dksX6_playing_4 18 rfl rfl)
theorem dX6_playing_103 : decode cX6_playing 103 = .ok (.aload_n 0, 1) := dk_42 (dk_at dksX6_playing_4 19 rfl rfl)
theorem dX6_playing_104 : decode cX6_playing 104 = .ok (.getfield 9, 3) := dk_180 0 9 (dk_at dksX6_playing_4 20 rfl rfl)
theorem dX6_playing_107 : decode cX6_playing 107 = .ok (.iconst 2, 1) := dk_5 (dk_at dksX6_playing_4 23 rfl rfl)
theorem dX6_playing_108 : decode cX6_playing 108 = .ok (.iaload, 1) := dk_46 (dk_at dksX6_playing_5 0 rfl rfl)
theorem dX6_playing_109 : decode cX6_playing 109 = .ok (.invokevirtual 67, 3) := dk_182 0 67 (dk_at dksX6_playing_5 1 rfl rfl)
theorem dX6_playing_112 : decode cX6_playing 112 = .ok (.invokestatic 63, 3) := dk_184 0 63 (dk_at dksX6_playing_5 4 rfl rfl)
theorem dX6_playing_115 : decode cX6_playing 115 = .ok (.iconst 1, 1) := dk_4 (dk_at dksX6_playing_5 7 rfl rfl)
theorem dX6_playing_116 : decode cX6_playing 116 = .ok (.iadd, 1) := dk_96 (dk_at dksX6_playing_5 8 rfl rfl)
theorem dX6_playing_117 : decode cX6_playing 117 = .ok (.iaload, 1) := dk_46 (dk_at dksX6_playing_5 9 rfl rfl)
theorem dX6_playing_118 : decode cX6_playing 118 = .ok (.aload_n 0, 1) := dk_42 (dk_at dksX6_playing_5 10 rfl rfl)
theorem dX6_playing_119 : decode cX6_playing 119 = .ok (.getfield 9, 3) := dk_180 0 9 (dk_at dksX6_playing_5 11 rfl rfl)
theorem dX6_playing_122 : decode cX6_playing 122 = .ok (.iconst 3, 1) := dk_6 (dk_at dksX6_playing_5 14 rfl rfl)
theorem dX6_playing_123 : decode cX6_playing 123 = .ok (.iaload, 1) := dk_46 (dk_at dksX6_playing_5 15 rfl rfl)
theorem dX6_playing_124 : decode cX6_playing 124 = .ok (.isub, 1) := dk_100 (dk_at dksX6_playing_5 16 rfl rfl)
theorem dX6_playing_125 : decode cX6_playing 125 = .ok (.invokestatic 117, 3) := dk_184 0 117 (dk_at dksX6_playing_5 17 rfl rfl)
theorem dX6_playing_128 : decode cX6_playing 128 = .ok (.goto 4, 3) := dk_167 0 4 (dk_at dksX6_playing_5 20 rfl rfl)
theorem dX6_playing_131 : decode cX6_playing 131 = .ok (.iconst (-1), 1) := dk_2 (dk_at dksX6_playing_5 23 rfl rfl)
theorem dX6_playing_132 : decode cX6_playing 132 = .ok (.ireturn, 1) := dk_172 (dk_at dksX6_playing_6 0 rfl rfl)
abbrev cX6_fading : ByteArray := prog_18_method_70_code
def yX6_fading : MethodName := ⟨RX6, "fading", "()I"⟩
def dkwX6_fading_1 : List UInt8 := [167, 0, 4, 3, 128, 60, 132, 2, 1, 167, 255, 229, 27, 172]
abbrev dktX6_fading_1 : List UInt8 := dkwX6_fading_1 ++ []
def dkwX6_fading_0 : List UInt8 := [3, 60, 3, 61, 28, 16, 12, 162, 0, 27, 27, 42, 28, 182, 0, 192, 153, 0, 9, 4, 28, 120]
abbrev dktX6_fading_0 : List UInt8 := dkwX6_fading_0 ++ dktX6_fading_1
theorem dksX6_fading_0 : cX6_fading.data.toList.drop 0 = dktX6_fading_0 := by decide +kernel
theorem dksX6_fading_1 : cX6_fading.data.toList.drop 22 = dktX6_fading_1 := dk_seg dksX6_fading_0 22 rfl rfl
theorem dX6_fading_0 : decode cX6_fading 0 = .ok (.iconst 0, 1) := dk_3 (dk_at dksX6_fading_0 0 rfl rfl)
theorem dX6_fading_1 : decode cX6_fading 1 = .ok (.istore_n 1, 1) := dk_60 (dk_at dksX6_fading_0 1 rfl rfl)
theorem dX6_fading_2 : decode cX6_fading 2 = .ok (.iconst 0, 1) := dk_3 (dk_at dksX6_fading_0 2 rfl rfl)
theorem dX6_fading_3 : decode cX6_fading 3 = .ok (.istore_n 2, 1) := dk_61 (dk_at dksX6_fading_0 3 rfl rfl)
theorem dX6_fading_4 : decode cX6_fading 4 = .ok (.iload_n 2, 1) := dk_28 (dk_at dksX6_fading_0 4 rfl rfl)
theorem dX6_fading_5 : decode cX6_fading 5 = .ok (.bipush 12, 2) := dk_16 12 (dk_at dksX6_fading_0 5 rfl rfl)
theorem dX6_fading_7 : decode cX6_fading 7 = .ok (.if_icmp .ge 27, 3) := dk_162 0 27 (dk_at dksX6_fading_0 7 rfl rfl)
theorem dX6_fading_10 : decode cX6_fading 10 = .ok (.iload_n 1, 1) := dk_27 (dk_at dksX6_fading_0 10 rfl rfl)
theorem dX6_fading_11 : decode cX6_fading 11 = .ok (.aload_n 0, 1) := dk_42 (dk_at dksX6_fading_0 11 rfl rfl)
theorem dX6_fading_12 : decode cX6_fading 12 = .ok (.iload_n 2, 1) := dk_28 (dk_at dksX6_fading_0 12 rfl rfl)
theorem dX6_fading_13 : decode cX6_fading 13 = .ok (.invokevirtual 192, 3) := dk_182 0 192 (dk_at dksX6_fading_0 13 rfl rfl)
theorem dX6_fading_16 : decode cX6_fading 16 = .ok (.ifCond .eq 9, 3) := dk_153 0 9 (dk_at dksX6_fading_0 16 rfl rfl)
theorem dX6_fading_19 : decode cX6_fading 19 = .ok (.iconst 1, 1) := dk_4 (dk_at dksX6_fading_0 19 rfl rfl)
theorem dX6_fading_20 : decode cX6_fading 20 = .ok (.iload_n 2, 1) := dk_28 (dk_at dksX6_fading_0 20 rfl rfl)
theorem dX6_fading_21 : decode cX6_fading 21 = .ok (.ishl, 1) := dk_120 (dk_at dksX6_fading_0 21 rfl rfl)
theorem dX6_fading_22 : decode cX6_fading 22 = .ok (.goto 4, 3) := dk_167 0 4 (dk_at dksX6_fading_1 0 rfl rfl)
theorem dX6_fading_25 : decode cX6_fading 25 = .ok (.iconst 0, 1) := dk_3 (dk_at dksX6_fading_1 3 rfl rfl)
theorem dX6_fading_26 : decode cX6_fading 26 = .ok (.ior, 1) := dk_128 (dk_at dksX6_fading_1 4 rfl rfl)
theorem dX6_fading_27 : decode cX6_fading 27 = .ok (.istore_n 1, 1) := dk_60 (dk_at dksX6_fading_1 5 rfl rfl)
theorem dX6_fading_28 : decode cX6_fading 28 = .ok (.iinc 2 1, 3) := dk_132 2 1 (dk_at dksX6_fading_1 6 rfl rfl)
theorem dX6_fading_31 : decode cX6_fading 31 = .ok (.goto (-27), 3) := dk_167 255 229 (dk_at dksX6_fading_1 9 rfl rfl)
theorem dX6_fading_34 : decode cX6_fading 34 = .ok (.iload_n 1, 1) := dk_27 (dk_at dksX6_fading_1 12 rfl rfl)
theorem dX6_fading_35 : decode cX6_fading 35 = .ok (.ireturn, 1) := dk_172 (dk_at dksX6_fading_1 13 rfl rfl)
abbrev cX6_isFading : ByteArray := prog_18_method_56_code
def yX6_isFading : MethodName := ⟨RX6, "isFading", "(I)Z"⟩
def dkwX6_isFading_1 : List UInt8 := [180, 0, 9, 28, 7, 96, 46, 96, 162, 0, 7, 4, 167, 0, 4, 3, 172]
abbrev dktX6_isFading_1 : List UInt8 := dkwX6_isFading_1 ++ []
def dkwX6_isFading_0 : List UInt8 := [27, 184, 0, 162, 61, 42, 180, 0, 9, 28, 5, 96, 46, 42, 180, 0, 9, 28, 6, 96, 46, 42]
abbrev dktX6_isFading_0 : List UInt8 := dkwX6_isFading_0 ++ dktX6_isFading_1
theorem dksX6_isFading_0 : cX6_isFading.data.toList.drop 0 = dktX6_isFading_0 := by decide +kernel
theorem dksX6_isFading_1 : cX6_isFading.data.toList.drop 22 = dktX6_isFading_1 := dk_seg dksX6_isFading_0 22 rfl rfl
theorem dX6_isFading_0 : decode cX6_isFading 0 = .ok (.iload_n 1, 1) := dk_27 (dk_at dksX6_isFading_0 0 rfl rfl)
theorem dX6_isFading_1 : decode cX6_isFading 1 = .ok (.invokestatic 162, 3) := dk_184 0 162 (dk_at dksX6_isFading_0 1 rfl rfl)
theorem dX6_isFading_4 : decode cX6_isFading 4 = .ok (.istore_n 2, 1) := dk_61 (dk_at dksX6_isFading_0 4 rfl rfl)
theorem dX6_isFading_5 : decode cX6_isFading 5 = .ok (.aload_n 0, 1) := dk_42 (dk_at dksX6_isFading_0 5 rfl rfl)
theorem dX6_isFading_6 : decode cX6_isFading 6 = .ok (.getfield 9, 3) := dk_180 0 9 (dk_at dksX6_isFading_0 6 rfl rfl)
theorem dX6_isFading_9 : decode cX6_isFading 9 = .ok (.iload_n 2, 1) := dk_28 (dk_at dksX6_isFading_0 9 rfl rfl)
theorem dX6_isFading_10 : decode cX6_isFading 10 = .ok (.iconst 2, 1) := dk_5 (dk_at dksX6_isFading_0 10 rfl rfl)
theorem dX6_isFading_11 : decode cX6_isFading 11 = .ok (.iadd, 1) := dk_96 (dk_at dksX6_isFading_0 11 rfl rfl)
theorem dX6_isFading_12 : decode cX6_isFading 12 = .ok (.iaload, 1) := dk_46 (dk_at dksX6_isFading_0 12 rfl rfl)
theorem dX6_isFading_13 : decode cX6_isFading 13 = .ok (.aload_n 0, 1) := dk_42 (dk_at dksX6_isFading_0 13 rfl rfl)
theorem dX6_isFading_14 : decode cX6_isFading 14 = .ok (.getfield 9, 3) := dk_180 0 9 (dk_at dksX6_isFading_0 14 rfl rfl)
theorem dX6_isFading_17 : decode cX6_isFading 17 = .ok (.iload_n 2, 1) := dk_28 (dk_at dksX6_isFading_0 17 rfl rfl)
theorem dX6_isFading_18 : decode cX6_isFading 18 = .ok (.iconst 3, 1) := dk_6 (dk_at dksX6_isFading_0 18 rfl rfl)
theorem dX6_isFading_19 : decode cX6_isFading 19 = .ok (.iadd, 1) := dk_96 (dk_at dksX6_isFading_0 19 rfl rfl)
theorem dX6_isFading_20 : decode cX6_isFading 20 = .ok (.iaload, 1) := dk_46 (dk_at dksX6_isFading_0 20 rfl rfl)
theorem dX6_isFading_21 : decode cX6_isFading 21 = .ok (.aload_n 0, 1) := dk_42 (dk_at dksX6_isFading_0 21 rfl rfl)
theorem dX6_isFading_22 : decode cX6_isFading 22 = .ok (.getfield 9, 3) := dk_180 0 9 (dk_at dksX6_isFading_1 0 rfl rfl)
theorem dX6_isFading_25 : decode cX6_isFading 25 = .ok (.iload_n 2, 1) := dk_28 (dk_at dksX6_isFading_1 3 rfl rfl)
theorem dX6_isFading_26 : decode cX6_isFading 26 = .ok (.iconst 4, 1) := dk_7 (dk_at dksX6_isFading_1 4 rfl rfl)
theorem dX6_isFading_27 : decode cX6_isFading 27 = .ok (.iadd, 1) := dk_96 (dk_at dksX6_isFading_1 5 rfl rfl)
theorem dX6_isFading_28 : decode cX6_isFading 28 = .ok (.iaload, 1) := dk_46 (dk_at dksX6_isFading_1 6 rfl rfl)
theorem dX6_isFading_29 : decode cX6_isFading 29 = .ok (.iadd, 1) := dk_96 (dk_at dksX6_isFading_1 7 rfl rfl)
theorem dX6_isFading_30 : decode cX6_isFading 30 = .ok (.if_icmp .ge 7, 3) := dk_162 0 7 (dk_at dksX6_isFading_1 8 rfl rfl)
theorem dX6_isFading_33 : decode cX6_isFading 33 = .ok (.iconst 1, 1) := dk_4 (dk_at dksX6_isFading_1 11 rfl rfl)
theorem dX6_isFading_34 : decode cX6_isFading 34 = .ok (.goto 4, 3) := dk_167 0 4 (dk_at dksX6_isFading_1 12 rfl rfl)
theorem dX6_isFading_37 : decode cX6_isFading 37 = .ok (.iconst 0, 1) := dk_3 (dk_at dksX6_isFading_1 15 rfl rfl)
theorem dX6_isFading_38 : decode cX6_isFading 38 = .ok (.ireturn, 1) := dk_172 (dk_at dksX6_isFading_1 16 rfl rfl)
abbrev cX6_chain : ByteArray := prog_18_method_72_code
def yX6_chain : MethodName := ⟨RX6, "chain", "(I)I"⟩
def dkwX6_chain_3 : List UInt8 := [96, 61, 42, 29, 182, 0, 171, 62, 167, 255, 199, 28, 172]
abbrev dktX6_chain_3 : List UInt8 := dkwX6_chain_3 ++ []
def dkwX6_chain_2 : List UInt8 := [42, 29, 182, 0, 171, 158, 0, 30, 28, 42, 180, 0, 9, 42, 29, 182, 0, 67, 184, 0, 63, 4, 96, 46]
abbrev dktX6_chain_2 : List UInt8 := dkwX6_chain_2 ++ dktX6_chain_3
def dkwX6_chain_1 : List UInt8 := [180, 0, 42, 154, 0, 56, 42, 180, 0, 9, 42, 29, 182, 0, 67, 184, 0, 63, 4, 96, 46, 158, 0, 38]
abbrev dktX6_chain_1 : List UInt8 := dkwX6_chain_1 ++ dktX6_chain_2
def dkwX6_chain_0 : List UInt8 := [42, 42, 27, 182, 0, 74, 153, 0, 7, 3, 167, 0, 4, 4, 181, 0, 42, 3, 61, 27, 62, 42]
abbrev dktX6_chain_0 : List UInt8 := dkwX6_chain_0 ++ dktX6_chain_1
theorem dksX6_chain_0 : cX6_chain.data.toList.drop 0 = dktX6_chain_0 := by decide +kernel
theorem dksX6_chain_1 : cX6_chain.data.toList.drop 22 = dktX6_chain_1 := dk_seg dksX6_chain_0 22 rfl rfl
theorem dksX6_chain_2 : cX6_chain.data.toList.drop 46 = dktX6_chain_2 := dk_seg dksX6_chain_1 24 rfl rfl
theorem dksX6_chain_3 : cX6_chain.data.toList.drop 70 = dktX6_chain_3 := dk_seg dksX6_chain_2 24 rfl rfl
theorem dX6_chain_0 : decode cX6_chain 0 = .ok (.aload_n 0, 1) := dk_42 (dk_at dksX6_chain_0 0 rfl rfl)
theorem dX6_chain_1 : decode cX6_chain 1 = .ok (.aload_n 0, 1) := dk_42 (dk_at dksX6_chain_0 1 rfl rfl)
theorem dX6_chain_2 : decode cX6_chain 2 = .ok (.iload_n 1, 1) := dk_27 (dk_at dksX6_chain_0 2 rfl rfl)
theorem dX6_chain_3 : decode cX6_chain 3 = .ok (.invokevirtual 74, 3) := dk_182 0 74 (dk_at dksX6_chain_0 3 rfl rfl)
theorem dX6_chain_6 : decode cX6_chain 6 = .ok (.ifCond .eq 7, 3) := dk_153 0 7 (dk_at dksX6_chain_0 6 rfl rfl)
theorem dX6_chain_9 : decode cX6_chain 9 = .ok (.iconst 0, 1) := dk_3 (dk_at dksX6_chain_0 9 rfl rfl)
theorem dX6_chain_10 : decode cX6_chain 10 = .ok (.goto 4, 3) := dk_167 0 4 (dk_at dksX6_chain_0 10 rfl rfl)
theorem dX6_chain_13 : decode cX6_chain 13 = .ok (.iconst 1, 1) := dk_4 (dk_at dksX6_chain_0 13 rfl rfl)
theorem dX6_chain_14 : decode cX6_chain 14 = .ok (.putfield 42, 3) := dk_181 0 42 (dk_at dksX6_chain_0 14 rfl rfl)
theorem dX6_chain_17 : decode cX6_chain 17 = .ok (.iconst 0, 1) := dk_3 (dk_at dksX6_chain_0 17 rfl rfl)
theorem dX6_chain_18 : decode cX6_chain 18 = .ok (.istore_n 2, 1) := dk_61 (dk_at dksX6_chain_0 18 rfl rfl)
theorem dX6_chain_19 : decode cX6_chain 19 = .ok (.iload_n 1, 1) := dk_27 (dk_at dksX6_chain_0 19 rfl rfl)
theorem dX6_chain_20 : decode cX6_chain 20 = .ok (.istore_n 3, 1) := dk_62 (dk_at dksX6_chain_0 20 rfl rfl)
theorem dX6_chain_21 : decode cX6_chain 21 = .ok (.aload_n 0, 1) := dk_42 (dk_at dksX6_chain_0 21 rfl rfl)
theorem dX6_chain_22 : decode cX6_chain 22 = .ok (.getfield 42, 3) := dk_180 0 42 (dk_at dksX6_chain_1 0 rfl rfl)
theorem dX6_chain_25 : decode cX6_chain 25 = .ok (.ifCond .ne 56, 3) := dk_154 0 56 (dk_at dksX6_chain_1 3 rfl rfl)
theorem dX6_chain_28 : decode cX6_chain 28 = .ok (.aload_n 0, 1) := dk_42 (dk_at dksX6_chain_1 6 rfl rfl)
theorem dX6_chain_29 : decode cX6_chain 29 = .ok (.getfield 9, 3) := dk_180 0 9 (dk_at dksX6_chain_1 7 rfl rfl)
theorem dX6_chain_32 : decode cX6_chain 32 = .ok (.aload_n 0, 1) := dk_42 (dk_at dksX6_chain_1 10 rfl rfl)
theorem dX6_chain_33 : decode cX6_chain 33 = .ok (.iload_n 3, 1) := dk_29 (dk_at dksX6_chain_1 11 rfl rfl)
theorem dX6_chain_34 : decode cX6_chain 34 = .ok (.invokevirtual 67, 3) := dk_182 0 67 (dk_at dksX6_chain_1 12 rfl rfl)
theorem dX6_chain_37 : decode cX6_chain 37 = .ok (.invokestatic 63, 3) := dk_184 0 63 (dk_at dksX6_chain_1 15 rfl rfl)
theorem dX6_chain_40 : decode cX6_chain 40 = .ok (.iconst 1, 1) := dk_4 (dk_at dksX6_chain_1 18 rfl rfl)
theorem dX6_chain_41 : decode cX6_chain 41 = .ok (.iadd, 1) := dk_96 (dk_at dksX6_chain_1 19 rfl rfl)
theorem dX6_chain_42 : decode cX6_chain 42 = .ok (.iaload, 1) := dk_46 (dk_at dksX6_chain_1 20 rfl rfl)
theorem dX6_chain_43 : decode cX6_chain 43 = .ok (.ifCond .le 38, 3) := dk_158 0 38 (dk_at dksX6_chain_1 21 rfl rfl)
theorem dX6_chain_46 : decode cX6_chain 46 = .ok (.aload_n 0, 1) := dk_42 (dk_at dksX6_chain_2 0 rfl rfl)
theorem dX6_chain_47 : decode cX6_chain 47 = .ok (.iload_n 3, 1) := dk_29 (dk_at dksX6_chain_2 1 rfl rfl)
theorem dX6_chain_48 : decode cX6_chain 48 = .ok (.invokevirtual 171, 3) := dk_182 0 171 (dk_at dksX6_chain_2 2 rfl rfl)
theorem dX6_chain_51 : decode cX6_chain 51 = .ok (.ifCond .le 30, 3) := dk_158 0 30 (dk_at dksX6_chain_2 5 rfl rfl)
theorem dX6_chain_54 : decode cX6_chain 54 = .ok (.iload_n 2, 1) := dk_28 (dk_at dksX6_chain_2 8 rfl rfl)
theorem dX6_chain_55 : decode cX6_chain 55 = .ok (.aload_n 0, 1) := dk_42 (dk_at dksX6_chain_2 9 rfl rfl)
theorem dX6_chain_56 : decode cX6_chain 56 = .ok (.getfield 9, 3) := dk_180 0 9 (dk_at dksX6_chain_2 10 rfl rfl)
theorem dX6_chain_59 : decode cX6_chain 59 = .ok (.aload_n 0, 1) := dk_42 (dk_at dksX6_chain_2 13 rfl rfl)
theorem dX6_chain_60 : decode cX6_chain 60 = .ok (.iload_n 3, 1) := dk_29 (dk_at dksX6_chain_2 14 rfl rfl)
theorem dX6_chain_61 : decode cX6_chain 61 = .ok (.invokevirtual 67, 3) := dk_182 0 67 (dk_at dksX6_chain_2 15 rfl rfl)
theorem dX6_chain_64 : decode cX6_chain 64 = .ok (.invokestatic 63, 3) := dk_184 0 63 (dk_at dksX6_chain_2 18 rfl rfl)
theorem dX6_chain_67 : decode cX6_chain 67 = .ok (.iconst 1, 1) := dk_4 (dk_at dksX6_chain_2 21 rfl rfl)
theorem dX6_chain_68 : decode cX6_chain 68 = .ok (.iadd, 1) := dk_96 (dk_at dksX6_chain_2 22 rfl rfl)
theorem dX6_chain_69 : decode cX6_chain 69 = .ok (.iaload, 1) := dk_46 (dk_at dksX6_chain_2 23 rfl rfl)
theorem dX6_chain_70 : decode cX6_chain 70 = .ok (.iadd, 1) := dk_96 (dk_at dksX6_chain_3 0 rfl rfl)
theorem dX6_chain_71 : decode cX6_chain 71 = .ok (.istore_n 2, 1) := dk_61 (dk_at dksX6_chain_3 1 rfl rfl)
theorem dX6_chain_72 : decode cX6_chain 72 = .ok (.aload_n 0, 1) := dk_42 (dk_at dksX6_chain_3 2 rfl rfl)
theorem dX6_chain_73 : decode cX6_chain 73 = .ok (.iload_n 3, 1) := dk_29 (dk_at dksX6_chain_3 3 rfl rfl)
theorem dX6_chain_74 : decode cX6_chain 74 = .ok (.invokevirtual 171, 3) := dk_182 0 171 (dk_at dksX6_chain_3 4 rfl rfl)
theorem dX6_chain_77 : decode cX6_chain 77 = .ok (.istore_n 3, 1) := dk_62 (dk_at dksX6_chain_3 7 rfl rfl)
theorem dX6_chain_78 : decode cX6_chain 78 = .ok (.goto (-57), 3) := dk_167 255 199 (dk_at dksX6_chain_3 8 rfl rfl)
theorem dX6_chain_81 : decode cX6_chain 81 = .ok (.iload_n 2, 1) := dk_28 (dk_at dksX6_chain_3 11 rfl rfl)
theorem dX6_chain_82 : decode cX6_chain 82 = .ok (.ireturn, 1) := dk_172 (dk_at dksX6_chain_3 12 rfl rfl)
abbrev cX6_account : ByteArray := prog_18_method_75_code
def yX6_account : MethodName := ⟨RX6, "account", "(I)I"⟩
def dkwX6_account_6 : List UInt8 := [96, 61, 132, 3, 1, 167, 255, 217, 28, 172, 42, 27, 182, 0, 202, 172]
abbrev dktX6_account_6 : List UInt8 := dkwX6_account_6 ++ []
def dkwX6_account_5 : List UInt8 := [28, 42, 180, 0, 9, 17, 0, 162, 7, 29, 104, 96, 5, 96, 46, 2, 160, 0, 7, 4, 167, 0, 4, 3]
abbrev dktX6_account_5 : List UInt8 := dkwX6_account_5 ++ dktX6_account_6
def dkwX6_account_4 : List UInt8 := [7, 46, 172, 42, 180, 0, 9, 8, 46, 172, 3, 61, 3, 62, 29, 42, 180, 0, 9, 4, 46, 162, 0, 35]
abbrev dktX6_account_4 : List UInt8 := dkwX6_account_4 ++ dktX6_account_5
def dkwX6_account_3 : List UInt8 := [42, 180, 0, 9, 3, 46, 172, 42, 180, 0, 9, 4, 46, 172, 42, 27, 182, 0, 199, 172, 42, 180, 0, 9]
abbrev dktX6_account_3 : List UInt8 := dkwX6_account_3 ++ dktX6_account_4
def dkwX6_account_2 : List UInt8 := [170, 0, 0, 0, 0, 0, 141, 0, 0, 0, 0, 0, 0, 0, 10, 0, 0, 0, 59, 0, 0, 0, 66, 0, 0, 0, 73, 0, 0, 0, 73, 0, 0, 0, 73, 0, 0, 0, 79, 0, 0, 0, 86, 0, 0, 0, 141, 0, 0, 0, 141, 0, 0, 0, 141, 0, 0, 0, 93]
abbrev dktX6_account_2 : List UInt8 := dkwX6_account_2 ++ dktX6_account_3
def dkwX6_account_1 : List UInt8 := [158, 0, 5, 3, 172, 27]
abbrev dktX6_account_1 : List UInt8 := dkwX6_account_1 ++ dktX6_account_2
def dkwX6_account_0 : List UInt8 := [42, 27, 3, 16, 10, 184, 0, 70, 153, 0, 7, 3, 167, 0, 4, 4, 181, 0, 42, 42, 180, 0, 42]
abbrev dktX6_account_0 : List UInt8 := dkwX6_account_0 ++ dktX6_account_1
theorem dksX6_account_0 : cX6_account.data.toList.drop 0 = dktX6_account_0 := by decide +kernel
theorem dksX6_account_1 : cX6_account.data.toList.drop 23 = dktX6_account_1 := dk_seg dksX6_account_0 23 rfl rfl
theorem dksX6_account_2 : cX6_account.data.toList.drop 29 = dktX6_account_2 := dk_seg dksX6_account_1 6 rfl rfl
theorem dksX6_account_3 : cX6_account.data.toList.drop 88 = dktX6_account_3 := dk_seg dksX6_account_2 59 rfl rfl
theorem dksX6_account_4 : cX6_account.data.toList.drop 112 = dktX6_account_4 := dk_seg dksX6_account_3 24 rfl rfl
theorem dksX6_account_5 : cX6_account.data.toList.drop 136 = dktX6_account_5 := dk_seg dksX6_account_4 24 rfl rfl
theorem dksX6_account_6 : cX6_account.data.toList.drop 160 = dktX6_account_6 := dk_seg dksX6_account_5 24 rfl rfl
theorem dX6_account_0 : decode cX6_account 0 = .ok (.aload_n 0, 1) := dk_42 (dk_at dksX6_account_0 0 rfl rfl)
theorem dX6_account_1 : decode cX6_account 1 = .ok (.iload_n 1, 1) := dk_27 (dk_at dksX6_account_0 1 rfl rfl)
theorem dX6_account_2 : decode cX6_account 2 = .ok (.iconst 0, 1) := dk_3 (dk_at dksX6_account_0 2 rfl rfl)
theorem dX6_account_3 : decode cX6_account 3 = .ok (.bipush 10, 2) := dk_16 10 (dk_at dksX6_account_0 3 rfl rfl)
theorem dX6_account_5 : decode cX6_account 5 = .ok (.invokestatic 70, 3) := dk_184 0 70 (dk_at dksX6_account_0 5 rfl rfl)
theorem dX6_account_8 : decode cX6_account 8 = .ok (.ifCond .eq 7, 3) := dk_153 0 7 (dk_at dksX6_account_0 8 rfl rfl)
theorem dX6_account_11 : decode cX6_account 11 = .ok (.iconst 0, 1) := dk_3 (dk_at dksX6_account_0 11 rfl rfl)
theorem dX6_account_12 : decode cX6_account 12 = .ok (.goto 4, 3) := dk_167 0 4 (dk_at dksX6_account_0 12 rfl rfl)
theorem dX6_account_15 : decode cX6_account 15 = .ok (.iconst 1, 1) := dk_4 (dk_at dksX6_account_0 15 rfl rfl)
theorem dX6_account_16 : decode cX6_account 16 = .ok (.putfield 42, 3) := dk_181 0 42 (dk_at dksX6_account_0 16 rfl rfl)
theorem dX6_account_19 : decode cX6_account 19 = .ok (.aload_n 0, 1) := dk_42 (dk_at dksX6_account_0 19 rfl rfl)
theorem dX6_account_20 : decode cX6_account 20 = .ok (.getfield 42, 3) := dk_180 0 42 (dk_at dksX6_account_0 20 rfl rfl)
theorem dX6_account_23 : decode cX6_account 23 = .ok (.ifCond .le 5, 3) := dk_158 0 5 (dk_at dksX6_account_1 0 rfl rfl)
theorem dX6_account_26 : decode cX6_account 26 = .ok (.iconst 0, 1) := dk_3 (dk_at dksX6_account_1 3 rfl rfl)
theorem dX6_account_27 : decode cX6_account 27 = .ok (.ireturn, 1) := dk_172 (dk_at dksX6_account_1 4 rfl rfl)
theorem dX6_account_28 : decode cX6_account 28 = .ok (.iload_n 1, 1) := dk_27 (dk_at dksX6_account_1 5 rfl rfl)
theorem dX6_account_29 : decode cX6_account 29 = .ok (.tableswitch 141 0 10 #[59, 66, 73, 73, 73, 79, 86, 141, 141, 141, 93], 59) := by decide +kernel
theorem dX6_account_88 : decode cX6_account 88 = .ok (.aload_n 0, 1) := dk_42 (dk_at dksX6_account_3 0 rfl rfl)
theorem dX6_account_89 : decode cX6_account 89 = .ok (.getfield 9, 3) := dk_180 0 9 (dk_at dksX6_account_3 1 rfl rfl)
theorem dX6_account_92 : decode cX6_account 92 = .ok (.iconst 0, 1) := dk_3 (dk_at dksX6_account_3 4 rfl rfl)
theorem dX6_account_93 : decode cX6_account 93 = .ok (.iaload, 1) := dk_46 (dk_at dksX6_account_3 5 rfl rfl)
theorem dX6_account_94 : decode cX6_account 94 = .ok (.ireturn, 1) := dk_172 (dk_at dksX6_account_3 6 rfl rfl)
theorem dX6_account_95 : decode cX6_account 95 = .ok (.aload_n 0, 1) := dk_42 (dk_at dksX6_account_3 7 rfl rfl)
theorem dX6_account_96 : decode cX6_account 96 = .ok (.getfield 9, 3) := dk_180 0 9 (dk_at dksX6_account_3 8 rfl rfl)
theorem dX6_account_99 : decode cX6_account 99 = .ok (.iconst 1, 1) := dk_4 (dk_at dksX6_account_3 11 rfl rfl)
theorem dX6_account_100 : decode cX6_account 100 = .ok (.iaload, 1) := dk_46 (dk_at dksX6_account_3 12 rfl rfl)
theorem dX6_account_101 : decode cX6_account 101 = .ok (.ireturn, 1) := dk_172 (dk_at dksX6_account_3 13 rfl rfl)
theorem dX6_account_102 : decode cX6_account 102 = .ok (.aload_n 0, 1) := dk_42 (dk_at dksX6_account_3 14 rfl rfl)
theorem dX6_account_103 : decode cX6_account 103 = .ok (.iload_n 1, 1) := dk_27 (dk_at dksX6_account_3 15 rfl rfl)
theorem dX6_account_104 : decode cX6_account 104 = .ok (.invokevirtual 199, 3) := dk_182 0 199 (dk_at dksX6_account_3 16 rfl rfl)
theorem dX6_account_107 : decode cX6_account 107 = .ok (.ireturn, 1) := dk_172 (dk_at dksX6_account_3 19 rfl rfl)
theorem dX6_account_108 : decode cX6_account 108 = .ok (.aload_n 0, 1) := dk_42 (dk_at dksX6_account_3 20 rfl rfl)
theorem dX6_account_109 : decode cX6_account 109 = .ok (.getfield 9, 3) := dk_180 0 9 (dk_at dksX6_account_3 21 rfl rfl)
theorem dX6_account_112 : decode cX6_account 112 = .ok (.iconst 4, 1) := dk_7 (dk_at dksX6_account_4 0 rfl rfl)
theorem dX6_account_113 : decode cX6_account 113 = .ok (.iaload, 1) := dk_46 (dk_at dksX6_account_4 1 rfl rfl)
theorem dX6_account_114 : decode cX6_account 114 = .ok (.ireturn, 1) := dk_172 (dk_at dksX6_account_4 2 rfl rfl)
theorem dX6_account_115 : decode cX6_account 115 = .ok (.aload_n 0, 1) := dk_42 (dk_at dksX6_account_4 3 rfl rfl)
theorem dX6_account_116 : decode cX6_account 116 = .ok (.getfield 9, 3) := dk_180 0 9 (dk_at dksX6_account_4 4 rfl rfl)
theorem dX6_account_119 : decode cX6_account 119 = .ok (.iconst 5, 1) := dk_8 (dk_at dksX6_account_4 7 rfl rfl)
theorem dX6_account_120 : decode cX6_account 120 = .ok (.iaload, 1) := dk_46 (dk_at dksX6_account_4 8 rfl rfl)
theorem dX6_account_121 : decode cX6_account 121 = .ok (.ireturn, 1) := dk_172 (dk_at dksX6_account_4 9 rfl rfl)
theorem dX6_account_122 : decode cX6_account 122 = .ok (.iconst 0, 1) := dk_3 (dk_at dksX6_account_4 10 rfl rfl)
theorem dX6_account_123 : decode cX6_account 123 = .ok (.istore_n 2, 1) := dk_61 (dk_at dksX6_account_4 11 rfl rfl)
theorem dX6_account_124 : decode cX6_account 124 = .ok (.iconst 0, 1) := dk_3 (dk_at dksX6_account_4 12 rfl rfl)
theorem dX6_account_125 : decode cX6_account 125 = .ok (.istore_n 3, 1) := dk_62 (dk_at dksX6_account_4 13 rfl rfl)
theorem dX6_account_126 : decode cX6_account 126 = .ok (.iload_n 3, 1) := dk_29 (dk_at dksX6_account_4 14 rfl rfl)
theorem dX6_account_127 : decode cX6_account 127 = .ok (.aload_n 0, 1) := dk_42 (dk_at dksX6_account_4 15 rfl rfl)
theorem dX6_account_128 : decode cX6_account 128 = .ok (.getfield 9, 3) := dk_180 0 9 (dk_at dksX6_account_4 16 rfl rfl)
theorem dX6_account_131 : decode cX6_account 131 = .ok (.iconst 1, 1) := dk_4 (dk_at dksX6_account_4 19 rfl rfl)
theorem dX6_account_132 : decode cX6_account 132 = .ok (.iaload, 1) := dk_46 (dk_at dksX6_account_4 20 rfl rfl)
theorem dX6_account_133 : decode cX6_account 133 = .ok (.if_icmp .ge 35, 3) := dk_162 0 35 (dk_at dksX6_account_4 21 rfl rfl)
theorem dX6_account_136 : decode cX6_account 136 = .ok (.iload_n 2, 1) := dk_28 (dk_at dksX6_account_5 0 rfl rfl)
theorem dX6_account_137 : decode cX6_account 137 = .ok (.aload_n 0, 1) := dk_42 (dk_at dksX6_account_5 1 rfl rfl)
theorem dX6_account_138 : decode cX6_account 138 = .ok (.getfield 9, 3) := dk_180 0 9 (dk_at dksX6_account_5 2 rfl rfl)
theorem dX6_account_141 : decode cX6_account 141 = .ok (.sipush 162, 3) := dk_17 0 162 (dk_at dksX6_account_5 5 rfl rfl)
theorem dX6_account_144 : decode cX6_account 144 = .ok (.iconst 4, 1) := dk_7 (dk_at dksX6_account_5 8 rfl rfl)
theorem dX6_account_145 : decode cX6_account 145 = .ok (.iload_n 3, 1) := dk_29 (dk_at dksX6_account_5 9 rfl rfl)
theorem dX6_account_146 : decode cX6_account 146 = .ok (.imul, 1) := dk_104 (dk_at dksX6_account_5 10 rfl rfl)
theorem dX6_account_147 : decode cX6_account 147 = .ok (.iadd, 1) := dk_96 (dk_at dksX6_account_5 11 rfl rfl)
theorem dX6_account_148 : decode cX6_account 148 = .ok (.iconst 2, 1) := dk_5 (dk_at dksX6_account_5 12 rfl rfl)
theorem dX6_account_149 : decode cX6_account 149 = .ok (.iadd, 1) := dk_96 (dk_at dksX6_account_5 13 rfl rfl)
theorem dX6_account_150 : decode cX6_account 150 = .ok (.iaload, 1) := dk_46 (dk_at dksX6_account_5 14 rfl rfl)
theorem dX6_account_151 : decode cX6_account 151 = .ok (.iconst (-1), 1) := dk_2 (dk_at dksX6_account_5 15 rfl rfl)
theorem dX6_account_152 : decode cX6_account 152 = .ok (.if_icmp .ne 7, 3) := dk_160 0 7 (dk_at dksX6_account_5 16 rfl rfl)
theorem dX6_account_155 : decode cX6_account 155 = .ok (.iconst 1, 1) := dk_4 (dk_at dksX6_account_5 19 rfl rfl)
theorem dX6_account_156 : decode cX6_account 156 = .ok (.goto 4, 3) := dk_167 0 4 (dk_at dksX6_account_5 20 rfl rfl)
theorem dX6_account_159 : decode cX6_account 159 = .ok (.iconst 0, 1) := dk_3 (dk_at dksX6_account_5 23 rfl rfl)
theorem dX6_account_160 : decode cX6_account 160 = .ok (.iadd, 1) := dk_96 (dk_at dksX6_account_6 0 rfl rfl)
theorem dX6_account_161 : decode cX6_account 161 = .ok (.istore_n 2, 1) := dk_61 (dk_at dksX6_account_6 1 rfl rfl)
theorem dX6_account_162 : decode cX6_account 162 = .ok (.iinc 3 1, 3) := dk_132 3 1 (dk_at dksX6_account_6 2 rfl rfl)
theorem dX6_account_165 : decode cX6_account 165 = .ok (.goto (-39), 3) := dk_167 255 217 (dk_at dksX6_account_6 5 rfl rfl)
theorem dX6_account_168 : decode cX6_account 168 = .ok (.iload_n 2, 1) := dk_28 (dk_at dksX6_account_6 8 rfl rfl)
theorem dX6_account_169 : decode cX6_account 169 = .ok (.ireturn, 1) := dk_172 (dk_at dksX6_account_6 9 rfl rfl)
theorem dX6_account_170 : decode cX6_account 170 = .ok (.aload_n 0, 1) := dk_42 (dk_at dksX6_account_6 10 rfl rfl)
theorem dX6_account_171 : decode cX6_account 171 = .ok (.iload_n 1, 1) := dk_27 (dk_at dksX6_account_6 11 rfl rfl)
theorem dX6_account_172 : decode cX6_account 172 = .ok (.invokevirtual 202, 3) := dk_182 0 202 (dk_at dksX6_account_6 12 rfl rfl)
theorem dX6_account_175 : decode cX6_account 175 = .ok (.ireturn, 1) := dk_172 (dk_at dksX6_account_6 15 rfl rfl)
abbrev cX6_overChannels : ByteArray := prog_18_method_73_code
def yX6_overChannels : MethodName := ⟨RX6, "overChannels", "(I)I"⟩
def dkwX6_overChannels_2 : List UInt8 := [153, 0, 7, 4, 167, 0, 4, 3, 96, 61, 132, 3, 1, 167, 255, 199, 28, 172]
abbrev dktX6_overChannels_2 : List UInt8 := dkwX6_overChannels_2 ++ []
def dkwX6_overChannels_1 : List UInt8 := [27, 6, 160, 0, 17, 42, 180, 0, 9, 29, 184, 0, 162, 4, 96, 46, 167, 0, 16, 42, 29, 182, 0, 192]
abbrev dktX6_overChannels_1 : List UInt8 := dkwX6_overChannels_1 ++ dktX6_overChannels_2
def dkwX6_overChannels_0 : List UInt8 := [3, 61, 3, 62, 29, 16, 12, 162, 0, 57, 28, 27, 5, 160, 0, 11, 42, 29, 182, 0, 165, 167, 0, 35]
abbrev dktX6_overChannels_0 : List UInt8 := dkwX6_overChannels_0 ++ dktX6_overChannels_1
theorem dksX6_overChannels_0 : cX6_overChannels.data.toList.drop 0 = dktX6_overChannels_0 := by decide +kernel
theorem dksX6_overChannels_1 : cX6_overChannels.data.toList.drop 24 = dktX6_overChannels_1 := dk_seg dksX6_overChannels_0 24 rfl rfl
theorem dksX6_overChannels_2 : cX6_overChannels.data.toList.drop 48 = dktX6_overChannels_2 := dk_seg dksX6_overChannels_1 24 rfl rfl
theorem dX6_overChannels_0 : decode cX6_overChannels 0 = .ok (.iconst 0, 1) := dk_3 (dk_at dksX6_overChannels_0 0 rfl rfl)
theorem dX6_overChannels_1 : decode cX6_overChannels 1 = .ok (.istore_n 2, 1) := dk_61 (dk_at dksX6_overChannels_0 1 rfl rfl)
theorem dX6_overChannels_2 : decode cX6_overChannels 2 = .ok (.iconst 0, 1) := dk_3 (dk_at dksX6_overChannels_0 2 rfl rfl)
theorem dX6_overChannels_3 : decode cX6_overChannels 3 = .ok (.istore_n 3, 1) := dk_62 (dk_at dksX6_overChannels_0 3 rfl rfl)
theorem dX6_overChannels_4 : decode cX6_overChannels 4 = .ok (.iload_n 3, 1) := dk_29 (dk_at dksX6_overChannels_0 4 rfl rfl)
theorem dX6_overChannels_5 : decode cX6_overChannels 5 = .ok (.bipush 12, 2) := dk_16 12 (dk_at dksX6_overChannels_0 5 rfl rfl)
theorem dX6_overChannels_7 : decode cX6_overChannels 7 = .ok (.if_icmp .ge 57, 3) := dk_162 0 57 (dk_at dksX6_overChannels_0 7 rfl rfl)
theorem dX6_overChannels_10 : decode cX6_overChannels 10 = .ok (.iload_n 2, 1) := dk_28 (dk_at dksX6_overChannels_0 10 rfl rfl)
theorem dX6_overChannels_11 : decode cX6_overChannels 11 = .ok (.iload_n 1, 1) := dk_27 (dk_at dksX6_overChannels_0 11 rfl rfl)
theorem dX6_overChannels_12 : decode cX6_overChannels 12 = .ok (.iconst 2, 1) := dk_5 (dk_at dksX6_overChannels_0 12 rfl rfl)
theorem dX6_overChannels_13 : decode cX6_overChannels 13 = .ok (.if_icmp .ne 11, 3) := dk_160 0 11 (dk_at dksX6_overChannels_0 13 rfl rfl)
theorem dX6_overChannels_16 : decode cX6_overChannels 16 = .ok (.aload_n 0, 1) := dk_42 (dk_at dksX6_overChannels_0 16 rfl rfl)
theorem dX6_overChannels_17 : decode cX6_overChannels 17 = .ok (.iload_n 3, 1) := dk_29 (dk_at dksX6_overChannels_0 17 rfl rfl)
theorem dX6_overChannels_18 : decode cX6_overChannels 18 = .ok (.invokevirtual 165, 3) := dk_182 0 165 (dk_at dksX6_overChannels_0 18 rfl rfl)
theorem dX6_overChannels_21 : decode cX6_overChannels 21 = .ok (.goto 35, 3) := dk_167 0 35 (dk_at dksX6_overChannels_0 21 rfl rfl)
theorem dX6_overChannels_24 : decode cX6_overChannels 24 = .ok (.iload_n 1, 1) := dk_27 (dk_at dksX6_overChannels_1 0 rfl rfl)
theorem dX6_overChannels_25 : decode cX6_overChannels 25 = .ok (.iconst 3, 1) := dk_6 (dk_at dksX6_overChannels_1 1 rfl rfl)
theorem dX6_overChannels_26 : decode cX6_overChannels 26 = .ok (.if_icmp .ne 17, 3) := dk_160 0 17 (dk_at dksX6_overChannels_1 2 rfl rfl)
theorem dX6_overChannels_29 : decode cX6_overChannels 29 = .ok (.aload_n 0, 1) := dk_42 (dk_at dksX6_overChannels_1 5 rfl rfl)
theorem dX6_overChannels_30 : decode cX6_overChannels 30 = .ok (.getfield 9, 3) := dk_180 0 9 (dk_at dksX6_overChannels_1 6 rfl rfl)
theorem dX6_overChannels_33 : decode cX6_overChannels 33 = .ok (.iload_n 3, 1) := dk_29 (dk_at dksX6_overChannels_1 9 rfl rfl)
theorem dX6_overChannels_34 : decode cX6_overChannels 34 = .ok (.invokestatic 162, 3) := dk_184 0 162 (dk_at dksX6_overChannels_1 10 rfl rfl)
theorem dX6_overChannels_37 : decode cX6_overChannels 37 = .ok (.iconst 1, 1) := dk_4 (dk_at dksX6_overChannels_1 13 rfl rfl)
theorem dX6_overChannels_38 : decode cX6_overChannels 38 = .ok (.iadd, 1) := dk_96 (dk_at dksX6_overChannels_1 14 rfl rfl)
theorem dX6_overChannels_39 : decode cX6_overChannels 39 = .ok (.iaload, 1) := dk_46 (dk_at dksX6_overChannels_1 15 rfl rfl)
theorem dX6_overChannels_40 : decode cX6_overChannels 40 = .ok (.goto 16, 3) := dk_167 0 16 (dk_at dksX6_overChannels_1 16 rfl rfl)
theorem dX6_overChannels_43 : decode cX6_overChannels 43 = .ok (.aload_n 0, 1) := dk_42 (dk_at dksX6_overChannels_1 19 rfl rfl)
theorem dX6_overChannels_44 : decode cX6_overChannels 44 = .ok (.iload_n 3, 1) := dk_29 (dk_at dksX6_overChannels_1 20 rfl rfl)
theorem dX6_overChannels_45 : decode cX6_overChannels 45 = .ok (.invokevirtual 192, 3) := dk_182 0 192 (dk_at dksX6_overChannels_1 21 rfl rfl)
theorem dX6_overChannels_48 : decode cX6_overChannels 48 = .ok (.ifCond .eq 7, 3) := dk_153 0 7 (dk_at dksX6_overChannels_2 0 rfl rfl)
theorem dX6_overChannels_51 : decode cX6_overChannels 51 = .ok (.iconst 1, 1) := dk_4 (dk_at dksX6_overChannels_2 3 rfl rfl)
theorem dX6_overChannels_52 : decode cX6_overChannels 52 = .ok (.goto 4, 3) := dk_167 0 4 (dk_at dksX6_overChannels_2 4 rfl rfl)
theorem dX6_overChannels_55 : decode cX6_overChannels 55 = .ok (.iconst 0, 1) := dk_3 (dk_at dksX6_overChannels_2 7 rfl rfl)
theorem dX6_overChannels_56 : decode cX6_overChannels 56 = .ok (.iadd, 1) := dk_96 (dk_at dksX6_overChannels_2 8 rfl rfl)
theorem dX6_overChannels_57 : decode cX6_overChannels 57 = .ok (.istore_n 2, 1) := dk_61 (dk_at dksX6_overChannels_2 9 rfl rfl)
theorem dX6_overChannels_58 : decode cX6_overChannels 58 = .ok (.iinc 3 1, 3) := dk_132 3 1 (dk_at dksX6_overChannels_2 10 rfl rfl)
theorem dX6_overChannels_61 : decode cX6_overChannels 61 = .ok (.goto (-57), 3) := dk_167 255 199 (dk_at dksX6_overChannels_2 13 rfl rfl)
theorem dX6_overChannels_64 : decode cX6_overChannels 64 = .ok (.iload_n 2, 1) := dk_28 (dk_at dksX6_overChannels_2 16 rfl rfl)
theorem dX6_overChannels_65 : decode cX6_overChannels 65 = .ok (.ireturn, 1) := dk_172 (dk_at dksX6_overChannels_2 17 rfl rfl)
abbrev cX6_overCues : ByteArray := prog_18_method_74_code
def yX6_overCues : MethodName := ⟨RX6, "overCues", "(I)I"⟩
def dkwX6_overCues_4 : List UInt8 := [96, 61, 132, 3, 1, 167, 255, 159, 28, 172]
abbrev dktX6_overCues_4 : List UInt8 := dkwX6_overCues_4 ++ []
def dkwX6_overCues_3 : List UInt8 := [167, 0, 24, 27, 16, 9, 160, 0, 17, 42, 180, 0, 9, 29, 184, 0, 63, 5, 96, 46, 167, 0, 4, 3]
abbrev dktX6_overCues_3 : List UInt8 := dkwX6_overCues_3 ++ dktX6_overCues_4
def dkwX6_overCues_2 : List UInt8 := [132, 4, 1, 167, 255, 222, 28, 27, 16, 8, 160, 0, 17, 42, 180, 0, 9, 29, 184, 0, 63, 6, 96, 46]
abbrev dktX6_overCues_2 : List UInt8 := dkwX6_overCues_2 ++ dktX6_overCues_3
def dkwX6_overCues_1 : List UInt8 := [27, 16, 7, 160, 0, 27, 28, 42, 29, 21, 4, 182, 0, 110, 153, 0, 7, 4, 167, 0, 4, 3, 96, 61]
abbrev dktX6_overCues_1 : List UInt8 := dkwX6_overCues_1 ++ dktX6_overCues_2
def dkwX6_overCues_0 : List UInt8 := [3, 61, 3, 62, 29, 42, 180, 0, 9, 3, 46, 162, 0, 93, 3, 54, 4, 21, 4, 16, 12, 162, 0, 33]
abbrev dktX6_overCues_0 : List UInt8 := dkwX6_overCues_0 ++ dktX6_overCues_1
theorem dksX6_overCues_0 : cX6_overCues.data.toList.drop 0 = dktX6_overCues_0 := by decide +kernel
theorem dksX6_overCues_1 : cX6_overCues.data.toList.drop 24 = dktX6_overCues_1 := dk_seg dksX6_overCues_0 24 rfl rfl
theorem dksX6_overCues_2 : cX6_overCues.data.toList.drop 48 = dktX6_overCues_2 := dk_seg dksX6_overCues_1 24 rfl rfl
theorem dksX6_overCues_3 : cX6_overCues.data.toList.drop 72 = dktX6_overCues_3 := dk_seg dksX6_overCues_2 24 rfl rfl
theorem dksX6_overCues_4 : cX6_overCues.data.toList.drop 96 = dktX6_overCues_4 := dk_seg dksX6_overCues_3 24 rfl rfl
theorem dX6_overCues_0 : decode cX6_overCues 0 = .ok (.iconst 0, 1) := dk_3 (dk_at dksX6_overCues_0 0 rfl rfl)
theorem dX6_overCues_1 : decode cX6_overCues 1 = .ok (.istore_n 2, 1) := dk_61 (dk_at dksX6_overCues_0 1 rfl rfl)
theorem dX6_overCues_2 : decode cX6_overCues 2 = .ok (.iconst 0, 1) := dk_3 (dk_at dksX6_overCues_0 2 rfl rfl)
theorem dX6_overCues_3 : decode cX6_overCues 3 = .ok (.istore_n 3, 1) := dk_62 (dk_at dksX6_overCues_0 3 rfl rfl)
theorem dX6_overCues_4 : decode cX6_overCues 4 = .ok (.iload_n 3, 1) := dk_29 (dk_at dksX6_overCues_0 4 rfl rfl)
theorem dX6_overCues_5 : decode cX6_overCues 5 = .ok (.aload_n 0, 1) := dk_42 (dk_at dksX6_overCues_0 5 rfl rfl)
theorem dX6_overCues_6 : decode cX6_overCues 6 = .ok (.getfield 9, 3) := dk_180 0 9 (dk_at dksX6_overCues_0 6 rfl rfl)
theorem dX6_overCues_9 : decode cX6_overCues 9 = .ok (.iconst 0, 1) := dk_3 (dk_at dksX6_overCues_0 9 rfl rfl)
theorem dX6_overCues_10 : decode cX6_overCues 10 = .ok (.iaload, 1) := dk_46 (dk_at dksX6_overCues_0 10 rfl rfl)
theorem dX6_overCues_11 : decode cX6_overCues 11 = .ok (.if_icmp .ge 93, 3) := dk_162 0 93 (dk_at dksX6_overCues_0 11 rfl rfl)
theorem dX6_overCues_14 : decode cX6_overCues 14 = .ok (.iconst 0, 1) := dk_3 (dk_at dksX6_overCues_0 14 rfl rfl)
theorem dX6_overCues_15 : decode cX6_overCues 15 = .ok (.istore 4, 2) := dk_54 4 (dk_at dksX6_overCues_0 15 rfl rfl)
theorem dX6_overCues_17 : decode cX6_overCues 17 = .ok (.iload 4, 2) := dk_21 4 (dk_at dksX6_overCues_0 17 rfl rfl)
theorem dX6_overCues_19 : decode cX6_overCues 19 = .ok (.bipush 12, 2) := dk_16 12 (dk_at dksX6_overCues_0 19 rfl rfl)
theorem dX6_overCues_21 : decode cX6_overCues 21 = .ok (.if_icmp .ge 33, 3) := dk_162 0 33 (dk_at dksX6_overCues_0 21 rfl rfl)
theorem dX6_overCues_24 : decode cX6_overCues 24 = .ok (.iload_n 1, 1) := dk_27 (dk_at dksX6_overCues_1 0 rfl rfl)
theorem dX6_overCues_25 : decode cX6_overCues 25 = .ok (.bipush 7, 2) := dk_16 7 (dk_at dksX6_overCues_1 1 rfl rfl)
theorem dX6_overCues_27 : decode cX6_overCues 27 = .ok (.if_icmp .ne 27, 3) := dk_160 0 27 (dk_at dksX6_overCues_1 3 rfl rfl)
theorem dX6_overCues_30 : decode cX6_overCues 30 = .ok (.iload_n 2, 1) := dk_28 (dk_at dksX6_overCues_1 6 rfl rfl)
theorem dX6_overCues_31 : decode cX6_overCues 31 = .ok (.aload_n 0, 1) := dk_42 (dk_at dksX6_overCues_1 7 rfl rfl)
theorem dX6_overCues_32 : decode cX6_overCues 32 = .ok (.iload_n 3, 1) := dk_29 (dk_at dksX6_overCues_1 8 rfl rfl)
theorem dX6_overCues_33 : decode cX6_overCues 33 = .ok (.iload 4, 2) := dk_21 4 (dk_at dksX6_overCues_1 9 rfl rfl)
theorem dX6_overCues_35 : decode cX6_overCues 35 = .ok (.invokevirtual 110, 3) := dk_182 0 110 (dk_at dksX6_overCues_1 11 rfl rfl)
theorem dX6_overCues_38 : decode cX6_overCues 38 = .ok (.ifCond .eq 7, 3) := dk_153 0 7 (dk_at dksX6_overCues_1 14 rfl rfl)
theorem dX6_overCues_41 : decode cX6_overCues 41 = .ok (.iconst 1, 1) := dk_4 (dk_at dksX6_overCues_1 17 rfl rfl)
theorem dX6_overCues_42 : decode cX6_overCues 42 = .ok (.goto 4, 3) := dk_167 0 4 (dk_at dksX6_overCues_1 18 rfl rfl)
theorem dX6_overCues_45 : decode cX6_overCues 45 = .ok (.iconst 0, 1) := dk_3 (dk_at dksX6_overCues_1 21 rfl rfl)
theorem dX6_overCues_46 : decode cX6_overCues 46 = .ok (.iadd, 1) := dk_96 (dk_at dksX6_overCues_1 22 rfl rfl)
theorem dX6_overCues_47 : decode cX6_overCues 47 = .ok (.istore_n 2, 1) := dk_61 (dk_at dksX6_overCues_1 23 rfl rfl)
theorem dX6_overCues_48 : decode cX6_overCues 48 = .ok (.iinc 4 1, 3) := dk_132 4 1 (dk_at dksX6_overCues_2 0 rfl rfl)
theorem dX6_overCues_51 : decode cX6_overCues 51 = .ok (.goto (-34), 3) := dk_167 255 222 (dk_at dksX6_overCues_2 3 rfl rfl)
theorem dX6_overCues_54 : decode cX6_overCues 54 = .ok (.iload_n 2, 1) := dk_28 (dk_at dksX6_overCues_2 6 rfl rfl)
theorem dX6_overCues_55 : decode cX6_overCues 55 = .ok (.iload_n 1, 1) := dk_27 (dk_at dksX6_overCues_2 7 rfl rfl)
theorem dX6_overCues_56 : decode cX6_overCues 56 = .ok (.bipush 8, 2) := dk_16 8 (dk_at dksX6_overCues_2 8 rfl rfl)
theorem dX6_overCues_58 : decode cX6_overCues 58 = .ok (.if_icmp .ne 17, 3) := dk_160 0 17 (dk_at dksX6_overCues_2 10 rfl rfl)
theorem dX6_overCues_61 : decode cX6_overCues 61 = .ok (.aload_n 0, 1) := dk_42 (dk_at dksX6_overCues_2 13 rfl rfl)
theorem dX6_overCues_62 : decode cX6_overCues 62 = .ok (.getfield 9, 3) := dk_180 0 9 (dk_at dksX6_overCues_2 14 rfl rfl)
theorem dX6_overCues_65 : decode cX6_overCues 65 = .ok (.iload_n 3, 1) := dk_29 (dk_at dksX6_overCues_2 17 rfl rfl)
theorem dX6_overCues_66 : decode cX6_overCues 66 = .ok (.invokestatic 63, 3) := dk_184 0 63 (dk_at dksX6_overCues_2 18 rfl rfl)
theorem dX6_overCues_69 : decode cX6_overCues 69 = .ok (.iconst 3, 1) := dk_6 (dk_at dksX6_overCues_2 21 rfl rfl)
theorem dX6_overCues_70 : decode cX6_overCues 70 = .ok (.iadd, 1) := dk_96 (dk_at dksX6_overCues_2 22 rfl rfl)
theorem dX6_overCues_71 : decode cX6_overCues 71 = .ok (.iaload, 1) := dk_46 (dk_at dksX6_overCues_2 23 rfl rfl)
theorem dX6_overCues_72 : decode cX6_overCues 72 = .ok (.goto 24, 3) := dk_167 0 24 (dk_at dksX6_overCues_3 0 rfl rfl)
theorem dX6_overCues_75 : decode cX6_overCues 75 = .ok (.iload_n 1, 1) := dk_27 (dk_at dksX6_overCues_3 3 rfl rfl)
theorem dX6_overCues_76 : decode cX6_overCues 76 = .ok (.bipush 9, 2) := dk_16 9 (dk_at dksX6_overCues_3 4 rfl rfl)
theorem dX6_overCues_78 : decode cX6_overCues 78 = .ok (.if_icmp .ne 17, 3) := dk_160 0 17 (dk_at dksX6_overCues_3 6 rfl rfl)
theorem dX6_overCues_81 : decode cX6_overCues 81 = .ok (.aload_n 0, 1) := dk_42 (dk_at dksX6_overCues_3 9 rfl rfl)
theorem dX6_overCues_82 : decode cX6_overCues 82 = .ok (.getfield 9, 3) := dk_180 0 9 (dk_at dksX6_overCues_3 10 rfl rfl)
theorem dX6_overCues_85 : decode cX6_overCues 85 = .ok (.iload_n 3, 1) := dk_29 (dk_at dksX6_overCues_3 13 rfl rfl)
theorem dX6_overCues_86 : decode cX6_overCues 86 = .ok (.invokestatic 63, 3) := dk_184 0 63 (dk_at dksX6_overCues_3 14 rfl rfl)
theorem dX6_overCues_89 : decode cX6_overCues 89 = .ok (.iconst 2, 1) := dk_5 (dk_at dksX6_overCues_3 17 rfl rfl)
theorem dX6_overCues_90 : decode cX6_overCues 90 = .ok (.iadd, 1) := dk_96 (dk_at dksX6_overCues_3 18 rfl rfl)
theorem dX6_overCues_91 : decode cX6_overCues 91 = .ok (.iaload, 1) := dk_46 (dk_at dksX6_overCues_3 19 rfl rfl)
theorem dX6_overCues_92 : decode cX6_overCues 92 = .ok (.goto 4, 3) := dk_167 0 4 (dk_at dksX6_overCues_3 20 rfl rfl)
theorem dX6_overCues_95 : decode cX6_overCues 95 = .ok (.iconst 0, 1) := dk_3 (dk_at dksX6_overCues_3 23 rfl rfl)
theorem dX6_overCues_96 : decode cX6_overCues 96 = .ok (.iadd, 1) := dk_96 (dk_at dksX6_overCues_4 0 rfl rfl)
theorem dX6_overCues_97 : decode cX6_overCues 97 = .ok (.istore_n 2, 1) := dk_61 (dk_at dksX6_overCues_4 1 rfl rfl)
theorem dX6_overCues_98 : decode cX6_overCues 98 = .ok (.iinc 3 1, 3) := dk_132 3 1 (dk_at dksX6_overCues_4 2 rfl rfl)
theorem dX6_overCues_101 : decode cX6_overCues 101 = .ok (.goto (-97), 3) := dk_167 255 159 (dk_at dksX6_overCues_4 5 rfl rfl)
theorem dX6_overCues_104 : decode cX6_overCues 104 = .ok (.iload_n 2, 1) := dk_28 (dk_at dksX6_overCues_4 8 rfl rfl)
theorem dX6_overCues_105 : decode cX6_overCues 105 = .ok (.ireturn, 1) := dk_172 (dk_at dksX6_overCues_4 9 rfl rfl)
abbrev cX6_meanLevel : ByteArray := prog_18_method_76_code
def yX6_meanLevel : MethodName := ⟨RX6, "meanLevel", "()D"⟩
def dkwX6_meanLevel_0 : List UInt8 := [42, 3, 181, 0, 42, 42, 5, 182, 0, 199, 135, 20, 0, 205, 111, 175]
abbrev dktX6_meanLevel_0 : List UInt8 := dkwX6_meanLevel_0 ++ []
theorem dksX6_meanLevel_0 : cX6_meanLevel.data.toList.drop 0 = dktX6_meanLevel_0 := by decide +kernel
theorem dX6_meanLevel_0 : decode cX6_meanLevel 0 = .ok (.aload_n 0, 1) := dk_42 (dk_at dksX6_meanLevel_0 0 rfl rfl)
theorem dX6_meanLevel_1 : decode cX6_meanLevel 1 = .ok (.iconst 0, 1) := dk_3 (dk_at dksX6_meanLevel_0 1 rfl rfl)
theorem dX6_meanLevel_2 : decode cX6_meanLevel 2 = .ok (.putfield 42, 3) := dk_181 0 42 (dk_at dksX6_meanLevel_0 2 rfl rfl)
theorem dX6_meanLevel_5 : decode cX6_meanLevel 5 = .ok (.aload_n 0, 1) := dk_42 (dk_at dksX6_meanLevel_0 5 rfl rfl)
theorem dX6_meanLevel_6 : decode cX6_meanLevel 6 = .ok (.iconst 2, 1) := dk_5 (dk_at dksX6_meanLevel_0 6 rfl rfl)
theorem dX6_meanLevel_7 : decode cX6_meanLevel 7 = .ok (.invokevirtual 199, 3) := dk_182 0 199 (dk_at dksX6_meanLevel_0 7 rfl rfl)
theorem dX6_meanLevel_10 : decode cX6_meanLevel 10 = .ok (.i2d, 1) := dk_135 (dk_at dksX6_meanLevel_0 10 rfl rfl)
theorem dX6_meanLevel_11 : decode cX6_meanLevel 11 = .ok (.ldc2_w 205, 3) := dk_20 0 205 (dk_at dksX6_meanLevel_0 11 rfl rfl)
theorem dX6_meanLevel_14 : decode cX6_meanLevel 14 = .ok (.ddiv, 1) := dk_111 (dk_at dksX6_meanLevel_0 14 rfl rfl)
theorem dX6_meanLevel_15 : decode cX6_meanLevel 15 = .ok (.dreturn, 1) := dk_175 (dk_at dksX6_meanLevel_0 15 rfl rfl)
abbrev cX6_append : ByteArray := prog_18_method_77_code
def yX6_append : MethodName := ⟨RX6, "append", "(C)I"⟩
def dkwX6_append_2 : List UInt8 := [42, 180, 0, 207, 27, 85, 42, 89, 180, 0, 207, 4, 96, 181, 0, 207, 42, 180, 0, 207, 172]
abbrev dktX6_append_2 : List UInt8 := dkwX6_append_2 ++ []
def dkwX6_append_1 : List UInt8 := [160, 0, 7, 5, 167, 0, 4, 3, 181, 0, 42, 42, 180, 0, 42, 158, 0, 5, 3, 172, 42, 180, 0, 25]
abbrev dktX6_append_1 : List UInt8 := dkwX6_append_1 ++ dktX6_append_2
def dkwX6_append_0 : List UInt8 := [42, 27, 16, 32, 16, 126, 184, 0, 70, 154, 0, 7, 4, 167, 0, 17, 42, 180, 0, 207, 16, 60]
abbrev dktX6_append_0 : List UInt8 := dkwX6_append_0 ++ dktX6_append_1
theorem dksX6_append_0 : cX6_append.data.toList.drop 0 = dktX6_append_0 := by decide +kernel
theorem dksX6_append_1 : cX6_append.data.toList.drop 22 = dktX6_append_1 := dk_seg dksX6_append_0 22 rfl rfl
theorem dksX6_append_2 : cX6_append.data.toList.drop 46 = dktX6_append_2 := dk_seg dksX6_append_1 24 rfl rfl
theorem dX6_append_0 : decode cX6_append 0 = .ok (.aload_n 0, 1) := dk_42 (dk_at dksX6_append_0 0 rfl rfl)
theorem dX6_append_1 : decode cX6_append 1 = .ok (.iload_n 1, 1) := dk_27 (dk_at dksX6_append_0 1 rfl rfl)
theorem dX6_append_2 : decode cX6_append 2 = .ok (.bipush 32, 2) := dk_16 32 (dk_at dksX6_append_0 2 rfl rfl)
theorem dX6_append_4 : decode cX6_append 4 = .ok (.bipush 126, 2) := dk_16 126 (dk_at dksX6_append_0 4 rfl rfl)
theorem dX6_append_6 : decode cX6_append 6 = .ok (.invokestatic 70, 3) := dk_184 0 70 (dk_at dksX6_append_0 6 rfl rfl)
theorem dX6_append_9 : decode cX6_append 9 = .ok (.ifCond .ne 7, 3) := dk_154 0 7 (dk_at dksX6_append_0 9 rfl rfl)
theorem dX6_append_12 : decode cX6_append 12 = .ok (.iconst 1, 1) := dk_4 (dk_at dksX6_append_0 12 rfl rfl)
theorem dX6_append_13 : decode cX6_append 13 = .ok (.goto 17, 3) := dk_167 0 17 (dk_at dksX6_append_0 13 rfl rfl)
theorem dX6_append_16 : decode cX6_append 16 = .ok (.aload_n 0, 1) := dk_42 (dk_at dksX6_append_0 16 rfl rfl)
theorem dX6_append_17 : decode cX6_append 17 = .ok (.getfield 207, 3) := dk_180 0 207 (dk_at dksX6_append_0 17 rfl rfl)
theorem dX6_append_20 : decode cX6_append 20 = .ok (.bipush 60, 2) := dk_16 60 (dk_at dksX6_append_0 20 rfl rfl)
theorem dX6_append_22 : decode cX6_append 22 = .ok (.if_icmp .ne 7, 3) := dk_160 0 7 (dk_at dksX6_append_1 0 rfl rfl)
theorem dX6_append_25 : decode cX6_append 25 = .ok (.iconst 2, 1) := dk_5 (dk_at dksX6_append_1 3 rfl rfl)
theorem dX6_append_26 : decode cX6_append 26 = .ok (.goto 4, 3) := dk_167 0 4 (dk_at dksX6_append_1 4 rfl rfl)
theorem dX6_append_29 : decode cX6_append 29 = .ok (.iconst 0, 1) := dk_3 (dk_at dksX6_append_1 7 rfl rfl)
theorem dX6_append_30 : decode cX6_append 30 = .ok (.putfield 42, 3) := dk_181 0 42 (dk_at dksX6_append_1 8 rfl rfl)
theorem dX6_append_33 : decode cX6_append 33 = .ok (.aload_n 0, 1) := dk_42 (dk_at dksX6_append_1 11 rfl rfl)
theorem dX6_append_34 : decode cX6_append 34 = .ok (.getfield 42, 3) := dk_180 0 42 (dk_at dksX6_append_1 12 rfl rfl)
theorem dX6_append_37 : decode cX6_append 37 = .ok (.ifCond .le 5, 3) := dk_158 0 5 (dk_at dksX6_append_1 15 rfl rfl)
theorem dX6_append_40 : decode cX6_append 40 = .ok (.iconst 0, 1) := dk_3 (dk_at dksX6_append_1 18 rfl rfl)
theorem dX6_append_41 : decode cX6_append 41 = .ok (.ireturn, 1) := dk_172 (dk_at dksX6_append_1 19 rfl rfl)
theorem dX6_append_42 : decode cX6_append 42 = .ok (.aload_n 0, 1) := dk_42 (dk_at dksX6_append_1 20 rfl rfl)
theorem dX6_append_43 : decode cX6_append 43 = .ok (.getfield 25, 3) := dk_180 0 25 (dk_at dksX6_append_1 21 rfl rfl)
theorem dX6_append_46 : decode cX6_append 46 = .ok (.aload_n 0, 1) := dk_42 (dk_at dksX6_append_2 0 rfl rfl)
theorem dX6_append_47 : decode cX6_append 47 = .ok (.getfield 207, 3) := dk_180 0 207 (dk_at dksX6_append_2 1 rfl rfl)
theorem dX6_append_50 : decode cX6_append 50 = .ok (.iload_n 1, 1) := dk_27 (dk_at dksX6_append_2 4 rfl rfl)
theorem dX6_append_51 : decode cX6_append 51 = .ok (.castore, 1) := dk_85 (dk_at dksX6_append_2 5 rfl rfl)
theorem dX6_append_52 : decode cX6_append 52 = .ok (.aload_n 0, 1) := dk_42 (dk_at dksX6_append_2 6 rfl rfl)
theorem dX6_append_53 : decode cX6_append 53 = .ok (.dup, 1) := dk_89 (dk_at dksX6_append_2 7 rfl rfl)
theorem dX6_append_54 : decode cX6_append 54 = .ok (.getfield 207, 3) := dk_180 0 207 (dk_at dksX6_append_2 8 rfl rfl)
theorem dX6_append_57 : decode cX6_append 57 = .ok (.iconst 1, 1) := dk_4 (dk_at dksX6_append_2 11 rfl rfl)
theorem dX6_append_58 : decode cX6_append 58 = .ok (.iadd, 1) := dk_96 (dk_at dksX6_append_2 12 rfl rfl)
theorem dX6_append_59 : decode cX6_append 59 = .ok (.putfield 207, 3) := dk_181 0 207 (dk_at dksX6_append_2 13 rfl rfl)
theorem dX6_append_62 : decode cX6_append 62 = .ok (.aload_n 0, 1) := dk_42 (dk_at dksX6_append_2 16 rfl rfl)
theorem dX6_append_63 : decode cX6_append 63 = .ok (.getfield 207, 3) := dk_180 0 207 (dk_at dksX6_append_2 17 rfl rfl)
theorem dX6_append_66 : decode cX6_append 66 = .ok (.ireturn, 1) := dk_172 (dk_at dksX6_append_2 20 rfl rfl)
abbrev cX6_read : ByteArray := prog_18_method_85_code
def yX6_read : MethodName := ⟨RX6, "read", "()I"⟩
def dkwX6_read_6 : List UInt8 := [167, 255, 209, 42, 180, 0, 42, 158, 0, 5, 3, 172, 42, 182, 0, 57, 42, 180, 0, 228, 172]
abbrev dktX6_read_6 : List UInt8 := dkwX6_read_6 ++ []
def dkwX6_read_5 : List UInt8 := [42, 5, 181, 0, 42, 42, 180, 0, 13, 3, 42, 180, 0, 9, 3, 17, 1, 206, 184, 0, 48, 132, 1, 1]
abbrev dktX6_read_5 : List UInt8 := dkwX6_read_5 ++ dktX6_read_6
def dkwX6_read_4 : List UInt8 := [60, 27, 42, 180, 0, 228, 162, 0, 45, 42, 180, 0, 42, 154, 0, 38, 42, 27, 182, 0, 248, 153, 0, 24]
abbrev dktX6_read_4 : List UInt8 := dkwX6_read_4 ++ dktX6_read_5
def dkwX6_read_3 : List UInt8 := [181, 0, 29, 42, 42, 180, 0, 210, 153, 0, 7, 4, 167, 0, 4, 3, 181, 0, 42, 42, 182, 0, 54, 3]
abbrev dktX6_read_3 : List UInt8 := dkwX6_read_3 ++ dktX6_read_4
def dkwX6_read_2 : List UInt8 := [181, 0, 207, 42, 42, 180, 0, 210, 153, 0, 10, 42, 180, 0, 214, 167, 0, 7, 42, 180, 0, 29]
abbrev dktX6_read_2 : List UInt8 := dkwX6_read_2 ++ dktX6_read_3
def dkwX6_read_1 : List UInt8 := [154, 0, 21, 42, 180, 0, 214, 42, 180, 0, 207, 162, 0, 10, 42, 182, 0, 245, 167, 255, 234, 42, 3]
abbrev dktX6_read_1 : List UInt8 := dkwX6_read_1 ++ dktX6_read_2
def dkwX6_read_0 : List UInt8 := [42, 3, 181, 0, 214, 42, 3, 181, 0, 210, 42, 3, 181, 0, 228, 42, 182, 0, 245, 42, 180, 0, 210]
abbrev dktX6_read_0 : List UInt8 := dkwX6_read_0 ++ dktX6_read_1
theorem dksX6_read_0 : cX6_read.data.toList.drop 0 = dktX6_read_0 := by decide +kernel
theorem dksX6_read_1 : cX6_read.data.toList.drop 23 = dktX6_read_1 := dk_seg dksX6_read_0 23 rfl rfl
theorem dksX6_read_2 : cX6_read.data.toList.drop 46 = dktX6_read_2 := dk_seg dksX6_read_1 23 rfl rfl
theorem dksX6_read_3 : cX6_read.data.toList.drop 68 = dktX6_read_3 := dk_seg dksX6_read_2 22 rfl rfl
theorem dksX6_read_4 : cX6_read.data.toList.drop 92 = dktX6_read_4 := dk_seg dksX6_read_3 24 rfl rfl
theorem dksX6_read_5 : cX6_read.data.toList.drop 116 = dktX6_read_5 := dk_seg dksX6_read_4 24 rfl rfl
theorem dksX6_read_6 : cX6_read.data.toList.drop 140 = dktX6_read_6 := dk_seg dksX6_read_5 24 rfl rfl
theorem dX6_read_0 : decode cX6_read 0 = .ok (.aload_n 0, 1) := dk_42 (dk_at dksX6_read_0 0 rfl rfl)
theorem dX6_read_1 : decode cX6_read 1 = .ok (.iconst 0, 1) := dk_3 (dk_at dksX6_read_0 1 rfl rfl)
theorem dX6_read_2 : decode cX6_read 2 = .ok (.putfield 214, 3) := dk_181 0 214 (dk_at dksX6_read_0 2 rfl rfl)
theorem dX6_read_5 : decode cX6_read 5 = .ok (.aload_n 0, 1) := dk_42 (dk_at dksX6_read_0 5 rfl rfl)
theorem dX6_read_6 : decode cX6_read 6 = .ok (.iconst 0, 1) := dk_3 (dk_at dksX6_read_0 6 rfl rfl)
theorem dX6_read_7 : decode cX6_read 7 = .ok (.putfield 210, 3) := dk_181 0 210 (dk_at dksX6_read_0 7 rfl rfl)
theorem dX6_read_10 : decode cX6_read 10 = .ok (.aload_n 0, 1) := dk_42 (dk_at dksX6_read_0 10 rfl rfl)
theorem dX6_read_11 : decode cX6_read 11 = .ok (.iconst 0, 1) := dk_3 (dk_at dksX6_read_0 11 rfl rfl)
theorem dX6_read_12 : decode cX6_read 12 = .ok (.putfield 228, 3) := dk_181 0 228 (dk_at dksX6_read_0 12 rfl rfl)
theorem dX6_read_15 : decode cX6_read 15 = .ok (.aload_n 0, 1) := dk_42 (dk_at dksX6_read_0 15 rfl rfl)
theorem dX6_read_16 : decode cX6_read 16 = .ok (.invokevirtual 245, 3) := dk_182 0 245 (dk_at dksX6_read_0 16 rfl rfl)
theorem dX6_read_19 : decode cX6_read 19 = .ok (.aload_n 0, 1) := dk_42 (dk_at dksX6_read_0 19 rfl rfl)
theorem dX6_read_20 : decode cX6_read 20 = .ok (.getfield 210, 3) := dk_180 0 210 (dk_at dksX6_read_0 20 rfl rfl)
theorem dX6_read_23 : decode cX6_read 23 = .ok (.ifCond .ne 21, 3) := dk_154 0 21 (dk_at dksX6_read_1 0 rfl rfl)
theorem dX6_read_26 : decode cX6_read 26 = .ok (.aload_n 0, 1) := dk_42 (dk_at dksX6_read_1 3 rfl rfl)
theorem dX6_read_27 : decode cX6_read 27 = .ok (.getfield 214, 3) := dk_180 0 214 (dk_at dksX6_read_1 4 rfl rfl)
theorem dX6_read_30 : decode cX6_read 30 = .ok (.aload_n 0, 1) := dk_42 (dk_at dksX6_read_1 7 rfl rfl)
theorem dX6_read_31 : decode cX6_read 31 = .ok (.getfield 207, 3) := dk_180 0 207 (dk_at dksX6_read_1 8 rfl rfl)
theorem dX6_read_34 : decode cX6_read 34 = .ok (.if_icmp .ge 10, 3) := dk_162 0 10 (dk_at dksX6_read_1 11 rfl rfl)
theorem dX6_read_37 : decode cX6_read 37 = .ok (.aload_n 0, 1) := dk_42 (dk_at dksX6_read_1 14 rfl rfl)
theorem dX6_read_38 : decode cX6_read 38 = .ok (.invokevirtual 245, 3) := dk_182 0 245 (dk_at dksX6_read_1 15 rfl rfl)
theorem dX6_read_41 : decode cX6_read 41 = .ok (.goto (-22), 3) := dk_167 255 234 (dk_at dksX6_read_1 18 rfl rfl)
theorem dX6_read_44 : decode cX6_read 44 = .ok (.aload_n 0, 1) := dk_42 (dk_at dksX6_read_1 21 rfl rfl)
theorem dX6_read_45 : decode cX6_read 45 = .ok (.iconst 0, 1) := dk_3 (dk_at dksX6_read_1 22 rfl rfl)
theorem dX6_read_46 : decode cX6_read 46 = .ok (.putfield 207, 3) := dk_181 0 207 (dk_at dksX6_read_2 0 rfl rfl)
theorem dX6_read_49 : decode cX6_read 49 = .ok (.aload_n 0, 1) := dk_42 (dk_at dksX6_read_2 3 rfl rfl)
theorem dX6_read_50 : decode cX6_read 50 = .ok (.aload_n 0, 1) := dk_42 (dk_at dksX6_read_2 4 rfl rfl)
theorem dX6_read_51 : decode cX6_read 51 = .ok (.getfield 210, 3) := dk_180 0 210 (dk_at dksX6_read_2 5 rfl rfl)
theorem dX6_read_54 : decode cX6_read 54 = .ok (.ifCond .eq 10, 3) := dk_153 0 10 (dk_at dksX6_read_2 8 rfl rfl)
theorem dX6_read_57 : decode cX6_read 57 = .ok (.aload_n 0, 1) := dk_42 (dk_at dksX6_read_2 11 rfl rfl)
theorem dX6_read_58 : decode cX6_read 58 = .ok (.getfield 214, 3) := dk_180 0 214 (dk_at dksX6_read_2 12 rfl rfl)
theorem dX6_read_61 : decode cX6_read 61 = .ok (.goto 7, 3) := dk_167 0 7 (dk_at dksX6_read_2 15 rfl rfl)
theorem dX6_read_64 : decode cX6_read 64 = .ok (.aload_n 0, 1) := dk_42 (dk_at dksX6_read_2 18 rfl rfl)
theorem dX6_read_65 : decode cX6_read 65 = .ok (.getfield 29, 3) := dk_180 0 29 (dk_at dksX6_read_2 19 rfl rfl)
theorem dX6_read_68 : decode cX6_read 68 = .ok (.putfield 29, 3) := dk_181 0 29 (dk_at dksX6_read_3 0 rfl rfl)
theorem dX6_read_71 : decode cX6_read 71 = .ok (.aload_n 0, 1) := dk_42 (dk_at dksX6_read_3 3 rfl rfl)
theorem dX6_read_72 : decode cX6_read 72 = .ok (.aload_n 0, 1) := dk_42 (dk_at dksX6_read_3 4 rfl rfl)
theorem dX6_read_73 : decode cX6_read 73 = .ok (.getfield 210, 3) := dk_180 0 210 (dk_at dksX6_read_3 5 rfl rfl)
theorem dX6_read_76 : decode cX6_read 76 = .ok (.ifCond .eq 7, 3) := dk_153 0 7 (dk_at dksX6_read_3 8 rfl rfl)
theorem dX6_read_79 : decode cX6_read 79 = .ok (.iconst 1, 1) := dk_4 (dk_at dksX6_read_3 11 rfl rfl)
theorem dX6_read_80 : decode cX6_read 80 = .ok (.goto 4, 3) := dk_167 0 4 (dk_at dksX6_read_3 12 rfl rfl)
theorem dX6_read_83 : decode cX6_read 83 = .ok (.iconst 0, 1) := dk_3 (dk_at dksX6_read_3 15 rfl rfl)
theorem dX6_read_84 : decode cX6_read 84 = .ok (.putfield 42, 3) := dk_181 0 42 (dk_at dksX6_read_3 16 rfl rfl)
theorem dX6_read_87 : decode cX6_read 87 = .ok (.aload_n 0, 1) := dk_42 (dk_at dksX6_read_3 19 rfl rfl)
theorem dX6_read_88 : decode cX6_read 88 = .ok (.invokevirtual 54, 3) := dk_182 0 54 (dk_at dksX6_read_3 20 rfl rfl)
theorem dX6_read_91 : decode cX6_read 91 = .ok (.iconst 0, 1) := dk_3 (dk_at dksX6_read_3 23 rfl rfl)
theorem dX6_read_92 : decode cX6_read 92 = .ok (.istore_n 1, 1) := dk_60 (dk_at dksX6_read_4 0 rfl rfl)
theorem dX6_read_93 : decode cX6_read 93 = .ok (.iload_n 1, 1) := dk_27 (dk_at dksX6_read_4 1 rfl rfl)
theorem dX6_read_94 : decode cX6_read 94 = .ok (.aload_n 0, 1) := dk_42 (dk_at dksX6_read_4 2 rfl rfl)
theorem dX6_read_95 : decode cX6_read 95 = .ok (.getfield 228, 3) := dk_180 0 228 (dk_at dksX6_read_4 3 rfl rfl)
theorem dX6_read_98 : decode cX6_read 98 = .ok (.if_icmp .ge 45, 3) := dk_162 0 45 (dk_at dksX6_read_4 6 rfl rfl)
theorem dX6_read_101 : decode cX6_read 101 = .ok (.aload_n 0, 1) := dk_42 (dk_at dksX6_read_4 9 rfl rfl)
theorem dX6_read_102 : decode cX6_read 102 = .ok (.getfield 42, 3) := dk_180 0 42 (dk_at dksX6_read_4 10 rfl rfl)
theorem dX6_read_105 : decode cX6_read 105 = .ok (.ifCond .ne 38, 3) := dk_154 0 38 (dk_at dksX6_read_4 13 rfl rfl)
theorem dX6_read_108 : decode cX6_read 108 = .ok (.aload_n 0, 1) := dk_42 (dk_at dksX6_read_4 16 rfl rfl)
theorem dX6_read_109 : decode cX6_read 109 = .ok (.iload_n 1, 1) := dk_27 (dk_at dksX6_read_4 17 rfl rfl)
theorem dX6_read_110 : decode cX6_read 110 = .ok (.invokevirtual 248, 3) := dk_182 0 248 (dk_at dksX6_read_4 18 rfl rfl)
theorem dX6_read_113 : decode cX6_read 113 = .ok (.ifCond .eq 24, 3) := dk_153 0 24 (dk_at dksX6_read_4 21 rfl rfl)
theorem dX6_read_116 : decode cX6_read 116 = .ok (.aload_n 0, 1) := dk_42 (dk_at dksX6_read_5 0 rfl rfl)
theorem dX6_read_117 : decode cX6_read 117 = .ok (.iconst 2, 1) := dk_5 (dk_at dksX6_read_5 1 rfl rfl)
theorem dX6_read_118 : decode cX6_read 118 = .ok (.putfield 42, 3) := dk_181 0 42 (dk_at dksX6_read_5 2 rfl rfl)
theorem dX6_read_121 : decode cX6_read 121 = .ok (.aload_n 0, 1) := dk_42 (dk_at dksX6_read_5 5 rfl rfl)
theorem dX6_read_122 : decode cX6_read 122 = .ok (.getfield 13, 3) := dk_180 0 13 (dk_at dksX6_read_5 6 rfl rfl)
theorem dX6_read_125 : decode cX6_read 125 = .ok (.iconst 0, 1) := dk_3 (dk_at dksX6_read_5 9 rfl rfl)
theorem dX6_read_126 : decode cX6_read 126 = .ok (.aload_n 0, 1) := dk_42 (dk_at dksX6_read_5 10 rfl rfl)
theorem dX6_read_127 : decode cX6_read 127 = .ok (.getfield 9, 3) := dk_180 0 9 (dk_at dksX6_read_5 11 rfl rfl)
theorem dX6_read_130 : decode cX6_read 130 = .ok (.iconst 0, 1) := dk_3 (dk_at dksX6_read_5 14 rfl rfl)
theorem dX6_read_131 : decode cX6_read 131 = .ok (.sipush 462, 3) := dk_17 1 206 (dk_at dksX6_read_5 15 rfl rfl)
theorem dX6_read_134 : decode cX6_read 134 = .ok (.invokestatic 48, 3) := dk_184 0 48 (dk_at dksX6_read_5 18 rfl rfl)
theorem dX6_read_137 : decode cX6_read 137 = .ok (.iinc 1 1, 3) := dk_132 1 1 (dk_at dksX6_read_5 21 rfl rfl)
theorem dX6_read_140 : decode cX6_read 140 = .ok (.goto (-47), 3) := dk_167 255 209 (dk_at dksX6_read_6 0 rfl rfl)
theorem dX6_read_143 : decode cX6_read 143 = .ok (.aload_n 0, 1) := dk_42 (dk_at dksX6_read_6 3 rfl rfl)
theorem dX6_read_144 : decode cX6_read 144 = .ok (.getfield 42, 3) := dk_180 0 42 (dk_at dksX6_read_6 4 rfl rfl)
theorem dX6_read_147 : decode cX6_read 147 = .ok (.ifCond .le 5, 3) := dk_158 0 5 (dk_at dksX6_read_6 7 rfl rfl)
theorem dX6_read_150 : decode cX6_read 150 = .ok (.iconst 0, 1) := dk_3 (dk_at dksX6_read_6 10 rfl rfl)
theorem dX6_read_151 : decode cX6_read 151 = .ok (.ireturn, 1) := dk_172 (dk_at dksX6_read_6 11 rfl rfl)
theorem dX6_read_152 : decode cX6_read 152 = .ok (.aload_n 0, 1) := dk_42 (dk_at dksX6_read_6 12 rfl rfl)
theorem dX6_read_153 : decode cX6_read 153 = .ok (.invokevirtual 57, 3) := dk_182 0 57 (dk_at dksX6_read_6 13 rfl rfl)
theorem dX6_read_156 : decode cX6_read 156 = .ok (.aload_n 0, 1) := dk_42 (dk_at dksX6_read_6 16 rfl rfl)
theorem dX6_read_157 : decode cX6_read 157 = .ok (.getfield 228, 3) := dk_180 0 228 (dk_at dksX6_read_6 17 rfl rfl)
theorem dX6_read_160 : decode cX6_read 160 = .ok (.ireturn, 1) := dk_172 (dk_at dksX6_read_6 20 rfl rfl)
abbrev cX6_readEntry : ByteArray := prog_18_method_82_code
def yX6_readEntry : MethodName := ⟨RX6, "readEntry", "()V"⟩
def dkwX6_readEntry_7 : List UInt8 := [79, 42, 16, 59, 182, 0, 221, 42, 89, 180, 0, 228, 4, 96, 181, 0, 228, 177]
abbrev dktX6_readEntry_7 : List UInt8 := dkwX6_readEntry_7 ++ []
def dkwX6_readEntry_6 : List UInt8 := [182, 0, 238, 79, 28, 16, 115, 160, 0, 18, 42, 180, 0, 36, 27, 5, 96, 42, 16, 64, 6, 182, 0, 238]
abbrev dktX6_readEntry_6 : List UInt8 := dkwX6_readEntry_6 ++ dktX6_readEntry_7
def dkwX6_readEntry_5 : List UInt8 := [28, 16, 115, 159, 0, 9, 28, 16, 114, 160, 0, 18, 42, 180, 0, 36, 27, 4, 96, 42, 16, 47, 5]
abbrev dktX6_readEntry_5 : List UInt8 := dkwX6_readEntry_5 ++ dktX6_readEntry_6
def dkwX6_readEntry_4 : List UInt8 := [159, 0, 24, 42, 180, 0, 36, 27, 42, 28, 16, 116, 160, 0, 7, 7, 167, 0, 4, 5, 182, 0, 225, 79]
abbrev dktX6_readEntry_4 : List UInt8 := dkwX6_readEntry_4 ++ dktX6_readEntry_5
def dkwX6_readEntry_3 : List UInt8 := [153, 0, 7, 3, 167, 0, 4, 4, 96, 181, 0, 214, 42, 180, 0, 210, 154, 0, 30, 28, 16, 103]
abbrev dktX6_readEntry_3 : List UInt8 := dkwX6_readEntry_3 ++ dktX6_readEntry_4
def dkwX6_readEntry_2 : List UInt8 := [182, 0, 233, 156, 0, 7, 4, 167, 0, 4, 3, 181, 0, 210, 42, 89, 180, 0, 214, 42, 180, 0, 210]
abbrev dktX6_readEntry_2 : List UInt8 := dkwX6_readEntry_2 ++ dktX6_readEntry_3
def dkwX6_readEntry_1 : List UInt8 := [180, 0, 214, 52, 167, 0, 5, 16, 32, 61, 42, 180, 0, 33, 42, 180, 0, 228, 28, 85, 42, 18, 231, 28]
abbrev dktX6_readEntry_1 : List UInt8 := dkwX6_readEntry_1 ++ dktX6_readEntry_2
def dkwX6_readEntry_0 : List UInt8 := [6, 42, 180, 0, 228, 104, 60, 42, 180, 0, 214, 42, 180, 0, 207, 162, 0, 15, 42, 180, 0, 25, 42]
abbrev dktX6_readEntry_0 : List UInt8 := dkwX6_readEntry_0 ++ dktX6_readEntry_1
theorem dksX6_readEntry_0 : cX6_readEntry.data.toList.drop 0 = dktX6_readEntry_0 := by decide +kernel
theorem dksX6_readEntry_1 : cX6_readEntry.data.toList.drop 23 = dktX6_readEntry_1 := dk_seg dksX6_readEntry_0 23 rfl rfl
theorem dksX6_readEntry_2 : cX6_readEntry.data.toList.drop 47 = dktX6_readEntry_2 := dk_seg dksX6_readEntry_1 24 rfl rfl
theorem dksX6_readEntry_3 : cX6_readEntry.data.toList.drop 70 = dktX6_readEntry_3 := dk_seg dksX6_readEntry_2 23 rfl rfl
theorem dksX6_readEntry_4 : cX6_readEntry.data.toList.drop 92 = dktX6_readEntry_4 := dk_seg dksX6_readEntry_3 22 rfl rfl
theorem dksX6_readEntry_5 : cX6_readEntry.data.toList.drop 116 = dktX6_readEntry_5 := dk_seg dksX6_readEntry_4 24 rfl rfl
theorem dksX6_readEntry_6 : cX6_readEntry.data.toList.drop 139 = dktX6_readEntry_6 := dk_seg dksX6_readEntry_5 23 rfl rfl
theorem dksX6_readEntry_7 : cX6_readEntry.data.toList.drop 163 = dktX6_readEntry_7 := dk_seg dksX6_readEntry_6 24 rfl rfl
theorem dX6_readEntry_0 : decode cX6_readEntry 0 = .ok (.iconst 3, 1) := dk_6 (dk_at dksX6_readEntry_0 0 rfl rfl)
theorem dX6_readEntry_1 : decode cX6_readEntry 1 = .ok (.aload_n 0, 1) := dk_42 (dk_at dksX6_readEntry_0 1 rfl rfl)
theorem dX6_readEntry_2 : decode cX6_readEntry 2 = .ok (.getfield 228, 3) := dk_180 0 228 (dk_at dksX6_readEntry_0 2 rfl rfl)
theorem dX6_readEntry_5 : decode cX6_readEntry 5 = .ok (.imul, 1) := dk_104 (dk_at dksX6_readEntry_0 5 rfl rfl)
theorem dX6_readEntry_6 : decode cX6_readEntry 6 = .ok (.istore_n 1, 1) := dk_60 (dk_at dksX6_readEntry_0 6 rfl rfl)
theorem dX6_readEntry_7 : decode cX6_readEntry 7 = .ok (.aload_n 0, 1) := dk_42 (dk_at dksX6_readEntry_0 7 rfl rfl)
theorem dX6_readEntry_8 : decode cX6_readEntry 8 = .ok (.getfield 214, 3) := dk_180 0 214 (dk_at dksX6_readEntry_0 8 rfl rfl)
theorem dX6_readEntry_11 : decode cX6_readEntry 11 = .ok (.aload_n 0, 1) := dk_42 (dk_at dksX6_readEntry_0 11 rfl rfl)
theorem dX6_readEntry_12 : decode cX6_readEntry 12 = .ok (.getfield 207, 3) := dk_180 0 207 (dk_at dksX6_readEntry_0 12 rfl rfl)
theorem dX6_readEntry_15 : decode cX6_readEntry 15 = .ok (.if_icmp .ge 15, 3) := dk_162 0 15 (dk_at dksX6_readEntry_0 15 rfl rfl)
theorem dX6_readEntry_18 : decode cX6_readEntry 18 = .ok (.aload_n 0, 1) := dk_42 (dk_at dksX6_readEntry_0 18 rfl rfl)
theorem dX6_readEntry_19 : decode cX6_readEntry 19 = .ok (.getfield 25, 3) := dk_180 0 25 (dk_at dksX6_readEntry_0 19 rfl rfl)
theorem dX6_readEntry_22 : decode cX6_readEntry 22 = .ok (.aload_n 0, 1) := dk_42 (dk_at dksX6_readEntry_0 22 rfl rfl)
theorem dX6_readEntry_23 : decode cX6_readEntry 23 = .ok (.getfield 214, 3) := dk_180 0 214 (dk_at dksX6_readEntry_1 0 rfl rfl)
theorem dX6_readEntry_26 : decode cX6_readEntry 26 = .ok (.caload, 1) := dk_52 (dk_at dksX6_readEntry_1 3 rfl rfl)
theorem dX6_readEntry_27 : decode cX6_readEntry 27 = .ok (.goto 5, 3) := dk_167 0 5 (dk_at dksX6_readEntry_1 4 rfl rfl)
theorem dX6_readEntry_30 : decode cX6_readEntry 30 = .ok (.bipush 32, 2) := dk_16 32 (dk_at dksX6_readEntry_1 7 rfl rfl)
theorem dX6_readEntry_32 : decode cX6_readEntry 32 = .ok (.istore_n 2, 1) := dk_61 (dk_at dksX6_readEntry_1 9 rfl rfl)
theorem dX6_readEntry_33 : decode cX6_readEntry 33 = .ok (.aload_n 0, 1) := dk_42 (dk_at dksX6_readEntry_1 10 rfl rfl)
theorem dX6_readEntry_34 : decode cX6_readEntry 34 = .ok (.getfield 33, 3) := dk_180 0 33 (dk_at dksX6_readEntry_1 11 rfl rfl)
theorem dX6_readEntry_37 : decode cX6_readEntry 37 = .ok (.aload_n 0, 1) := dk_42 (dk_at dksX6_readEntry_1 14 rfl rfl)
theorem dX6_readEntry_38 : decode cX6_readEntry 38 = .ok (.getfield 228, 3) := dk_180 0 228 (dk_at dksX6_readEntry_1 15 rfl rfl)
theorem dX6_readEntry_41 : decode cX6_readEntry 41 = .ok (.iload_n 2, 1) := dk_28 (dk_at dksX6_readEntry_1 18 rfl rfl)
theorem dX6_readEntry_42 : decode cX6_readEntry 42 = .ok (.castore, 1) := dk_85 (dk_at dksX6_readEntry_1 19 rfl rfl)
theorem dX6_readEntry_43 : decode cX6_readEntry 43 = .ok (.aload_n 0, 1) := dk_42 (dk_at dksX6_readEntry_1 20 rfl rfl)
theorem dX6_readEntry_44 : decode cX6_readEntry 44 = .ok (.ldc 231, 2) := dk_18 231 (dk_at dksX6_readEntry_1 21 rfl rfl)
theorem dX6_readEntry_46 : decode cX6_readEntry 46 = .ok (.iload_n 2, 1) := dk_28 (dk_at dksX6_readEntry_1 23 rfl rfl)
theorem dX6_readEntry_47 : decode cX6_readEntry 47 = .ok (.invokevirtual 233, 3) := dk_182 0 233 (dk_at dksX6_readEntry_2 0 rfl rfl)
theorem dX6_readEntry_50 : decode cX6_readEntry 50 = .ok (.ifCond .ge 7, 3) := dk_156 0 7 (dk_at dksX6_readEntry_2 3 rfl rfl)
theorem dX6_readEntry_53 : decode cX6_readEntry 53 = .ok (.iconst 1, 1) := dk_4 (dk_at dksX6_readEntry_2 6 rfl rfl)
theorem dX6_readEntry_54 : decode cX6_readEntry 54 = .ok (.goto 4, 3) := dk_167 0 4 (dk_at dksX6_readEntry_2 7 rfl rfl)
theorem dX6_readEntry_57 : decode cX6_readEntry 57 = .ok (.iconst 0, 1) := dk_3 (dk_at dksX6_readEntry_2 10 rfl rfl)
theorem dX6_readEntry_58 : decode cX6_readEntry 58 = .ok (.putfield 210, 3) := dk_181 0 210 (dk_at dksX6_readEntry_2 11 rfl rfl)
theorem dX6_readEntry_61 : decode cX6_readEntry 61 = .ok (.aload_n 0, 1) := dk_42 (dk_at dksX6_readEntry_2 14 rfl rfl)
theorem dX6_readEntry_62 : decode cX6_readEntry 62 = .ok (.dup, 1) := dk_89 (dk_at dksX6_readEntry_2 15 rfl rfl)
theorem dX6_readEntry_63 : decode cX6_readEntry 63 = .ok (.getfield 214, 3) := dk_180 0 214 (dk_at dksX6_readEntry_2 16 rfl rfl)
theorem dX6_readEntry_66 : decode cX6_readEntry 66 = .ok (.aload_n 0, 1) := dk_42 (dk_at dksX6_readEntry_2 19 rfl rfl)
theorem dX6_readEntry_67 : decode cX6_readEntry 67 = .ok (.getfield 210, 3) := dk_180 0 210 (dk_at dksX6_readEntry_2 20 rfl rfl)
theorem dX6_readEntry_70 : decode cX6_readEntry 70 = .ok (.ifCond .eq 7, 3) := dk_153 0 7 (dk_at dksX6_readEntry_3 0 rfl rfl)
theorem dX6_readEntry_73 : decode cX6_readEntry 73 = .ok (.iconst 0, 1) := dk_3 (dk_at dksX6_readEntry_3 3 rfl rfl)
theorem dX6_readEntry_74 : decode cX6_readEntry 74 = .ok (.goto 4, 3) := dk_167 0 4 (dk_at dksX6_readEntry_3 4 rfl rfl)
theorem dX6_readEntry_77 : decode cX6_readEntry 77 = .ok (.iconst 1, 1) := dk_4 (dk_at dksX6_readEntry_3 7 rfl rfl)
theorem dX6_readEntry_78 : decode cX6_readEntry 78 = .ok (.iadd, 1) := dk_96 (dk_at dksX6_readEntry_3 8 rfl rfl)
theorem dX6_readEntry_79 : decode cX6_readEntry 79 = .ok (.putfield 214, 3) := dk_181 0 214 (dk_at dksX6_readEntry_3 9 rfl rfl)
theorem dX6_readEntry_82 : decode cX6_readEntry 82 = .ok (.aload_n 0, 1) := dk_42 (dk_at dksX6_readEntry_3 12 rfl rfl)
theorem dX6_readEntry_83 : decode cX6_readEntry 83 = .ok (.getfield 210, 3) := dk_180 0 210 (dk_at dksX6_readEntry_3 13 rfl rfl)
theorem dX6_readEntry_86 : decode cX6_readEntry 86 = .ok (.ifCond .ne 30, 3) := dk_154 0 30 (dk_at dksX6_readEntry_3 16 rfl rfl)
theorem dX6_readEntry_89 : decode cX6_readEntry 89 = .ok (.iload_n 2, 1) := dk_28 (dk_at dksX6_readEntry_3 19 rfl rfl)
theorem dX6_readEntry_90 : decode cX6_readEntry 90 = .ok (.bipush 103, 2) := dk_16 103 (dk_at dksX6_readEntry_3 20 rfl rfl)
theorem dX6_readEntry_92 : decode cX6_readEntry 92 = .ok (.if_icmp .eq 24, 3) := dk_159 0 24 (dk_at dksX6_readEntry_4 0 rfl rfl)
theorem dX6_readEntry_95 : decode cX6_readEntry 95 = .ok (.aload_n 0, 1) := dk_42 (dk_at dksX6_readEntry_4 3 rfl rfl)
theorem dX6_readEntry_96 : decode cX6_readEntry 96 = .ok (.getfield 36, 3) := dk_180 0 36 (dk_at dksX6_readEntry_4 4 rfl rfl)
theorem dX6_readEntry_99 : decode cX6_readEntry 99 = .ok (.iload_n 1, 1) := dk_27 (dk_at dksX6_readEntry_4 7 rfl rfl)
theorem dX6_readEntry_100 : decode cX6_readEntry 100 = .ok (.aload_n 0, 1) := dk_42 (dk_at dksX6_readEntry_4 8 rfl rfl)
theorem dX6_readEntry_101 : decode cX6_readEntry 101 = .ok (.iload_n 2, 1) := dk_28 (dk_at dksX6_readEntry_4 9 rfl rfl)
theorem dX6_readEntry_102 : decode cX6_readEntry 102 = .ok (.bipush 116, 2) := dk_16 116 (dk_at dksX6_readEntry_4 10 rfl rfl)
theorem dX6_readEntry_104 : decode cX6_readEntry 104 = .ok (.if_icmp .ne 7, 3) := dk_160 0 7 (dk_at dksX6_readEntry_4 12 rfl rfl)
theorem dX6_readEntry_107 : decode cX6_readEntry 107 = .ok (.iconst 4, 1) := dk_7 (dk_at dksX6_readEntry_4 15 rfl rfl)
theorem dX6_readEntry_108 : decode cX6_readEntry 108 = .ok (.goto 4, 3) := dk_167 0 4 (dk_at dksX6_readEntry_4 16 rfl rfl)
theorem dX6_readEntry_111 : decode cX6_readEntry 111 = .ok (.iconst 2, 1) := dk_5 (dk_at dksX6_readEntry_4 19 rfl rfl)
theorem dX6_readEntry_112 : decode cX6_readEntry 112 = .ok (.invokevirtual 225, 3) := dk_182 0 225 (dk_at dksX6_readEntry_4 20 rfl rfl)
theorem dX6_readEntry_115 : decode cX6_readEntry 115 = .ok (.iastore, 1) := dk_79 (dk_at dksX6_readEntry_4 23 rfl rfl)
theorem dX6_readEntry_116 : decode cX6_readEntry 116 = .ok (.iload_n 2, 1) := dk_28 (dk_at dksX6_readEntry_5 0 rfl rfl)
theorem dX6_readEntry_117 : decode cX6_readEntry 117 = .ok (.bipush 115, 2) := dk_16 115 (dk_at dksX6_readEntry_5 1 rfl rfl)
theorem dX6_readEntry_119 : decode cX6_readEntry 119 = .ok (.if_icmp .eq 9, 3) := dk_159 0 9 (dk_at dksX6_readEntry_5 3 rfl rfl)
theorem dX6_readEntry_122 : decode cX6_readEntry 122 = .ok (.iload_n 2, 1) := dk_28 (dk_at dksX6_readEntry_5 6 rfl rfl)
theorem dX6_readEntry_123 : decode cX6_readEntry 123 = .ok (.bipush 114, 2) := dk_16 114 (dk_at dksX6_readEntry_5 7 rfl rfl)
theorem dX6_readEntry_125 : decode cX6_readEntry 125 = .ok (.if_icmp .ne 18, 3) := dk_160 0 18 (dk_at dksX6_readEntry_5 9 rfl rfl)
theorem dX6_readEntry_128 : decode cX6_readEntry 128 = .ok (.aload_n 0, 1) := dk_42 (dk_at dksX6_readEntry_5 12 rfl rfl)
theorem dX6_readEntry_129 : decode cX6_readEntry 129 = .ok (.getfield 36, 3) := dk_180 0 36 (dk_at dksX6_readEntry_5 13 rfl rfl)
theorem dX6_readEntry_132 : decode cX6_readEntry 132 = .ok (.iload_n 1, 1) := dk_27 (dk_at dksX6_readEntry_5 16 rfl rfl)
theorem dX6_readEntry_133 : decode cX6_readEntry 133 = .ok (.iconst 1, 1) := dk_4 (dk_at dksX6_readEntry_5 17 rfl rfl)
theorem dX6_readEntry_134 : decode cX6_readEntry 134 = .ok (.iadd, 1) := dk_96 (dk_at dksX6_readEntry_5 18 rfl rfl)
theorem dX6_readEntry_135 : decode cX6_readEntry 135 = .ok (.aload_n 0, 1) := dk_42 (dk_at dksX6_readEntry_5 19 rfl rfl)
theorem dX6_readEntry_136 : decode cX6_readEntry 136 = .ok (.bipush 47, 2) := dk_16 47 (dk_at dksX6_readEntry_5 20 rfl rfl)
theorem dX6_readEntry_138 : decode cX6_readEntry 138 = .ok (.iconst 2, 1) := dk_5 (dk_at dksX6_readEntry_5 22 rfl rfl)
theorem dX6_readEntry_139 : decode cX6_readEntry 139 = .ok (.invokevirtual 238, 3) := dk_182 0 238 (dk_at dksX6_readEntry_6 0 rfl rfl)
theorem dX6_readEntry_142 : decode cX6_readEntry 142 = .ok (.iastore, 1) := dk_79 (dk_at dksX6_readEntry_6 3 rfl rfl)
theorem dX6_readEntry_143 : decode cX6_readEntry 143 = .ok (.iload_n 2, 1) := dk_28 (dk_at dksX6_readEntry_6 4 rfl rfl)
theorem dX6_readEntry_144 : decode cX6_readEntry 144 = .ok (.bipush 115, 2) := dk_16 115 (dk_at dksX6_readEntry_6 5 rfl rfl)
theorem dX6_readEntry_146 : decode cX6_readEntry 146 = .ok (.if_icmp .ne 18, 3) := dk_160 0 18 (dk_at dksX6_readEntry_6 7 rfl rfl)
theorem dX6_readEntry_149 : decode cX6_readEntry 149 = .ok (.aload_n 0, 1) := dk_42 (dk_at dksX6_readEntry_6 10 rfl rfl)
theorem dX6_readEntry_150 : decode cX6_readEntry 150 = .ok (.getfield 36, 3) := dk_180 0 36 (dk_at dksX6_readEntry_6 11 rfl rfl)
theorem dX6_readEntry_153 : decode cX6_readEntry 153 = .ok (.iload_n 1, 1) := dk_27 (dk_at dksX6_readEntry_6 14 rfl rfl)
theorem dX6_readEntry_154 : decode cX6_readEntry 154 = .ok (.iconst 2, 1) := dk_5 (dk_at dksX6_readEntry_6 15 rfl rfl)
theorem dX6_readEntry_155 : decode cX6_readEntry 155 = .ok (.iadd, 1) := dk_96 (dk_at dksX6_readEntry_6 16 rfl rfl)
theorem dX6_readEntry_156 : decode cX6_readEntry 156 = .ok (.aload_n 0, 1) := dk_42 (dk_at dksX6_readEntry_6 17 rfl rfl)
theorem dX6_readEntry_157 : decode cX6_readEntry 157 = .ok (.bipush 64, 2) := dk_16 64 (dk_at dksX6_readEntry_6 18 rfl rfl)
theorem dX6_readEntry_159 : decode cX6_readEntry 159 = .ok (.iconst 3, 1) := dk_6 (dk_at dksX6_readEntry_6 20 rfl rfl)
theorem dX6_readEntry_160 : decode cX6_readEntry 160 = .ok (.invokevirtual 238, 3) := dk_182 0 238 (dk_at dksX6_readEntry_6 21 rfl rfl)
theorem dX6_readEntry_163 : decode cX6_readEntry 163 = .ok (.iastore, 1) := dk_79 (dk_at dksX6_readEntry_7 0 rfl rfl)
theorem dX6_readEntry_164 : decode cX6_readEntry 164 = .ok (.aload_n 0, 1) := dk_42 (dk_at dksX6_readEntry_7 1 rfl rfl)
theorem dX6_readEntry_165 : decode cX6_readEntry 165 = .ok (.bipush 59, 2) := dk_16 59 (dk_at dksX6_readEntry_7 2 rfl rfl)
theorem dX6_readEntry_167 : decode cX6_readEntry 167 = .ok (.invokevirtual 221, 3) := dk_182 0 221 (dk_at dksX6_readEntry_7 4 rfl rfl)
theorem dX6_readEntry_170 : decode cX6_readEntry 170 = .ok (.aload_n 0, 1) := dk_42 (dk_at dksX6_readEntry_7 7 rfl rfl)
theorem dX6_readEntry_171 : decode cX6_readEntry 171 = .ok (.dup, 1) := dk_89 (dk_at dksX6_readEntry_7 8 rfl rfl)
theorem dX6_readEntry_172 : decode cX6_readEntry 172 = .ok (.getfield 228, 3) := dk_180 0 228 (dk_at dksX6_readEntry_7 9 rfl rfl)
theorem dX6_readEntry_175 : decode cX6_readEntry 175 = .ok (.iconst 1, 1) := dk_4 (dk_at dksX6_readEntry_7 12 rfl rfl)
theorem dX6_readEntry_176 : decode cX6_readEntry 176 = .ok (.iadd, 1) := dk_96 (dk_at dksX6_readEntry_7 13 rfl rfl)
theorem dX6_readEntry_177 : decode cX6_readEntry 177 = .ok (.putfield 228, 3) := dk_181 0 228 (dk_at dksX6_readEntry_7 14 rfl rfl)
theorem dX6_readEntry_180 : decode cX6_readEntry 180 = .ok (.return_, 1) := dk_177 (dk_at dksX6_readEntry_7 17 rfl rfl)
abbrev cX6_number : ByteArray := prog_18_method_80_code
def yX6_number : MethodName := ⟨RX6, "number", "(I)I"⟩
def dkwX6_number_3 : List UInt8 := [167, 255, 209, 28, 172]
abbrev dktX6_number_3 : List UInt8 := dkwX6_number_3 ++ []
def dkwX6_number_2 : List UInt8 := [42, 180, 0, 214, 52, 96, 16, 48, 100, 61, 42, 89, 180, 0, 214, 4, 96, 181, 0, 214, 132, 3, 1]
abbrev dktX6_number_2 : List UInt8 := dkwX6_number_2 ++ dktX6_number_3
def dkwX6_number_1 : List UInt8 := [29, 27, 162, 0, 48, 42, 16, 48, 16, 57, 182, 0, 217, 153, 0, 37, 16, 10, 28, 104, 42, 180, 0, 25]
abbrev dktX6_number_1 : List UInt8 := dkwX6_number_1 ++ dktX6_number_2
def dkwX6_number_0 : List UInt8 := [42, 42, 16, 48, 16, 57, 182, 0, 217, 154, 0, 7, 4, 167, 0, 4, 3, 181, 0, 210, 3, 61, 3, 62]
abbrev dktX6_number_0 : List UInt8 := dkwX6_number_0 ++ dktX6_number_1
theorem dksX6_number_0 : cX6_number.data.toList.drop 0 = dktX6_number_0 := by decide +kernel
theorem dksX6_number_1 : cX6_number.data.toList.drop 24 = dktX6_number_1 := dk_seg dksX6_number_0 24 rfl rfl
theorem dksX6_number_2 : cX6_number.data.toList.drop 48 = dktX6_number_2 := dk_seg dksX6_number_1 24 rfl rfl
theorem dksX6_number_3 : cX6_number.data.toList.drop 71 = dktX6_number_3 := dk_seg dksX6_number_2 23 rfl rfl
theorem dX6_number_0 : decode cX6_number 0 = .ok (.aload_n 0, 1) := dk_42 (dk_at dksX6_number_0 0 rfl rfl)
theorem dX6_number_1 : decode cX6_number 1 = .ok (.aload_n 0, 1) := dk_42 (dk_at dksX6_number_0 1 rfl rfl)
theorem dX6_number_2 : decode cX6_number 2 = .ok (.bipush 48, 2) := dk_16 48 (dk_at dksX6_number_0 2 rfl rfl)
theorem dX6_number_4 : decode cX6_number 4 = .ok (.bipush 57, 2) := dk_16 57 (dk_at dksX6_number_0 4 rfl rfl)
theorem dX6_number_6 : decode cX6_number 6 = .ok (.invokevirtual 217, 3) := dk_182 0 217 (dk_at dksX6_number_0 6 rfl rfl)
theorem dX6_number_9 : decode cX6_number 9 = .ok (.ifCond .ne 7, 3) := dk_154 0 7 (dk_at dksX6_number_0 9 rfl rfl)
theorem dX6_number_12 : decode cX6_number 12 = .ok (.iconst 1, 1) := dk_4 (dk_at dksX6_number_0 12 rfl rfl)
theorem dX6_number_13 : decode cX6_number 13 = .ok (.goto 4, 3) := dk_167 0 4 (dk_at dksX6_number_0 13 rfl rfl)
theorem dX6_number_16 : decode cX6_number 16 = .ok (.iconst 0, 1) := dk_3 (dk_at dksX6_number_0 16 rfl rfl)
theorem dX6_number_17 : decode cX6_number 17 = .ok (.putfield 210, 3) := dk_181 0 210 (dk_at dksX6_number_0 17 rfl rfl)
theorem dX6_number_20 : decode cX6_number 20 = .ok (.iconst 0, 1) := dk_3 (dk_at dksX6_number_0 20 rfl rfl)
theorem dX6_number_21 : decode cX6_number 21 = .ok (.istore_n 2, 1) := dk_61 (dk_at dksX6_number_0 21 rfl rfl)
theorem dX6_number_22 : decode cX6_number 22 = .ok (.iconst 0, 1) := dk_3 (dk_at dksX6_number_0 22 rfl rfl)
theorem dX6_number_23 : decode cX6_number 23 = .ok (.istore_n 3, 1) := dk_62 (dk_at dksX6_number_0 23 rfl rfl)
theorem dX6_number_24 : decode cX6_number 24 = .ok (.iload_n 3, 1) := dk_29 (dk_at dksX6_number_1 0 rfl rfl)
theorem dX6_number_25 : decode cX6_number 25 = .ok (.iload_n 1, 1) := dk_27 (dk_at dksX6_number_1 1 rfl rfl)
theorem dX6_number_26 : decode cX6_number 26 = .ok (.if_icmp .ge 48, 3) := dk_162 0 48 (dk_at dksX6_number_1 2 rfl rfl)
theorem dX6_number_29 : decode cX6_number 29 = .ok (.aload_n 0, 1) := dk_42 (dk_at dksX6_number_1 5 rfl rfl)
theorem dX6_number_30 : decode cX6_number 30 = .ok (.bipush 48, 2) := dk_16 48 (dk_at dksX6_number_1 6 rfl rfl)
theorem dX6_number_32 : decode cX6_number 32 = .ok (.bipush 57, 2) := dk_16 57 (dk_at dksX6_number_1 8 rfl rfl)
theorem dX6_number_34 : decode cX6_number 34 = .ok (.invokevirtual 217, 3) := dk_182 0 217 (dk_at dksX6_number_1 10 rfl rfl)
theorem dX6_number_37 : decode cX6_number 37 = .ok (.ifCond .eq 37, 3) := dk_153 0 37 (dk_at dksX6_number_1 13 rfl rfl)
theorem dX6_number_40 : decode cX6_number 40 = .ok (.bipush 10, 2) := dk_16 10 (dk_at dksX6_number_1 16 rfl rfl)
theorem dX6_number_42 : decode cX6_number 42 = .ok (.iload_n 2, 1) := dk_28 (dk_at dksX6_number_1 18 rfl rfl)
theorem dX6_number_43 : decode cX6_number 43 = .ok (.imul, 1) := dk_104 (dk_at dksX6_number_1 19 rfl rfl)
theorem dX6_number_44 : decode cX6_number 44 = .ok (.aload_n 0, 1) := dk_42 (dk_at dksX6_number_1 20 rfl rfl)
theorem dX6_number_45 : decode cX6_number 45 = .ok (.getfield 25, 3) := dk_180 0 25 (dk_at dksX6_number_1 21 rfl rfl)
theorem dX6_number_48 : decode cX6_number 48 = .ok (.aload_n 0, 1) := dk_42 (dk_at dksX6_number_2 0 rfl rfl)
theorem dX6_number_49 : decode cX6_number 49 = .ok (.getfield 214, 3) := dk_180 0 214 (dk_at dksX6_number_2 1 rfl rfl)
theorem dX6_number_52 : decode cX6_number 52 = .ok (.caload, 1) := dk_52 (dk_at dksX6_number_2 4 rfl rfl)
theorem dX6_number_53 : decode cX6_number 53 = .ok (.iadd, 1) := dk_96 (dk_at dksX6_number_2 5 rfl rfl)
theorem dX6_number_54 : decode cX6_number 54 = .ok (.bipush 48, 2) := dk_16 48 (dk_at dksX6_number_2 6 rfl rfl)
theorem dX6_number_56 : decode cX6_number 56 = .ok (.isub, 1) := dk_100 (dk_at dksX6_number_2 8 rfl rfl)
theorem dX6_number_57 : decode cX6_number 57 = .ok (.istore_n 2, 1) := dk_61 (dk_at dksX6_number_2 9 rfl rfl)
theorem dX6_number_58 : decode cX6_number 58 = .ok (.aload_n 0, 1) := dk_42 (dk_at dksX6_number_2 10 rfl rfl)
theorem dX6_number_59 : decode cX6_number 59 = .ok (.dup, 1) := dk_89 (dk_at dksX6_number_2 11 rfl rfl)
theorem dX6_number_60 : decode cX6_number 60 = .ok (.getfield 214, 3) := dk_180 0 214 (dk_at dksX6_number_2 12 rfl rfl)
theorem dX6_number_63 : decode cX6_number 63 = .ok (.iconst 1, 1) := dk_4 (dk_at dksX6_number_2 15 rfl rfl)
theorem dX6_number_64 : decode cX6_number 64 = .ok (.iadd, 1) := dk_96 (dk_at dksX6_number_2 16 rfl rfl)
theorem dX6_number_65 : decode cX6_number 65 = .ok (.putfield 214, 3) := dk_181 0 214 (dk_at dksX6_number_2 17 rfl rfl)
theorem dX6_number_68 : decode cX6_number 68 = .ok (.iinc 3 1, 3) := dk_132 3 1 (dk_at dksX6_number_2 20 rfl rfl)
theorem dX6_number_71 : decode cX6_number 71 = .ok (.goto (-47), 3) := dk_167 255 209 (dk_at dksX6_number_3 0 rfl rfl)
theorem dX6_number_74 : decode cX6_number 74 = .ok (.iload_n 2, 1) := dk_28 (dk_at dksX6_number_3 3 rfl rfl)
theorem dX6_number_75 : decode cX6_number 75 = .ok (.ireturn, 1) := dk_172 (dk_at dksX6_number_3 4 rfl rfl)
abbrev cX6_isHere : ByteArray := prog_18_method_78_code
def yX6_isHere : MethodName := ⟨RX6, "isHere", "(CC)Z"⟩
def dkwX6_isHere_1 : List UInt8 := [180, 0, 214, 52, 27, 28, 184, 0, 70, 153, 0, 7, 4, 167, 0, 4, 3, 172]
abbrev dktX6_isHere_1 : List UInt8 := dkwX6_isHere_1 ++ []
def dkwX6_isHere_0 : List UInt8 := [42, 180, 0, 210, 154, 0, 35, 42, 180, 0, 214, 42, 180, 0, 207, 162, 0, 24, 42, 180, 0, 25, 42]
abbrev dktX6_isHere_0 : List UInt8 := dkwX6_isHere_0 ++ dktX6_isHere_1
theorem dksX6_isHere_0 : cX6_isHere.data.toList.drop 0 = dktX6_isHere_0 := by decide +kernel
theorem dksX6_isHere_1 : cX6_isHere.data.toList.drop 23 = dktX6_isHere_1 := dk_seg dksX6_isHere_0 23 rfl rfl
theorem dX6_isHere_0 : decode cX6_isHere 0 = .ok (.aload_n 0, 1) := dk_42 (dk_at dksX6_isHere_0 0 rfl rfl)
theorem dX6_isHere_1 : decode cX6_isHere 1 = .ok (.getfield 210, 3) := dk_180 0 210 (dk_at dksX6_isHere_0 1 rfl rfl)
theorem dX6_isHere_4 : decode cX6_isHere 4 = .ok (.ifCond .ne 35, 3) := dk_154 0 35 (dk_at dksX6_isHere_0 4 rfl rfl)
theorem dX6_isHere_7 : decode cX6_isHere 7 = .ok (.aload_n 0, 1) := dk_42 (dk_at dksX6_isHere_0 7 rfl rfl)
theorem dX6_isHere_8 : decode cX6_isHere 8 = .ok (.getfield 214, 3) := dk_180 0 214 (dk_at dksX6_isHere_0 8 rfl rfl)
theorem dX6_isHere_11 : decode cX6_isHere 11 = .ok (.aload_n 0, 1) := dk_42 (dk_at dksX6_isHere_0 11 rfl rfl)
theorem dX6_isHere_12 : decode cX6_isHere 12 = .ok (.getfield 207, 3) := dk_180 0 207 (dk_at dksX6_isHere_0 12 rfl rfl)
theorem dX6_isHere_15 : decode cX6_isHere 15 = .ok (.if_icmp .ge 24, 3) := dk_162 0 24 (dk_at dksX6_isHere_0 15 rfl rfl)
theorem dX6_isHere_18 : decode cX6_isHere 18 = .ok (.aload_n 0, 1) := dk_42 (dk_at dksX6_isHere_0 18 rfl rfl)
theorem dX6_isHere_19 : decode cX6_isHere 19 = .ok (.getfield 25, 3) := dk_180 0 25 (dk_at dksX6_isHere_0 19 rfl rfl)
theorem dX6_isHere_22 : decode cX6_isHere 22 = .ok (.aload_n 0, 1) := dk_42 (dk_at dksX6_isHere_0 22 rfl rfl)
theorem dX6_isHere_23 : decode cX6_isHere 23 = .ok (.getfield 214, 3) := dk_180 0 214 (dk_at dksX6_isHere_1 0 rfl rfl)
theorem dX6_isHere_26 : decode cX6_isHere 26 = .ok (.caload, 1) := dk_52 (dk_at dksX6_isHere_1 3 rfl rfl)
theorem dX6_isHere_27 : decode cX6_isHere 27 = .ok (.iload_n 1, 1) := dk_27 (dk_at dksX6_isHere_1 4 rfl rfl)
theorem dX6_isHere_28 : decode cX6_isHere 28 = .ok (.iload_n 2, 1) := dk_28 (dk_at dksX6_isHere_1 5 rfl rfl)
theorem dX6_isHere_29 : decode cX6_isHere 29 = .ok (.invokestatic 70, 3) := dk_184 0 70 (dk_at dksX6_isHere_1 6 rfl rfl)
theorem dX6_isHere_32 : decode cX6_isHere 32 = .ok (.ifCond .eq 7, 3) := dk_153 0 7 (dk_at dksX6_isHere_1 9 rfl rfl)
theorem dX6_isHere_35 : decode cX6_isHere 35 = .ok (.iconst 1, 1) := dk_4 (dk_at dksX6_isHere_1 12 rfl rfl)
theorem dX6_isHere_36 : decode cX6_isHere 36 = .ok (.goto 4, 3) := dk_167 0 4 (dk_at dksX6_isHere_1 13 rfl rfl)
theorem dX6_isHere_39 : decode cX6_isHere 39 = .ok (.iconst 0, 1) := dk_3 (dk_at dksX6_isHere_1 16 rfl rfl)
theorem dX6_isHere_40 : decode cX6_isHere 40 = .ok (.ireturn, 1) := dk_172 (dk_at dksX6_isHere_1 17 rfl rfl)
abbrev cX6_behind : ByteArray := prog_18_method_81_code
def yX6_behind : MethodName := ⟨RX6, "behind", "(CI)I"⟩
def dkwX6_behind_0 : List UInt8 := [42, 27, 182, 0, 221, 42, 28, 182, 0, 225, 172]
abbrev dktX6_behind_0 : List UInt8 := dkwX6_behind_0 ++ []
theorem dksX6_behind_0 : cX6_behind.data.toList.drop 0 = dktX6_behind_0 := by decide +kernel
theorem dX6_behind_0 : decode cX6_behind 0 = .ok (.aload_n 0, 1) := dk_42 (dk_at dksX6_behind_0 0 rfl rfl)
theorem dX6_behind_1 : decode cX6_behind 1 = .ok (.iload_n 1, 1) := dk_27 (dk_at dksX6_behind_0 1 rfl rfl)
theorem dX6_behind_2 : decode cX6_behind 2 = .ok (.invokevirtual 221, 3) := dk_182 0 221 (dk_at dksX6_behind_0 2 rfl rfl)
theorem dX6_behind_5 : decode cX6_behind 5 = .ok (.aload_n 0, 1) := dk_42 (dk_at dksX6_behind_0 5 rfl rfl)
theorem dX6_behind_6 : decode cX6_behind 6 = .ok (.iload_n 2, 1) := dk_28 (dk_at dksX6_behind_0 6 rfl rfl)
theorem dX6_behind_7 : decode cX6_behind 7 = .ok (.invokevirtual 225, 3) := dk_182 0 225 (dk_at dksX6_behind_0 7 rfl rfl)
theorem dX6_behind_10 : decode cX6_behind 10 = .ok (.ireturn, 1) := dk_172 (dk_at dksX6_behind_0 10 rfl rfl)
abbrev cX6_sign : ByteArray := prog_18_method_79_code
def yX6_sign : MethodName := ⟨RX6, "sign", "(C)V"⟩
def dkwX6_sign_1 : List UInt8 := [180, 0, 210, 153, 0, 7, 3, 167, 0, 4, 4, 96, 181, 0, 214, 177]
abbrev dktX6_sign_1 : List UInt8 := dkwX6_sign_1 ++ []
def dkwX6_sign_0 : List UInt8 := [42, 42, 27, 27, 182, 0, 217, 154, 0, 7, 4, 167, 0, 4, 3, 181, 0, 210, 42, 89, 180, 0, 214, 42]
abbrev dktX6_sign_0 : List UInt8 := dkwX6_sign_0 ++ dktX6_sign_1
theorem dksX6_sign_0 : cX6_sign.data.toList.drop 0 = dktX6_sign_0 := by decide +kernel
theorem dksX6_sign_1 : cX6_sign.data.toList.drop 24 = dktX6_sign_1 := dk_seg dksX6_sign_0 24 rfl rfl
theorem dX6_sign_0 : decode cX6_sign 0 = .ok (.aload_n 0, 1) := dk_42 (dk_at dksX6_sign_0 0 rfl rfl)
theorem dX6_sign_1 : decode cX6_sign 1 = .ok (.aload_n 0, 1) := dk_42 (dk_at dksX6_sign_0 1 rfl rfl)
theorem dX6_sign_2 : decode cX6_sign 2 = .ok (.iload_n 1, 1) := dk_27 (dk_at dksX6_sign_0 2 rfl rfl)
theorem dX6_sign_3 : decode cX6_sign 3 = .ok (.iload_n 1, 1) := dk_27 (dk_at dksX6_sign_0 3 rfl rfl)
theorem dX6_sign_4 : decode cX6_sign 4 = .ok (.invokevirtual 217, 3) := dk_182 0 217 (dk_at dksX6_sign_0 4 rfl rfl)
theorem dX6_sign_7 : decode cX6_sign 7 = .ok (.ifCond .ne 7, 3) := dk_154 0 7 (dk_at dksX6_sign_0 7 rfl rfl)
theorem dX6_sign_10 : decode cX6_sign 10 = .ok (.iconst 1, 1) := dk_4 (dk_at dksX6_sign_0 10 rfl rfl)
theorem dX6_sign_11 : decode cX6_sign 11 = .ok (.goto 4, 3) := dk_167 0 4 (dk_at dksX6_sign_0 11 rfl rfl)
theorem dX6_sign_14 : decode cX6_sign 14 = .ok (.iconst 0, 1) := dk_3 (dk_at dksX6_sign_0 14 rfl rfl)
theorem dX6_sign_15 : decode cX6_sign 15 = .ok (.putfield 210, 3) := dk_181 0 210 (dk_at dksX6_sign_0 15 rfl rfl)
theorem dX6_sign_18 : decode cX6_sign 18 = .ok (.aload_n 0, 1) := dk_42 (dk_at dksX6_sign_0 18 rfl rfl)
theorem dX6_sign_19 : decode cX6_sign 19 = .ok (.dup, 1) := dk_89 (dk_at dksX6_sign_0 19 rfl rfl)
theorem dX6_sign_20 : decode cX6_sign 20 = .ok (.getfield 214, 3) := dk_180 0 214 (dk_at dksX6_sign_0 20 rfl rfl)
theorem dX6_sign_23 : decode cX6_sign 23 = .ok (.aload_n 0, 1) := dk_42 (dk_at dksX6_sign_0 23 rfl rfl)
theorem dX6_sign_24 : decode cX6_sign 24 = .ok (.getfield 210, 3) := dk_180 0 210 (dk_at dksX6_sign_1 0 rfl rfl)
theorem dX6_sign_27 : decode cX6_sign 27 = .ok (.ifCond .eq 7, 3) := dk_153 0 7 (dk_at dksX6_sign_1 3 rfl rfl)
theorem dX6_sign_30 : decode cX6_sign 30 = .ok (.iconst 0, 1) := dk_3 (dk_at dksX6_sign_1 6 rfl rfl)
theorem dX6_sign_31 : decode cX6_sign 31 = .ok (.goto 4, 3) := dk_167 0 4 (dk_at dksX6_sign_1 7 rfl rfl)
theorem dX6_sign_34 : decode cX6_sign 34 = .ok (.iconst 1, 1) := dk_4 (dk_at dksX6_sign_1 10 rfl rfl)
theorem dX6_sign_35 : decode cX6_sign 35 = .ok (.iadd, 1) := dk_96 (dk_at dksX6_sign_1 11 rfl rfl)
theorem dX6_sign_36 : decode cX6_sign 36 = .ok (.putfield 214, 3) := dk_181 0 214 (dk_at dksX6_sign_1 12 rfl rfl)
theorem dX6_sign_39 : decode cX6_sign 39 = .ok (.return_, 1) := dk_177 (dk_at dksX6_sign_1 15 rfl rfl)
abbrev cX6_fails : ByteArray := prog_18_method_84_code
def yX6_fails : MethodName := ⟨RX6, "fails", "(I)Z"⟩
def dkwX6_fails_9 : List UInt8 := [182, 0, 189, 158, 0, 7, 4, 167, 0, 4, 3, 172]
abbrev dktX6_fails_9 : List UInt8 := dkwX6_fails_9 ++ []
def dkwX6_fails_8 : List UInt8 := [28, 182, 0, 74, 153, 0, 11, 42, 28, 182, 0, 174, 156, 0, 7, 4, 167, 0, 4, 3, 172, 42, 28]
abbrev dktX6_fails_8 : List UInt8 := dkwX6_fails_8 ++ dktX6_fails_9
def dkwX6_fails_7 : List UInt8 := [158, 0, 7, 4, 167, 0, 4, 3, 172, 42, 3, 182, 0, 177, 158, 0, 7, 4, 167, 0, 4, 3, 172, 42]
abbrev dktX6_fails_7 : List UInt8 := dkwX6_fails_7 ++ dktX6_fails_8
def dkwX6_fails_6 : List UInt8 := [167, 0, 4, 3, 172, 42, 27, 182, 0, 242, 153, 0, 15, 42, 28, 29, 2, 3, 3, 182, 0, 142]
abbrev dktX6_fails_6 : List UInt8 := dkwX6_fails_6 ++ dktX6_fails_7
def dkwX6_fails_5 : List UInt8 := [153, 0, 23, 21, 4, 16, 100, 163, 0, 16, 42, 28, 29, 21, 4, 3, 3, 182, 0, 142, 158, 0, 7, 4]
abbrev dktX6_fails_5 : List UInt8 := dkwX6_fails_5 ++ dktX6_fails_6
def dkwX6_fails_4 : List UInt8 := [167, 0, 4, 3, 172, 42, 180, 0, 36, 6, 27, 104, 5, 96, 46, 54, 4, 42, 27, 182, 0, 242]
abbrev dktX6_fails_4 : List UInt8 := dkwX6_fails_4 ++ dktX6_fails_5
def dkwX6_fails_3 : List UInt8 := [42, 28, 182, 0, 78, 158, 0, 7, 4, 167, 0, 4, 3, 172, 42, 28, 3, 182, 0, 155, 158, 0, 7, 4]
abbrev dktX6_fails_3 : List UInt8 := dkwX6_fails_3 ++ dktX6_fails_4
def dkwX6_fails_2 : List UInt8 := [171, 0, 0, 0, 0, 195, 0, 0, 0, 6, 0, 0, 0, 99, 0, 0, 0, 58, 0, 0, 0, 103, 0, 0, 0, 159, 0, 0, 0, 106, 0, 0, 0, 173, 0, 0, 0, 114, 0, 0, 0, 133, 0, 0, 0, 115, 0, 0, 0, 87, 0, 0, 0, 120, 0, 0, 0, 72]
abbrev dktX6_fails_2 : List UInt8 := dkwX6_fails_2 ++ dktX6_fails_3
def dkwX6_fails_1 : List UInt8 := [27, 52]
abbrev dktX6_fails_1 : List UInt8 := dkwX6_fails_1 ++ dktX6_fails_2
def dkwX6_fails_0 : List UInt8 := [42, 180, 0, 36, 6, 27, 104, 46, 61, 42, 180, 0, 36, 6, 27, 104, 4, 96, 46, 62, 42, 180, 0, 33]
abbrev dktX6_fails_0 : List UInt8 := dkwX6_fails_0 ++ dktX6_fails_1
theorem dksX6_fails_0 : cX6_fails.data.toList.drop 0 = dktX6_fails_0 := by decide +kernel
theorem dksX6_fails_1 : cX6_fails.data.toList.drop 24 = dktX6_fails_1 := dk_seg dksX6_fails_0 24 rfl rfl
theorem dksX6_fails_2 : cX6_fails.data.toList.drop 26 = dktX6_fails_2 := dk_seg dksX6_fails_1 2 rfl rfl
theorem dksX6_fails_3 : cX6_fails.data.toList.drop 84 = dktX6_fails_3 := dk_seg dksX6_fails_2 58 rfl rfl
theorem dksX6_fails_4 : cX6_fails.data.toList.drop 108 = dktX6_fails_4 := dk_seg dksX6_fails_3 24 rfl rfl
theorem dksX6_fails_5 : cX6_fails.data.toList.drop 130 = dktX6_fails_5 := dk_seg dksX6_fails_4 22 rfl rfl
theorem dksX6_fails_6 : cX6_fails.data.toList.drop 154 = dktX6_fails_6 := dk_seg dksX6_fails_5 24 rfl rfl
theorem dksX6_fails_7 : cX6_fails.data.toList.drop 176 = dktX6_fails_7 := dk_seg dksX6_fails_6 22 rfl rfl
theorem dksX6_fails_8 : cX6_fails.data.toList.drop 200 = dktX6_fails_8 := dk_seg dksX6_fails_7 24 rfl rfl
theorem dksX6_fails_9 : cX6_fails.data.toList.drop 223 = dktX6_fails_9 := dk_seg dksX6_fails_8 23 rfl rfl
theorem dX6_fails_0 : decode cX6_fails 0 = .ok (.aload_n 0, 1) := dk_42 (dk_at dksX6_fails_0 0 rfl rfl)
theorem dX6_fails_1 : decode cX6_fails 1 = .ok (.getfield 36, 3) := dk_180 0 36 (dk_at dksX6_fails_0 1 rfl rfl)
theorem dX6_fails_4 : decode cX6_fails 4 = .ok (.iconst 3, 1) := dk_6 (dk_at dksX6_fails_0 4 rfl rfl)
theorem dX6_fails_5 : decode cX6_fails 5 = .ok (.iload_n 1, 1) := dk_27 (dk_at dksX6_fails_0 5 rfl rfl)
theorem dX6_fails_6 : decode cX6_fails 6 = .ok (.imul, 1) := dk_104 (dk_at dksX6_fails_0 6 rfl rfl)
theorem dX6_fails_7 : decode cX6_fails 7 = .ok (.iaload, 1) := dk_46 (dk_at dksX6_fails_0 7 rfl rfl)
theorem dX6_fails_8 : decode cX6_fails 8 = .ok (.istore_n 2, 1) := dk_61 (dk_at dksX6_fails_0 8 rfl rfl)
theorem dX6_fails_9 : decode cX6_fails 9 = .ok (.aload_n 0, 1) := dk_42 (dk_at dksX6_fails_0 9 rfl rfl)
theorem dX6_fails_10 : decode cX6_fails 10 = .ok (.getfield 36, 3) := dk_180 0 36 (dk_at dksX6_fails_0 10 rfl rfl)
theorem dX6_fails_13 : decode cX6_fails 13 = .ok (.iconst 3, 1) := dk_6 (dk_at dksX6_fails_0 13 rfl rfl)
theorem dX6_fails_14 : decode cX6_fails 14 = .ok (.iload_n 1, 1) := dk_27 (dk_at dksX6_fails_0 14 rfl rfl)
theorem dX6_fails_15 : decode cX6_fails 15 = .ok (.imul, 1) := dk_104 (dk_at dksX6_fails_0 15 rfl rfl)
theorem dX6_fails_16 : decode cX6_fails 16 = .ok (.iconst 1, 1) := dk_4 (dk_at dksX6_fails_0 16 rfl rfl)
theorem dX6_fails_17 : decode cX6_fails 17 = .ok (.iadd, 1) := dk_96 (dk_at dksX6_fails_0 17 rfl rfl)
theorem dX6_fails_18 : decode cX6_fails 18 = .ok (.iaload, 1) := dk_46 (dk_at dksX6_fails_0 18 rfl rfl)
theorem dX6_fails_19 : decode cX6_fails 19 = .ok (.istore_n 3, 1) := dk_62 (dk_at dksX6_fails_0 19 rfl rfl)
theorem dX6_fails_20 : decode cX6_fails 20 = .ok (.aload_n 0, 1) := dk_42 (dk_at dksX6_fails_0 20 rfl rfl)
theorem dX6_fails_21 : decode cX6_fails 21 = .ok (.getfield 33, 3) := dk_180 0 33 (dk_at dksX6_fails_0 21 rfl rfl)
theorem dX6_fails_24 : decode cX6_fails 24 = .ok (.iload_n 1, 1) := dk_27 (dk_at dksX6_fails_1 0 rfl rfl)
theorem dX6_fails_25 : decode cX6_fails 25 = .ok (.caload, 1) := dk_52 (dk_at dksX6_fails_1 1 rfl rfl)
theorem dX6_fails_26 : decode cX6_fails 26 = .ok (.lookupswitch 195 #[(99, 58), (103, 159), (106, 173), (114, 133), (115, 87), (120, 72)], 58) := by decide +kernel
theorem dX6_fails_84 : decode cX6_fails 84 = .ok (.aload_n 0, 1) := dk_42 (dk_at dksX6_fails_3 0 rfl rfl)
theorem dX6_fails_85 : decode cX6_fails 85 = .ok (.iload_n 2, 1) := dk_28 (dk_at dksX6_fails_3 1 rfl rfl)
theorem dX6_fails_86 : decode cX6_fails 86 = .ok (.invokevirtual 78, 3) := dk_182 0 78 (dk_at dksX6_fails_3 2 rfl rfl)
theorem dX6_fails_89 : decode cX6_fails 89 = .ok (.ifCond .le 7, 3) := dk_158 0 7 (dk_at dksX6_fails_3 5 rfl rfl)
theorem dX6_fails_92 : decode cX6_fails 92 = .ok (.iconst 1, 1) := dk_4 (dk_at dksX6_fails_3 8 rfl rfl)
theorem dX6_fails_93 : decode cX6_fails 93 = .ok (.goto 4, 3) := dk_167 0 4 (dk_at dksX6_fails_3 9 rfl rfl)
theorem dX6_fails_96 : decode cX6_fails 96 = .ok (.iconst 0, 1) := dk_3 (dk_at dksX6_fails_3 12 rfl rfl)
theorem dX6_fails_97 : decode cX6_fails 97 = .ok (.ireturn, 1) := dk_172 (dk_at dksX6_fails_3 13 rfl rfl)
theorem dX6_fails_98 : decode cX6_fails 98 = .ok (.aload_n 0, 1) := dk_42 (dk_at dksX6_fails_3 14 rfl rfl)
theorem dX6_fails_99 : decode cX6_fails 99 = .ok (.iload_n 2, 1) := dk_28 (dk_at dksX6_fails_3 15 rfl rfl)
theorem dX6_fails_100 : decode cX6_fails 100 = .ok (.iconst 0, 1) := dk_3 (dk_at dksX6_fails_3 16 rfl rfl)
theorem dX6_fails_101 : decode cX6_fails 101 = .ok (.invokevirtual 155, 3) := dk_182 0 155 (dk_at dksX6_fails_3 17 rfl rfl)
theorem dX6_fails_104 : decode cX6_fails 104 = .ok (.ifCond .le 7, 3) := dk_158 0 7 (dk_at dksX6_fails_3 20 rfl rfl)
theorem dX6_fails_107 : decode cX6_fails 107 = .ok (.iconst 1, 1) := dk_4 (dk_at dksX6_fails_3 23 rfl rfl)
theorem dX6_fails_108 : decode cX6_fails 108 = .ok (.goto 4, 3) := dk_167 0 4 (dk_at dksX6_fails_4 0 rfl rfl)
theorem dX6_fails_111 : decode cX6_fails 111 = .ok (.iconst 0, 1) := dk_3 (dk_at dksX6_fails_4 3 rfl rfl)
theorem dX6_fails_112 : decode cX6_fails 112 = .ok (.ireturn, 1) := dk_172 (dk_at dksX6_fails_4 4 rfl rfl)
theorem dX6_fails_113 : decode cX6_fails 113 = .ok (.aload_n 0, 1) := dk_42 (dk_at dksX6_fails_4 5 rfl rfl)
theorem dX6_fails_114 : decode cX6_fails 114 = .ok (.getfield 36, 3) := dk_180 0 36 (dk_at dksX6_fails_4 6 rfl rfl)
theorem dX6_fails_117 : decode cX6_fails 117 = .ok (.iconst 3, 1) := dk_6 (dk_at dksX6_fails_4 9 rfl rfl)
theorem dX6_fails_118 : decode cX6_fails 118 = .ok (.iload_n 1, 1) := dk_27 (dk_at dksX6_fails_4 10 rfl rfl)
theorem dX6_fails_119 : decode cX6_fails 119 = .ok (.imul, 1) := dk_104 (dk_at dksX6_fails_4 11 rfl rfl)
theorem dX6_fails_120 : decode cX6_fails 120 = .ok (.iconst 2, 1) := dk_5 (dk_at dksX6_fails_4 12 rfl rfl)
theorem dX6_fails_121 : decode cX6_fails 121 = .ok (.iadd, 1) := dk_96 (dk_at dksX6_fails_4 13 rfl rfl)
theorem dX6_fails_122 : decode cX6_fails 122 = .ok (.iaload, 1) := dk_46 (dk_at dksX6_fails_4 14 rfl rfl)
theorem dX6_fails_123 : decode cX6_fails 123 = .ok (.istore 4, 2) := dk_54 4 (dk_at dksX6_fails_4 15 rfl rfl)
theorem dX6_fails_125 : decode cX6_fails 125 = .ok (.aload_n 0, 1) := dk_42 (dk_at dksX6_fails_4 17 rfl rfl)
theorem dX6_fails_126 : decode cX6_fails 126 = .ok (.iload_n 1, 1) := dk_27 (dk_at dksX6_fails_4 18 rfl rfl)
theorem dX6_fails_127 : decode cX6_fails 127 = .ok (.invokevirtual 242, 3) := dk_182 0 242 (dk_at dksX6_fails_4 19 rfl rfl)
theorem dX6_fails_130 : decode cX6_fails 130 = .ok (.ifCond .eq 23, 3) := dk_153 0 23 (dk_at dksX6_fails_5 0 rfl rfl)
theorem dX6_fails_133 : decode cX6_fails 133 = .ok (.iload 4, 2) := dk_21 4 (dk_at dksX6_fails_5 3 rfl rfl)
theorem dX6_fails_135 : decode cX6_fails 135 = .ok (.bipush 100, 2) := dk_16 100 (dk_at dksX6_fails_5 5 rfl rfl)
theorem dX6_fails_137 : decode cX6_fails 137 = .ok (.if_icmp .gt 16, 3) := dk_163 0 16 (dk_at dksX6_fails_5 7 rfl rfl)
theorem dX6_fails_140 : decode cX6_fails 140 = .ok (.aload_n 0, 1) := dk_42 (dk_at dksX6_fails_5 10 rfl rfl)
theorem dX6_fails_141 : decode cX6_fails 141 = .ok (.iload_n 2, 1) := dk_28 (dk_at dksX6_fails_5 11 rfl rfl)
theorem dX6_fails_142 : decode cX6_fails 142 = .ok (.iload_n 3, 1) := dk_29 (dk_at dksX6_fails_5 12 rfl rfl)
theorem dX6_fails_143 : decode cX6_fails 143 = .ok (.iload 4, 2) := dk_21 4 (dk_at dksX6_fails_5 13 rfl rfl)
theorem dX6_fails_145 : decode cX6_fails 145 = .ok (.iconst 0, 1) := dk_3 (dk_at dksX6_fails_5 15 rfl rfl)
theorem dX6_fails_146 : decode cX6_fails 146 = .ok (.iconst 0, 1) := dk_3 (dk_at dksX6_fails_5 16 rfl rfl)
theorem dX6_fails_147 : decode cX6_fails 147 = .ok (.invokevirtual 142, 3) := dk_182 0 142 (dk_at dksX6_fails_5 17 rfl rfl)
theorem dX6_fails_150 : decode cX6_fails 150 = .ok (.ifCond .le 7, 3) := dk_158 0 7 (dk_at dksX6_fails_5 20 rfl rfl)
theorem dX6_fails_153 : decode cX6_fails 153 = .ok (.iconst 1, 1) := dk_4 (dk_at dksX6_fails_5 23 rfl rfl)
theorem dX6_fails_154 : decode cX6_fails 154 = .ok (.goto 4, 3) := dk_167 0 4 (dk_at dksX6_fails_6 0 rfl rfl)
theorem dX6_fails_157 : decode cX6_fails 157 = .ok (.iconst 0, 1) := dk_3 (dk_at dksX6_fails_6 3 rfl rfl)
theorem dX6_fails_158 : decode cX6_fails 158 = .ok (.ireturn, 1) := dk_172 (dk_at dksX6_fails_6 4 rfl rfl)
theorem dX6_fails_159 : decode cX6_fails 159 = .ok (.aload_n 0, 1) := dk_42 (dk_at dksX6_fails_6 5 rfl rfl)
theorem dX6_fails_160 : decode cX6_fails 160 = .ok (.iload_n 1, 1) := dk_27 (dk_at dksX6_fails_6 6 rfl rfl)
theorem dX6_fails_161 : decode cX6_fails 161 = .ok (.invokevirtual 242, 3) := dk_182 0 242 (dk_at dksX6_fails_6 7 rfl rfl)
theorem dX6_fails_164 : decode cX6_fails 164 = .ok (.ifCond .eq 15, 3) := dk_153 0 15 (dk_at dksX6_fails_6 10 rfl rfl)
theorem dX6_fails_167 : decode cX6_fails 167 = .ok (.aload_n 0, 1) := dk_42 (dk_at dksX6_fails_6 13 rfl rfl)
theorem dX6_fails_168 : decode cX6_fails 168 = .ok (.iload_n 2, 1) := dk_28 (dk_at dksX6_fails_6 14 rfl rfl)
theorem dX6_fails_169 : decode cX6_fails 169 = .ok (.iload_n 3, 1) := dk_29 (dk_at dksX6_fails_6 15 rfl rfl)
theorem dX6_fails_170 : decode cX6_fails 170 = .ok (.iconst (-1), 1) := dk_2 (dk_at dksX6_fails_6 16 rfl rfl)
theorem dX6_fails_171 : decode cX6_fails 171 = .ok (.iconst 0, 1) := dk_3 (dk_at dksX6_fails_6 17 rfl rfl)
theorem dX6_fails_172 : decode cX6_fails 172 = .ok (.iconst 0, 1) := dk_3 (dk_at dksX6_fails_6 18 rfl rfl)
theorem dX6_fails_173 : decode cX6_fails 173 = .ok (.invokevirtual 142, 3) := dk_182 0 142 (dk_at dksX6_fails_6 19 rfl rfl)
theorem dX6_fails_176 : decode cX6_fails 176 = .ok (.ifCond .le 7, 3) := dk_158 0 7 (dk_at dksX6_fails_7 0 rfl rfl)
theorem dX6_fails_179 : decode cX6_fails 179 = .ok (.iconst 1, 1) := dk_4 (dk_at dksX6_fails_7 3 rfl rfl)
theorem dX6_fails_180 : decode cX6_fails 180 = .ok (.goto 4, 3) := dk_167 0 4 (dk_at dksX6_fails_7 4 rfl rfl)
theorem dX6_fails_183 : decode cX6_fails 183 = .ok (.iconst 0, 1) := dk_3 (dk_at dksX6_fails_7 7 rfl rfl)
theorem dX6_fails_184 : decode cX6_fails 184 = .ok (.ireturn, 1) := dk_172 (dk_at dksX6_fails_7 8 rfl rfl)
theorem dX6_fails_185 : decode cX6_fails 185 = .ok (.aload_n 0, 1) := dk_42 (dk_at dksX6_fails_7 9 rfl rfl)
theorem dX6_fails_186 : decode cX6_fails 186 = .ok (.iconst 0, 1) := dk_3 (dk_at dksX6_fails_7 10 rfl rfl)
theorem dX6_fails_187 : decode cX6_fails 187 = .ok (.invokevirtual 177, 3) := dk_182 0 177 (dk_at dksX6_fails_7 11 rfl rfl)
theorem dX6_fails_190 : decode cX6_fails 190 = .ok (.ifCond .le 7, 3) := dk_158 0 7 (dk_at dksX6_fails_7 14 rfl rfl)
theorem dX6_fails_193 : decode cX6_fails 193 = .ok (.iconst 1, 1) := dk_4 (dk_at dksX6_fails_7 17 rfl rfl)
theorem dX6_fails_194 : decode cX6_fails 194 = .ok (.goto 4, 3) := dk_167 0 4 (dk_at dksX6_fails_7 18 rfl rfl)
theorem dX6_fails_197 : decode cX6_fails 197 = .ok (.iconst 0, 1) := dk_3 (dk_at dksX6_fails_7 21 rfl rfl)
theorem dX6_fails_198 : decode cX6_fails 198 = .ok (.ireturn, 1) := dk_172 (dk_at dksX6_fails_7 22 rfl rfl)
theorem dX6_fails_199 : decode cX6_fails 199 = .ok (.aload_n 0, 1) := dk_42 (dk_at dksX6_fails_7 23 rfl rfl)
theorem dX6_fails_200 : decode cX6_fails 200 = .ok (.iload_n 2, 1) := dk_28 (dk_at dksX6_fails_8 0 rfl rfl)
theorem dX6_fails_201 : decode cX6_fails 201 = .ok (.invokevirtual 74, 3) := dk_182 0 74 (dk_at dksX6_fails_8 1 rfl rfl)
theorem dX6_fails_204 : decode cX6_fails 204 = .ok (.ifCond .eq 11, 3) := dk_153 0 11 (dk_at dksX6_fails_8 4 rfl rfl)
theorem dX6_fails_207 : decode cX6_fails 207 = .ok (.aload_n 0, 1) := dk_42 (dk_at dksX6_fails_8 7 rfl rfl)
theorem dX6_fails_208 : decode cX6_fails 208 = .ok (.iload_n 2, 1) := dk_28 (dk_at dksX6_fails_8 8 rfl rfl)
theorem dX6_fails_209 : decode cX6_fails 209 = .ok (.invokevirtual 174, 3) := dk_182 0 174 (dk_at dksX6_fails_8 9 rfl rfl)
theorem dX6_fails_212 : decode cX6_fails 212 = .ok (.ifCond .ge 7, 3) := dk_156 0 7 (dk_at dksX6_fails_8 12 rfl rfl)
theorem dX6_fails_215 : decode cX6_fails 215 = .ok (.iconst 1, 1) := dk_4 (dk_at dksX6_fails_8 15 rfl rfl)
theorem dX6_fails_216 : decode cX6_fails 216 = .ok (.goto 4, 3) := dk_167 0 4 (dk_at dksX6_fails_8 16 rfl rfl)
theorem dX6_fails_219 : decode cX6_fails 219 = .ok (.iconst 0, 1) := dk_3 (dk_at dksX6_fails_8 19 rfl rfl)
theorem dX6_fails_220 : decode cX6_fails 220 = .ok (.ireturn, 1) := dk_172 (dk_at dksX6_fails_8 20 rfl rfl)
theorem dX6_fails_221 : decode cX6_fails 221 = .ok (.aload_n 0, 1) := dk_42 (dk_at dksX6_fails_8 21 rfl rfl)
theorem dX6_fails_222 : decode cX6_fails 222 = .ok (.iload_n 2, 1) := dk_28 (dk_at dksX6_fails_8 22 rfl rfl)
theorem dX6_fails_223 : decode cX6_fails 223 = .ok (.invokevirtual 189, 3) := dk_182 0 189 (dk_at dksX6_fails_9 0 rfl rfl)
theorem dX6_fails_226 : decode cX6_fails 226 = .ok (.ifCond .le 7, 3) := dk_158 0 7 (dk_at dksX6_fails_9 3 rfl rfl)
theorem dX6_fails_229 : decode cX6_fails 229 = .ok (.iconst 1, 1) := dk_4 (dk_at dksX6_fails_9 6 rfl rfl)
theorem dX6_fails_230 : decode cX6_fails 230 = .ok (.goto 4, 3) := dk_167 0 4 (dk_at dksX6_fails_9 7 rfl rfl)
theorem dX6_fails_233 : decode cX6_fails 233 = .ok (.iconst 0, 1) := dk_3 (dk_at dksX6_fails_9 10 rfl rfl)
theorem dX6_fails_234 : decode cX6_fails 234 = .ok (.ireturn, 1) := dk_172 (dk_at dksX6_fails_9 11 rfl rfl)
abbrev cX6_isTold : ByteArray := prog_18_method_83_code
def yX6_isTold : MethodName := ⟨RX6, "isTold", "(I)Z"⟩
def dkwX6_isTold_1 : List UInt8 := [46, 184, 0, 122, 153, 0, 7, 4, 167, 0, 4, 3, 172]
abbrev dktX6_isTold_1 : List UInt8 := dkwX6_isTold_1 ++ []
def dkwX6_isTold_0 : List UInt8 := [42, 42, 180, 0, 36, 6, 27, 104, 46, 182, 0, 74, 153, 0, 23, 42, 180, 0, 36, 6, 27, 104, 4, 96]
abbrev dktX6_isTold_0 : List UInt8 := dkwX6_isTold_0 ++ dktX6_isTold_1
theorem dksX6_isTold_0 : cX6_isTold.data.toList.drop 0 = dktX6_isTold_0 := by decide +kernel
theorem dksX6_isTold_1 : cX6_isTold.data.toList.drop 24 = dktX6_isTold_1 := dk_seg dksX6_isTold_0 24 rfl rfl
theorem dX6_isTold_0 : decode cX6_isTold 0 = .ok (.aload_n 0, 1) := dk_42 (dk_at dksX6_isTold_0 0 rfl rfl)
theorem dX6_isTold_1 : decode cX6_isTold 1 = .ok (.aload_n 0, 1) := dk_42 (dk_at dksX6_isTold_0 1 rfl rfl)
theorem dX6_isTold_2 : decode cX6_isTold 2 = .ok (.getfield 36, 3) := dk_180 0 36 (dk_at dksX6_isTold_0 2 rfl rfl)
theorem dX6_isTold_5 : decode cX6_isTold 5 = .ok (.iconst 3, 1) := dk_6 (dk_at dksX6_isTold_0 5 rfl rfl)
theorem dX6_isTold_6 : decode cX6_isTold 6 = .ok (.iload_n 1, 1) := dk_27 (dk_at dksX6_isTold_0 6 rfl rfl)
theorem dX6_isTold_7 : decode cX6_isTold 7 = .ok (.imul, 1) := dk_104 (dk_at dksX6_isTold_0 7 rfl rfl)
theorem dX6_isTold_8 : decode cX6_isTold 8 = .ok (.iaload, 1) := dk_46 (dk_at dksX6_isTold_0 8 rfl rfl)
theorem dX6_isTold_9 : decode cX6_isTold 9 = .ok (.invokevirtual 74, 3) := dk_182 0 74 (dk_at dksX6_isTold_0 9 rfl rfl)
theorem dX6_isTold_12 : decode cX6_isTold 12 = .ok (.ifCond .eq 23, 3) := dk_153 0 23 (dk_at dksX6_isTold_0 12 rfl rfl)
theorem dX6_isTold_15 : decode cX6_isTold 15 = .ok (.aload_n 0, 1) := dk_42 (dk_at dksX6_isTold_0 15 rfl rfl)
theorem dX6_isTold_16 : decode cX6_isTold 16 = .ok (.getfield 36, 3) := dk_180 0 36 (dk_at dksX6_isTold_0 16 rfl rfl)
theorem dX6_isTold_19 : decode cX6_isTold 19 = .ok (.iconst 3, 1) := dk_6 (dk_at dksX6_isTold_0 19 rfl rfl)
theorem dX6_isTold_20 : decode cX6_isTold 20 = .ok (.iload_n 1, 1) := dk_27 (dk_at dksX6_isTold_0 20 rfl rfl)
theorem dX6_isTold_21 : decode cX6_isTold 21 = .ok (.imul, 1) := dk_104 (dk_at dksX6_isTold_0 21 rfl rfl)
theorem dX6_isTold_22 : decode cX6_isTold 22 = .ok (.iconst 1, 1) := dk_4 (dk_at dksX6_isTold_0 22 rfl rfl)
theorem dX6_isTold_23 : decode cX6_isTold 23 = .ok (.iadd, 1) := dk_96 (dk_at dksX6_isTold_0 23 rfl rfl)
theorem dX6_isTold_24 : decode cX6_isTold 24 = .ok (.iaload, 1) := dk_46 (dk_at dksX6_isTold_1 0 rfl rfl)
theorem dX6_isTold_25 : decode cX6_isTold 25 = .ok (.invokestatic 122, 3) := dk_184 0 122 (dk_at dksX6_isTold_1 1 rfl rfl)
theorem dX6_isTold_28 : decode cX6_isTold 28 = .ok (.ifCond .eq 7, 3) := dk_153 0 7 (dk_at dksX6_isTold_1 4 rfl rfl)
theorem dX6_isTold_31 : decode cX6_isTold 31 = .ok (.iconst 1, 1) := dk_4 (dk_at dksX6_isTold_1 7 rfl rfl)
theorem dX6_isTold_32 : decode cX6_isTold 32 = .ok (.goto 4, 3) := dk_167 0 4 (dk_at dksX6_isTold_1 8 rfl rfl)
theorem dX6_isTold_35 : decode cX6_isTold 35 = .ok (.iconst 0, 1) := dk_3 (dk_at dksX6_isTold_1 11 rfl rfl)
theorem dX6_isTold_36 : decode cX6_isTold 36 = .ok (.ireturn, 1) := dk_172 (dk_at dksX6_isTold_1 12 rfl rfl)
abbrev cX6_errorPosition : ByteArray := prog_18_method_86_code
def yX6_errorPosition : MethodName := ⟨RX6, "errorPosition", "()I"⟩
def dkwX6_errorPosition_1 : List UInt8 := [167, 0, 7, 42, 180, 0, 29, 172]
abbrev dktX6_errorPosition_1 : List UInt8 := dkwX6_errorPosition_1 ++ []
def dkwX6_errorPosition_0 : List UInt8 := [42, 42, 180, 0, 29, 156, 0, 7, 4, 167, 0, 4, 3, 181, 0, 42, 42, 180, 0, 42, 158, 0, 7, 3]
abbrev dktX6_errorPosition_0 : List UInt8 := dkwX6_errorPosition_0 ++ dktX6_errorPosition_1
theorem dksX6_errorPosition_0 : cX6_errorPosition.data.toList.drop 0 = dktX6_errorPosition_0 := by decide +kernel
theorem dksX6_errorPosition_1 : cX6_errorPosition.data.toList.drop 24 = dktX6_errorPosition_1 := dk_seg dksX6_errorPosition_0 24 rfl rfl
theorem dX6_errorPosition_0 : decode cX6_errorPosition 0 = .ok (.aload_n 0, 1) := dk_42 (dk_at dksX6_errorPosition_0 0 rfl rfl)
theorem dX6_errorPosition_1 : decode cX6_errorPosition 1 = .ok (.aload_n 0, 1) := dk_42 (dk_at dksX6_errorPosition_0 1 rfl rfl)
theorem dX6_errorPosition_2 : decode cX6_errorPosition 2 = .ok (.getfield 29, 3) := dk_180 0 29 (dk_at dksX6_errorPosition_0 2 rfl rfl)
theorem dX6_errorPosition_5 : decode cX6_errorPosition 5 = .ok (.ifCond .ge 7, 3) := dk_156 0 7 (dk_at dksX6_errorPosition_0 5 rfl rfl)
theorem dX6_errorPosition_8 : decode cX6_errorPosition 8 = .ok (.iconst 1, 1) := dk_4 (dk_at dksX6_errorPosition_0 8 rfl rfl)
theorem dX6_errorPosition_9 : decode cX6_errorPosition 9 = .ok (.goto 4, 3) := dk_167 0 4 (dk_at dksX6_errorPosition_0 9 rfl rfl)
theorem dX6_errorPosition_12 : decode cX6_errorPosition 12 = .ok (.iconst 0, 1) := dk_3 (dk_at dksX6_errorPosition_0 12 rfl rfl)
theorem dX6_errorPosition_13 : decode cX6_errorPosition 13 = .ok (.putfield 42, 3) := dk_181 0 42 (dk_at dksX6_errorPosition_0 13 rfl rfl)
theorem dX6_errorPosition_16 : decode cX6_errorPosition 16 = .ok (.aload_n 0, 1) := dk_42 (dk_at dksX6_errorPosition_0 16 rfl rfl)
theorem dX6_errorPosition_17 : decode cX6_errorPosition 17 = .ok (.getfield 42, 3) := dk_180 0 42 (dk_at dksX6_errorPosition_0 17 rfl rfl)
theorem dX6_errorPosition_20 : decode cX6_errorPosition 20 = .ok (.ifCond .le 7, 3) := dk_158 0 7 (dk_at dksX6_errorPosition_0 20 rfl rfl)
theorem dX6_errorPosition_23 : decode cX6_errorPosition 23 = .ok (.iconst 0, 1) := dk_3 (dk_at dksX6_errorPosition_0 23 rfl rfl)
theorem dX6_errorPosition_24 : decode cX6_errorPosition 24 = .ok (.goto 7, 3) := dk_167 0 7 (dk_at dksX6_errorPosition_1 0 rfl rfl)
theorem dX6_errorPosition_27 : decode cX6_errorPosition 27 = .ok (.aload_n 0, 1) := dk_42 (dk_at dksX6_errorPosition_1 3 rfl rfl)
theorem dX6_errorPosition_28 : decode cX6_errorPosition 28 = .ok (.getfield 29, 3) := dk_180 0 29 (dk_at dksX6_errorPosition_1 4 rfl rfl)
theorem dX6_errorPosition_31 : decode cX6_errorPosition 31 = .ok (.ireturn, 1) := dk_172 (dk_at dksX6_errorPosition_1 7 rfl rfl)
abbrev cX6_undo : ByteArray := prog_18_method_87_code
def yX6_undo : MethodName := ⟨RX6, "undo", "()I"⟩
def dkwX6_undo_2 : List UInt8 := [180, 0, 9, 3, 17, 1, 206, 184, 0, 48, 42, 180, 0, 45, 172]
abbrev dktX6_undo_2 : List UInt8 := dkwX6_undo_2 ++ []
def dkwX6_undo_1 : List UInt8 := [172, 42, 89, 180, 0, 45, 4, 100, 181, 0, 45, 42, 180, 0, 19, 17, 1, 206, 42, 180, 0, 45, 104, 42]
abbrev dktX6_undo_1 : List UInt8 := dkwX6_undo_1 ++ dktX6_undo_2
def dkwX6_undo_0 : List UInt8 := [42, 42, 180, 0, 45, 154, 0, 7, 4, 167, 0, 4, 3, 181, 0, 42, 42, 180, 0, 42, 158, 0, 5, 3]
abbrev dktX6_undo_0 : List UInt8 := dkwX6_undo_0 ++ dktX6_undo_1
theorem dksX6_undo_0 : cX6_undo.data.toList.drop 0 = dktX6_undo_0 := by decide +kernel
theorem dksX6_undo_1 : cX6_undo.data.toList.drop 24 = dktX6_undo_1 := dk_seg dksX6_undo_0 24 rfl rfl
theorem dksX6_undo_2 : cX6_undo.data.toList.drop 48 = dktX6_undo_2 := dk_seg dksX6_undo_1 24 rfl rfl
theorem dX6_undo_0 : decode cX6_undo 0 = .ok (.aload_n 0, 1) := dk_42 (dk_at dksX6_undo_0 0 rfl rfl)
theorem dX6_undo_1 : decode cX6_undo 1 = .ok (.aload_n 0, 1) := dk_42 (dk_at dksX6_undo_0 1 rfl rfl)
theorem dX6_undo_2 : decode cX6_undo 2 = .ok (.getfield 45, 3) := dk_180 0 45 (dk_at dksX6_undo_0 2 rfl rfl)
theorem dX6_undo_5 : decode cX6_undo 5 = .ok (.ifCond .ne 7, 3) := dk_154 0 7 (dk_at dksX6_undo_0 5 rfl rfl)
theorem dX6_undo_8 : decode cX6_undo 8 = .ok (.iconst 1, 1) := dk_4 (dk_at dksX6_undo_0 8 rfl rfl)
theorem dX6_undo_9 : decode cX6_undo 9 = .ok (.goto 4, 3) := dk_167 0 4 (dk_at dksX6_undo_0 9 rfl rfl)
theorem dX6_undo_12 : decode cX6_undo 12 = .ok (.iconst 0, 1) := dk_3 (dk_at dksX6_undo_0 12 rfl rfl)
theorem dX6_undo_13 : decode cX6_undo 13 = .ok (.putfield 42, 3) := dk_181 0 42 (dk_at dksX6_undo_0 13 rfl rfl)
theorem dX6_undo_16 : decode cX6_undo 16 = .ok (.aload_n 0, 1) := dk_42 (dk_at dksX6_undo_0 16 rfl rfl)
theorem dX6_undo_17 : decode cX6_undo 17 = .ok (.getfield 42, 3) := dk_180 0 42 (dk_at dksX6_undo_0 17 rfl rfl)
theorem dX6_undo_20 : decode cX6_undo 20 = .ok (.ifCond .le 5, 3) := dk_158 0 5 (dk_at dksX6_undo_0 20 rfl rfl)
theorem dX6_undo_23 : decode cX6_undo 23 = .ok (.iconst 0, 1) := dk_3 (dk_at dksX6_undo_0 23 rfl rfl)
theorem dX6_undo_24 : decode cX6_undo 24 = .ok (.ireturn, 1) := dk_172 (dk_at dksX6_undo_1 0 rfl rfl)
theorem dX6_undo_25 : decode cX6_undo 25 = .ok (.aload_n 0, 1) := dk_42 (dk_at dksX6_undo_1 1 rfl rfl)
theorem dX6_undo_26 : decode cX6_undo 26 = .ok (.dup, 1) := dk_89 (dk_at dksX6_undo_1 2 rfl rfl)
theorem dX6_undo_27 : decode cX6_undo 27 = .ok (.getfield 45, 3) := dk_180 0 45 (dk_at dksX6_undo_1 3 rfl rfl)
theorem dX6_undo_30 : decode cX6_undo 30 = .ok (.iconst 1, 1) := dk_4 (dk_at dksX6_undo_1 6 rfl rfl)
theorem dX6_undo_31 : decode cX6_undo 31 = .ok (.isub, 1) := dk_100 (dk_at dksX6_undo_1 7 rfl rfl)
theorem dX6_undo_32 : decode cX6_undo 32 = .ok (.putfield 45, 3) := dk_181 0 45 (dk_at dksX6_undo_1 8 rfl rfl)
theorem dX6_undo_35 : decode cX6_undo 35 = .ok (.aload_n 0, 1) := dk_42 (dk_at dksX6_undo_1 11 rfl rfl)
theorem dX6_undo_36 : decode cX6_undo 36 = .ok (.getfield 19, 3) := dk_180 0 19 (dk_at dksX6_undo_1 12 rfl rfl)
theorem dX6_undo_39 : decode cX6_undo 39 = .ok (.sipush 462, 3) := dk_17 1 206 (dk_at dksX6_undo_1 15 rfl rfl)
theorem dX6_undo_42 : decode cX6_undo 42 = .ok (.aload_n 0, 1) := dk_42 (dk_at dksX6_undo_1 18 rfl rfl)
theorem dX6_undo_43 : decode cX6_undo 43 = .ok (.getfield 45, 3) := dk_180 0 45 (dk_at dksX6_undo_1 19 rfl rfl)
theorem dX6_undo_46 : decode cX6_undo 46 = .ok (.imul, 1) := dk_104 (dk_at dksX6_undo_1 22 rfl rfl)
theorem dX6_undo_47 : decode cX6_undo 47 = .ok (.aload_n 0, 1) := dk_42 (dk_at dksX6_undo_1 23 rfl rfl)
theorem dX6_undo_48 : decode cX6_undo 48 = .ok (.getfield 9, 3) := dk_180 0 9 (dk_at dksX6_undo_2 0 rfl rfl)
theorem dX6_undo_51 : decode cX6_undo 51 = .ok (.iconst 0, 1) := dk_3 (dk_at dksX6_undo_2 3 rfl rfl)
theorem dX6_undo_52 : decode cX6_undo 52 = .ok (.sipush 462, 3) := dk_17 1 206 (dk_at dksX6_undo_2 4 rfl rfl)
theorem dX6_undo_55 : decode cX6_undo 55 = .ok (.invokestatic 48, 3) := dk_184 0 48 (dk_at dksX6_undo_2 7 rfl rfl)
theorem dX6_undo_58 : decode cX6_undo 58 = .ok (.aload_n 0, 1) := dk_42 (dk_at dksX6_undo_2 10 rfl rfl)
theorem dX6_undo_59 : decode cX6_undo 59 = .ok (.getfield 45, 3) := dk_180 0 45 (dk_at dksX6_undo_2 11 rfl rfl)
theorem dX6_undo_62 : decode cX6_undo 62 = .ok (.ireturn, 1) := dk_172 (dk_at dksX6_undo_2 14 rfl rfl)
abbrev cX6_save : ByteArray := prog_18_method_88_code
def yX6_save : MethodName := ⟨RX6, "save", "()I"⟩
def dkwX6_save_1 : List UInt8 := [181, 0, 251, 42, 180, 0, 9, 3, 46, 172]
abbrev dktX6_save_1 : List UInt8 := dkwX6_save_1 ++ []
def dkwX6_save_0 : List UInt8 := [42, 3, 181, 0, 42, 42, 180, 0, 9, 3, 42, 180, 0, 16, 3, 17, 1, 206, 184, 0, 48, 42, 4]
abbrev dktX6_save_0 : List UInt8 := dkwX6_save_0 ++ dktX6_save_1
theorem dksX6_save_0 : cX6_save.data.toList.drop 0 = dktX6_save_0 := by decide +kernel
theorem dksX6_save_1 : cX6_save.data.toList.drop 23 = dktX6_save_1 := dk_seg dksX6_save_0 23 rfl rfl
theorem dX6_save_0 : decode cX6_save 0 = .ok (.aload_n 0, 1) := dk_42 (dk_at dksX6_save_0 0 rfl rfl)
theorem dX6_save_1 : decode cX6_save 1 = .ok (.iconst 0, 1) := dk_3 (dk_at dksX6_save_0 1 rfl rfl)
theorem dX6_save_2 : decode cX6_save 2 = .ok (.putfield 42, 3) := dk_181 0 42 (dk_at dksX6_save_0 2 rfl rfl)
theorem dX6_save_5 : decode cX6_save 5 = .ok (.aload_n 0, 1) := dk_42 (dk_at dksX6_save_0 5 rfl rfl)
theorem dX6_save_6 : decode cX6_save 6 = .ok (.getfield 9, 3) := dk_180 0 9 (dk_at dksX6_save_0 6 rfl rfl)
theorem dX6_save_9 : decode cX6_save 9 = .ok (.iconst 0, 1) := dk_3 (dk_at dksX6_save_0 9 rfl rfl)
theorem dX6_save_10 : decode cX6_save 10 = .ok (.aload_n 0, 1) := dk_42 (dk_at dksX6_save_0 10 rfl rfl)
theorem dX6_save_11 : decode cX6_save 11 = .ok (.getfield 16, 3) := dk_180 0 16 (dk_at dksX6_save_0 11 rfl rfl)
theorem dX6_save_14 : decode cX6_save 14 = .ok (.iconst 0, 1) := dk_3 (dk_at dksX6_save_0 14 rfl rfl)
theorem dX6_save_15 : decode cX6_save 15 = .ok (.sipush 462, 3) := dk_17 1 206 (dk_at dksX6_save_0 15 rfl rfl)
theorem dX6_save_18 : decode cX6_save 18 = .ok (.invokestatic 48, 3) := dk_184 0 48 (dk_at dksX6_save_0 18 rfl rfl)
theorem dX6_save_21 : decode cX6_save 21 = .ok (.aload_n 0, 1) := dk_42 (dk_at dksX6_save_0 21 rfl rfl)
theorem dX6_save_22 : decode cX6_save 22 = .ok (.iconst 1, 1) := dk_4 (dk_at dksX6_save_0 22 rfl rfl)
theorem dX6_save_23 : decode cX6_save 23 = .ok (.putfield 251, 3) := dk_181 0 251 (dk_at dksX6_save_1 0 rfl rfl)
theorem dX6_save_26 : decode cX6_save 26 = .ok (.aload_n 0, 1) := dk_42 (dk_at dksX6_save_1 3 rfl rfl)
theorem dX6_save_27 : decode cX6_save 27 = .ok (.getfield 9, 3) := dk_180 0 9 (dk_at dksX6_save_1 4 rfl rfl)
theorem dX6_save_30 : decode cX6_save 30 = .ok (.iconst 0, 1) := dk_3 (dk_at dksX6_save_1 7 rfl rfl)
theorem dX6_save_31 : decode cX6_save 31 = .ok (.iaload, 1) := dk_46 (dk_at dksX6_save_1 8 rfl rfl)
theorem dX6_save_32 : decode cX6_save 32 = .ok (.ireturn, 1) := dk_172 (dk_at dksX6_save_1 9 rfl rfl)
abbrev cX6_restore : ByteArray := prog_18_method_89_code
def yX6_restore : MethodName := ⟨RX6, "restore", "()I"⟩
def dkwX6_restore_2 : List UInt8 := [180, 0, 9, 3, 46, 172]
abbrev dktX6_restore_2 : List UInt8 := dkwX6_restore_2 ++ []
def dkwX6_restore_1 : List UInt8 := [172, 42, 180, 0, 16, 3, 42, 180, 0, 9, 3, 17, 1, 206, 184, 0, 48, 42, 3, 181, 0, 45, 42]
abbrev dktX6_restore_1 : List UInt8 := dkwX6_restore_1 ++ dktX6_restore_2
def dkwX6_restore_0 : List UInt8 := [42, 42, 180, 0, 251, 153, 0, 7, 3, 167, 0, 4, 4, 181, 0, 42, 42, 180, 0, 42, 158, 0, 5, 3]
abbrev dktX6_restore_0 : List UInt8 := dkwX6_restore_0 ++ dktX6_restore_1
theorem dksX6_restore_0 : cX6_restore.data.toList.drop 0 = dktX6_restore_0 := by decide +kernel
theorem dksX6_restore_1 : cX6_restore.data.toList.drop 24 = dktX6_restore_1 := dk_seg dksX6_restore_0 24 rfl rfl
theorem dksX6_restore_2 : cX6_restore.data.toList.drop 47 = dktX6_restore_2 := dk_seg dksX6_restore_1 23 rfl rfl
theorem dX6_restore_0 : decode cX6_restore 0 = .ok (.aload_n 0, 1) := dk_42 (dk_at dksX6_restore_0 0 rfl rfl)
theorem dX6_restore_1 : decode cX6_restore 1 = .ok (.aload_n 0, 1) := dk_42 (dk_at dksX6_restore_0 1 rfl rfl)
theorem dX6_restore_2 : decode cX6_restore 2 = .ok (.getfield 251, 3) := dk_180 0 251 (dk_at dksX6_restore_0 2 rfl rfl)
theorem dX6_restore_5 : decode cX6_restore 5 = .ok (.ifCond .eq 7, 3) := dk_153 0 7 (dk_at dksX6_restore_0 5 rfl rfl)
theorem dX6_restore_8 : decode cX6_restore 8 = .ok (.iconst 0, 1) := dk_3 (dk_at dksX6_restore_0 8 rfl rfl)
theorem dX6_restore_9 : decode cX6_restore 9 = .ok (.goto 4, 3) := dk_167 0 4 (dk_at dksX6_restore_0 9 rfl rfl)
theorem dX6_restore_12 : decode cX6_restore 12 = .ok (.iconst 1, 1) := dk_4 (dk_at dksX6_restore_0 12 rfl rfl)
theorem dX6_restore_13 : decode cX6_restore 13 = .ok (.putfield 42, 3) := dk_181 0 42 (dk_at dksX6_restore_0 13 rfl rfl)
theorem dX6_restore_16 : decode cX6_restore 16 = .ok (.aload_n 0, 1) := dk_42 (dk_at dksX6_restore_0 16 rfl rfl)
theorem dX6_restore_17 : decode cX6_restore 17 = .ok (.getfield 42, 3) := dk_180 0 42 (dk_at dksX6_restore_0 17 rfl rfl)
theorem dX6_restore_20 : decode cX6_restore 20 = .ok (.ifCond .le 5, 3) := dk_158 0 5 (dk_at dksX6_restore_0 20 rfl rfl)
theorem dX6_restore_23 : decode cX6_restore 23 = .ok (.iconst 0, 1) := dk_3 (dk_at dksX6_restore_0 23 rfl rfl)
theorem dX6_restore_24 : decode cX6_restore 24 = .ok (.ireturn, 1) := dk_172 (dk_at dksX6_restore_1 0 rfl rfl)
theorem dX6_restore_25 : decode cX6_restore 25 = .ok (.aload_n 0, 1) := dk_42 (dk_at dksX6_restore_1 1 rfl rfl)
theorem dX6_restore_26 : decode cX6_restore 26 = .ok (.getfield 16, 3) := dk_180 0 16 (dk_at dksX6_restore_1 2 rfl rfl)
theorem dX6_restore_29 : decode cX6_restore 29 = .ok (.iconst 0, 1) := dk_3 (dk_at dksX6_restore_1 5 rfl rfl)
theorem dX6_restore_30 : decode cX6_restore 30 = .ok (.aload_n 0, 1) := dk_42 (dk_at dksX6_restore_1 6 rfl rfl)
theorem dX6_restore_31 : decode cX6_restore 31 = .ok (.getfield 9, 3) := dk_180 0 9 (dk_at dksX6_restore_1 7 rfl rfl)
theorem dX6_restore_34 : decode cX6_restore 34 = .ok (.iconst 0, 1) := dk_3 (dk_at dksX6_restore_1 10 rfl rfl)
theorem dX6_restore_35 : decode cX6_restore 35 = .ok (.sipush 462, 3) := dk_17 1 206 (dk_at dksX6_restore_1 11 rfl rfl)
theorem dX6_restore_38 : decode cX6_restore 38 = .ok (.invokestatic 48, 3) := dk_184 0 48 (dk_at dksX6_restore_1 14 rfl rfl)
theorem dX6_restore_41 : decode cX6_restore 41 = .ok (.aload_n 0, 1) := dk_42 (dk_at dksX6_restore_1 17 rfl rfl)
theorem dX6_restore_42 : decode cX6_restore 42 = .ok (.iconst 0, 1) := dk_3 (dk_at dksX6_restore_1 18 rfl rfl)
theorem dX6_restore_43 : decode cX6_restore 43 = .ok (.putfield 45, 3) := dk_181 0 45 (dk_at dksX6_restore_1 19 rfl rfl)
theorem dX6_restore_46 : decode cX6_restore 46 = .ok (.aload_n 0, 1) := dk_42 (dk_at dksX6_restore_1 22 rfl rfl)
theorem dX6_restore_47 : decode cX6_restore 47 = .ok (.getfield 9, 3) := dk_180 0 9 (dk_at dksX6_restore_2 0 rfl rfl)
theorem dX6_restore_50 : decode cX6_restore 50 = .ok (.iconst 0, 1) := dk_3 (dk_at dksX6_restore_2 3 rfl rfl)
theorem dX6_restore_51 : decode cX6_restore 51 = .ok (.iaload, 1) := dk_46 (dk_at dksX6_restore_2 4 rfl rfl)
theorem dX6_restore_52 : decode cX6_restore 52 = .ok (.ireturn, 1) := dk_172 (dk_at dksX6_restore_2 5 rfl rfl)
theorem q115 : (Jvm.Cond.initialized "CueStackModel") ∈ lw_all := lw_g (lw_at lw_m1 32 rfl) rfl
theorem q316 : (Jvm.Cond.selects "CueStackModel" ({ cls := "java/lang/Object", name := "getClass", desc := "()Ljava/lang/Class;" } : Jvm.MethodName) ({ cls := "java/lang/Object", name := "getClass", desc := "()Ljava/lang/Class;" } : Jvm.MethodName)) ∈ lw_all := lw_g (lw_at lw_m1 233 rfl) rfl
theorem q476 : (Jvm.Cond.selects "CueStackModel" ({ cls := "java/lang/Object", name := "hashCode", desc := "()I" } : Jvm.MethodName) ({ cls := "java/lang/Object", name := "hashCode", desc := "()I" } : Jvm.MethodName)) ∈ lw_all := lw_g (lw_at lw_m2 153 rfl) rfl
theorem q862 : (Jvm.Cond.selects "CueStackModel" ({ cls := "java/lang/Object", name := "equals", desc := "(Ljava/lang/Object;)Z" } : Jvm.MethodName) ({ cls := "java/lang/Object", name := "equals", desc := "(Ljava/lang/Object;)Z" } : Jvm.MethodName)) ∈ lw_all := lw_g (lw_at lw_m4 59 rfl) rfl
theorem q2634 : (Jvm.Cond.instantiable "CueStackModel" (17 : Nat)) ∈ lw_all := lw_g (lw_at lw_m11 151 rfl) rfl
theorem q2636 : (Jvm.Cond.instanceMethod ({ cls := "CueStackModel", name := "<init>", desc := "()V" } : Jvm.MethodName)) ∈ lw_all := lw_g (lw_at lw_m11 153 rfl) rfl
theorem q2637 : (Jvm.Cond.code ({ cls := "CueStackModel", name := "<init>", desc := "()V" } : Jvm.MethodName) prog_18_method_1_code (1 : Nat) (Option.none : Option Jvm.ClassFile.FieldType)) ∈ lw_all := lw_g (lw_at lw_m11 154 rfl) rfl
theorem q2638 : (Jvm.Cond.methodLink "CueStackModel" (3 : Nat) ({ cls := "java/lang/Object", name := "<init>", desc := "()V" } : Jvm.MethodName)) ∈ lw_all := lw_g (lw_at lw_m11 155 rfl) rfl
theorem q2639 : (Jvm.Cond.methodLink "CueStackModel" (39 : Nat) ({ cls := "CueStackModel", name := "begin", desc := "()V" } : Jvm.MethodName)) ∈ lw_all := lw_g (lw_at lw_m11 156 rfl) rfl
theorem q2640 : (Jvm.Cond.privateMethod ({ cls := "CueStackModel", name := "begin", desc := "()V" } : Jvm.MethodName)) ∈ lw_tbl := lw_at lw_m11 157 rfl
theorem q2641 : (Jvm.Cond.instanceMethod ({ cls := "CueStackModel", name := "begin", desc := "()V" } : Jvm.MethodName)) ∈ lw_all := lw_g (lw_at lw_m11 158 rfl) rfl
theorem q2642 : (Jvm.Cond.code ({ cls := "CueStackModel", name := "begin", desc := "()V" } : Jvm.MethodName) prog_18_method_4_code (2 : Nat) (Option.none : Option Jvm.ClassFile.FieldType)) ∈ lw_all := lw_g (lw_at lw_m11 159 rfl) rfl
theorem q2643 : (Jvm.Cond.fieldLink "CueStackModel" (9 : Nat) "CueStackModel" "s" "[I") ∈ lw_all := lw_g (lw_at lw_m11 160 rfl) rfl
theorem q2644 : (Jvm.Cond.fieldLink "CueStackModel" (13 : Nat) "CueStackModel" "before" "[I") ∈ lw_all := lw_g (lw_at lw_m11 161 rfl) rfl
theorem q2645 : (Jvm.Cond.fieldLink "CueStackModel" (16 : Nat) "CueStackModel" "saved" "[I") ∈ lw_all := lw_g (lw_at lw_m11 162 rfl) rfl
theorem q2646 : (Jvm.Cond.fieldLink "CueStackModel" (251 : Nat) "CueStackModel" "isSaved" "Z") ∈ lw_all := lw_g (lw_at lw_m11 163 rfl) rfl
theorem q2647 : (Jvm.Cond.fieldLink "CueStackModel" (19 : Nat) "CueStackModel" "past" "[I") ∈ lw_all := lw_g (lw_at lw_m11 164 rfl) rfl
theorem q2648 : (Jvm.Cond.fieldLink "CueStackModel" (45 : Nat) "CueStackModel" "pastMany" "I") ∈ lw_all := lw_g (lw_at lw_m11 165 rfl) rfl
theorem q2649 : (Jvm.Cond.fieldLink "CueStackModel" (60 : Nat) "CueStackModel" "reason" "I") ∈ lw_all := lw_g (lw_at lw_m11 166 rfl) rfl
theorem q2650 : (Jvm.Cond.fieldLink "CueStackModel" (42 : Nat) "CueStackModel" "thrown" "I") ∈ lw_all := lw_g (lw_at lw_m11 167 rfl) rfl
theorem q2651 : (Jvm.Cond.fieldLink "CueStackModel" (22 : Nat) "CueStackModel" "levels" "[I") ∈ lw_all := lw_g (lw_at lw_m11 168 rfl) rfl
theorem q2652 : (Jvm.Cond.fieldLink "CueStackModel" (25 : Nat) "CueStackModel" "input" "[C") ∈ lw_all := lw_g (lw_at lw_m11 169 rfl) rfl
theorem q2653 : (Jvm.Cond.fieldLink "CueStackModel" (207 : Nat) "CueStackModel" "length" "I") ∈ lw_all := lw_g (lw_at lw_m11 170 rfl) rfl
theorem q2654 : (Jvm.Cond.fieldLink "CueStackModel" (214 : Nat) "CueStackModel" "place" "I") ∈ lw_all := lw_g (lw_at lw_m11 171 rfl) rfl
theorem q2655 : (Jvm.Cond.fieldLink "CueStackModel" (210 : Nat) "CueStackModel" "isWrong" "Z") ∈ lw_all := lw_g (lw_at lw_m11 172 rfl) rfl
theorem q2656 : (Jvm.Cond.fieldLink "CueStackModel" (29 : Nat) "CueStackModel" "error" "I") ∈ lw_all := lw_g (lw_at lw_m11 173 rfl) rfl
theorem q2657 : (Jvm.Cond.fieldLink "CueStackModel" (33 : Nat) "CueStackModel" "kinds" "[C") ∈ lw_all := lw_g (lw_at lw_m11 174 rfl) rfl
theorem q2658 : (Jvm.Cond.fieldLink "CueStackModel" (36 : Nat) "CueStackModel" "numbers" "[I") ∈ lw_all := lw_g (lw_at lw_m11 175 rfl) rfl
theorem q2659 : (Jvm.Cond.fieldLink "CueStackModel" (228 : Nat) "CueStackModel" "entries" "I") ∈ lw_all := lw_g (lw_at lw_m11 176 rfl) rfl
theorem q2660 : (Jvm.Cond.laysFinal "CueStackModel" "CueStackModel" "s" "[I") ∈ lw_all := lw_g (lw_at lw_m11 177 rfl) rfl
theorem q2661 : (Jvm.Cond.soleField "CueStackModel" "s") ∈ lw_all := lw_g (lw_at lw_m11 178 rfl) rfl
theorem q2662 : (Jvm.Cond.laysFinal "CueStackModel" "CueStackModel" "before" "[I") ∈ lw_all := lw_g (lw_at lw_m11 179 rfl) rfl
theorem q2663 : (Jvm.Cond.soleField "CueStackModel" "before") ∈ lw_all := lw_g (lw_at lw_m11 180 rfl) rfl
theorem q2664 : (Jvm.Cond.laysFinal "CueStackModel" "CueStackModel" "saved" "[I") ∈ lw_all := lw_g (lw_at lw_m11 181 rfl) rfl
theorem q2665 : (Jvm.Cond.soleField "CueStackModel" "saved") ∈ lw_all := lw_g (lw_at lw_m11 182 rfl) rfl
theorem q2666 : (Jvm.Cond.lays "CueStackModel" "CueStackModel" "isSaved" "Z") ∈ lw_all := lw_g (lw_at lw_m11 183 rfl) rfl
theorem q2667 : (Jvm.Cond.soleField "CueStackModel" "isSaved") ∈ lw_all := lw_g (lw_at lw_m11 184 rfl) rfl
theorem q2668 : (Jvm.Cond.laysFinal "CueStackModel" "CueStackModel" "past" "[I") ∈ lw_all := lw_g (lw_at lw_m11 185 rfl) rfl
theorem q2669 : (Jvm.Cond.soleField "CueStackModel" "past") ∈ lw_all := lw_g (lw_at lw_m11 186 rfl) rfl
theorem q2670 : (Jvm.Cond.lays "CueStackModel" "CueStackModel" "pastMany" "I") ∈ lw_all := lw_g (lw_at lw_m11 187 rfl) rfl
theorem q2671 : (Jvm.Cond.soleField "CueStackModel" "pastMany") ∈ lw_all := lw_g (lw_at lw_m11 188 rfl) rfl
theorem q2672 : (Jvm.Cond.lays "CueStackModel" "CueStackModel" "reason" "I") ∈ lw_all := lw_g (lw_at lw_m11 189 rfl) rfl
theorem q2673 : (Jvm.Cond.soleField "CueStackModel" "reason") ∈ lw_all := lw_g (lw_at lw_m11 190 rfl) rfl
theorem q2674 : (Jvm.Cond.lays "CueStackModel" "CueStackModel" "thrown" "I") ∈ lw_all := lw_g (lw_at lw_m11 191 rfl) rfl
theorem q2675 : (Jvm.Cond.soleField "CueStackModel" "thrown") ∈ lw_all := lw_g (lw_at lw_m11 192 rfl) rfl
theorem q2676 : (Jvm.Cond.laysFinal "CueStackModel" "CueStackModel" "levels" "[I") ∈ lw_all := lw_g (lw_at lw_m11 193 rfl) rfl
theorem q2677 : (Jvm.Cond.soleField "CueStackModel" "levels") ∈ lw_all := lw_g (lw_at lw_m11 194 rfl) rfl
theorem q2678 : (Jvm.Cond.laysFinal "CueStackModel" "CueStackModel" "input" "[C") ∈ lw_all := lw_g (lw_at lw_m11 195 rfl) rfl
theorem q2679 : (Jvm.Cond.soleField "CueStackModel" "input") ∈ lw_all := lw_g (lw_at lw_m11 196 rfl) rfl
theorem q2680 : (Jvm.Cond.lays "CueStackModel" "CueStackModel" "length" "I") ∈ lw_all := lw_g (lw_at lw_m11 197 rfl) rfl
theorem q2681 : (Jvm.Cond.soleField "CueStackModel" "length") ∈ lw_all := lw_g (lw_at lw_m11 198 rfl) rfl
theorem q2682 : (Jvm.Cond.lays "CueStackModel" "CueStackModel" "place" "I") ∈ lw_all := lw_g (lw_at lw_m11 199 rfl) rfl
theorem q2683 : (Jvm.Cond.soleField "CueStackModel" "place") ∈ lw_all := lw_g (lw_at lw_m11 200 rfl) rfl
theorem q2684 : (Jvm.Cond.lays "CueStackModel" "CueStackModel" "isWrong" "Z") ∈ lw_all := lw_g (lw_at lw_m11 201 rfl) rfl
theorem q2685 : (Jvm.Cond.soleField "CueStackModel" "isWrong") ∈ lw_all := lw_g (lw_at lw_m11 202 rfl) rfl
theorem q2686 : (Jvm.Cond.lays "CueStackModel" "CueStackModel" "error" "I") ∈ lw_all := lw_g (lw_at lw_m11 203 rfl) rfl
theorem q2687 : (Jvm.Cond.soleField "CueStackModel" "error") ∈ lw_all := lw_g (lw_at lw_m11 204 rfl) rfl
theorem q2688 : (Jvm.Cond.laysFinal "CueStackModel" "CueStackModel" "kinds" "[C") ∈ lw_all := lw_g (lw_at lw_m11 205 rfl) rfl
theorem q2689 : (Jvm.Cond.soleField "CueStackModel" "kinds") ∈ lw_all := lw_g (lw_at lw_m11 206 rfl) rfl
theorem q2690 : (Jvm.Cond.laysFinal "CueStackModel" "CueStackModel" "numbers" "[I") ∈ lw_all := lw_g (lw_at lw_m11 207 rfl) rfl
theorem q2691 : (Jvm.Cond.soleField "CueStackModel" "numbers") ∈ lw_all := lw_g (lw_at lw_m11 208 rfl) rfl
theorem q2692 : (Jvm.Cond.lays "CueStackModel" "CueStackModel" "entries" "I") ∈ lw_all := lw_g (lw_at lw_m11 209 rfl) rfl
theorem q2693 : (Jvm.Cond.soleField "CueStackModel" "entries") ∈ lw_all := lw_g (lw_at lw_m11 210 rfl) rfl
theorem q2694 : (Jvm.Cond.superclass "CueStackModel" "java/lang/Object") ∈ lw_all := lw_g (lw_at lw_m11 211 rfl) rfl
theorem q2696 : (Jvm.Cond.instanceMethod ({ cls := "CueStackModel", name := "thrown", desc := "()I" } : Jvm.MethodName)) ∈ lw_all := lw_g (lw_at lw_m11 213 rfl) rfl
theorem q2697 : (Jvm.Cond.selects "CueStackModel" ({ cls := "CueStackModel", name := "thrown", desc := "()I" } : Jvm.MethodName) ({ cls := "CueStackModel", name := "thrown", desc := "()I" } : Jvm.MethodName)) ∈ lw_all := lw_g (lw_at lw_m11 214 rfl) rfl
theorem q2698 : (Jvm.Cond.code ({ cls := "CueStackModel", name := "thrown", desc := "()I" } : Jvm.MethodName) prog_18_method_2_code (1 : Nat) (Option.some Jvm.ClassFile.FieldType.int)) ∈ lw_all := lw_g (lw_at lw_m11 215 rfl) rfl
theorem q2700 : (Jvm.Cond.instanceMethod ({ cls := "CueStackModel", name := "clear", desc := "()I" } : Jvm.MethodName)) ∈ lw_all := lw_g (lw_at lw_m11 217 rfl) rfl
theorem q2701 : (Jvm.Cond.selects "CueStackModel" ({ cls := "CueStackModel", name := "clear", desc := "()I" } : Jvm.MethodName) ({ cls := "CueStackModel", name := "clear", desc := "()I" } : Jvm.MethodName)) ∈ lw_all := lw_g (lw_at lw_m11 218 rfl) rfl
theorem q2702 : (Jvm.Cond.code ({ cls := "CueStackModel", name := "clear", desc := "()I" } : Jvm.MethodName) prog_18_method_9_code (2 : Nat) (Option.some Jvm.ClassFile.FieldType.int)) ∈ lw_all := lw_g (lw_at lw_m11 219 rfl) rfl
theorem q2704 : (Jvm.Cond.instanceMethod ({ cls := "CueStackModel", name := "addCue", desc := "(I)I" } : Jvm.MethodName)) ∈ lw_all := lw_g (lw_at lw_m11 221 rfl) rfl
theorem q2705 : (Jvm.Cond.selects "CueStackModel" ({ cls := "CueStackModel", name := "addCue", desc := "(I)I" } : Jvm.MethodName) ({ cls := "CueStackModel", name := "addCue", desc := "(I)I" } : Jvm.MethodName)) ∈ lw_all := lw_g (lw_at lw_m11 222 rfl) rfl
theorem q2706 : (Jvm.Cond.code ({ cls := "CueStackModel", name := "addCue", desc := "(I)I" } : Jvm.MethodName) prog_18_method_17_code (2 : Nat) (Option.some Jvm.ClassFile.FieldType.int)) ∈ lw_all := lw_g (lw_at lw_m11 223 rfl) rfl
theorem q2707 : (Jvm.Cond.methodLink "CueStackModel" (54 : Nat) ({ cls := "CueStackModel", name := "keepState", desc := "()V" } : Jvm.MethodName)) ∈ lw_all := lw_g (lw_at lw_m11 224 rfl) rfl
theorem q2708 : (Jvm.Cond.privateMethod ({ cls := "CueStackModel", name := "keepState", desc := "()V" } : Jvm.MethodName)) ∈ lw_tbl := lw_at lw_m11 225 rfl
theorem q2709 : (Jvm.Cond.instanceMethod ({ cls := "CueStackModel", name := "keepState", desc := "()V" } : Jvm.MethodName)) ∈ lw_all := lw_g (lw_at lw_m11 226 rfl) rfl
theorem q2710 : (Jvm.Cond.code ({ cls := "CueStackModel", name := "keepState", desc := "()V" } : Jvm.MethodName) prog_18_method_5_code (1 : Nat) (Option.none : Option Jvm.ClassFile.FieldType)) ∈ lw_all := lw_g (lw_at lw_m11 227 rfl) rfl
theorem q2711 : (Jvm.Cond.methodLink "CueStackModel" (48 : Nat) ({ cls := "java/lang/System", name := "arraycopy", desc := "(Ljava/lang/Object;ILjava/lang/Object;II)V" } : Jvm.MethodName)) ∈ lw_all := lw_g (lw_at lw_m11 228 rfl) rfl
theorem q2712 : (Jvm.Cond.methodLink "CueStackModel" (78 : Nat) ({ cls := "CueStackModel", name := "doAdd", desc := "(I)I" } : Jvm.MethodName)) ∈ lw_all := lw_g (lw_at lw_m11 229 rfl) rfl
theorem q2713 : (Jvm.Cond.privateMethod ({ cls := "CueStackModel", name := "doAdd", desc := "(I)I" } : Jvm.MethodName)) ∈ lw_tbl := lw_at lw_m11 230 rfl
theorem q2714 : (Jvm.Cond.instanceMethod ({ cls := "CueStackModel", name := "doAdd", desc := "(I)I" } : Jvm.MethodName)) ∈ lw_all := lw_g (lw_at lw_m11 231 rfl) rfl
theorem q2715 : (Jvm.Cond.code ({ cls := "CueStackModel", name := "doAdd", desc := "(I)I" } : Jvm.MethodName) prog_18_method_16_code (4 : Nat) (Option.some Jvm.ClassFile.FieldType.int)) ∈ lw_all := lw_g (lw_at lw_m11 232 rfl) rfl
theorem q2716 : (Jvm.Cond.methodLink "CueStackModel" (70 : Nat) ({ cls := "CueStackModel", name := "in", desc := "(III)Z" } : Jvm.MethodName)) ∈ lw_all := lw_g (lw_at lw_m11 233 rfl) rfl
theorem q2717 : (Jvm.Cond.static ({ cls := "CueStackModel", name := "in", desc := "(III)Z" } : Jvm.MethodName)) ∈ lw_all := lw_g (lw_at lw_m11 234 rfl) rfl
theorem q2718 : (Jvm.Cond.code ({ cls := "CueStackModel", name := "in", desc := "(III)Z" } : Jvm.MethodName) prog_18_method_3_code (3 : Nat) (Option.some Jvm.ClassFile.FieldType.boolean)) ∈ lw_all := lw_g (lw_at lw_m11 235 rfl) rfl
theorem q2719 : (Jvm.Cond.methodLink "CueStackModel" (74 : Nat) ({ cls := "CueStackModel", name := "isCue", desc := "(I)Z" } : Jvm.MethodName)) ∈ lw_all := lw_g (lw_at lw_m11 236 rfl) rfl
theorem q2720 : (Jvm.Cond.privateMethod ({ cls := "CueStackModel", name := "isCue", desc := "(I)Z" } : Jvm.MethodName)) ∈ lw_tbl := lw_at lw_m11 237 rfl
theorem q2721 : (Jvm.Cond.instanceMethod ({ cls := "CueStackModel", name := "isCue", desc := "(I)Z" } : Jvm.MethodName)) ∈ lw_all := lw_g (lw_at lw_m11 238 rfl) rfl
theorem q2722 : (Jvm.Cond.code ({ cls := "CueStackModel", name := "isCue", desc := "(I)Z" } : Jvm.MethodName) prog_18_method_12_code (2 : Nat) (Option.some Jvm.ClassFile.FieldType.boolean)) ∈ lw_all := lw_g (lw_at lw_m11 239 rfl) rfl
theorem q2723 : (Jvm.Cond.methodLink "CueStackModel" (67 : Nat) ({ cls := "CueStackModel", name := "placeOf", desc := "(I)I" } : Jvm.MethodName)) ∈ lw_all := lw_g (lw_at lw_m12 0 rfl) rfl
theorem q2724 : (Jvm.Cond.privateMethod ({ cls := "CueStackModel", name := "placeOf", desc := "(I)I" } : Jvm.MethodName)) ∈ lw_tbl := lw_at lw_m12 1 rfl
theorem q2725 : (Jvm.Cond.instanceMethod ({ cls := "CueStackModel", name := "placeOf", desc := "(I)I" } : Jvm.MethodName)) ∈ lw_all := lw_g (lw_at lw_m12 2 rfl) rfl
theorem q2726 : (Jvm.Cond.code ({ cls := "CueStackModel", name := "placeOf", desc := "(I)I" } : Jvm.MethodName) prog_18_method_11_code (3 : Nat) (Option.some Jvm.ClassFile.FieldType.int)) ∈ lw_all := lw_g (lw_at lw_m12 3 rfl) rfl
theorem q2727 : (Jvm.Cond.methodLink "CueStackModel" (63 : Nat) ({ cls := "CueStackModel", name := "at", desc := "(I)I" } : Jvm.MethodName)) ∈ lw_all := lw_g (lw_at lw_m12 4 rfl) rfl
theorem q2728 : (Jvm.Cond.static ({ cls := "CueStackModel", name := "at", desc := "(I)I" } : Jvm.MethodName)) ∈ lw_all := lw_g (lw_at lw_m12 5 rfl) rfl
theorem q2729 : (Jvm.Cond.code ({ cls := "CueStackModel", name := "at", desc := "(I)I" } : Jvm.MethodName) prog_18_method_10_code (1 : Nat) (Option.some Jvm.ClassFile.FieldType.int)) ∈ lw_all := lw_g (lw_at lw_m12 6 rfl) rfl
theorem q2730 : (Jvm.Cond.methodLink "CueStackModel" (57 : Nat) ({ cls := "CueStackModel", name := "change", desc := "()V" } : Jvm.MethodName)) ∈ lw_all := lw_g (lw_at lw_m12 7 rfl) rfl
theorem q2731 : (Jvm.Cond.privateMethod ({ cls := "CueStackModel", name := "change", desc := "()V" } : Jvm.MethodName)) ∈ lw_tbl := lw_at lw_m12 8 rfl
theorem q2732 : (Jvm.Cond.instanceMethod ({ cls := "CueStackModel", name := "change", desc := "()V" } : Jvm.MethodName)) ∈ lw_all := lw_g (lw_at lw_m12 9 rfl) rfl
theorem q2733 : (Jvm.Cond.code ({ cls := "CueStackModel", name := "change", desc := "()V" } : Jvm.MethodName) prog_18_method_6_code (1 : Nat) (Option.none : Option Jvm.ClassFile.FieldType)) ∈ lw_all := lw_g (lw_at lw_m12 10 rfl) rfl
theorem q2735 : (Jvm.Cond.instanceMethod ({ cls := "CueStackModel", name := "cueAt", desc := "(I)I" } : Jvm.MethodName)) ∈ lw_all := lw_g (lw_at lw_m12 12 rfl) rfl
theorem q2736 : (Jvm.Cond.selects "CueStackModel" ({ cls := "CueStackModel", name := "cueAt", desc := "(I)I" } : Jvm.MethodName) ({ cls := "CueStackModel", name := "cueAt", desc := "(I)I" } : Jvm.MethodName)) ∈ lw_all := lw_g (lw_at lw_m12 13 rfl) rfl
theorem q2737 : (Jvm.Cond.code ({ cls := "CueStackModel", name := "cueAt", desc := "(I)I" } : Jvm.MethodName) prog_18_method_18_code (2 : Nat) (Option.some Jvm.ClassFile.FieldType.int)) ∈ lw_all := lw_g (lw_at lw_m12 14 rfl) rfl
theorem q2739 : (Jvm.Cond.instanceMethod ({ cls := "CueStackModel", name := "setFollow", desc := "(II)I" } : Jvm.MethodName)) ∈ lw_all := lw_g (lw_at lw_m12 16 rfl) rfl
theorem q2740 : (Jvm.Cond.selects "CueStackModel" ({ cls := "CueStackModel", name := "setFollow", desc := "(II)I" } : Jvm.MethodName) ({ cls := "CueStackModel", name := "setFollow", desc := "(II)I" } : Jvm.MethodName)) ∈ lw_all := lw_g (lw_at lw_m12 17 rfl) rfl
theorem q2741 : (Jvm.Cond.code ({ cls := "CueStackModel", name := "setFollow", desc := "(II)I" } : Jvm.MethodName) prog_18_method_19_code (4 : Nat) (Option.some Jvm.ClassFile.FieldType.int)) ∈ lw_all := lw_g (lw_at lw_m12 18 rfl) rfl
theorem q2742 : (Jvm.Cond.methodLink "CueStackModel" (81 : Nat) ({ cls := "CueStackModel", name := "changes", desc := "()V" } : Jvm.MethodName)) ∈ lw_all := lw_g (lw_at lw_m12 19 rfl) rfl
theorem q2743 : (Jvm.Cond.privateMethod ({ cls := "CueStackModel", name := "changes", desc := "()V" } : Jvm.MethodName)) ∈ lw_tbl := lw_at lw_m12 20 rfl
theorem q2744 : (Jvm.Cond.instanceMethod ({ cls := "CueStackModel", name := "changes", desc := "()V" } : Jvm.MethodName)) ∈ lw_all := lw_g (lw_at lw_m12 21 rfl) rfl
theorem q2745 : (Jvm.Cond.code ({ cls := "CueStackModel", name := "changes", desc := "()V" } : Jvm.MethodName) prog_18_method_7_code (1 : Nat) (Option.none : Option Jvm.ClassFile.FieldType)) ∈ lw_all := lw_g (lw_at lw_m12 22 rfl) rfl
theorem q2747 : (Jvm.Cond.instanceMethod ({ cls := "CueStackModel", name := "setBlock", desc := "(IZ)I" } : Jvm.MethodName)) ∈ lw_all := lw_g (lw_at lw_m12 24 rfl) rfl
theorem q2748 : (Jvm.Cond.selects "CueStackModel" ({ cls := "CueStackModel", name := "setBlock", desc := "(IZ)I" } : Jvm.MethodName) ({ cls := "CueStackModel", name := "setBlock", desc := "(IZ)I" } : Jvm.MethodName)) ∈ lw_all := lw_g (lw_at lw_m12 25 rfl) rfl
theorem q2749 : (Jvm.Cond.code ({ cls := "CueStackModel", name := "setBlock", desc := "(IZ)I" } : Jvm.MethodName) prog_18_method_21_code (6 : Nat) (Option.some Jvm.ClassFile.FieldType.int)) ∈ lw_all := lw_g (lw_at lw_m12 26 rfl) rfl
theorem q2750 : (Jvm.Cond.methodLink "CueStackModel" (88 : Nat) ({ cls := "CueStackModel", name := "keepLevels", desc := "()V" } : Jvm.MethodName)) ∈ lw_all := lw_g (lw_at lw_m12 27 rfl) rfl
theorem q2751 : (Jvm.Cond.privateMethod ({ cls := "CueStackModel", name := "keepLevels", desc := "()V" } : Jvm.MethodName)) ∈ lw_tbl := lw_at lw_m12 28 rfl
theorem q2752 : (Jvm.Cond.instanceMethod ({ cls := "CueStackModel", name := "keepLevels", desc := "()V" } : Jvm.MethodName)) ∈ lw_all := lw_g (lw_at lw_m12 29 rfl) rfl
theorem q2753 : (Jvm.Cond.code ({ cls := "CueStackModel", name := "keepLevels", desc := "()V" } : Jvm.MethodName) prog_18_method_20_code (3 : Nat) (Option.none : Option Jvm.ClassFile.FieldType)) ∈ lw_all := lw_g (lw_at lw_m12 30 rfl) rfl
theorem q2754 : (Jvm.Cond.methodLink "CueStackModel" (84 : Nat) ({ cls := "CueStackModel", name := "levelIn", desc := "(II)I" } : Jvm.MethodName)) ∈ lw_all := lw_g (lw_at lw_m12 31 rfl) rfl
theorem q2755 : (Jvm.Cond.privateMethod ({ cls := "CueStackModel", name := "levelIn", desc := "(II)I" } : Jvm.MethodName)) ∈ lw_tbl := lw_at lw_m12 32 rfl
theorem q2756 : (Jvm.Cond.instanceMethod ({ cls := "CueStackModel", name := "levelIn", desc := "(II)I" } : Jvm.MethodName)) ∈ lw_all := lw_g (lw_at lw_m12 33 rfl) rfl
theorem q2757 : (Jvm.Cond.code ({ cls := "CueStackModel", name := "levelIn", desc := "(II)I" } : Jvm.MethodName) prog_18_method_29_code (6 : Nat) (Option.some Jvm.ClassFile.FieldType.int)) ∈ lw_all := lw_g (lw_at lw_m12 34 rfl) rfl
theorem q2758 : (Jvm.Cond.methodLink "CueStackModel" (98 : Nat) ({ cls := "CueStackModel", name := "given", desc := "(II)I" } : Jvm.MethodName)) ∈ lw_all := lw_g (lw_at lw_m12 35 rfl) rfl
theorem q2759 : (Jvm.Cond.privateMethod ({ cls := "CueStackModel", name := "given", desc := "(II)I" } : Jvm.MethodName)) ∈ lw_tbl := lw_at lw_m12 36 rfl
theorem q2760 : (Jvm.Cond.instanceMethod ({ cls := "CueStackModel", name := "given", desc := "(II)I" } : Jvm.MethodName)) ∈ lw_all := lw_g (lw_at lw_m12 37 rfl) rfl
theorem q2761 : (Jvm.Cond.code ({ cls := "CueStackModel", name := "given", desc := "(II)I" } : Jvm.MethodName) prog_18_method_26_code (4 : Nat) (Option.some Jvm.ClassFile.FieldType.int)) ∈ lw_all := lw_g (lw_at lw_m12 38 rfl) rfl
theorem q2762 : (Jvm.Cond.methodLink "CueStackModel" (101 : Nat) ({ cls := "CueStackModel", name := "isBlock", desc := "(I)Z" } : Jvm.MethodName)) ∈ lw_all := lw_g (lw_at lw_m12 39 rfl) rfl
theorem q2763 : (Jvm.Cond.privateMethod ({ cls := "CueStackModel", name := "isBlock", desc := "(I)Z" } : Jvm.MethodName)) ∈ lw_tbl := lw_at lw_m12 40 rfl
theorem q2764 : (Jvm.Cond.instanceMethod ({ cls := "CueStackModel", name := "isBlock", desc := "(I)Z" } : Jvm.MethodName)) ∈ lw_all := lw_g (lw_at lw_m12 41 rfl) rfl
theorem q2765 : (Jvm.Cond.code ({ cls := "CueStackModel", name := "isBlock", desc := "(I)Z" } : Jvm.MethodName) prog_18_method_13_code (2 : Nat) (Option.some Jvm.ClassFile.FieldType.boolean)) ∈ lw_all := lw_g (lw_at lw_m12 42 rfl) rfl
theorem q2767 : (Jvm.Cond.instanceMethod ({ cls := "CueStackModel", name := "setProtected", desc := "(IZ)Z" } : Jvm.MethodName)) ∈ lw_all := lw_g (lw_at lw_m12 44 rfl) rfl
theorem q2768 : (Jvm.Cond.selects "CueStackModel" ({ cls := "CueStackModel", name := "setProtected", desc := "(IZ)Z" } : Jvm.MethodName) ({ cls := "CueStackModel", name := "setProtected", desc := "(IZ)Z" } : Jvm.MethodName)) ∈ lw_all := lw_g (lw_at lw_m12 45 rfl) rfl
theorem q2769 : (Jvm.Cond.code ({ cls := "CueStackModel", name := "setProtected", desc := "(IZ)Z" } : Jvm.MethodName) prog_18_method_22_code (5 : Nat) (Option.some Jvm.ClassFile.FieldType.boolean)) ∈ lw_all := lw_g (lw_at lw_m12 46 rfl) rfl
theorem q2771 : (Jvm.Cond.instanceMethod ({ cls := "CueStackModel", name := "setPart", desc := "(IIZI)I" } : Jvm.MethodName)) ∈ lw_all := lw_g (lw_at lw_m12 48 rfl) rfl
theorem q2772 : (Jvm.Cond.selects "CueStackModel" ({ cls := "CueStackModel", name := "setPart", desc := "(IIZI)I" } : Jvm.MethodName) ({ cls := "CueStackModel", name := "setPart", desc := "(IIZI)I" } : Jvm.MethodName)) ∈ lw_all := lw_g (lw_at lw_m12 49 rfl) rfl
theorem q2773 : (Jvm.Cond.code ({ cls := "CueStackModel", name := "setPart", desc := "(IIZI)I" } : Jvm.MethodName) prog_18_method_24_code (7 : Nat) (Option.some Jvm.ClassFile.FieldType.int)) ∈ lw_all := lw_g (lw_at lw_m12 50 rfl) rfl
theorem q2774 : (Jvm.Cond.methodLink "CueStackModel" (91 : Nat) ({ cls := "CueStackModel", name := "isPart", desc := "(I)Z" } : Jvm.MethodName)) ∈ lw_all := lw_g (lw_at lw_m12 51 rfl) rfl
theorem q2775 : (Jvm.Cond.static ({ cls := "CueStackModel", name := "isPart", desc := "(I)Z" } : Jvm.MethodName)) ∈ lw_all := lw_g (lw_at lw_m12 52 rfl) rfl
theorem q2776 : (Jvm.Cond.code ({ cls := "CueStackModel", name := "isPart", desc := "(I)Z" } : Jvm.MethodName) prog_18_method_15_code (1 : Nat) (Option.some Jvm.ClassFile.FieldType.boolean)) ∈ lw_all := lw_g (lw_at lw_m12 53 rfl) rfl
theorem q2777 : (Jvm.Cond.methodLink "CueStackModel" (94 : Nat) ({ cls := "CueStackModel", name := "partAt", desc := "(IIZ)I" } : Jvm.MethodName)) ∈ lw_all := lw_g (lw_at lw_m12 54 rfl) rfl
theorem q2778 : (Jvm.Cond.privateMethod ({ cls := "CueStackModel", name := "partAt", desc := "(IIZ)I" } : Jvm.MethodName)) ∈ lw_tbl := lw_at lw_m12 55 rfl
theorem q2779 : (Jvm.Cond.instanceMethod ({ cls := "CueStackModel", name := "partAt", desc := "(IIZ)I" } : Jvm.MethodName)) ∈ lw_all := lw_g (lw_at lw_m12 56 rfl) rfl
theorem q2780 : (Jvm.Cond.code ({ cls := "CueStackModel", name := "partAt", desc := "(IIZ)I" } : Jvm.MethodName) prog_18_method_23_code (4 : Nat) (Option.some Jvm.ClassFile.FieldType.int)) ∈ lw_all := lw_g (lw_at lw_m12 57 rfl) rfl
theorem q2782 : (Jvm.Cond.instanceMethod ({ cls := "CueStackModel", name := "part", desc := "(IIZ)I" } : Jvm.MethodName)) ∈ lw_all := lw_g (lw_at lw_m12 59 rfl) rfl
theorem q2783 : (Jvm.Cond.selects "CueStackModel" ({ cls := "CueStackModel", name := "part", desc := "(IIZ)I" } : Jvm.MethodName) ({ cls := "CueStackModel", name := "part", desc := "(IIZ)I" } : Jvm.MethodName)) ∈ lw_all := lw_g (lw_at lw_m12 60 rfl) rfl
theorem q2784 : (Jvm.Cond.code ({ cls := "CueStackModel", name := "part", desc := "(IIZ)I" } : Jvm.MethodName) prog_18_method_25_code (4 : Nat) (Option.some Jvm.ClassFile.FieldType.int)) ∈ lw_all := lw_g (lw_at lw_m12 61 rfl) rfl
theorem q2786 : (Jvm.Cond.instanceMethod ({ cls := "CueStackModel", name := "cue", desc := "(II)I" } : Jvm.MethodName)) ∈ lw_all := lw_g (lw_at lw_m12 63 rfl) rfl
theorem q2787 : (Jvm.Cond.selects "CueStackModel" ({ cls := "CueStackModel", name := "cue", desc := "(II)I" } : Jvm.MethodName) ({ cls := "CueStackModel", name := "cue", desc := "(II)I" } : Jvm.MethodName)) ∈ lw_all := lw_g (lw_at lw_m12 64 rfl) rfl
theorem q2788 : (Jvm.Cond.code ({ cls := "CueStackModel", name := "cue", desc := "(II)I" } : Jvm.MethodName) prog_18_method_34_code (7 : Nat) (Option.some Jvm.ClassFile.FieldType.int)) ∈ lw_all := lw_g (lw_at lw_m12 65 rfl) rfl
theorem q2789 : (Jvm.Cond.methodLink "CueStackModel" (107 : Nat) ({ cls := "CueStackModel", name := "countOf", desc := "(I)I" } : Jvm.MethodName)) ∈ lw_all := lw_g (lw_at lw_m12 66 rfl) rfl
theorem q2790 : (Jvm.Cond.privateMethod ({ cls := "CueStackModel", name := "countOf", desc := "(I)I" } : Jvm.MethodName)) ∈ lw_tbl := lw_at lw_m12 67 rfl
theorem q2791 : (Jvm.Cond.instanceMethod ({ cls := "CueStackModel", name := "countOf", desc := "(I)I" } : Jvm.MethodName)) ∈ lw_all := lw_g (lw_at lw_m12 68 rfl) rfl
theorem q2792 : (Jvm.Cond.code ({ cls := "CueStackModel", name := "countOf", desc := "(I)I" } : Jvm.MethodName) prog_18_method_33_code (4 : Nat) (Option.some Jvm.ClassFile.FieldType.int)) ∈ lw_all := lw_g (lw_at lw_m12 69 rfl) rfl
theorem q2793 : (Jvm.Cond.methodLink "CueStackModel" (110 : Nat) ({ cls := "CueStackModel", name := "moves", desc := "(II)Z" } : Jvm.MethodName)) ∈ lw_all := lw_g (lw_at lw_m12 70 rfl) rfl
theorem q2794 : (Jvm.Cond.privateMethod ({ cls := "CueStackModel", name := "moves", desc := "(II)Z" } : Jvm.MethodName)) ∈ lw_tbl := lw_at lw_m12 71 rfl
theorem q2795 : (Jvm.Cond.instanceMethod ({ cls := "CueStackModel", name := "moves", desc := "(II)Z" } : Jvm.MethodName)) ∈ lw_all := lw_g (lw_at lw_m12 72 rfl) rfl
theorem q2796 : (Jvm.Cond.code ({ cls := "CueStackModel", name := "moves", desc := "(II)Z" } : Jvm.MethodName) prog_18_method_30_code (4 : Nat) (Option.some Jvm.ClassFile.FieldType.boolean)) ∈ lw_all := lw_g (lw_at lw_m12 73 rfl) rfl
theorem q2797 : (Jvm.Cond.methodLink "CueStackModel" (114 : Nat) ({ cls := "CueStackModel", name := "lengthOf", desc := "(II)I" } : Jvm.MethodName)) ∈ lw_all := lw_g (lw_at lw_m12 74 rfl) rfl
theorem q2798 : (Jvm.Cond.privateMethod ({ cls := "CueStackModel", name := "lengthOf", desc := "(II)I" } : Jvm.MethodName)) ∈ lw_tbl := lw_at lw_m12 75 rfl
theorem q2799 : (Jvm.Cond.instanceMethod ({ cls := "CueStackModel", name := "lengthOf", desc := "(II)I" } : Jvm.MethodName)) ∈ lw_all := lw_g (lw_at lw_m12 76 rfl) rfl
theorem q2800 : (Jvm.Cond.code ({ cls := "CueStackModel", name := "lengthOf", desc := "(II)I" } : Jvm.MethodName) prog_18_method_32_code (4 : Nat) (Option.some Jvm.ClassFile.FieldType.int)) ∈ lw_all := lw_g (lw_at lw_m12 77 rfl) rfl
theorem q2801 : (Jvm.Cond.methodLink "CueStackModel" (104 : Nat) ({ cls := "CueStackModel", name := "partOf", desc := "(II)I" } : Jvm.MethodName)) ∈ lw_all := lw_g (lw_at lw_m12 78 rfl) rfl
theorem q2802 : (Jvm.Cond.privateMethod ({ cls := "CueStackModel", name := "partOf", desc := "(II)I" } : Jvm.MethodName)) ∈ lw_tbl := lw_at lw_m12 79 rfl
theorem q2803 : (Jvm.Cond.instanceMethod ({ cls := "CueStackModel", name := "partOf", desc := "(II)I" } : Jvm.MethodName)) ∈ lw_all := lw_g (lw_at lw_m12 80 rfl) rfl
theorem q2804 : (Jvm.Cond.code ({ cls := "CueStackModel", name := "partOf", desc := "(II)I" } : Jvm.MethodName) prog_18_method_31_code (4 : Nat) (Option.some Jvm.ClassFile.FieldType.int)) ∈ lw_all := lw_g (lw_at lw_m12 81 rfl) rfl
theorem q2805 : (Jvm.Cond.methodLink "CueStackModel" (117 : Nat) ({ cls := "java/lang/Math", name := "max", desc := "(II)I" } : Jvm.MethodName)) ∈ lw_all := lw_g (lw_at lw_m12 82 rfl) rfl
theorem q2807 : (Jvm.Cond.instanceMethod ({ cls := "CueStackModel", name := "setHome", desc := "(II)I" } : Jvm.MethodName)) ∈ lw_all := lw_g (lw_at lw_m12 84 rfl) rfl
theorem q2808 : (Jvm.Cond.selects "CueStackModel" ({ cls := "CueStackModel", name := "setHome", desc := "(II)I" } : Jvm.MethodName) ({ cls := "CueStackModel", name := "setHome", desc := "(II)I" } : Jvm.MethodName)) ∈ lw_all := lw_g (lw_at lw_m12 85 rfl) rfl
theorem q2809 : (Jvm.Cond.code ({ cls := "CueStackModel", name := "setHome", desc := "(II)I" } : Jvm.MethodName) prog_18_method_35_code (4 : Nat) (Option.some Jvm.ClassFile.FieldType.int)) ∈ lw_all := lw_g (lw_at lw_m12 86 rfl) rfl
theorem q2810 : (Jvm.Cond.methodLink "CueStackModel" (122 : Nat) ({ cls := "CueStackModel", name := "isChannel", desc := "(I)Z" } : Jvm.MethodName)) ∈ lw_all := lw_g (lw_at lw_m12 87 rfl) rfl
theorem q2811 : (Jvm.Cond.static ({ cls := "CueStackModel", name := "isChannel", desc := "(I)Z" } : Jvm.MethodName)) ∈ lw_all := lw_g (lw_at lw_m12 88 rfl) rfl
theorem q2812 : (Jvm.Cond.code ({ cls := "CueStackModel", name := "isChannel", desc := "(I)Z" } : Jvm.MethodName) prog_18_method_14_code (1 : Nat) (Option.some Jvm.ClassFile.FieldType.boolean)) ∈ lw_all := lw_g (lw_at lw_m12 89 rfl) rfl
theorem q2814 : (Jvm.Cond.instanceMethod ({ cls := "CueStackModel", name := "set", desc := "(IIIIZ)I" } : Jvm.MethodName)) ∈ lw_all := lw_g (lw_at lw_m12 91 rfl) rfl
theorem q2815 : (Jvm.Cond.selects "CueStackModel" ({ cls := "CueStackModel", name := "set", desc := "(IIIIZ)I" } : Jvm.MethodName) ({ cls := "CueStackModel", name := "set", desc := "(IIIIZ)I" } : Jvm.MethodName)) ∈ lw_all := lw_g (lw_at lw_m12 92 rfl) rfl
theorem q2816 : (Jvm.Cond.code ({ cls := "CueStackModel", name := "set", desc := "(IIIIZ)I" } : Jvm.MethodName) prog_18_method_41_code (6 : Nat) (Option.some Jvm.ClassFile.FieldType.int)) ∈ lw_all := lw_g (lw_at lw_m12 93 rfl) rfl
theorem q2817 : (Jvm.Cond.methodLink "CueStackModel" (142 : Nat) ({ cls := "CueStackModel", name := "doGive", desc := "(IIIIZ)I" } : Jvm.MethodName)) ∈ lw_all := lw_g (lw_at lw_m12 94 rfl) rfl
theorem q2818 : (Jvm.Cond.privateMethod ({ cls := "CueStackModel", name := "doGive", desc := "(IIIIZ)I" } : Jvm.MethodName)) ∈ lw_tbl := lw_at lw_m12 95 rfl
theorem q2819 : (Jvm.Cond.instanceMethod ({ cls := "CueStackModel", name := "doGive", desc := "(IIIIZ)I" } : Jvm.MethodName)) ∈ lw_all := lw_g (lw_at lw_m12 96 rfl) rfl
theorem q2820 : (Jvm.Cond.code ({ cls := "CueStackModel", name := "doGive", desc := "(IIIIZ)I" } : Jvm.MethodName) prog_18_method_40_code (7 : Nat) (Option.some Jvm.ClassFile.FieldType.int)) ∈ lw_all := lw_g (lw_at lw_m12 97 rfl) rfl
theorem q2821 : (Jvm.Cond.methodLink "CueStackModel" (135 : Nat) ({ cls := "CueStackModel", name := "giveHeld", desc := "(IIIIZ)I" } : Jvm.MethodName)) ∈ lw_all := lw_g (lw_at lw_m12 98 rfl) rfl
theorem q2822 : (Jvm.Cond.privateMethod ({ cls := "CueStackModel", name := "giveHeld", desc := "(IIIIZ)I" } : Jvm.MethodName)) ∈ lw_tbl := lw_at lw_m12 99 rfl
theorem q2823 : (Jvm.Cond.instanceMethod ({ cls := "CueStackModel", name := "giveHeld", desc := "(IIIIZ)I" } : Jvm.MethodName)) ∈ lw_all := lw_g (lw_at lw_m12 100 rfl) rfl
theorem q2824 : (Jvm.Cond.code ({ cls := "CueStackModel", name := "giveHeld", desc := "(IIIIZ)I" } : Jvm.MethodName) prog_18_method_38_code (8 : Nat) (Option.some Jvm.ClassFile.FieldType.int)) ∈ lw_all := lw_g (lw_at lw_m12 101 rfl) rfl
theorem q2825 : (Jvm.Cond.methodLink "CueStackModel" (129 : Nat) ({ cls := "CueStackModel", name := "wouldHoldProtected", desc := "(III)Z" } : Jvm.MethodName)) ∈ lw_all := lw_g (lw_at lw_m12 102 rfl) rfl
theorem q2826 : (Jvm.Cond.privateMethod ({ cls := "CueStackModel", name := "wouldHoldProtected", desc := "(III)Z" } : Jvm.MethodName)) ∈ lw_tbl := lw_at lw_m12 103 rfl
theorem q2827 : (Jvm.Cond.instanceMethod ({ cls := "CueStackModel", name := "wouldHoldProtected", desc := "(III)Z" } : Jvm.MethodName)) ∈ lw_all := lw_g (lw_at lw_m12 104 rfl) rfl
theorem q2828 : (Jvm.Cond.code ({ cls := "CueStackModel", name := "wouldHoldProtected", desc := "(III)Z" } : Jvm.MethodName) prog_18_method_39_code (7 : Nat) (Option.some Jvm.ClassFile.FieldType.boolean)) ∈ lw_all := lw_g (lw_at lw_m12 105 rfl) rfl
theorem q2829 : (Jvm.Cond.methodLink "CueStackModel" (125 : Nat) ({ cls := "CueStackModel", name := "give", desc := "(IIII)V" } : Jvm.MethodName)) ∈ lw_all := lw_g (lw_at lw_m12 106 rfl) rfl
theorem q2830 : (Jvm.Cond.privateMethod ({ cls := "CueStackModel", name := "give", desc := "(IIII)V" } : Jvm.MethodName)) ∈ lw_tbl := lw_at lw_m12 107 rfl
theorem q2831 : (Jvm.Cond.instanceMethod ({ cls := "CueStackModel", name := "give", desc := "(IIII)V" } : Jvm.MethodName)) ∈ lw_all := lw_g (lw_at lw_m12 108 rfl) rfl
theorem q2832 : (Jvm.Cond.code ({ cls := "CueStackModel", name := "give", desc := "(IIII)V" } : Jvm.MethodName) prog_18_method_27_code (7 : Nat) (Option.none : Option Jvm.ClassFile.FieldType)) ∈ lw_all := lw_g (lw_at lw_m12 109 rfl) rfl
theorem q2833 : (Jvm.Cond.methodLink "CueStackModel" (132 : Nat) ({ cls := "CueStackModel", name := "hold", desc := "(II)I" } : Jvm.MethodName)) ∈ lw_all := lw_g (lw_at lw_m12 110 rfl) rfl
theorem q2834 : (Jvm.Cond.privateMethod ({ cls := "CueStackModel", name := "hold", desc := "(II)I" } : Jvm.MethodName)) ∈ lw_tbl := lw_at lw_m12 111 rfl
theorem q2835 : (Jvm.Cond.instanceMethod ({ cls := "CueStackModel", name := "hold", desc := "(II)I" } : Jvm.MethodName)) ∈ lw_all := lw_g (lw_at lw_m12 112 rfl) rfl
theorem q2836 : (Jvm.Cond.code ({ cls := "CueStackModel", name := "hold", desc := "(II)I" } : Jvm.MethodName) prog_18_method_36_code (5 : Nat) (Option.some Jvm.ClassFile.FieldType.int)) ∈ lw_all := lw_g (lw_at lw_m12 113 rfl) rfl
theorem q2837 : (Jvm.Cond.methodLink "CueStackModel" (139 : Nat) ({ cls := "CueStackModel", name := "refuse", desc := "(I)I" } : Jvm.MethodName)) ∈ lw_all := lw_g (lw_at lw_m12 114 rfl) rfl
theorem q2838 : (Jvm.Cond.privateMethod ({ cls := "CueStackModel", name := "refuse", desc := "(I)I" } : Jvm.MethodName)) ∈ lw_tbl := lw_at lw_m12 115 rfl
theorem q2839 : (Jvm.Cond.instanceMethod ({ cls := "CueStackModel", name := "refuse", desc := "(I)I" } : Jvm.MethodName)) ∈ lw_all := lw_g (lw_at lw_m12 116 rfl) rfl
theorem q2840 : (Jvm.Cond.code ({ cls := "CueStackModel", name := "refuse", desc := "(I)I" } : Jvm.MethodName) prog_18_method_8_code (2 : Nat) (Option.some Jvm.ClassFile.FieldType.int)) ∈ lw_all := lw_g (lw_at lw_m12 117 rfl) rfl
theorem q2841 : (Jvm.Cond.methodLink "CueStackModel" (145 : Nat) ({ cls := "CueStackModel", name := "changed", desc := "(I)I" } : Jvm.MethodName)) ∈ lw_all := lw_g (lw_at lw_m12 118 rfl) rfl
theorem q2842 : (Jvm.Cond.privateMethod ({ cls := "CueStackModel", name := "changed", desc := "(I)I" } : Jvm.MethodName)) ∈ lw_tbl := lw_at lw_m12 119 rfl
theorem q2843 : (Jvm.Cond.instanceMethod ({ cls := "CueStackModel", name := "changed", desc := "(I)I" } : Jvm.MethodName)) ∈ lw_all := lw_g (lw_at lw_m12 120 rfl) rfl
theorem q2844 : (Jvm.Cond.code ({ cls := "CueStackModel", name := "changed", desc := "(I)I" } : Jvm.MethodName) prog_18_method_37_code (4 : Nat) (Option.some Jvm.ClassFile.FieldType.int)) ∈ lw_all := lw_g (lw_at lw_m12 121 rfl) rfl
theorem q2846 : (Jvm.Cond.instanceMethod ({ cls := "CueStackModel", name := "release", desc := "(IIIZ)I" } : Jvm.MethodName)) ∈ lw_all := lw_g (lw_at lw_m12 123 rfl) rfl
theorem q2847 : (Jvm.Cond.selects "CueStackModel" ({ cls := "CueStackModel", name := "release", desc := "(IIIZ)I" } : Jvm.MethodName) ({ cls := "CueStackModel", name := "release", desc := "(IIIZ)I" } : Jvm.MethodName)) ∈ lw_all := lw_g (lw_at lw_m12 124 rfl) rfl
theorem q2848 : (Jvm.Cond.code ({ cls := "CueStackModel", name := "release", desc := "(IIIZ)I" } : Jvm.MethodName) prog_18_method_42_code (5 : Nat) (Option.some Jvm.ClassFile.FieldType.int)) ∈ lw_all := lw_g (lw_at lw_m12 125 rfl) rfl
theorem q2850 : (Jvm.Cond.instanceMethod ({ cls := "CueStackModel", name := "unset", desc := "(IIZ)I" } : Jvm.MethodName)) ∈ lw_all := lw_g (lw_at lw_m12 127 rfl) rfl
theorem q2851 : (Jvm.Cond.selects "CueStackModel" ({ cls := "CueStackModel", name := "unset", desc := "(IIZ)I" } : Jvm.MethodName) ({ cls := "CueStackModel", name := "unset", desc := "(IIZ)I" } : Jvm.MethodName)) ∈ lw_all := lw_g (lw_at lw_m12 128 rfl) rfl
theorem q2852 : (Jvm.Cond.code ({ cls := "CueStackModel", name := "unset", desc := "(IIZ)I" } : Jvm.MethodName) prog_18_method_44_code (5 : Nat) (Option.some Jvm.ClassFile.FieldType.int)) ∈ lw_all := lw_g (lw_at lw_m12 129 rfl) rfl
theorem q2853 : (Jvm.Cond.methodLink "CueStackModel" (152 : Nat) ({ cls := "CueStackModel", name := "takeHeld", desc := "(IIZ)I" } : Jvm.MethodName)) ∈ lw_all := lw_g (lw_at lw_m12 130 rfl) rfl
theorem q2854 : (Jvm.Cond.privateMethod ({ cls := "CueStackModel", name := "takeHeld", desc := "(IIZ)I" } : Jvm.MethodName)) ∈ lw_tbl := lw_at lw_m12 131 rfl
theorem q2855 : (Jvm.Cond.instanceMethod ({ cls := "CueStackModel", name := "takeHeld", desc := "(IIZ)I" } : Jvm.MethodName)) ∈ lw_all := lw_g (lw_at lw_m12 132 rfl) rfl
theorem q2856 : (Jvm.Cond.code ({ cls := "CueStackModel", name := "takeHeld", desc := "(IIZ)I" } : Jvm.MethodName) prog_18_method_43_code (6 : Nat) (Option.some Jvm.ClassFile.FieldType.int)) ∈ lw_all := lw_g (lw_at lw_m12 133 rfl) rfl
theorem q2857 : (Jvm.Cond.methodLink "CueStackModel" (148 : Nat) ({ cls := "CueStackModel", name := "takeAway", desc := "(I)V" } : Jvm.MethodName)) ∈ lw_all := lw_g (lw_at lw_m12 134 rfl) rfl
theorem q2858 : (Jvm.Cond.privateMethod ({ cls := "CueStackModel", name := "takeAway", desc := "(I)V" } : Jvm.MethodName)) ∈ lw_tbl := lw_at lw_m12 135 rfl
theorem q2859 : (Jvm.Cond.instanceMethod ({ cls := "CueStackModel", name := "takeAway", desc := "(I)V" } : Jvm.MethodName)) ∈ lw_all := lw_g (lw_at lw_m12 136 rfl) rfl
theorem q2860 : (Jvm.Cond.code ({ cls := "CueStackModel", name := "takeAway", desc := "(I)V" } : Jvm.MethodName) prog_18_method_28_code (2 : Nat) (Option.none : Option Jvm.ClassFile.FieldType)) ∈ lw_all := lw_g (lw_at lw_m12 137 rfl) rfl
theorem q2862 : (Jvm.Cond.instanceMethod ({ cls := "CueStackModel", name := "removeCue", desc := "(IZ)I" } : Jvm.MethodName)) ∈ lw_all := lw_g (lw_at lw_m12 139 rfl) rfl
theorem q2863 : (Jvm.Cond.selects "CueStackModel" ({ cls := "CueStackModel", name := "removeCue", desc := "(IZ)I" } : Jvm.MethodName) ({ cls := "CueStackModel", name := "removeCue", desc := "(IZ)I" } : Jvm.MethodName)) ∈ lw_all := lw_g (lw_at lw_m12 140 rfl) rfl
theorem q2864 : (Jvm.Cond.code ({ cls := "CueStackModel", name := "removeCue", desc := "(IZ)I" } : Jvm.MethodName) prog_18_method_46_code (4 : Nat) (Option.some Jvm.ClassFile.FieldType.int)) ∈ lw_all := lw_g (lw_at lw_m12 141 rfl) rfl
theorem q2865 : (Jvm.Cond.methodLink "CueStackModel" (155 : Nat) ({ cls := "CueStackModel", name := "doRemove", desc := "(IZ)I" } : Jvm.MethodName)) ∈ lw_all := lw_g (lw_at lw_m12 142 rfl) rfl
theorem q2866 : (Jvm.Cond.privateMethod ({ cls := "CueStackModel", name := "doRemove", desc := "(IZ)I" } : Jvm.MethodName)) ∈ lw_tbl := lw_at lw_m12 143 rfl
theorem q2867 : (Jvm.Cond.instanceMethod ({ cls := "CueStackModel", name := "doRemove", desc := "(IZ)I" } : Jvm.MethodName)) ∈ lw_all := lw_g (lw_at lw_m12 144 rfl) rfl
theorem q2868 : (Jvm.Cond.code ({ cls := "CueStackModel", name := "doRemove", desc := "(IZ)I" } : Jvm.MethodName) prog_18_method_45_code (5 : Nat) (Option.some Jvm.ClassFile.FieldType.int)) ∈ lw_all := lw_g (lw_at lw_m12 145 rfl) rfl
theorem q2870 : (Jvm.Cond.instanceMethod ({ cls := "CueStackModel", name := "instruction", desc := "(II)I" } : Jvm.MethodName)) ∈ lw_all := lw_g (lw_at lw_m12 147 rfl) rfl
theorem q2871 : (Jvm.Cond.selects "CueStackModel" ({ cls := "CueStackModel", name := "instruction", desc := "(II)I" } : Jvm.MethodName) ({ cls := "CueStackModel", name := "instruction", desc := "(II)I" } : Jvm.MethodName)) ∈ lw_all := lw_g (lw_at lw_m12 148 rfl) rfl
theorem q2872 : (Jvm.Cond.code ({ cls := "CueStackModel", name := "instruction", desc := "(II)I" } : Jvm.MethodName) prog_18_method_47_code (3 : Nat) (Option.some Jvm.ClassFile.FieldType.int)) ∈ lw_all := lw_g (lw_at lw_m12 149 rfl) rfl
theorem q2874 : (Jvm.Cond.instanceMethod ({ cls := "CueStackModel", name := "level", desc := "(II)I" } : Jvm.MethodName)) ∈ lw_all := lw_g (lw_at lw_m12 151 rfl) rfl
theorem q2875 : (Jvm.Cond.selects "CueStackModel" ({ cls := "CueStackModel", name := "level", desc := "(II)I" } : Jvm.MethodName) ({ cls := "CueStackModel", name := "level", desc := "(II)I" } : Jvm.MethodName)) ∈ lw_all := lw_g (lw_at lw_m12 152 rfl) rfl
theorem q2876 : (Jvm.Cond.code ({ cls := "CueStackModel", name := "level", desc := "(II)I" } : Jvm.MethodName) prog_18_method_48_code (3 : Nat) (Option.some Jvm.ClassFile.FieldType.int)) ∈ lw_all := lw_g (lw_at lw_m12 153 rfl) rfl
theorem q2878 : (Jvm.Cond.instanceMethod ({ cls := "CueStackModel", name := "levelAgain", desc := "(II)I" } : Jvm.MethodName)) ∈ lw_all := lw_g (lw_at lw_m12 155 rfl) rfl
theorem q2879 : (Jvm.Cond.selects "CueStackModel" ({ cls := "CueStackModel", name := "levelAgain", desc := "(II)I" } : Jvm.MethodName) ({ cls := "CueStackModel", name := "levelAgain", desc := "(II)I" } : Jvm.MethodName)) ∈ lw_all := lw_g (lw_at lw_m12 156 rfl) rfl
theorem q2880 : (Jvm.Cond.code ({ cls := "CueStackModel", name := "levelAgain", desc := "(II)I" } : Jvm.MethodName) prog_18_method_49_code (3 : Nat) (Option.some Jvm.ClassFile.FieldType.int)) ∈ lw_all := lw_g (lw_at lw_m12 157 rfl) rfl
theorem q2881 : (Jvm.Cond.methodLink "CueStackModel" (159 : Nat) ({ cls := "CueStackModel", name := "level", desc := "(II)I" } : Jvm.MethodName)) ∈ lw_all := lw_g (lw_at lw_m12 158 rfl) rfl
theorem q2883 : (Jvm.Cond.instanceMethod ({ cls := "CueStackModel", name := "source", desc := "(II)I" } : Jvm.MethodName)) ∈ lw_all := lw_g (lw_at lw_m12 160 rfl) rfl
theorem q2884 : (Jvm.Cond.selects "CueStackModel" ({ cls := "CueStackModel", name := "source", desc := "(II)I" } : Jvm.MethodName) ({ cls := "CueStackModel", name := "source", desc := "(II)I" } : Jvm.MethodName)) ∈ lw_all := lw_g (lw_at lw_m12 161 rfl) rfl
theorem q2885 : (Jvm.Cond.code ({ cls := "CueStackModel", name := "source", desc := "(II)I" } : Jvm.MethodName) prog_18_method_50_code (4 : Nat) (Option.some Jvm.ClassFile.FieldType.int)) ∈ lw_all := lw_g (lw_at lw_m12 162 rfl) rfl
theorem q2887 : (Jvm.Cond.instanceMethod ({ cls := "CueStackModel", name := "sum", desc := "(I)I" } : Jvm.MethodName)) ∈ lw_all := lw_g (lw_at lw_m12 164 rfl) rfl
theorem q2888 : (Jvm.Cond.selects "CueStackModel" ({ cls := "CueStackModel", name := "sum", desc := "(I)I" } : Jvm.MethodName) ({ cls := "CueStackModel", name := "sum", desc := "(I)I" } : Jvm.MethodName)) ∈ lw_all := lw_g (lw_at lw_m12 165 rfl) rfl
theorem q2889 : (Jvm.Cond.code ({ cls := "CueStackModel", name := "sum", desc := "(I)I" } : Jvm.MethodName) prog_18_method_51_code (4 : Nat) (Option.some Jvm.ClassFile.FieldType.int)) ∈ lw_all := lw_g (lw_at lw_m12 166 rfl) rfl
theorem q2891 : (Jvm.Cond.instanceMethod ({ cls := "CueStackModel", name := "apart", desc := "(II)I" } : Jvm.MethodName)) ∈ lw_all := lw_g (lw_at lw_m12 168 rfl) rfl
theorem q2892 : (Jvm.Cond.selects "CueStackModel" ({ cls := "CueStackModel", name := "apart", desc := "(II)I" } : Jvm.MethodName) ({ cls := "CueStackModel", name := "apart", desc := "(II)I" } : Jvm.MethodName)) ∈ lw_all := lw_g (lw_at lw_m12 169 rfl) rfl
theorem q2893 : (Jvm.Cond.code ({ cls := "CueStackModel", name := "apart", desc := "(II)I" } : Jvm.MethodName) prog_18_method_52_code (5 : Nat) (Option.some Jvm.ClassFile.FieldType.int)) ∈ lw_all := lw_g (lw_at lw_m12 170 rfl) rfl
theorem q2895 : (Jvm.Cond.instanceMethod ({ cls := "CueStackModel", name := "reason", desc := "()I" } : Jvm.MethodName)) ∈ lw_all := lw_g (lw_at lw_m12 172 rfl) rfl
theorem q2896 : (Jvm.Cond.selects "CueStackModel" ({ cls := "CueStackModel", name := "reason", desc := "()I" } : Jvm.MethodName) ({ cls := "CueStackModel", name := "reason", desc := "()I" } : Jvm.MethodName)) ∈ lw_all := lw_g (lw_at lw_m12 173 rfl) rfl
theorem q2897 : (Jvm.Cond.code ({ cls := "CueStackModel", name := "reason", desc := "()I" } : Jvm.MethodName) prog_18_method_53_code (1 : Nat) (Option.some Jvm.ClassFile.FieldType.int)) ∈ lw_all := lw_g (lw_at lw_m12 174 rfl) rfl
theorem q2899 : (Jvm.Cond.instanceMethod ({ cls := "CueStackModel", name := "go", desc := "()I" } : Jvm.MethodName)) ∈ lw_all := lw_g (lw_at lw_m12 176 rfl) rfl
theorem q2900 : (Jvm.Cond.selects "CueStackModel" ({ cls := "CueStackModel", name := "go", desc := "()I" } : Jvm.MethodName) ({ cls := "CueStackModel", name := "go", desc := "()I" } : Jvm.MethodName)) ∈ lw_all := lw_g (lw_at lw_m12 177 rfl) rfl
theorem q2901 : (Jvm.Cond.code ({ cls := "CueStackModel", name := "go", desc := "()I" } : Jvm.MethodName) prog_18_method_62_code (1 : Nat) (Option.some Jvm.ClassFile.FieldType.int)) ∈ lw_all := lw_g (lw_at lw_m12 178 rfl) rfl
theorem q2902 : (Jvm.Cond.methodLink "CueStackModel" (181 : Nat) ({ cls := "CueStackModel", name := "steps", desc := "(Z)I" } : Jvm.MethodName)) ∈ lw_all := lw_g (lw_at lw_m12 179 rfl) rfl
theorem q2903 : (Jvm.Cond.privateMethod ({ cls := "CueStackModel", name := "steps", desc := "(Z)I" } : Jvm.MethodName)) ∈ lw_tbl := lw_at lw_m12 180 rfl
theorem q2904 : (Jvm.Cond.instanceMethod ({ cls := "CueStackModel", name := "steps", desc := "(Z)I" } : Jvm.MethodName)) ∈ lw_all := lw_g (lw_at lw_m12 181 rfl) rfl
theorem q2905 : (Jvm.Cond.code ({ cls := "CueStackModel", name := "steps", desc := "(Z)I" } : Jvm.MethodName) prog_18_method_61_code (2 : Nat) (Option.some Jvm.ClassFile.FieldType.int)) ∈ lw_all := lw_g (lw_at lw_m12 182 rfl) rfl
theorem q2906 : (Jvm.Cond.methodLink "CueStackModel" (177 : Nat) ({ cls := "CueStackModel", name := "doGo", desc := "(Z)I" } : Jvm.MethodName)) ∈ lw_all := lw_g (lw_at lw_m12 183 rfl) rfl
theorem q2907 : (Jvm.Cond.privateMethod ({ cls := "CueStackModel", name := "doGo", desc := "(Z)I" } : Jvm.MethodName)) ∈ lw_tbl := lw_at lw_m12 184 rfl
theorem q2908 : (Jvm.Cond.instanceMethod ({ cls := "CueStackModel", name := "doGo", desc := "(Z)I" } : Jvm.MethodName)) ∈ lw_all := lw_g (lw_at lw_m12 185 rfl) rfl
theorem q2909 : (Jvm.Cond.code ({ cls := "CueStackModel", name := "doGo", desc := "(Z)I" } : Jvm.MethodName) prog_18_method_60_code (3 : Nat) (Option.some Jvm.ClassFile.FieldType.int)) ∈ lw_all := lw_g (lw_at lw_m12 186 rfl) rfl
theorem q2910 : (Jvm.Cond.methodLink "CueStackModel" (168 : Nat) ({ cls := "CueStackModel", name := "cueAhead", desc := "(I)I" } : Jvm.MethodName)) ∈ lw_all := lw_g (lw_at lw_m12 187 rfl) rfl
theorem q2911 : (Jvm.Cond.privateMethod ({ cls := "CueStackModel", name := "cueAhead", desc := "(I)I" } : Jvm.MethodName)) ∈ lw_tbl := lw_at lw_m12 188 rfl
theorem q2912 : (Jvm.Cond.instanceMethod ({ cls := "CueStackModel", name := "cueAhead", desc := "(I)I" } : Jvm.MethodName)) ∈ lw_all := lw_g (lw_at lw_m12 189 rfl) rfl
theorem q2913 : (Jvm.Cond.code ({ cls := "CueStackModel", name := "cueAhead", desc := "(I)I" } : Jvm.MethodName) prog_18_method_59_code (4 : Nat) (Option.some Jvm.ClassFile.FieldType.int)) ∈ lw_all := lw_g (lw_at lw_m12 190 rfl) rfl
theorem q2914 : (Jvm.Cond.methodLink "CueStackModel" (171 : Nat) ({ cls := "CueStackModel", name := "nextCue", desc := "(I)I" } : Jvm.MethodName)) ∈ lw_all := lw_g (lw_at lw_m12 191 rfl) rfl
theorem q2915 : (Jvm.Cond.privateMethod ({ cls := "CueStackModel", name := "nextCue", desc := "(I)I" } : Jvm.MethodName)) ∈ lw_tbl := lw_at lw_m12 192 rfl
theorem q2916 : (Jvm.Cond.instanceMethod ({ cls := "CueStackModel", name := "nextCue", desc := "(I)I" } : Jvm.MethodName)) ∈ lw_all := lw_g (lw_at lw_m12 193 rfl) rfl
theorem q2917 : (Jvm.Cond.code ({ cls := "CueStackModel", name := "nextCue", desc := "(I)I" } : Jvm.MethodName) prog_18_method_58_code (3 : Nat) (Option.some Jvm.ClassFile.FieldType.int)) ∈ lw_all := lw_g (lw_at lw_m12 194 rfl) rfl
theorem q2918 : (Jvm.Cond.methodLink "CueStackModel" (174 : Nat) ({ cls := "CueStackModel", name := "goes", desc := "(I)I" } : Jvm.MethodName)) ∈ lw_all := lw_g (lw_at lw_m12 195 rfl) rfl
theorem q2919 : (Jvm.Cond.privateMethod ({ cls := "CueStackModel", name := "goes", desc := "(I)I" } : Jvm.MethodName)) ∈ lw_tbl := lw_at lw_m12 196 rfl
theorem q2920 : (Jvm.Cond.instanceMethod ({ cls := "CueStackModel", name := "goes", desc := "(I)I" } : Jvm.MethodName)) ∈ lw_all := lw_g (lw_at lw_m12 197 rfl) rfl
theorem q2921 : (Jvm.Cond.code ({ cls := "CueStackModel", name := "goes", desc := "(I)I" } : Jvm.MethodName) prog_18_method_57_code (8 : Nat) (Option.some Jvm.ClassFile.FieldType.int)) ∈ lw_all := lw_g (lw_at lw_m12 198 rfl) rfl
theorem q2922 : (Jvm.Cond.methodLink "CueStackModel" (162 : Nat) ({ cls := "CueStackModel", name := "fade", desc := "(I)I" } : Jvm.MethodName)) ∈ lw_all := lw_g (lw_at lw_m12 199 rfl) rfl
theorem q2923 : (Jvm.Cond.static ({ cls := "CueStackModel", name := "fade", desc := "(I)I" } : Jvm.MethodName)) ∈ lw_all := lw_g (lw_at lw_m12 200 rfl) rfl
theorem q2924 : (Jvm.Cond.code ({ cls := "CueStackModel", name := "fade", desc := "(I)I" } : Jvm.MethodName) prog_18_method_54_code (1 : Nat) (Option.some Jvm.ClassFile.FieldType.int)) ∈ lw_all := lw_g (lw_at lw_m12 201 rfl) rfl
theorem q2925 : (Jvm.Cond.methodLink "CueStackModel" (165 : Nat) ({ cls := "CueStackModel", name := "nowOf", desc := "(I)I" } : Jvm.MethodName)) ∈ lw_all := lw_g (lw_at lw_m12 202 rfl) rfl
theorem q2926 : (Jvm.Cond.privateMethod ({ cls := "CueStackModel", name := "nowOf", desc := "(I)I" } : Jvm.MethodName)) ∈ lw_tbl := lw_at lw_m12 203 rfl
theorem q2927 : (Jvm.Cond.instanceMethod ({ cls := "CueStackModel", name := "nowOf", desc := "(I)I" } : Jvm.MethodName)) ∈ lw_all := lw_g (lw_at lw_m12 204 rfl) rfl
theorem q2928 : (Jvm.Cond.code ({ cls := "CueStackModel", name := "nowOf", desc := "(I)I" } : Jvm.MethodName) prog_18_method_55_code (8 : Nat) (Option.some Jvm.ClassFile.FieldType.int)) ∈ lw_all := lw_g (lw_at lw_m12 205 rfl) rfl
theorem q2930 : (Jvm.Cond.instanceMethod ({ cls := "CueStackModel", name := "back", desc := "()I" } : Jvm.MethodName)) ∈ lw_all := lw_g (lw_at lw_m12 207 rfl) rfl
theorem q2931 : (Jvm.Cond.selects "CueStackModel" ({ cls := "CueStackModel", name := "back", desc := "()I" } : Jvm.MethodName) ({ cls := "CueStackModel", name := "back", desc := "()I" } : Jvm.MethodName)) ∈ lw_all := lw_g (lw_at lw_m12 208 rfl) rfl
theorem q2932 : (Jvm.Cond.code ({ cls := "CueStackModel", name := "back", desc := "()I" } : Jvm.MethodName) prog_18_method_63_code (1 : Nat) (Option.some Jvm.ClassFile.FieldType.int)) ∈ lw_all := lw_g (lw_at lw_m12 209 rfl) rfl
theorem q2934 : (Jvm.Cond.instanceMethod ({ cls := "CueStackModel", name := "jump", desc := "(I)I" } : Jvm.MethodName)) ∈ lw_all := lw_g (lw_at lw_m12 211 rfl) rfl
theorem q2935 : (Jvm.Cond.selects "CueStackModel" ({ cls := "CueStackModel", name := "jump", desc := "(I)I" } : Jvm.MethodName) ({ cls := "CueStackModel", name := "jump", desc := "(I)I" } : Jvm.MethodName)) ∈ lw_all := lw_g (lw_at lw_m12 212 rfl) rfl
theorem q2936 : (Jvm.Cond.code ({ cls := "CueStackModel", name := "jump", desc := "(I)I" } : Jvm.MethodName) prog_18_method_64_code (2 : Nat) (Option.some Jvm.ClassFile.FieldType.int)) ∈ lw_all := lw_g (lw_at lw_m12 213 rfl) rfl
theorem q2938 : (Jvm.Cond.instanceMethod ({ cls := "CueStackModel", name := "pass", desc := "(I)I" } : Jvm.MethodName)) ∈ lw_all := lw_g (lw_at lw_m12 215 rfl) rfl
theorem q2939 : (Jvm.Cond.selects "CueStackModel" ({ cls := "CueStackModel", name := "pass", desc := "(I)I" } : Jvm.MethodName) ({ cls := "CueStackModel", name := "pass", desc := "(I)I" } : Jvm.MethodName)) ∈ lw_all := lw_g (lw_at lw_m12 216 rfl) rfl
theorem q2940 : (Jvm.Cond.code ({ cls := "CueStackModel", name := "pass", desc := "(I)I" } : Jvm.MethodName) prog_18_method_67_code (3 : Nat) (Option.some Jvm.ClassFile.FieldType.int)) ∈ lw_all := lw_g (lw_at lw_m12 217 rfl) rfl
theorem q2941 : (Jvm.Cond.methodLink "CueStackModel" (189 : Nat) ({ cls := "CueStackModel", name := "doPass", desc := "(I)I" } : Jvm.MethodName)) ∈ lw_all := lw_g (lw_at lw_m12 218 rfl) rfl
theorem q2942 : (Jvm.Cond.privateMethod ({ cls := "CueStackModel", name := "doPass", desc := "(I)I" } : Jvm.MethodName)) ∈ lw_tbl := lw_at lw_m12 219 rfl
theorem q2943 : (Jvm.Cond.instanceMethod ({ cls := "CueStackModel", name := "doPass", desc := "(I)I" } : Jvm.MethodName)) ∈ lw_all := lw_g (lw_at lw_m12 220 rfl) rfl
theorem q2944 : (Jvm.Cond.code ({ cls := "CueStackModel", name := "doPass", desc := "(I)I" } : Jvm.MethodName) prog_18_method_66_code (4 : Nat) (Option.some Jvm.ClassFile.FieldType.int)) ∈ lw_all := lw_g (lw_at lw_m12 221 rfl) rfl
theorem q2945 : (Jvm.Cond.constant "CueStackModel" (184 : Nat) (100000 : Int32)) ∈ lw_all := lw_g (lw_at lw_m12 222 rfl) rfl
theorem q2946 : (Jvm.Cond.methodLink "CueStackModel" (185 : Nat) ({ cls := "CueStackModel", name := "follows", desc := "()Z" } : Jvm.MethodName)) ∈ lw_all := lw_g (lw_at lw_m12 223 rfl) rfl
theorem q2947 : (Jvm.Cond.privateMethod ({ cls := "CueStackModel", name := "follows", desc := "()Z" } : Jvm.MethodName)) ∈ lw_tbl := lw_at lw_m12 224 rfl
theorem q2948 : (Jvm.Cond.instanceMethod ({ cls := "CueStackModel", name := "follows", desc := "()Z" } : Jvm.MethodName)) ∈ lw_all := lw_g (lw_at lw_m12 225 rfl) rfl
theorem q2949 : (Jvm.Cond.code ({ cls := "CueStackModel", name := "follows", desc := "()Z" } : Jvm.MethodName) prog_18_method_65_code (2 : Nat) (Option.some Jvm.ClassFile.FieldType.boolean)) ∈ lw_all := lw_g (lw_at lw_m12 226 rfl) rfl
theorem q2951 : (Jvm.Cond.instanceMethod ({ cls := "CueStackModel", name := "now", desc := "(I)I" } : Jvm.MethodName)) ∈ lw_all := lw_g (lw_at lw_m12 228 rfl) rfl
theorem q2952 : (Jvm.Cond.selects "CueStackModel" ({ cls := "CueStackModel", name := "now", desc := "(I)I" } : Jvm.MethodName) ({ cls := "CueStackModel", name := "now", desc := "(I)I" } : Jvm.MethodName)) ∈ lw_all := lw_g (lw_at lw_m12 229 rfl) rfl
theorem q2953 : (Jvm.Cond.code ({ cls := "CueStackModel", name := "now", desc := "(I)I" } : Jvm.MethodName) prog_18_method_68_code (2 : Nat) (Option.some Jvm.ClassFile.FieldType.int)) ∈ lw_all := lw_g (lw_at lw_m12 230 rfl) rfl
theorem q2955 : (Jvm.Cond.instanceMethod ({ cls := "CueStackModel", name := "target", desc := "(I)I" } : Jvm.MethodName)) ∈ lw_all := lw_g (lw_at lw_m12 232 rfl) rfl
theorem q2956 : (Jvm.Cond.selects "CueStackModel" ({ cls := "CueStackModel", name := "target", desc := "(I)I" } : Jvm.MethodName) ({ cls := "CueStackModel", name := "target", desc := "(I)I" } : Jvm.MethodName)) ∈ lw_all := lw_g (lw_at lw_m12 233 rfl) rfl
theorem q2957 : (Jvm.Cond.code ({ cls := "CueStackModel", name := "target", desc := "(I)I" } : Jvm.MethodName) prog_18_method_69_code (2 : Nat) (Option.some Jvm.ClassFile.FieldType.int)) ∈ lw_all := lw_g (lw_at lw_m12 234 rfl) rfl
theorem q2959 : (Jvm.Cond.instanceMethod ({ cls := "CueStackModel", name := "playing", desc := "(I)I" } : Jvm.MethodName)) ∈ lw_all := lw_g (lw_at lw_m12 236 rfl) rfl
theorem q2960 : (Jvm.Cond.selects "CueStackModel" ({ cls := "CueStackModel", name := "playing", desc := "(I)I" } : Jvm.MethodName) ({ cls := "CueStackModel", name := "playing", desc := "(I)I" } : Jvm.MethodName)) ∈ lw_all := lw_g (lw_at lw_m12 237 rfl) rfl
theorem q2961 : (Jvm.Cond.code ({ cls := "CueStackModel", name := "playing", desc := "(I)I" } : Jvm.MethodName) prog_18_method_71_code (2 : Nat) (Option.some Jvm.ClassFile.FieldType.int)) ∈ lw_all := lw_g (lw_at lw_m12 238 rfl) rfl
theorem q2962 : (Jvm.Cond.methodLink "CueStackModel" (195 : Nat) ({ cls := "CueStackModel", name := "fading", desc := "()I" } : Jvm.MethodName)) ∈ lw_all := lw_g (lw_at lw_m12 239 rfl) rfl
theorem q2963 : (Jvm.Cond.privateMethod ({ cls := "CueStackModel", name := "fading", desc := "()I" } : Jvm.MethodName)) ∈ lw_tbl := lw_at lw_m13 0 rfl
theorem q2964 : (Jvm.Cond.instanceMethod ({ cls := "CueStackModel", name := "fading", desc := "()I" } : Jvm.MethodName)) ∈ lw_all := lw_g (lw_at lw_m13 1 rfl) rfl
theorem q2965 : (Jvm.Cond.code ({ cls := "CueStackModel", name := "fading", desc := "()I" } : Jvm.MethodName) prog_18_method_70_code (3 : Nat) (Option.some Jvm.ClassFile.FieldType.int)) ∈ lw_all := lw_g (lw_at lw_m13 2 rfl) rfl
theorem q2966 : (Jvm.Cond.methodLink "CueStackModel" (192 : Nat) ({ cls := "CueStackModel", name := "isFading", desc := "(I)Z" } : Jvm.MethodName)) ∈ lw_all := lw_g (lw_at lw_m13 3 rfl) rfl
theorem q2967 : (Jvm.Cond.privateMethod ({ cls := "CueStackModel", name := "isFading", desc := "(I)Z" } : Jvm.MethodName)) ∈ lw_tbl := lw_at lw_m13 4 rfl
theorem q2968 : (Jvm.Cond.instanceMethod ({ cls := "CueStackModel", name := "isFading", desc := "(I)Z" } : Jvm.MethodName)) ∈ lw_all := lw_g (lw_at lw_m13 5 rfl) rfl
theorem q2969 : (Jvm.Cond.code ({ cls := "CueStackModel", name := "isFading", desc := "(I)Z" } : Jvm.MethodName) prog_18_method_56_code (3 : Nat) (Option.some Jvm.ClassFile.FieldType.boolean)) ∈ lw_all := lw_g (lw_at lw_m13 6 rfl) rfl
theorem q2971 : (Jvm.Cond.instanceMethod ({ cls := "CueStackModel", name := "chain", desc := "(I)I" } : Jvm.MethodName)) ∈ lw_all := lw_g (lw_at lw_m13 8 rfl) rfl
theorem q2972 : (Jvm.Cond.selects "CueStackModel" ({ cls := "CueStackModel", name := "chain", desc := "(I)I" } : Jvm.MethodName) ({ cls := "CueStackModel", name := "chain", desc := "(I)I" } : Jvm.MethodName)) ∈ lw_all := lw_g (lw_at lw_m13 9 rfl) rfl
theorem q2973 : (Jvm.Cond.code ({ cls := "CueStackModel", name := "chain", desc := "(I)I" } : Jvm.MethodName) prog_18_method_72_code (4 : Nat) (Option.some Jvm.ClassFile.FieldType.int)) ∈ lw_all := lw_g (lw_at lw_m13 10 rfl) rfl
theorem q2975 : (Jvm.Cond.instanceMethod ({ cls := "CueStackModel", name := "account", desc := "(I)I" } : Jvm.MethodName)) ∈ lw_all := lw_g (lw_at lw_m13 12 rfl) rfl
theorem q2976 : (Jvm.Cond.selects "CueStackModel" ({ cls := "CueStackModel", name := "account", desc := "(I)I" } : Jvm.MethodName) ({ cls := "CueStackModel", name := "account", desc := "(I)I" } : Jvm.MethodName)) ∈ lw_all := lw_g (lw_at lw_m13 13 rfl) rfl
theorem q2977 : (Jvm.Cond.code ({ cls := "CueStackModel", name := "account", desc := "(I)I" } : Jvm.MethodName) prog_18_method_75_code (4 : Nat) (Option.some Jvm.ClassFile.FieldType.int)) ∈ lw_all := lw_g (lw_at lw_m13 14 rfl) rfl
theorem q2978 : (Jvm.Cond.methodLink "CueStackModel" (199 : Nat) ({ cls := "CueStackModel", name := "overChannels", desc := "(I)I" } : Jvm.MethodName)) ∈ lw_all := lw_g (lw_at lw_m13 15 rfl) rfl
theorem q2979 : (Jvm.Cond.privateMethod ({ cls := "CueStackModel", name := "overChannels", desc := "(I)I" } : Jvm.MethodName)) ∈ lw_tbl := lw_at lw_m13 16 rfl
theorem q2980 : (Jvm.Cond.instanceMethod ({ cls := "CueStackModel", name := "overChannels", desc := "(I)I" } : Jvm.MethodName)) ∈ lw_all := lw_g (lw_at lw_m13 17 rfl) rfl
theorem q2981 : (Jvm.Cond.code ({ cls := "CueStackModel", name := "overChannels", desc := "(I)I" } : Jvm.MethodName) prog_18_method_73_code (4 : Nat) (Option.some Jvm.ClassFile.FieldType.int)) ∈ lw_all := lw_g (lw_at lw_m13 18 rfl) rfl
theorem q2982 : (Jvm.Cond.methodLink "CueStackModel" (202 : Nat) ({ cls := "CueStackModel", name := "overCues", desc := "(I)I" } : Jvm.MethodName)) ∈ lw_all := lw_g (lw_at lw_m13 19 rfl) rfl
theorem q2983 : (Jvm.Cond.privateMethod ({ cls := "CueStackModel", name := "overCues", desc := "(I)I" } : Jvm.MethodName)) ∈ lw_tbl := lw_at lw_m13 20 rfl
theorem q2984 : (Jvm.Cond.instanceMethod ({ cls := "CueStackModel", name := "overCues", desc := "(I)I" } : Jvm.MethodName)) ∈ lw_all := lw_g (lw_at lw_m13 21 rfl) rfl
theorem q2985 : (Jvm.Cond.code ({ cls := "CueStackModel", name := "overCues", desc := "(I)I" } : Jvm.MethodName) prog_18_method_74_code (5 : Nat) (Option.some Jvm.ClassFile.FieldType.int)) ∈ lw_all := lw_g (lw_at lw_m13 22 rfl) rfl
theorem q2987 : (Jvm.Cond.instanceMethod ({ cls := "CueStackModel", name := "meanLevel", desc := "()D" } : Jvm.MethodName)) ∈ lw_all := lw_g (lw_at lw_m13 24 rfl) rfl
theorem q2988 : (Jvm.Cond.selects "CueStackModel" ({ cls := "CueStackModel", name := "meanLevel", desc := "()D" } : Jvm.MethodName) ({ cls := "CueStackModel", name := "meanLevel", desc := "()D" } : Jvm.MethodName)) ∈ lw_all := lw_g (lw_at lw_m13 25 rfl) rfl
theorem q2989 : (Jvm.Cond.code ({ cls := "CueStackModel", name := "meanLevel", desc := "()D" } : Jvm.MethodName) prog_18_method_76_code (1 : Nat) (Option.some Jvm.ClassFile.FieldType.double)) ∈ lw_all := lw_g (lw_at lw_m13 26 rfl) rfl
theorem q2990 : (Jvm.Cond.constantDouble "CueStackModel" (205 : Nat) (4622945017495814144 : UInt64)) ∈ lw_all := lw_g (lw_at lw_m13 27 rfl) rfl
theorem q2992 : (Jvm.Cond.instanceMethod ({ cls := "CueStackModel", name := "append", desc := "(C)I" } : Jvm.MethodName)) ∈ lw_all := lw_g (lw_at lw_m13 29 rfl) rfl
theorem q2993 : (Jvm.Cond.selects "CueStackModel" ({ cls := "CueStackModel", name := "append", desc := "(C)I" } : Jvm.MethodName) ({ cls := "CueStackModel", name := "append", desc := "(C)I" } : Jvm.MethodName)) ∈ lw_all := lw_g (lw_at lw_m13 30 rfl) rfl
theorem q2994 : (Jvm.Cond.code ({ cls := "CueStackModel", name := "append", desc := "(C)I" } : Jvm.MethodName) prog_18_method_77_code (2 : Nat) (Option.some Jvm.ClassFile.FieldType.int)) ∈ lw_all := lw_g (lw_at lw_m13 31 rfl) rfl
theorem q2996 : (Jvm.Cond.instanceMethod ({ cls := "CueStackModel", name := "read", desc := "()I" } : Jvm.MethodName)) ∈ lw_all := lw_g (lw_at lw_m13 33 rfl) rfl
theorem q2997 : (Jvm.Cond.selects "CueStackModel" ({ cls := "CueStackModel", name := "read", desc := "()I" } : Jvm.MethodName) ({ cls := "CueStackModel", name := "read", desc := "()I" } : Jvm.MethodName)) ∈ lw_all := lw_g (lw_at lw_m13 34 rfl) rfl
theorem q2998 : (Jvm.Cond.code ({ cls := "CueStackModel", name := "read", desc := "()I" } : Jvm.MethodName) prog_18_method_85_code (2 : Nat) (Option.some Jvm.ClassFile.FieldType.int)) ∈ lw_all := lw_g (lw_at lw_m13 35 rfl) rfl
theorem q2999 : (Jvm.Cond.methodLink "CueStackModel" (245 : Nat) ({ cls := "CueStackModel", name := "readEntry", desc := "()V" } : Jvm.MethodName)) ∈ lw_all := lw_g (lw_at lw_m13 36 rfl) rfl
theorem q3000 : (Jvm.Cond.privateMethod ({ cls := "CueStackModel", name := "readEntry", desc := "()V" } : Jvm.MethodName)) ∈ lw_tbl := lw_at lw_m13 37 rfl
theorem q3001 : (Jvm.Cond.instanceMethod ({ cls := "CueStackModel", name := "readEntry", desc := "()V" } : Jvm.MethodName)) ∈ lw_all := lw_g (lw_at lw_m13 38 rfl) rfl
theorem q3002 : (Jvm.Cond.code ({ cls := "CueStackModel", name := "readEntry", desc := "()V" } : Jvm.MethodName) prog_18_method_82_code (3 : Nat) (Option.none : Option Jvm.ClassFile.FieldType)) ∈ lw_all := lw_g (lw_at lw_m13 39 rfl) rfl
theorem q3003 : (Jvm.Cond.stringRef "CueStackModel" (231 : Nat) "cxsrgjt") ∈ lw_tbl := lw_at lw_m13 40 rfl
theorem q3004 : (Jvm.Cond.methodLink "CueStackModel" (233 : Nat) ({ cls := "java/lang/String", name := "indexOf", desc := "(I)I" } : Jvm.MethodName)) ∈ lw_all := lw_g (lw_at lw_m13 41 rfl) rfl
theorem q3048 : (Jvm.Cond.methodLink "CueStackModel" (225 : Nat) ({ cls := "CueStackModel", name := "number", desc := "(I)I" } : Jvm.MethodName)) ∈ lw_all := lw_g (lw_at lw_m13 85 rfl) rfl
theorem q3049 : (Jvm.Cond.privateMethod ({ cls := "CueStackModel", name := "number", desc := "(I)I" } : Jvm.MethodName)) ∈ lw_tbl := lw_at lw_m13 86 rfl
theorem q3050 : (Jvm.Cond.instanceMethod ({ cls := "CueStackModel", name := "number", desc := "(I)I" } : Jvm.MethodName)) ∈ lw_all := lw_g (lw_at lw_m13 87 rfl) rfl
theorem q3051 : (Jvm.Cond.code ({ cls := "CueStackModel", name := "number", desc := "(I)I" } : Jvm.MethodName) prog_18_method_80_code (4 : Nat) (Option.some Jvm.ClassFile.FieldType.int)) ∈ lw_all := lw_g (lw_at lw_m13 88 rfl) rfl
theorem q3052 : (Jvm.Cond.methodLink "CueStackModel" (217 : Nat) ({ cls := "CueStackModel", name := "isHere", desc := "(CC)Z" } : Jvm.MethodName)) ∈ lw_all := lw_g (lw_at lw_m13 89 rfl) rfl
theorem q3053 : (Jvm.Cond.privateMethod ({ cls := "CueStackModel", name := "isHere", desc := "(CC)Z" } : Jvm.MethodName)) ∈ lw_tbl := lw_at lw_m13 90 rfl
theorem q3054 : (Jvm.Cond.instanceMethod ({ cls := "CueStackModel", name := "isHere", desc := "(CC)Z" } : Jvm.MethodName)) ∈ lw_all := lw_g (lw_at lw_m13 91 rfl) rfl
theorem q3055 : (Jvm.Cond.code ({ cls := "CueStackModel", name := "isHere", desc := "(CC)Z" } : Jvm.MethodName) prog_18_method_78_code (3 : Nat) (Option.some Jvm.ClassFile.FieldType.boolean)) ∈ lw_all := lw_g (lw_at lw_m13 92 rfl) rfl
theorem q3056 : (Jvm.Cond.methodLink "CueStackModel" (238 : Nat) ({ cls := "CueStackModel", name := "behind", desc := "(CI)I" } : Jvm.MethodName)) ∈ lw_all := lw_g (lw_at lw_m13 93 rfl) rfl
theorem q3057 : (Jvm.Cond.privateMethod ({ cls := "CueStackModel", name := "behind", desc := "(CI)I" } : Jvm.MethodName)) ∈ lw_tbl := lw_at lw_m13 94 rfl
theorem q3058 : (Jvm.Cond.instanceMethod ({ cls := "CueStackModel", name := "behind", desc := "(CI)I" } : Jvm.MethodName)) ∈ lw_all := lw_g (lw_at lw_m13 95 rfl) rfl
theorem q3059 : (Jvm.Cond.code ({ cls := "CueStackModel", name := "behind", desc := "(CI)I" } : Jvm.MethodName) prog_18_method_81_code (3 : Nat) (Option.some Jvm.ClassFile.FieldType.int)) ∈ lw_all := lw_g (lw_at lw_m13 96 rfl) rfl
theorem q3060 : (Jvm.Cond.methodLink "CueStackModel" (221 : Nat) ({ cls := "CueStackModel", name := "sign", desc := "(C)V" } : Jvm.MethodName)) ∈ lw_all := lw_g (lw_at lw_m13 97 rfl) rfl
theorem q3061 : (Jvm.Cond.privateMethod ({ cls := "CueStackModel", name := "sign", desc := "(C)V" } : Jvm.MethodName)) ∈ lw_tbl := lw_at lw_m13 98 rfl
theorem q3062 : (Jvm.Cond.instanceMethod ({ cls := "CueStackModel", name := "sign", desc := "(C)V" } : Jvm.MethodName)) ∈ lw_all := lw_g (lw_at lw_m13 99 rfl) rfl
theorem q3063 : (Jvm.Cond.code ({ cls := "CueStackModel", name := "sign", desc := "(C)V" } : Jvm.MethodName) prog_18_method_79_code (2 : Nat) (Option.none : Option Jvm.ClassFile.FieldType)) ∈ lw_all := lw_g (lw_at lw_m13 100 rfl) rfl
theorem q3064 : (Jvm.Cond.methodLink "CueStackModel" (248 : Nat) ({ cls := "CueStackModel", name := "fails", desc := "(I)Z" } : Jvm.MethodName)) ∈ lw_all := lw_g (lw_at lw_m13 101 rfl) rfl
theorem q3065 : (Jvm.Cond.privateMethod ({ cls := "CueStackModel", name := "fails", desc := "(I)Z" } : Jvm.MethodName)) ∈ lw_tbl := lw_at lw_m13 102 rfl
theorem q3066 : (Jvm.Cond.instanceMethod ({ cls := "CueStackModel", name := "fails", desc := "(I)Z" } : Jvm.MethodName)) ∈ lw_all := lw_g (lw_at lw_m13 103 rfl) rfl
theorem q3067 : (Jvm.Cond.code ({ cls := "CueStackModel", name := "fails", desc := "(I)Z" } : Jvm.MethodName) prog_18_method_84_code (5 : Nat) (Option.some Jvm.ClassFile.FieldType.boolean)) ∈ lw_all := lw_g (lw_at lw_m13 104 rfl) rfl
theorem q3068 : (Jvm.Cond.methodLink "CueStackModel" (242 : Nat) ({ cls := "CueStackModel", name := "isTold", desc := "(I)Z" } : Jvm.MethodName)) ∈ lw_all := lw_g (lw_at lw_m13 105 rfl) rfl
theorem q3069 : (Jvm.Cond.privateMethod ({ cls := "CueStackModel", name := "isTold", desc := "(I)Z" } : Jvm.MethodName)) ∈ lw_tbl := lw_at lw_m13 106 rfl
theorem q3070 : (Jvm.Cond.instanceMethod ({ cls := "CueStackModel", name := "isTold", desc := "(I)Z" } : Jvm.MethodName)) ∈ lw_all := lw_g (lw_at lw_m13 107 rfl) rfl
theorem q3071 : (Jvm.Cond.code ({ cls := "CueStackModel", name := "isTold", desc := "(I)Z" } : Jvm.MethodName) prog_18_method_83_code (2 : Nat) (Option.some Jvm.ClassFile.FieldType.boolean)) ∈ lw_all := lw_g (lw_at lw_m13 108 rfl) rfl
theorem q3073 : (Jvm.Cond.instanceMethod ({ cls := "CueStackModel", name := "errorPosition", desc := "()I" } : Jvm.MethodName)) ∈ lw_all := lw_g (lw_at lw_m13 110 rfl) rfl
theorem q3074 : (Jvm.Cond.selects "CueStackModel" ({ cls := "CueStackModel", name := "errorPosition", desc := "()I" } : Jvm.MethodName) ({ cls := "CueStackModel", name := "errorPosition", desc := "()I" } : Jvm.MethodName)) ∈ lw_all := lw_g (lw_at lw_m13 111 rfl) rfl
theorem q3075 : (Jvm.Cond.code ({ cls := "CueStackModel", name := "errorPosition", desc := "()I" } : Jvm.MethodName) prog_18_method_86_code (1 : Nat) (Option.some Jvm.ClassFile.FieldType.int)) ∈ lw_all := lw_g (lw_at lw_m13 112 rfl) rfl
theorem q3077 : (Jvm.Cond.instanceMethod ({ cls := "CueStackModel", name := "undo", desc := "()I" } : Jvm.MethodName)) ∈ lw_all := lw_g (lw_at lw_m13 114 rfl) rfl
theorem q3078 : (Jvm.Cond.selects "CueStackModel" ({ cls := "CueStackModel", name := "undo", desc := "()I" } : Jvm.MethodName) ({ cls := "CueStackModel", name := "undo", desc := "()I" } : Jvm.MethodName)) ∈ lw_all := lw_g (lw_at lw_m13 115 rfl) rfl
theorem q3079 : (Jvm.Cond.code ({ cls := "CueStackModel", name := "undo", desc := "()I" } : Jvm.MethodName) prog_18_method_87_code (1 : Nat) (Option.some Jvm.ClassFile.FieldType.int)) ∈ lw_all := lw_g (lw_at lw_m13 116 rfl) rfl
theorem q3081 : (Jvm.Cond.instanceMethod ({ cls := "CueStackModel", name := "save", desc := "()I" } : Jvm.MethodName)) ∈ lw_all := lw_g (lw_at lw_m13 118 rfl) rfl
theorem q3082 : (Jvm.Cond.selects "CueStackModel" ({ cls := "CueStackModel", name := "save", desc := "()I" } : Jvm.MethodName) ({ cls := "CueStackModel", name := "save", desc := "()I" } : Jvm.MethodName)) ∈ lw_all := lw_g (lw_at lw_m13 119 rfl) rfl
theorem q3083 : (Jvm.Cond.code ({ cls := "CueStackModel", name := "save", desc := "()I" } : Jvm.MethodName) prog_18_method_88_code (1 : Nat) (Option.some Jvm.ClassFile.FieldType.int)) ∈ lw_all := lw_g (lw_at lw_m13 120 rfl) rfl
theorem q3085 : (Jvm.Cond.instanceMethod ({ cls := "CueStackModel", name := "restore", desc := "()I" } : Jvm.MethodName)) ∈ lw_all := lw_g (lw_at lw_m13 122 rfl) rfl
theorem q3086 : (Jvm.Cond.selects "CueStackModel" ({ cls := "CueStackModel", name := "restore", desc := "()I" } : Jvm.MethodName) ({ cls := "CueStackModel", name := "restore", desc := "()I" } : Jvm.MethodName)) ∈ lw_all := lw_g (lw_at lw_m13 123 rfl) rfl
theorem q3087 : (Jvm.Cond.code ({ cls := "CueStackModel", name := "restore", desc := "()I" } : Jvm.MethodName) prog_18_method_89_code (1 : Nat) (Option.some Jvm.ClassFile.FieldType.int)) ∈ lw_all := lw_g (lw_at lw_m13 124 rfl) rfl
theorem q3122 : (Jvm.Cond.castable "CueStackModel" "java/lang/Object") ∈ lw_tbl := lw_at lw_m13 159 rfl
theorem in_X6 : ∀ w ∈ wsX60, w ∈ lw_all := lw_in wsX60 [2660, 2662, 2664, 2666, 2668, 2670, 2672, 2674, 2676, 2678, 2680, 2682, 2684, 2686, 2688, 2690, 2692] (by decide +kernel) (by decide +kernel)

