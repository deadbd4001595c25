/-! CueStack -/
set_option maxRecDepth 100000
def RX1 : String := "CueStack"
def TX1 : u_T := fun k => match k with
  | 0 => ("CueStack", "show", "LCueStack$Show;", false)
  | 1 => ("CueStack", "saved", "LCueStack$Show;", false)
  | 2 => ("CueStack", "past", "LCueStack$Past;", true)
  | 3 => ("CueStack", "tracking", "LCueStack$Levels;", true)
  | 4 => ("CueStack", "playingOn", "LCueStack$Levels;", true)
  | 5 => ("CueStack", "input", "[C", true)
  | 6 => ("CueStack", "typed", "I", false)
  | 7 => ("CueStack", "badText", "LCueStack$BadText;", false)
  | _ => ("CueStack", "refusal", "LCueStack$Refusal;", false)
def tyX1 : Nat → FieldType := fun k => match k with
  | 0 => .object "CueStack$Show"
  | 1 => .object "CueStack$Show"
  | 2 => .object "CueStack$Past"
  | 3 => .object "CueStack$Levels"
  | 4 => .object "CueStack$Levels"
  | 5 => .array .char
  | 6 => .int
  | 7 => .object "CueStack$BadText"
  | _ => .object "CueStack$Refusal"
abbrev wsX10 : List Cond := u_ws RX1 TX1 9
theorem nmX1 : ∀ a, a < 9 → ∀ b, b < 9 → a ≠ b → (TX1 a).2.1 ≠ (TX1 b).2.1 := by decide +kernel
theorem tyX1_ok : ∀ k, k < 9 → parseFieldDescriptor (TX1 k).2.2.1 = some (tyX1 k) := by decide +kernel
abbrev cX1_init : ByteArray := prog_1_method_8_code
def yX1_init : MethodName := ⟨RX1, "<init>", "()V"⟩
def dkwX1_init_2 : List UInt8 := [181, 0, 55, 42, 16, 60, 188, 5, 181, 0, 58, 177]
abbrev dktX1_init_2 : List UInt8 := dkwX1_init_2 ++ []
def dkwX1_init_1 : List UInt8 := [183, 0, 41, 181, 0, 42, 42, 42, 186, 0, 46, 0, 0, 181, 0, 50, 42, 42, 186, 0, 54, 0, 0]
abbrev dktX1_init_1 : List UInt8 := dkwX1_init_1 ++ dktX1_init_2
def dkwX1_init_0 : List UInt8 := [42, 183, 0, 29, 42, 187, 0, 32, 89, 183, 0, 34, 181, 0, 35, 42, 187, 0, 39, 89, 16, 6]
abbrev dktX1_init_0 : List UInt8 := dkwX1_init_0 ++ dktX1_init_1
theorem dksX1_init_0 : cX1_init.data.toList.drop 0 = dktX1_init_0 := by decide +kernel
theorem dksX1_init_1 : cX1_init.data.toList.drop 22 = dktX1_init_1 := dk_seg dksX1_init_0 22 rfl rfl
theorem dksX1_init_2 : cX1_init.data.toList.drop 45 = dktX1_init_2 := dk_seg dksX1_init_1 23 rfl rfl
theorem dX1_init_0 : decode cX1_init 0 = .ok (.aload_n 0, 1) := dk_42 (dk_at dksX1_init_0 0 rfl rfl)
theorem dX1_init_1 : decode cX1_init 1 = .ok (.invokespecial 29, 3) := dk_183 0 29 (dk_at dksX1_init_0 1 rfl rfl)
theorem dX1_init_4 : decode cX1_init 4 = .ok (.aload_n 0, 1) := dk_42 (dk_at dksX1_init_0 4 rfl rfl)
theorem dX1_init_5 : decode cX1_init 5 = .ok (.new 32, 3) := dk_187 0 32 (dk_at dksX1_init_0 5 rfl rfl)
theorem dX1_init_8 : decode cX1_init 8 = .ok (.dup, 1) := dk_89 (dk_at dksX1_init_0 8 rfl rfl)
theorem dX1_init_9 : decode cX1_init 9 = .ok (.invokespecial 34, 3) := dk_183 0 34 (dk_at dksX1_init_0 9 rfl rfl)
theorem dX1_init_12 : decode cX1_init 12 = .ok (.putfield 35, 3) := dk_181 0 35 (dk_at dksX1_init_0 12 rfl rfl)
theorem dX1_init_15 : decode cX1_init 15 = .ok (.aload_n 0, 1) := dk_42 (dk_at dksX1_init_0 15 rfl rfl)
theorem dX1_init_16 : decode cX1_init 16 = .ok (.new 39, 3) := dk_187 0 39 (dk_at dksX1_init_0 16 rfl rfl)
theorem dX1_init_19 : decode cX1_init 19 = .ok (.dup, 1) := dk_89 (dk_at dksX1_init_0 19 rfl rfl)
theorem dX1_init_20 : decode cX1_init 20 = .ok (.bipush 6, 2) := dk_16 6 (dk_at dksX1_init_0 20 rfl rfl)
theorem dX1_init_22 : decode cX1_init 22 = .ok (.invokespecial 41, 3) := dk_183 0 41 (dk_at dksX1_init_1 0 rfl rfl)
theorem dX1_init_25 : decode cX1_init 25 = .ok (.putfield 42, 3) := dk_181 0 42 (dk_at dksX1_init_1 3 rfl rfl)
theorem dX1_init_28 : decode cX1_init 28 = .ok (.aload_n 0, 1) := dk_42 (dk_at dksX1_init_1 6 rfl rfl)
theorem dX1_init_29 : decode cX1_init 29 = .ok (.aload_n 0, 1) := dk_42 (dk_at dksX1_init_1 7 rfl rfl)
theorem dX1_init_30 : decode cX1_init 30 = .ok (.invokedynamic 46, 5) := by decide +kernel
theorem dX1_init_35 : decode cX1_init 35 = .ok (.putfield 50, 3) := dk_181 0 50 (dk_at dksX1_init_1 13 rfl rfl)
theorem dX1_init_38 : decode cX1_init 38 = .ok (.aload_n 0, 1) := dk_42 (dk_at dksX1_init_1 16 rfl rfl)
theorem dX1_init_39 : decode cX1_init 39 = .ok (.aload_n 0, 1) := dk_42 (dk_at dksX1_init_1 17 rfl rfl)
theorem dX1_init_40 : decode cX1_init 40 = .ok (.invokedynamic 54, 5) := by decide +kernel
theorem dX1_init_45 : decode cX1_init 45 = .ok (.putfield 55, 3) := dk_181 0 55 (dk_at dksX1_init_2 0 rfl rfl)
theorem dX1_init_48 : decode cX1_init 48 = .ok (.aload_n 0, 1) := dk_42 (dk_at dksX1_init_2 3 rfl rfl)
theorem dX1_init_49 : decode cX1_init 49 = .ok (.bipush 60, 2) := dk_16 60 (dk_at dksX1_init_2 4 rfl rfl)
theorem dX1_init_51 : decode cX1_init 51 = .ok (.newarray .char, 2) := dk_188_5 (dk_at dksX1_init_2 6 rfl rfl)
theorem dX1_init_53 : decode cX1_init 53 = .ok (.putfield 58, 3) := dk_181 0 58 (dk_at dksX1_init_2 8 rfl rfl)
theorem dX1_init_56 : decode cX1_init 56 = .ok (.return_, 1) := dk_177 (dk_at dksX1_init_2 11 rfl rfl)
abbrev cX1_lambda_new_0 : ByteArray := prog_1_method_68_code
def yX1_lambda_new_0 : MethodName := ⟨RX1, "lambda$new$0", "(II)I"⟩
def dkwX1_lambda_new_0_0 : List UInt8 := [42, 180, 0, 35, 27, 28, 182, 0, 143, 172]
abbrev dktX1_lambda_new_0_0 : List UInt8 := dkwX1_lambda_new_0_0 ++ []
theorem dksX1_lambda_new_0_0 : cX1_lambda_new_0.data.toList.drop 0 = dktX1_lambda_new_0_0 := by decide +kernel
theorem dX1_lambda_new_0_0 : decode cX1_lambda_new_0 0 = .ok (.aload_n 0, 1) := dk_42 (dk_at dksX1_lambda_new_0_0 0 rfl rfl)
theorem dX1_lambda_new_0_1 : decode cX1_lambda_new_0 1 = .ok (.getfield 35, 3) := dk_180 0 35 (dk_at dksX1_lambda_new_0_0 1 rfl rfl)
theorem dX1_lambda_new_0_4 : decode cX1_lambda_new_0 4 = .ok (.iload_n 1, 1) := dk_27 (dk_at dksX1_lambda_new_0_0 4 rfl rfl)
theorem dX1_lambda_new_0_5 : decode cX1_lambda_new_0 5 = .ok (.iload_n 2, 1) := dk_28 (dk_at dksX1_lambda_new_0_0 5 rfl rfl)
theorem dX1_lambda_new_0_6 : decode cX1_lambda_new_0 6 = .ok (.invokevirtual 143, 3) := dk_182 0 143 (dk_at dksX1_lambda_new_0_0 6 rfl rfl)
theorem dX1_lambda_new_0_9 : decode cX1_lambda_new_0 9 = .ok (.ireturn, 1) := dk_172 (dk_at dksX1_lambda_new_0_0 9 rfl rfl)
abbrev cX1_lambda_new_1 : ByteArray := prog_1_method_67_code
def yX1_lambda_new_1 : MethodName := ⟨RX1, "lambda$new$1", "(II)I"⟩
def dkwX1_lambda_new_1_0 : List UInt8 := [42, 180, 0, 35, 27, 28, 182, 1, 153, 172]
abbrev dktX1_lambda_new_1_0 : List UInt8 := dkwX1_lambda_new_1_0 ++ []
theorem dksX1_lambda_new_1_0 : cX1_lambda_new_1.data.toList.drop 0 = dktX1_lambda_new_1_0 := by decide +kernel
theorem dX1_lambda_new_1_0 : decode cX1_lambda_new_1 0 = .ok (.aload_n 0, 1) := dk_42 (dk_at dksX1_lambda_new_1_0 0 rfl rfl)
theorem dX1_lambda_new_1_1 : decode cX1_lambda_new_1 1 = .ok (.getfield 35, 3) := dk_180 0 35 (dk_at dksX1_lambda_new_1_0 1 rfl rfl)
theorem dX1_lambda_new_1_4 : decode cX1_lambda_new_1 4 = .ok (.iload_n 1, 1) := dk_27 (dk_at dksX1_lambda_new_1_0 4 rfl rfl)
theorem dX1_lambda_new_1_5 : decode cX1_lambda_new_1 5 = .ok (.iload_n 2, 1) := dk_28 (dk_at dksX1_lambda_new_1_0 5 rfl rfl)
theorem dX1_lambda_new_1_6 : decode cX1_lambda_new_1 6 = .ok (.invokevirtual 409, 3) := dk_182 1 153 (dk_at dksX1_lambda_new_1_0 6 rfl rfl)
theorem dX1_lambda_new_1_9 : decode cX1_lambda_new_1 9 = .ok (.ireturn, 1) := dk_172 (dk_at dksX1_lambda_new_1_0 9 rfl rfl)
abbrev cX1_clear : ByteArray := prog_1_method_13_code
def yX1_clear : MethodName := ⟨RX1, "clear", "()I"⟩
def dkwX1_clear_1 : List UInt8 := [180, 0, 42, 182, 0, 91, 27, 172]
abbrev dktX1_clear_1 : List UInt8 := dkwX1_clear_1 ++ []
def dkwX1_clear_0 : List UInt8 := [42, 180, 0, 35, 180, 0, 81, 182, 0, 85, 60, 42, 187, 0, 32, 89, 183, 0, 34, 181, 0, 35, 42]
abbrev dktX1_clear_0 : List UInt8 := dkwX1_clear_0 ++ dktX1_clear_1
theorem dksX1_clear_0 : cX1_clear.data.toList.drop 0 = dktX1_clear_0 := by decide +kernel
theorem dksX1_clear_1 : cX1_clear.data.toList.drop 23 = dktX1_clear_1 := dk_seg dksX1_clear_0 23 rfl rfl
theorem dX1_clear_0 : decode cX1_clear 0 = .ok (.aload_n 0, 1) := dk_42 (dk_at dksX1_clear_0 0 rfl rfl)
theorem dX1_clear_1 : decode cX1_clear 1 = .ok (.getfield 35, 3) := dk_180 0 35 (dk_at dksX1_clear_0 1 rfl rfl)
theorem dX1_clear_4 : decode cX1_clear 4 = .ok (.getfield 81, 3) := dk_180 0 81 (dk_at dksX1_clear_0 4 rfl rfl)
theorem dX1_clear_7 : decode cX1_clear 7 = .ok (.invokevirtual 85, 3) := dk_182 0 85 (dk_at dksX1_clear_0 7 rfl rfl)
theorem dX1_clear_10 : decode cX1_clear 10 = .ok (.istore_n 1, 1) := dk_60 (dk_at dksX1_clear_0 10 rfl rfl)
theorem dX1_clear_11 : decode cX1_clear 11 = .ok (.aload_n 0, 1) := dk_42 (dk_at dksX1_clear_0 11 rfl rfl)
theorem dX1_clear_12 : decode cX1_clear 12 = .ok (.new 32, 3) := dk_187 0 32 (dk_at dksX1_clear_0 12 rfl rfl)
theorem dX1_clear_15 : decode cX1_clear 15 = .ok (.dup, 1) := dk_89 (dk_at dksX1_clear_0 15 rfl rfl)
theorem dX1_clear_16 : decode cX1_clear 16 = .ok (.invokespecial 34, 3) := dk_183 0 34 (dk_at dksX1_clear_0 16 rfl rfl)
theorem dX1_clear_19 : decode cX1_clear 19 = .ok (.putfield 35, 3) := dk_181 0 35 (dk_at dksX1_clear_0 19 rfl rfl)
theorem dX1_clear_22 : decode cX1_clear 22 = .ok (.aload_n 0, 1) := dk_42 (dk_at dksX1_clear_0 22 rfl rfl)
theorem dX1_clear_23 : decode cX1_clear 23 = .ok (.getfield 42, 3) := dk_180 0 42 (dk_at dksX1_clear_1 0 rfl rfl)
theorem dX1_clear_26 : decode cX1_clear 26 = .ok (.invokevirtual 91, 3) := dk_182 0 91 (dk_at dksX1_clear_1 3 rfl rfl)
theorem dX1_clear_29 : decode cX1_clear 29 = .ok (.iload_n 1, 1) := dk_27 (dk_at dksX1_clear_1 6 rfl rfl)
theorem dX1_clear_30 : decode cX1_clear 30 = .ok (.ireturn, 1) := dk_172 (dk_at dksX1_clear_1 7 rfl rfl)
abbrev cX1_meanLevel : ByteArray := prog_1_method_53_code
def yX1_meanLevel : MethodName := ⟨RX1, "meanLevel", "()D"⟩
def dkwX1_meanLevel_0 : List UInt8 := [42, 5, 182, 1, 93, 135, 20, 1, 105, 111, 175]
abbrev dktX1_meanLevel_0 : List UInt8 := dkwX1_meanLevel_0 ++ []
theorem dksX1_meanLevel_0 : cX1_meanLevel.data.toList.drop 0 = dktX1_meanLevel_0 := by decide +kernel
theorem dX1_meanLevel_0 : decode cX1_meanLevel 0 = .ok (.aload_n 0, 1) := dk_42 (dk_at dksX1_meanLevel_0 0 rfl rfl)
theorem dX1_meanLevel_1 : decode cX1_meanLevel 1 = .ok (.iconst 2, 1) := dk_5 (dk_at dksX1_meanLevel_0 1 rfl rfl)
theorem dX1_meanLevel_2 : decode cX1_meanLevel 2 = .ok (.invokevirtual 349, 3) := dk_182 1 93 (dk_at dksX1_meanLevel_0 2 rfl rfl)
theorem dX1_meanLevel_5 : decode cX1_meanLevel 5 = .ok (.i2d, 1) := dk_135 (dk_at dksX1_meanLevel_0 5 rfl rfl)
theorem dX1_meanLevel_6 : decode cX1_meanLevel 6 = .ok (.ldc2_w 361, 3) := dk_20 1 105 (dk_at dksX1_meanLevel_0 6 rfl rfl)
theorem dX1_meanLevel_9 : decode cX1_meanLevel 9 = .ok (.ddiv, 1) := dk_111 (dk_at dksX1_meanLevel_0 9 rfl rfl)
theorem dX1_meanLevel_10 : decode cX1_meanLevel 10 = .ok (.dreturn, 1) := dk_175 (dk_at dksX1_meanLevel_0 10 rfl rfl)
abbrev cX1_sumOfFades : ByteArray := prog_1_method_49_code
def yX1_sumOfFades : MethodName := ⟨RX1, "sumOfFades", "(I)I"⟩
def dkwX1_sumOfFades_2 : List UInt8 := [192, 1, 55, 180, 1, 60, 96, 61, 132, 3, 1, 167, 255, 202, 28, 172]
abbrev dktX1_sumOfFades_2 : List UInt8 := dkwX1_sumOfFades_2 ++ []
def dkwX1_sumOfFades_1 : List UInt8 := [182, 0, 123, 192, 1, 55, 182, 1, 57, 167, 0, 20, 42, 180, 0, 35, 180, 1, 52, 29, 182, 0, 123]
abbrev dktX1_sumOfFades_1 : List UInt8 := dkwX1_sumOfFades_1 ++ dktX1_sumOfFades_2
def dkwX1_sumOfFades_0 : List UInt8 := [3, 61, 3, 62, 29, 16, 12, 162, 0, 54, 28, 27, 5, 160, 0, 23, 42, 180, 0, 35, 180, 1, 52, 29]
abbrev dktX1_sumOfFades_0 : List UInt8 := dkwX1_sumOfFades_0 ++ dktX1_sumOfFades_1
theorem dksX1_sumOfFades_0 : cX1_sumOfFades.data.toList.drop 0 = dktX1_sumOfFades_0 := by decide +kernel
theorem dksX1_sumOfFades_1 : cX1_sumOfFades.data.toList.drop 24 = dktX1_sumOfFades_1 := dk_seg dksX1_sumOfFades_0 24 rfl rfl
theorem dksX1_sumOfFades_2 : cX1_sumOfFades.data.toList.drop 47 = dktX1_sumOfFades_2 := dk_seg dksX1_sumOfFades_1 23 rfl rfl
theorem dX1_sumOfFades_0 : decode cX1_sumOfFades 0 = .ok (.iconst 0, 1) := dk_3 (dk_at dksX1_sumOfFades_0 0 rfl rfl)
theorem dX1_sumOfFades_1 : decode cX1_sumOfFades 1 = .ok (.istore_n 2, 1) := dk_61 (dk_at dksX1_sumOfFades_0 1 rfl rfl)
theorem dX1_sumOfFades_2 : decode cX1_sumOfFades 2 = .ok (.iconst 0, 1) := dk_3 (dk_at dksX1_sumOfFades_0 2 rfl rfl)
theorem dX1_sumOfFades_3 : decode cX1_sumOfFades 3 = .ok (.istore_n 3, 1) := dk_62 (dk_at dksX1_sumOfFades_0 3 rfl rfl)
theorem dX1_sumOfFades_4 : decode cX1_sumOfFades 4 = .ok (.iload_n 3, 1) := dk_29 (dk_at dksX1_sumOfFades_0 4 rfl rfl)
theorem dX1_sumOfFades_5 : decode cX1_sumOfFades 5 = .ok (.bipush 12, 2) := dk_16 12 (dk_at dksX1_sumOfFades_0 5 rfl rfl)
theorem dX1_sumOfFades_7 : decode cX1_sumOfFades 7 = .ok (.if_icmp .ge 54, 3) := dk_162 0 54 (dk_at dksX1_sumOfFades_0 7 rfl rfl)
theorem dX1_sumOfFades_10 : decode cX1_sumOfFades 10 = .ok (.iload_n 2, 1) := dk_28 (dk_at dksX1_sumOfFades_0 10 rfl rfl)
theorem dX1_sumOfFades_11 : decode cX1_sumOfFades 11 = .ok (.iload_n 1, 1) := dk_27 (dk_at dksX1_sumOfFades_0 11 rfl rfl)
theorem dX1_sumOfFades_12 : decode cX1_sumOfFades 12 = .ok (.iconst 2, 1) := dk_5 (dk_at dksX1_sumOfFades_0 12 rfl rfl)
theorem dX1_sumOfFades_13 : decode cX1_sumOfFades 13 = .ok (.if_icmp .ne 23, 3) := dk_160 0 23 (dk_at dksX1_sumOfFades_0 13 rfl rfl)
theorem dX1_sumOfFades_16 : decode cX1_sumOfFades 16 = .ok (.aload_n 0, 1) := dk_42 (dk_at dksX1_sumOfFades_0 16 rfl rfl)
theorem dX1_sumOfFades_17 : decode cX1_sumOfFades 17 = .ok (.getfield 35, 3) := dk_180 0 35 (dk_at dksX1_sumOfFades_0 17 rfl rfl)
theorem dX1_sumOfFades_20 : decode cX1_sumOfFades 20 = .ok (.getfield 308, 3) := dk_180 1 52 (dk_at dksX1_sumOfFades_0 20 rfl rfl)
theorem dX1_sumOfFades_23 : decode cX1_sumOfFades 23 = .ok (.iload_n 3, 1) := dk_29 (dk_at dksX1_sumOfFades_0 23 rfl rfl)
theorem dX1_sumOfFades_24 : decode cX1_sumOfFades 24 = .ok (.invokevirtual 123, 3) := dk_182 0 123 (dk_at dksX1_sumOfFades_1 0 rfl rfl)
theorem dX1_sumOfFades_27 : decode cX1_sumOfFades 27 = .ok (.checkcast 311, 3) := dk_192 1 55 (dk_at dksX1_sumOfFades_1 3 rfl rfl)
theorem dX1_sumOfFades_30 : decode cX1_sumOfFades 30 = .ok (.invokevirtual 313, 3) := dk_182 1 57 (dk_at dksX1_sumOfFades_1 6 rfl rfl)
theorem dX1_sumOfFades_33 : decode cX1_sumOfFades 33 = .ok (.goto 20, 3) := dk_167 0 20 (dk_at dksX1_sumOfFades_1 9 rfl rfl)
theorem dX1_sumOfFades_36 : decode cX1_sumOfFades 36 = .ok (.aload_n 0, 1) := dk_42 (dk_at dksX1_sumOfFades_1 12 rfl rfl)
theorem dX1_sumOfFades_37 : decode cX1_sumOfFades 37 = .ok (.getfield 35, 3) := dk_180 0 35 (dk_at dksX1_sumOfFades_1 13 rfl rfl)
theorem dX1_sumOfFades_40 : decode cX1_sumOfFades 40 = .ok (.getfield 308, 3) := dk_180 1 52 (dk_at dksX1_sumOfFades_1 16 rfl rfl)
theorem dX1_sumOfFades_43 : decode cX1_sumOfFades 43 = .ok (.iload_n 3, 1) := dk_29 (dk_at dksX1_sumOfFades_1 19 rfl rfl)
theorem dX1_sumOfFades_44 : decode cX1_sumOfFades 44 = .ok (.invokevirtual 123, 3) := dk_182 0 123 (dk_at dksX1_sumOfFades_1 20 rfl rfl)
theorem dX1_sumOfFades_47 : decode cX1_sumOfFades 47 = .ok (.checkcast 311, 3) := dk_192 1 55 (dk_at dksX1_sumOfFades_2 0 rfl rfl)
theorem dX1_sumOfFades_50 : decode cX1_sumOfFades 50 = .ok (.getfield 316, 3) := dk_180 1 60 (dk_at dksX1_sumOfFades_2 3 rfl rfl)
theorem dX1_sumOfFades_53 : decode cX1_sumOfFades 53 = .ok (.iadd, 1) := dk_96 (dk_at dksX1_sumOfFades_2 6 rfl rfl)
theorem dX1_sumOfFades_54 : decode cX1_sumOfFades 54 = .ok (.istore_n 2, 1) := dk_61 (dk_at dksX1_sumOfFades_2 7 rfl rfl)
theorem dX1_sumOfFades_55 : decode cX1_sumOfFades 55 = .ok (.iinc 3 1, 3) := dk_132 3 1 (dk_at dksX1_sumOfFades_2 8 rfl rfl)
theorem dX1_sumOfFades_58 : decode cX1_sumOfFades 58 = .ok (.goto (-54), 3) := dk_167 255 202 (dk_at dksX1_sumOfFades_2 11 rfl rfl)
theorem dX1_sumOfFades_61 : decode cX1_sumOfFades 61 = .ok (.iload_n 2, 1) := dk_28 (dk_at dksX1_sumOfFades_2 14 rfl rfl)
theorem dX1_sumOfFades_62 : decode cX1_sumOfFades 62 = .ok (.ireturn, 1) := dk_172 (dk_at dksX1_sumOfFades_2 15 rfl rfl)
abbrev cX1_save : ByteArray := prog_1_method_59_code
def yX1_save : MethodName := ⟨RX1, "save", "()I"⟩
def dkwX1_save_0 : List UInt8 := [42, 42, 180, 0, 35, 182, 0, 94, 181, 1, 144, 42, 180, 1, 144, 180, 0, 81, 182, 0, 85, 172]
abbrev dktX1_save_0 : List UInt8 := dkwX1_save_0 ++ []
theorem dksX1_save_0 : cX1_save.data.toList.drop 0 = dktX1_save_0 := by decide +kernel
theorem dX1_save_0 : decode cX1_save 0 = .ok (.aload_n 0, 1) := dk_42 (dk_at dksX1_save_0 0 rfl rfl)
theorem dX1_save_1 : decode cX1_save 1 = .ok (.aload_n 0, 1) := dk_42 (dk_at dksX1_save_0 1 rfl rfl)
theorem dX1_save_2 : decode cX1_save 2 = .ok (.getfield 35, 3) := dk_180 0 35 (dk_at dksX1_save_0 2 rfl rfl)
theorem dX1_save_5 : decode cX1_save 5 = .ok (.invokevirtual 94, 3) := dk_182 0 94 (dk_at dksX1_save_0 5 rfl rfl)
theorem dX1_save_8 : decode cX1_save 8 = .ok (.putfield 400, 3) := dk_181 1 144 (dk_at dksX1_save_0 8 rfl rfl)
theorem dX1_save_11 : decode cX1_save 11 = .ok (.aload_n 0, 1) := dk_42 (dk_at dksX1_save_0 11 rfl rfl)
theorem dX1_save_12 : decode cX1_save 12 = .ok (.getfield 400, 3) := dk_180 1 144 (dk_at dksX1_save_0 12 rfl rfl)
theorem dX1_save_15 : decode cX1_save 15 = .ok (.getfield 81, 3) := dk_180 0 81 (dk_at dksX1_save_0 15 rfl rfl)
theorem dX1_save_18 : decode cX1_save 18 = .ok (.invokevirtual 85, 3) := dk_182 0 85 (dk_at dksX1_save_0 18 rfl rfl)
theorem dX1_save_21 : decode cX1_save 21 = .ok (.ireturn, 1) := dk_172 (dk_at dksX1_save_0 21 rfl rfl)
abbrev cX1_addCue : ByteArray := prog_1_method_14_code
def yX1_addCue : MethodName := ⟨RX1, "addCue", "(I)I"⟩
def dkwX1_addCue_1 : List UInt8 := [180, 0, 81, 182, 0, 85, 172]
abbrev dktX1_addCue_1 : List UInt8 := dkwX1_addCue_1 ++ []
def dkwX1_addCue_0 : List UInt8 := [42, 180, 0, 35, 182, 0, 94, 77, 44, 27, 182, 0, 98, 42, 44, 182, 0, 101, 42, 180, 0, 35]
abbrev dktX1_addCue_0 : List UInt8 := dkwX1_addCue_0 ++ dktX1_addCue_1
theorem dksX1_addCue_0 : cX1_addCue.data.toList.drop 0 = dktX1_addCue_0 := by decide +kernel
theorem dksX1_addCue_1 : cX1_addCue.data.toList.drop 22 = dktX1_addCue_1 := dk_seg dksX1_addCue_0 22 rfl rfl
theorem dX1_addCue_0 : decode cX1_addCue 0 = .ok (.aload_n 0, 1) := dk_42 (dk_at dksX1_addCue_0 0 rfl rfl)
theorem dX1_addCue_1 : decode cX1_addCue 1 = .ok (.getfield 35, 3) := dk_180 0 35 (dk_at dksX1_addCue_0 1 rfl rfl)
theorem dX1_addCue_4 : decode cX1_addCue 4 = .ok (.invokevirtual 94, 3) := dk_182 0 94 (dk_at dksX1_addCue_0 4 rfl rfl)
theorem dX1_addCue_7 : decode cX1_addCue 7 = .ok (.astore_n 2, 1) := dk_77 (dk_at dksX1_addCue_0 7 rfl rfl)
theorem dX1_addCue_8 : decode cX1_addCue 8 = .ok (.aload_n 2, 1) := dk_44 (dk_at dksX1_addCue_0 8 rfl rfl)
theorem dX1_addCue_9 : decode cX1_addCue 9 = .ok (.iload_n 1, 1) := dk_27 (dk_at dksX1_addCue_0 9 rfl rfl)
theorem dX1_addCue_10 : decode cX1_addCue 10 = .ok (.invokevirtual 98, 3) := dk_182 0 98 (dk_at dksX1_addCue_0 10 rfl rfl)
theorem dX1_addCue_13 : decode cX1_addCue 13 = .ok (.aload_n 0, 1) := dk_42 (dk_at dksX1_addCue_0 13 rfl rfl)
theorem dX1_addCue_14 : decode cX1_addCue 14 = .ok (.aload_n 2, 1) := dk_44 (dk_at dksX1_addCue_0 14 rfl rfl)
theorem dX1_addCue_15 : decode cX1_addCue 15 = .ok (.invokevirtual 101, 3) := dk_182 0 101 (dk_at dksX1_addCue_0 15 rfl rfl)
theorem dX1_addCue_18 : decode cX1_addCue 18 = .ok (.aload_n 0, 1) := dk_42 (dk_at dksX1_addCue_0 18 rfl rfl)
theorem dX1_addCue_19 : decode cX1_addCue 19 = .ok (.getfield 35, 3) := dk_180 0 35 (dk_at dksX1_addCue_0 19 rfl rfl)
theorem dX1_addCue_22 : decode cX1_addCue 22 = .ok (.getfield 81, 3) := dk_180 0 81 (dk_at dksX1_addCue_1 0 rfl rfl)
theorem dX1_addCue_25 : decode cX1_addCue 25 = .ok (.invokevirtual 85, 3) := dk_182 0 85 (dk_at dksX1_addCue_1 3 rfl rfl)
theorem dX1_addCue_28 : decode cX1_addCue 28 = .ok (.ireturn, 1) := dk_172 (dk_at dksX1_addCue_1 6 rfl rfl)
abbrev cX1_isIn : ByteArray := prog_1_method_1_code
def yX1_isIn : MethodName := ⟨RX1, "isIn", "(III)Z"⟩
def dkwX1_isIn_0 : List UInt8 := [26, 27, 161, 0, 12, 26, 28, 163, 0, 7, 4, 167, 0, 4, 3, 172]
abbrev dktX1_isIn_0 : List UInt8 := dkwX1_isIn_0 ++ []
theorem dksX1_isIn_0 : cX1_isIn.data.toList.drop 0 = dktX1_isIn_0 := by decide +kernel
theorem dX1_isIn_0 : decode cX1_isIn 0 = .ok (.iload_n 0, 1) := dk_26 (dk_at dksX1_isIn_0 0 rfl rfl)
theorem dX1_isIn_1 : decode cX1_isIn 1 = .ok (.iload_n 1, 1) := dk_27 (dk_at dksX1_isIn_0 1 rfl rfl)
theorem dX1_isIn_2 : decode cX1_isIn 2 = .ok (.if_icmp .lt 12, 3) := dk_161 0 12 (dk_at dksX1_isIn_0 2 rfl rfl)
theorem dX1_isIn_5 : decode cX1_isIn 5 = .ok (.iload_n 0, 1) := dk_26 (dk_at dksX1_isIn_0 5 rfl rfl)
theorem dX1_isIn_6 : decode cX1_isIn 6 = .ok (.iload_n 2, 1) := dk_28 (dk_at dksX1_isIn_0 6 rfl rfl)
theorem dX1_isIn_7 : decode cX1_isIn 7 = .ok (.if_icmp .gt 7, 3) := dk_163 0 7 (dk_at dksX1_isIn_0 7 rfl rfl)
theorem dX1_isIn_10 : decode cX1_isIn 10 = .ok (.iconst 1, 1) := dk_4 (dk_at dksX1_isIn_0 10 rfl rfl)
theorem dX1_isIn_11 : decode cX1_isIn 11 = .ok (.goto 4, 3) := dk_167 0 4 (dk_at dksX1_isIn_0 11 rfl rfl)
theorem dX1_isIn_14 : decode cX1_isIn 14 = .ok (.iconst 0, 1) := dk_3 (dk_at dksX1_isIn_0 14 rfl rfl)
theorem dX1_isIn_15 : decode cX1_isIn 15 = .ok (.ireturn, 1) := dk_172 (dk_at dksX1_isIn_0 15 rfl rfl)
abbrev cX1_checkArgument : ByteArray := prog_1_method_2_code
def yX1_checkArgument : MethodName := ⟨RX1, "checkArgument", "(Z)V"⟩
def dkwX1_checkArgument_0 : List UInt8 := [26, 154, 0, 11, 187, 0, 1, 89, 183, 0, 3, 191, 177]
abbrev dktX1_checkArgument_0 : List UInt8 := dkwX1_checkArgument_0 ++ []
theorem dksX1_checkArgument_0 : cX1_checkArgument.data.toList.drop 0 = dktX1_checkArgument_0 := by decide +kernel
theorem dX1_checkArgument_0 : decode cX1_checkArgument 0 = .ok (.iload_n 0, 1) := dk_26 (dk_at dksX1_checkArgument_0 0 rfl rfl)
theorem dX1_checkArgument_1 : decode cX1_checkArgument 1 = .ok (.ifCond .ne 11, 3) := dk_154 0 11 (dk_at dksX1_checkArgument_0 1 rfl rfl)
theorem dX1_checkArgument_4 : decode cX1_checkArgument 4 = .ok (.new 1, 3) := dk_187 0 1 (dk_at dksX1_checkArgument_0 4 rfl rfl)
theorem dX1_checkArgument_7 : decode cX1_checkArgument 7 = .ok (.dup, 1) := dk_89 (dk_at dksX1_checkArgument_0 7 rfl rfl)
theorem dX1_checkArgument_8 : decode cX1_checkArgument 8 = .ok (.invokespecial 3, 3) := dk_183 0 3 (dk_at dksX1_checkArgument_0 8 rfl rfl)
theorem dX1_checkArgument_11 : decode cX1_checkArgument 11 = .ok (.athrow, 1) := dk_191 (dk_at dksX1_checkArgument_0 11 rfl rfl)
theorem dX1_checkArgument_12 : decode cX1_checkArgument 12 = .ok (.return_, 1) := dk_177 (dk_at dksX1_checkArgument_0 12 rfl rfl)
abbrev cX1_checkState : ByteArray := prog_1_method_4_code
def yX1_checkState : MethodName := ⟨RX1, "checkState", "(Z)V"⟩
def dkwX1_checkState_0 : List UInt8 := [26, 154, 0, 11, 187, 0, 10, 89, 183, 0, 12, 191, 177]
abbrev dktX1_checkState_0 : List UInt8 := dkwX1_checkState_0 ++ []
theorem dksX1_checkState_0 : cX1_checkState.data.toList.drop 0 = dktX1_checkState_0 := by decide +kernel
theorem dX1_checkState_0 : decode cX1_checkState 0 = .ok (.iload_n 0, 1) := dk_26 (dk_at dksX1_checkState_0 0 rfl rfl)
theorem dX1_checkState_1 : decode cX1_checkState 1 = .ok (.ifCond .ne 11, 3) := dk_154 0 11 (dk_at dksX1_checkState_0 1 rfl rfl)
theorem dX1_checkState_4 : decode cX1_checkState 4 = .ok (.new 10, 3) := dk_187 0 10 (dk_at dksX1_checkState_0 4 rfl rfl)
theorem dX1_checkState_7 : decode cX1_checkState 7 = .ok (.dup, 1) := dk_89 (dk_at dksX1_checkState_0 7 rfl rfl)
theorem dX1_checkState_8 : decode cX1_checkState 8 = .ok (.invokespecial 12, 3) := dk_183 0 12 (dk_at dksX1_checkState_0 8 rfl rfl)
theorem dX1_checkState_11 : decode cX1_checkState 11 = .ok (.athrow, 1) := dk_191 (dk_at dksX1_checkState_0 11 rfl rfl)
theorem dX1_checkState_12 : decode cX1_checkState 12 = .ok (.return_, 1) := dk_177 (dk_at dksX1_checkState_0 12 rfl rfl)
abbrev cX1_become : ByteArray := prog_1_method_9_code
def yX1_become : MethodName := ⟨RX1, "become", "(LCueStack$Show;)V"⟩
def dkwX1_become_0 : List UInt8 := [42, 180, 0, 42, 42, 180, 0, 35, 182, 0, 62, 42, 43, 181, 0, 35, 177]
abbrev dktX1_become_0 : List UInt8 := dkwX1_become_0 ++ []
theorem dksX1_become_0 : cX1_become.data.toList.drop 0 = dktX1_become_0 := by decide +kernel
theorem dX1_become_0 : decode cX1_become 0 = .ok (.aload_n 0, 1) := dk_42 (dk_at dksX1_become_0 0 rfl rfl)
theorem dX1_become_1 : decode cX1_become 1 = .ok (.getfield 42, 3) := dk_180 0 42 (dk_at dksX1_become_0 1 rfl rfl)
theorem dX1_become_4 : decode cX1_become 4 = .ok (.aload_n 0, 1) := dk_42 (dk_at dksX1_become_0 4 rfl rfl)
theorem dX1_become_5 : decode cX1_become 5 = .ok (.getfield 35, 3) := dk_180 0 35 (dk_at dksX1_become_0 5 rfl rfl)
theorem dX1_become_8 : decode cX1_become 8 = .ok (.invokevirtual 62, 3) := dk_182 0 62 (dk_at dksX1_become_0 8 rfl rfl)
theorem dX1_become_11 : decode cX1_become 11 = .ok (.aload_n 0, 1) := dk_42 (dk_at dksX1_become_0 11 rfl rfl)
theorem dX1_become_12 : decode cX1_become 12 = .ok (.aload_n 1, 1) := dk_43 (dk_at dksX1_become_0 12 rfl rfl)
theorem dX1_become_13 : decode cX1_become 13 = .ok (.putfield 35, 3) := dk_181 0 35 (dk_at dksX1_become_0 13 rfl rfl)
theorem dX1_become_16 : decode cX1_become 16 = .ok (.return_, 1) := dk_177 (dk_at dksX1_become_0 16 rfl rfl)
abbrev cX1_removeCue : ByteArray := prog_1_method_15_code
def yX1_removeCue : MethodName := ⟨RX1, "removeCue", "(IZ)I"⟩
def dkwX1_removeCue_2 : List UInt8 := [42, 25, 5, 182, 0, 101, 21, 4, 172]
abbrev dktX1_removeCue_2 : List UInt8 := dkwX1_removeCue_2 ++ []
def dkwX1_removeCue_1 : List UInt8 := [182, 0, 94, 58, 5, 25, 5, 27, 28, 182, 0, 112, 167, 0, 12, 58, 6, 42, 25, 6, 182, 0, 116, 191]
abbrev dktX1_removeCue_1 : List UInt8 := dkwX1_removeCue_1 ++ dktX1_removeCue_2
def dkwX1_removeCue_0 : List UInt8 := [42, 180, 0, 35, 27, 182, 0, 105, 62, 42, 180, 0, 35, 27, 182, 0, 109, 54, 4, 42, 180, 0, 35]
abbrev dktX1_removeCue_0 : List UInt8 := dkwX1_removeCue_0 ++ dktX1_removeCue_1
theorem dksX1_removeCue_0 : cX1_removeCue.data.toList.drop 0 = dktX1_removeCue_0 := by decide +kernel
theorem dksX1_removeCue_1 : cX1_removeCue.data.toList.drop 23 = dktX1_removeCue_1 := dk_seg dksX1_removeCue_0 23 rfl rfl
theorem dksX1_removeCue_2 : cX1_removeCue.data.toList.drop 47 = dktX1_removeCue_2 := dk_seg dksX1_removeCue_1 24 rfl rfl
theorem dX1_removeCue_0 : decode cX1_removeCue 0 = .ok (.aload_n 0, 1) := dk_42 (dk_at dksX1_removeCue_0 0 rfl rfl)
theorem dX1_removeCue_1 : decode cX1_removeCue 1 = .ok (.getfield 35, 3) := dk_180 0 35 (dk_at dksX1_removeCue_0 1 rfl rfl)
theorem dX1_removeCue_4 : decode cX1_removeCue 4 = .ok (.iload_n 1, 1) := dk_27 (dk_at dksX1_removeCue_0 4 rfl rfl)
theorem dX1_removeCue_5 : decode cX1_removeCue 5 = .ok (.invokevirtual 105, 3) := dk_182 0 105 (dk_at dksX1_removeCue_0 5 rfl rfl)
theorem dX1_removeCue_8 : decode cX1_removeCue 8 = .ok (.istore_n 3, 1) := dk_62 (dk_at dksX1_removeCue_0 8 rfl rfl)
theorem dX1_removeCue_9 : decode cX1_removeCue 9 = .ok (.aload_n 0, 1) := dk_42 (dk_at dksX1_removeCue_0 9 rfl rfl)
theorem dX1_removeCue_10 : decode cX1_removeCue 10 = .ok (.getfield 35, 3) := dk_180 0 35 (dk_at dksX1_removeCue_0 10 rfl rfl)
theorem dX1_removeCue_13 : decode cX1_removeCue 13 = .ok (.iload_n 1, 1) := dk_27 (dk_at dksX1_removeCue_0 13 rfl rfl)
theorem dX1_removeCue_14 : decode cX1_removeCue 14 = .ok (.invokevirtual 109, 3) := dk_182 0 109 (dk_at dksX1_removeCue_0 14 rfl rfl)
theorem dX1_removeCue_17 : decode cX1_removeCue 17 = .ok (.istore 4, 2) := dk_54 4 (dk_at dksX1_removeCue_0 17 rfl rfl)
theorem dX1_removeCue_19 : decode cX1_removeCue 19 = .ok (.aload_n 0, 1) := dk_42 (dk_at dksX1_removeCue_0 19 rfl rfl)
theorem dX1_removeCue_20 : decode cX1_removeCue 20 = .ok (.getfield 35, 3) := dk_180 0 35 (dk_at dksX1_removeCue_0 20 rfl rfl)
theorem dX1_removeCue_23 : decode cX1_removeCue 23 = .ok (.invokevirtual 94, 3) := dk_182 0 94 (dk_at dksX1_removeCue_1 0 rfl rfl)
theorem dX1_removeCue_26 : decode cX1_removeCue 26 = .ok (.astore 5, 2) := dk_58 5 (dk_at dksX1_removeCue_1 3 rfl rfl)
theorem dX1_removeCue_28 : decode cX1_removeCue 28 = .ok (.aload 5, 2) := dk_25 5 (dk_at dksX1_removeCue_1 5 rfl rfl)
theorem dX1_removeCue_30 : decode cX1_removeCue 30 = .ok (.iload_n 1, 1) := dk_27 (dk_at dksX1_removeCue_1 7 rfl rfl)
theorem dX1_removeCue_31 : decode cX1_removeCue 31 = .ok (.iload_n 2, 1) := dk_28 (dk_at dksX1_removeCue_1 8 rfl rfl)
theorem dX1_removeCue_32 : decode cX1_removeCue 32 = .ok (.invokevirtual 112, 3) := dk_182 0 112 (dk_at dksX1_removeCue_1 9 rfl rfl)
theorem dX1_removeCue_35 : decode cX1_removeCue 35 = .ok (.goto 12, 3) := dk_167 0 12 (dk_at dksX1_removeCue_1 12 rfl rfl)
theorem dX1_removeCue_38 : decode cX1_removeCue 38 = .ok (.astore 6, 2) := dk_58 6 (dk_at dksX1_removeCue_1 15 rfl rfl)
theorem dX1_removeCue_40 : decode cX1_removeCue 40 = .ok (.aload_n 0, 1) := dk_42 (dk_at dksX1_removeCue_1 17 rfl rfl)
theorem dX1_removeCue_41 : decode cX1_removeCue 41 = .ok (.aload 6, 2) := dk_25 6 (dk_at dksX1_removeCue_1 18 rfl rfl)
theorem dX1_removeCue_43 : decode cX1_removeCue 43 = .ok (.invokevirtual 116, 3) := dk_182 0 116 (dk_at dksX1_removeCue_1 20 rfl rfl)
theorem dX1_removeCue_46 : decode cX1_removeCue 46 = .ok (.athrow, 1) := dk_191 (dk_at dksX1_removeCue_1 23 rfl rfl)
theorem dX1_removeCue_47 : decode cX1_removeCue 47 = .ok (.aload_n 0, 1) := dk_42 (dk_at dksX1_removeCue_2 0 rfl rfl)
theorem dX1_removeCue_48 : decode cX1_removeCue 48 = .ok (.aload 5, 2) := dk_25 5 (dk_at dksX1_removeCue_2 1 rfl rfl)
theorem dX1_removeCue_50 : decode cX1_removeCue 50 = .ok (.invokevirtual 101, 3) := dk_182 0 101 (dk_at dksX1_removeCue_2 3 rfl rfl)
theorem dX1_removeCue_53 : decode cX1_removeCue 53 = .ok (.iload 4, 2) := dk_21 4 (dk_at dksX1_removeCue_2 6 rfl rfl)
theorem dX1_removeCue_55 : decode cX1_removeCue 55 = .ok (.ireturn, 1) := dk_172 (dk_at dksX1_removeCue_2 8 rfl rfl)
abbrev cX1_checkIndex : ByteArray := prog_1_method_3_code
def yX1_checkIndex : MethodName := ⟨RX1, "checkIndex", "(Z)V"⟩
def dkwX1_checkIndex_0 : List UInt8 := [26, 154, 0, 11, 187, 0, 7, 89, 183, 0, 9, 191, 177]
abbrev dktX1_checkIndex_0 : List UInt8 := dkwX1_checkIndex_0 ++ []
theorem dksX1_checkIndex_0 : cX1_checkIndex.data.toList.drop 0 = dktX1_checkIndex_0 := by decide +kernel
theorem dX1_checkIndex_0 : decode cX1_checkIndex 0 = .ok (.iload_n 0, 1) := dk_26 (dk_at dksX1_checkIndex_0 0 rfl rfl)
theorem dX1_checkIndex_1 : decode cX1_checkIndex 1 = .ok (.ifCond .ne 11, 3) := dk_154 0 11 (dk_at dksX1_checkIndex_0 1 rfl rfl)
theorem dX1_checkIndex_4 : decode cX1_checkIndex 4 = .ok (.new 7, 3) := dk_187 0 7 (dk_at dksX1_checkIndex_0 4 rfl rfl)
theorem dX1_checkIndex_7 : decode cX1_checkIndex 7 = .ok (.dup, 1) := dk_89 (dk_at dksX1_checkIndex_0 7 rfl rfl)
theorem dX1_checkIndex_8 : decode cX1_checkIndex 8 = .ok (.invokespecial 9, 3) := dk_183 0 9 (dk_at dksX1_checkIndex_0 8 rfl rfl)
theorem dX1_checkIndex_11 : decode cX1_checkIndex 11 = .ok (.athrow, 1) := dk_191 (dk_at dksX1_checkIndex_0 11 rfl rfl)
theorem dX1_checkIndex_12 : decode cX1_checkIndex 12 = .ok (.return_, 1) := dk_177 (dk_at dksX1_checkIndex_0 12 rfl rfl)
abbrev cX1_refuse : ByteArray := prog_1_method_6_code
def yX1_refuse : MethodName := ⟨RX1, "refuse", "(ZI)V"⟩
def dkwX1_refuse_0 : List UInt8 := [26, 153, 0, 12, 187, 0, 16, 89, 27, 183, 0, 18, 191, 177]
abbrev dktX1_refuse_0 : List UInt8 := dkwX1_refuse_0 ++ []
theorem dksX1_refuse_0 : cX1_refuse.data.toList.drop 0 = dktX1_refuse_0 := by decide +kernel
theorem dX1_refuse_0 : decode cX1_refuse 0 = .ok (.iload_n 0, 1) := dk_26 (dk_at dksX1_refuse_0 0 rfl rfl)
theorem dX1_refuse_1 : decode cX1_refuse 1 = .ok (.ifCond .eq 12, 3) := dk_153 0 12 (dk_at dksX1_refuse_0 1 rfl rfl)
theorem dX1_refuse_4 : decode cX1_refuse 4 = .ok (.new 16, 3) := dk_187 0 16 (dk_at dksX1_refuse_0 4 rfl rfl)
theorem dX1_refuse_7 : decode cX1_refuse 7 = .ok (.dup, 1) := dk_89 (dk_at dksX1_refuse_0 7 rfl rfl)
theorem dX1_refuse_8 : decode cX1_refuse 8 = .ok (.iload_n 1, 1) := dk_27 (dk_at dksX1_refuse_0 8 rfl rfl)
theorem dX1_refuse_9 : decode cX1_refuse 9 = .ok (.invokespecial 18, 3) := dk_183 0 18 (dk_at dksX1_refuse_0 9 rfl rfl)
theorem dX1_refuse_12 : decode cX1_refuse 12 = .ok (.athrow, 1) := dk_191 (dk_at dksX1_refuse_0 12 rfl rfl)
theorem dX1_refuse_13 : decode cX1_refuse 13 = .ok (.return_, 1) := dk_177 (dk_at dksX1_refuse_0 13 rfl rfl)
abbrev cX1_kept : ByteArray := prog_1_method_10_code
def yX1_kept : MethodName := ⟨RX1, "kept", "(LCueStack$Refusal;)Ljava/lang/UnsupportedOperationException;"⟩
def dkwX1_kept_0 : List UInt8 := [42, 43, 181, 0, 66, 187, 0, 70, 89, 183, 0, 72, 176]
abbrev dktX1_kept_0 : List UInt8 := dkwX1_kept_0 ++ []
theorem dksX1_kept_0 : cX1_kept.data.toList.drop 0 = dktX1_kept_0 := by decide +kernel
theorem dX1_kept_0 : decode cX1_kept 0 = .ok (.aload_n 0, 1) := dk_42 (dk_at dksX1_kept_0 0 rfl rfl)
theorem dX1_kept_1 : decode cX1_kept 1 = .ok (.aload_n 1, 1) := dk_43 (dk_at dksX1_kept_0 1 rfl rfl)
theorem dX1_kept_2 : decode cX1_kept 2 = .ok (.putfield 66, 3) := dk_181 0 66 (dk_at dksX1_kept_0 2 rfl rfl)
theorem dX1_kept_5 : decode cX1_kept 5 = .ok (.new 70, 3) := dk_187 0 70 (dk_at dksX1_kept_0 5 rfl rfl)
theorem dX1_kept_8 : decode cX1_kept 8 = .ok (.dup, 1) := dk_89 (dk_at dksX1_kept_0 8 rfl rfl)
theorem dX1_kept_9 : decode cX1_kept 9 = .ok (.invokespecial 72, 3) := dk_183 0 72 (dk_at dksX1_kept_0 9 rfl rfl)
theorem dX1_kept_12 : decode cX1_kept 12 = .ok (.areturn, 1) := dk_176 (dk_at dksX1_kept_0 12 rfl rfl)
abbrev cX1_cueAt : ByteArray := prog_1_method_16_code
def yX1_cueAt : MethodName := ⟨RX1, "cueAt", "(I)I"⟩
def dkwX1_cueAt_1 : List UInt8 := [180, 0, 81, 27, 182, 0, 123, 192, 0, 127, 180, 0, 129, 172]
abbrev dktX1_cueAt_1 : List UInt8 := dkwX1_cueAt_1 ++ []
def dkwX1_cueAt_0 : List UInt8 := [27, 3, 42, 180, 0, 35, 180, 0, 81, 182, 0, 85, 4, 100, 184, 0, 73, 184, 0, 120, 42, 180, 0, 35]
abbrev dktX1_cueAt_0 : List UInt8 := dkwX1_cueAt_0 ++ dktX1_cueAt_1
theorem dksX1_cueAt_0 : cX1_cueAt.data.toList.drop 0 = dktX1_cueAt_0 := by decide +kernel
theorem dksX1_cueAt_1 : cX1_cueAt.data.toList.drop 24 = dktX1_cueAt_1 := dk_seg dksX1_cueAt_0 24 rfl rfl
theorem dX1_cueAt_0 : decode cX1_cueAt 0 = .ok (.iload_n 1, 1) := dk_27 (dk_at dksX1_cueAt_0 0 rfl rfl)
theorem dX1_cueAt_1 : decode cX1_cueAt 1 = .ok (.iconst 0, 1) := dk_3 (dk_at dksX1_cueAt_0 1 rfl rfl)
theorem dX1_cueAt_2 : decode cX1_cueAt 2 = .ok (.aload_n 0, 1) := dk_42 (dk_at dksX1_cueAt_0 2 rfl rfl)
theorem dX1_cueAt_3 : decode cX1_cueAt 3 = .ok (.getfield 35, 3) := dk_180 0 35 (dk_at dksX1_cueAt_0 3 rfl rfl)
theorem dX1_cueAt_6 : decode cX1_cueAt 6 = .ok (.getfield 81, 3) := dk_180 0 81 (dk_at dksX1_cueAt_0 6 rfl rfl)
theorem dX1_cueAt_9 : decode cX1_cueAt 9 = .ok (.invokevirtual 85, 3) := dk_182 0 85 (dk_at dksX1_cueAt_0 9 rfl rfl)
theorem dX1_cueAt_12 : decode cX1_cueAt 12 = .ok (.iconst 1, 1) := dk_4 (dk_at dksX1_cueAt_0 12 rfl rfl)
theorem dX1_cueAt_13 : decode cX1_cueAt 13 = .ok (.isub, 1) := dk_100 (dk_at dksX1_cueAt_0 13 rfl rfl)
theorem dX1_cueAt_14 : decode cX1_cueAt 14 = .ok (.invokestatic 73, 3) := dk_184 0 73 (dk_at dksX1_cueAt_0 14 rfl rfl)
theorem dX1_cueAt_17 : decode cX1_cueAt 17 = .ok (.invokestatic 120, 3) := dk_184 0 120 (dk_at dksX1_cueAt_0 17 rfl rfl)
theorem dX1_cueAt_20 : decode cX1_cueAt 20 = .ok (.aload_n 0, 1) := dk_42 (dk_at dksX1_cueAt_0 20 rfl rfl)
theorem dX1_cueAt_21 : decode cX1_cueAt 21 = .ok (.getfield 35, 3) := dk_180 0 35 (dk_at dksX1_cueAt_0 21 rfl rfl)
theorem dX1_cueAt_24 : decode cX1_cueAt 24 = .ok (.getfield 81, 3) := dk_180 0 81 (dk_at dksX1_cueAt_1 0 rfl rfl)
theorem dX1_cueAt_27 : decode cX1_cueAt 27 = .ok (.iload_n 1, 1) := dk_27 (dk_at dksX1_cueAt_1 3 rfl rfl)
theorem dX1_cueAt_28 : decode cX1_cueAt 28 = .ok (.invokevirtual 123, 3) := dk_182 0 123 (dk_at dksX1_cueAt_1 4 rfl rfl)
theorem dX1_cueAt_31 : decode cX1_cueAt 31 = .ok (.checkcast 127, 3) := dk_192 0 127 (dk_at dksX1_cueAt_1 7 rfl rfl)
theorem dX1_cueAt_34 : decode cX1_cueAt 34 = .ok (.getfield 129, 3) := dk_180 0 129 (dk_at dksX1_cueAt_1 10 rfl rfl)
theorem dX1_cueAt_37 : decode cX1_cueAt 37 = .ok (.ireturn, 1) := dk_172 (dk_at dksX1_cueAt_1 13 rfl rfl)
abbrev cX1_checkElement : ByteArray := prog_1_method_5_code
def yX1_checkElement : MethodName := ⟨RX1, "checkElement", "(Z)V"⟩
def dkwX1_checkElement_0 : List UInt8 := [26, 154, 0, 11, 187, 0, 13, 89, 183, 0, 15, 191, 177]
abbrev dktX1_checkElement_0 : List UInt8 := dkwX1_checkElement_0 ++ []
theorem dksX1_checkElement_0 : cX1_checkElement.data.toList.drop 0 = dktX1_checkElement_0 := by decide +kernel
theorem dX1_checkElement_0 : decode cX1_checkElement 0 = .ok (.iload_n 0, 1) := dk_26 (dk_at dksX1_checkElement_0 0 rfl rfl)
theorem dX1_checkElement_1 : decode cX1_checkElement 1 = .ok (.ifCond .ne 11, 3) := dk_154 0 11 (dk_at dksX1_checkElement_0 1 rfl rfl)
theorem dX1_checkElement_4 : decode cX1_checkElement 4 = .ok (.new 13, 3) := dk_187 0 13 (dk_at dksX1_checkElement_0 4 rfl rfl)
theorem dX1_checkElement_7 : decode cX1_checkElement 7 = .ok (.dup, 1) := dk_89 (dk_at dksX1_checkElement_0 7 rfl rfl)
theorem dX1_checkElement_8 : decode cX1_checkElement 8 = .ok (.invokespecial 15, 3) := dk_183 0 15 (dk_at dksX1_checkElement_0 8 rfl rfl)
theorem dX1_checkElement_11 : decode cX1_checkElement 11 = .ok (.athrow, 1) := dk_191 (dk_at dksX1_checkElement_0 11 rfl rfl)
theorem dX1_checkElement_12 : decode cX1_checkElement 12 = .ok (.return_, 1) := dk_177 (dk_at dksX1_checkElement_0 12 rfl rfl)
abbrev cX1_setFollow : ByteArray := prog_1_method_17_code
def yX1_setFollow : MethodName := ⟨RX1, "setFollow", "(II)I"⟩
def dkwX1_setFollow_2 : List UInt8 := [182, 0, 62, 42, 180, 0, 35, 27, 182, 0, 133, 28, 181, 0, 137, 29, 172]
abbrev dktX1_setFollow_2 : List UInt8 := dkwX1_setFollow_2 ++ []
def dkwX1_setFollow_1 : List UInt8 := [184, 0, 73, 153, 0, 7, 4, 167, 0, 4, 3, 184, 0, 140, 42, 180, 0, 42, 42, 180, 0, 35]
abbrev dktX1_setFollow_1 : List UInt8 := dkwX1_setFollow_1 ++ dktX1_setFollow_2
def dkwX1_setFollow_0 : List UInt8 := [42, 180, 0, 35, 27, 182, 0, 133, 180, 0, 137, 62, 28, 2, 159, 0, 14, 28, 4, 17, 23, 112]
abbrev dktX1_setFollow_0 : List UInt8 := dkwX1_setFollow_0 ++ dktX1_setFollow_1
theorem dksX1_setFollow_0 : cX1_setFollow.data.toList.drop 0 = dktX1_setFollow_0 := by decide +kernel
theorem dksX1_setFollow_1 : cX1_setFollow.data.toList.drop 22 = dktX1_setFollow_1 := dk_seg dksX1_setFollow_0 22 rfl rfl
theorem dksX1_setFollow_2 : cX1_setFollow.data.toList.drop 44 = dktX1_setFollow_2 := dk_seg dksX1_setFollow_1 22 rfl rfl
theorem dX1_setFollow_0 : decode cX1_setFollow 0 = .ok (.aload_n 0, 1) := dk_42 (dk_at dksX1_setFollow_0 0 rfl rfl)
theorem dX1_setFollow_1 : decode cX1_setFollow 1 = .ok (.getfield 35, 3) := dk_180 0 35 (dk_at dksX1_setFollow_0 1 rfl rfl)
theorem dX1_setFollow_4 : decode cX1_setFollow 4 = .ok (.iload_n 1, 1) := dk_27 (dk_at dksX1_setFollow_0 4 rfl rfl)
theorem dX1_setFollow_5 : decode cX1_setFollow 5 = .ok (.invokevirtual 133, 3) := dk_182 0 133 (dk_at dksX1_setFollow_0 5 rfl rfl)
theorem dX1_setFollow_8 : decode cX1_setFollow 8 = .ok (.getfield 137, 3) := dk_180 0 137 (dk_at dksX1_setFollow_0 8 rfl rfl)
theorem dX1_setFollow_11 : decode cX1_setFollow 11 = .ok (.istore_n 3, 1) := dk_62 (dk_at dksX1_setFollow_0 11 rfl rfl)
theorem dX1_setFollow_12 : decode cX1_setFollow 12 = .ok (.iload_n 2, 1) := dk_28 (dk_at dksX1_setFollow_0 12 rfl rfl)
theorem dX1_setFollow_13 : decode cX1_setFollow 13 = .ok (.iconst (-1), 1) := dk_2 (dk_at dksX1_setFollow_0 13 rfl rfl)
theorem dX1_setFollow_14 : decode cX1_setFollow 14 = .ok (.if_icmp .eq 14, 3) := dk_159 0 14 (dk_at dksX1_setFollow_0 14 rfl rfl)
theorem dX1_setFollow_17 : decode cX1_setFollow 17 = .ok (.iload_n 2, 1) := dk_28 (dk_at dksX1_setFollow_0 17 rfl rfl)
theorem dX1_setFollow_18 : decode cX1_setFollow 18 = .ok (.iconst 1, 1) := dk_4 (dk_at dksX1_setFollow_0 18 rfl rfl)
theorem dX1_setFollow_19 : decode cX1_setFollow 19 = .ok (.sipush 6000, 3) := dk_17 23 112 (dk_at dksX1_setFollow_0 19 rfl rfl)
theorem dX1_setFollow_22 : decode cX1_setFollow 22 = .ok (.invokestatic 73, 3) := dk_184 0 73 (dk_at dksX1_setFollow_1 0 rfl rfl)
theorem dX1_setFollow_25 : decode cX1_setFollow 25 = .ok (.ifCond .eq 7, 3) := dk_153 0 7 (dk_at dksX1_setFollow_1 3 rfl rfl)
theorem dX1_setFollow_28 : decode cX1_setFollow 28 = .ok (.iconst 1, 1) := dk_4 (dk_at dksX1_setFollow_1 6 rfl rfl)
theorem dX1_setFollow_29 : decode cX1_setFollow 29 = .ok (.goto 4, 3) := dk_167 0 4 (dk_at dksX1_setFollow_1 7 rfl rfl)
theorem dX1_setFollow_32 : decode cX1_setFollow 32 = .ok (.iconst 0, 1) := dk_3 (dk_at dksX1_setFollow_1 10 rfl rfl)
theorem dX1_setFollow_33 : decode cX1_setFollow 33 = .ok (.invokestatic 140, 3) := dk_184 0 140 (dk_at dksX1_setFollow_1 11 rfl rfl)
theorem dX1_setFollow_36 : decode cX1_setFollow 36 = .ok (.aload_n 0, 1) := dk_42 (dk_at dksX1_setFollow_1 14 rfl rfl)
theorem dX1_setFollow_37 : decode cX1_setFollow 37 = .ok (.getfield 42, 3) := dk_180 0 42 (dk_at dksX1_setFollow_1 15 rfl rfl)
theorem dX1_setFollow_40 : decode cX1_setFollow 40 = .ok (.aload_n 0, 1) := dk_42 (dk_at dksX1_setFollow_1 18 rfl rfl)
theorem dX1_setFollow_41 : decode cX1_setFollow 41 = .ok (.getfield 35, 3) := dk_180 0 35 (dk_at dksX1_setFollow_1 19 rfl rfl)
theorem dX1_setFollow_44 : decode cX1_setFollow 44 = .ok (.invokevirtual 62, 3) := dk_182 0 62 (dk_at dksX1_setFollow_2 0 rfl rfl)
theorem dX1_setFollow_47 : decode cX1_setFollow 47 = .ok (.aload_n 0, 1) := dk_42 (dk_at dksX1_setFollow_2 3 rfl rfl)
theorem dX1_setFollow_48 : decode cX1_setFollow 48 = .ok (.getfield 35, 3) := dk_180 0 35 (dk_at dksX1_setFollow_2 4 rfl rfl)
theorem dX1_setFollow_51 : decode cX1_setFollow 51 = .ok (.iload_n 1, 1) := dk_27 (dk_at dksX1_setFollow_2 7 rfl rfl)
theorem dX1_setFollow_52 : decode cX1_setFollow 52 = .ok (.invokevirtual 133, 3) := dk_182 0 133 (dk_at dksX1_setFollow_2 8 rfl rfl)
theorem dX1_setFollow_55 : decode cX1_setFollow 55 = .ok (.iload_n 2, 1) := dk_28 (dk_at dksX1_setFollow_2 11 rfl rfl)
theorem dX1_setFollow_56 : decode cX1_setFollow 56 = .ok (.putfield 137, 3) := dk_181 0 137 (dk_at dksX1_setFollow_2 12 rfl rfl)
theorem dX1_setFollow_59 : decode cX1_setFollow 59 = .ok (.iload_n 3, 1) := dk_29 (dk_at dksX1_setFollow_2 15 rfl rfl)
theorem dX1_setFollow_60 : decode cX1_setFollow 60 = .ok (.ireturn, 1) := dk_172 (dk_at dksX1_setFollow_2 16 rfl rfl)
abbrev cX1_setBlock : ByteArray := prog_1_method_19_code
def yX1_setBlock : MethodName := ⟨RX1, "setBlock", "(IZ)I"⟩
def dkwX1_setBlock_2 : List UInt8 := [25, 4, 186, 0, 155, 0, 0, 184, 0, 158, 184, 0, 162, 172]
abbrev dktX1_setBlock_2 : List UInt8 := dkwX1_setBlock_2 ++ []
def dkwX1_setBlock_1 : List UInt8 := [182, 0, 62, 42, 180, 0, 35, 180, 0, 81, 29, 182, 0, 123, 192, 0, 127, 28, 181, 0, 151, 42, 29]
abbrev dktX1_setBlock_1 : List UInt8 := dkwX1_setBlock_1 ++ dktX1_setBlock_2
def dkwX1_setBlock_0 : List UInt8 := [42, 180, 0, 35, 27, 182, 0, 105, 62, 42, 29, 182, 0, 147, 58, 4, 42, 180, 0, 42, 42, 180, 0, 35]
abbrev dktX1_setBlock_0 : List UInt8 := dkwX1_setBlock_0 ++ dktX1_setBlock_1
theorem dksX1_setBlock_0 : cX1_setBlock.data.toList.drop 0 = dktX1_setBlock_0 := by decide +kernel
theorem dksX1_setBlock_1 : cX1_setBlock.data.toList.drop 24 = dktX1_setBlock_1 := dk_seg dksX1_setBlock_0 24 rfl rfl
theorem dksX1_setBlock_2 : cX1_setBlock.data.toList.drop 47 = dktX1_setBlock_2 := dk_seg dksX1_setBlock_1 23 rfl rfl
theorem dX1_setBlock_0 : decode cX1_setBlock 0 = .ok (.aload_n 0, 1) := dk_42 (dk_at dksX1_setBlock_0 0 rfl rfl)
theorem dX1_setBlock_1 : decode cX1_setBlock 1 = .ok (.getfield 35, 3) := dk_180 0 35 (dk_at dksX1_setBlock_0 1 rfl rfl)
theorem dX1_setBlock_4 : decode cX1_setBlock 4 = .ok (.iload_n 1, 1) := dk_27 (dk_at dksX1_setBlock_0 4 rfl rfl)
theorem dX1_setBlock_5 : decode cX1_setBlock 5 = .ok (.invokevirtual 105, 3) := dk_182 0 105 (dk_at dksX1_setBlock_0 5 rfl rfl)
theorem dX1_setBlock_8 : decode cX1_setBlock 8 = .ok (.istore_n 3, 1) := dk_62 (dk_at dksX1_setBlock_0 8 rfl rfl)
theorem dX1_setBlock_9 : decode cX1_setBlock 9 = .ok (.aload_n 0, 1) := dk_42 (dk_at dksX1_setBlock_0 9 rfl rfl)
theorem dX1_setBlock_10 : decode cX1_setBlock 10 = .ok (.iload_n 3, 1) := dk_29 (dk_at dksX1_setBlock_0 10 rfl rfl)
theorem dX1_setBlock_11 : decode cX1_setBlock 11 = .ok (.invokevirtual 147, 3) := dk_182 0 147 (dk_at dksX1_setBlock_0 11 rfl rfl)
theorem dX1_setBlock_14 : decode cX1_setBlock 14 = .ok (.astore 4, 2) := dk_58 4 (dk_at dksX1_setBlock_0 14 rfl rfl)
theorem dX1_setBlock_16 : decode cX1_setBlock 16 = .ok (.aload_n 0, 1) := dk_42 (dk_at dksX1_setBlock_0 16 rfl rfl)
theorem dX1_setBlock_17 : decode cX1_setBlock 17 = .ok (.getfield 42, 3) := dk_180 0 42 (dk_at dksX1_setBlock_0 17 rfl rfl)
theorem dX1_setBlock_20 : decode cX1_setBlock 20 = .ok (.aload_n 0, 1) := dk_42 (dk_at dksX1_setBlock_0 20 rfl rfl)
theorem dX1_setBlock_21 : decode cX1_setBlock 21 = .ok (.getfield 35, 3) := dk_180 0 35 (dk_at dksX1_setBlock_0 21 rfl rfl)
theorem dX1_setBlock_24 : decode cX1_setBlock 24 = .ok (.invokevirtual 62, 3) := dk_182 0 62 (dk_at dksX1_setBlock_1 0 rfl rfl)
theorem dX1_setBlock_27 : decode cX1_setBlock 27 = .ok (.aload_n 0, 1) := dk_42 (dk_at dksX1_setBlock_1 3 rfl rfl)
theorem dX1_setBlock_28 : decode cX1_setBlock 28 = .ok (.getfield 35, 3) := dk_180 0 35 (dk_at dksX1_setBlock_1 4 rfl rfl)
theorem dX1_setBlock_31 : decode cX1_setBlock 31 = .ok (.getfield 81, 3) := dk_180 0 81 (dk_at dksX1_setBlock_1 7 rfl rfl)
theorem dX1_setBlock_34 : decode cX1_setBlock 34 = .ok (.iload_n 3, 1) := dk_29 (dk_at dksX1_setBlock_1 10 rfl rfl)
theorem dX1_setBlock_35 : decode cX1_setBlock 35 = .ok (.invokevirtual 123, 3) := dk_182 0 123 (dk_at dksX1_setBlock_1 11 rfl rfl)
theorem dX1_setBlock_38 : decode cX1_setBlock 38 = .ok (.checkcast 127, 3) := dk_192 0 127 (dk_at dksX1_setBlock_1 14 rfl rfl)
theorem dX1_setBlock_41 : decode cX1_setBlock 41 = .ok (.iload_n 2, 1) := dk_28 (dk_at dksX1_setBlock_1 17 rfl rfl)
theorem dX1_setBlock_42 : decode cX1_setBlock 42 = .ok (.putfield 151, 3) := dk_181 0 151 (dk_at dksX1_setBlock_1 18 rfl rfl)
theorem dX1_setBlock_45 : decode cX1_setBlock 45 = .ok (.aload_n 0, 1) := dk_42 (dk_at dksX1_setBlock_1 21 rfl rfl)
theorem dX1_setBlock_46 : decode cX1_setBlock 46 = .ok (.iload_n 3, 1) := dk_29 (dk_at dksX1_setBlock_1 22 rfl rfl)
theorem dX1_setBlock_47 : decode cX1_setBlock 47 = .ok (.aload 4, 2) := dk_25 4 (dk_at dksX1_setBlock_2 0 rfl rfl)
theorem dX1_setBlock_49 : decode cX1_setBlock 49 = .ok (.invokedynamic 155, 5) := by decide +kernel
theorem dX1_setBlock_54 : decode cX1_setBlock 54 = .ok (.invokestatic 158, 3) := dk_184 0 158 (dk_at dksX1_setBlock_2 7 rfl rfl)
theorem dX1_setBlock_57 : decode cX1_setBlock 57 = .ok (.invokestatic 162, 3) := dk_184 0 162 (dk_at dksX1_setBlock_2 10 rfl rfl)
theorem dX1_setBlock_60 : decode cX1_setBlock 60 = .ok (.ireturn, 1) := dk_172 (dk_at dksX1_setBlock_2 13 rfl rfl)
abbrev cX1_levelsIn : ByteArray := prog_1_method_18_code
def yX1_levelsIn : MethodName := ⟨RX1, "levelsIn", "(I)[I"⟩
def dkwX1_levelsIn_1 : List UInt8 := [79, 132, 3, 1, 167, 255, 235, 44, 176]
abbrev dktX1_levelsIn_1 : List UInt8 := dkwX1_levelsIn_1 ++ []
def dkwX1_levelsIn_0 : List UInt8 := [16, 12, 188, 10, 77, 3, 62, 29, 16, 12, 162, 0, 21, 44, 29, 42, 180, 0, 35, 27, 29, 182, 0, 143]
abbrev dktX1_levelsIn_0 : List UInt8 := dkwX1_levelsIn_0 ++ dktX1_levelsIn_1
theorem dksX1_levelsIn_0 : cX1_levelsIn.data.toList.drop 0 = dktX1_levelsIn_0 := by decide +kernel
theorem dksX1_levelsIn_1 : cX1_levelsIn.data.toList.drop 24 = dktX1_levelsIn_1 := dk_seg dksX1_levelsIn_0 24 rfl rfl
theorem dX1_levelsIn_0 : decode cX1_levelsIn 0 = .ok (.bipush 12, 2) := dk_16 12 (dk_at dksX1_levelsIn_0 0 rfl rfl)
theorem dX1_levelsIn_2 : decode cX1_levelsIn 2 = .ok (.newarray .int, 2) := dk_188_10 (dk_at dksX1_levelsIn_0 2 rfl rfl)
theorem dX1_levelsIn_4 : decode cX1_levelsIn 4 = .ok (.astore_n 2, 1) := dk_77 (dk_at dksX1_levelsIn_0 4 rfl rfl)
theorem dX1_levelsIn_5 : decode cX1_levelsIn 5 = .ok (.iconst 0, 1) := dk_3 (dk_at dksX1_levelsIn_0 5 rfl rfl)
theorem dX1_levelsIn_6 : decode cX1_levelsIn 6 = .ok (.istore_n 3, 1) := dk_62 (dk_at dksX1_levelsIn_0 6 rfl rfl)
theorem dX1_levelsIn_7 : decode cX1_levelsIn 7 = .ok (.iload_n 3, 1) := dk_29 (dk_at dksX1_levelsIn_0 7 rfl rfl)
theorem dX1_levelsIn_8 : decode cX1_levelsIn 8 = .ok (.bipush 12, 2) := dk_16 12 (dk_at dksX1_levelsIn_0 8 rfl rfl)
theorem dX1_levelsIn_10 : decode cX1_levelsIn 10 = .ok (.if_icmp .ge 21, 3) := dk_162 0 21 (dk_at dksX1_levelsIn_0 10 rfl rfl)
theorem dX1_levelsIn_13 : decode cX1_levelsIn 13 = .ok (.aload_n 2, 1) := dk_44 (dk_at dksX1_levelsIn_0 13 rfl rfl)
theorem dX1_levelsIn_14 : decode cX1_levelsIn 14 = .ok (.iload_n 3, 1) := dk_29 (dk_at dksX1_levelsIn_0 14 rfl rfl)
theorem dX1_levelsIn_15 : decode cX1_levelsIn 15 = .ok (.aload_n 0, 1) := dk_42 (dk_at dksX1_levelsIn_0 15 rfl rfl)
theorem dX1_levelsIn_16 : decode cX1_levelsIn 16 = .ok (.getfield 35, 3) := dk_180 0 35 (dk_at dksX1_levelsIn_0 16 rfl rfl)
theorem dX1_levelsIn_19 : decode cX1_levelsIn 19 = .ok (.iload_n 1, 1) := dk_27 (dk_at dksX1_levelsIn_0 19 rfl rfl)
theorem dX1_levelsIn_20 : decode cX1_levelsIn 20 = .ok (.iload_n 3, 1) := dk_29 (dk_at dksX1_levelsIn_0 20 rfl rfl)
theorem dX1_levelsIn_21 : decode cX1_levelsIn 21 = .ok (.invokevirtual 143, 3) := dk_182 0 143 (dk_at dksX1_levelsIn_0 21 rfl rfl)
theorem dX1_levelsIn_24 : decode cX1_levelsIn 24 = .ok (.iastore, 1) := dk_79 (dk_at dksX1_levelsIn_1 0 rfl rfl)
theorem dX1_levelsIn_25 : decode cX1_levelsIn 25 = .ok (.iinc 3 1, 3) := dk_132 3 1 (dk_at dksX1_levelsIn_1 1 rfl rfl)
theorem dX1_levelsIn_28 : decode cX1_levelsIn 28 = .ok (.goto (-21), 3) := dk_167 255 235 (dk_at dksX1_levelsIn_1 4 rfl rfl)
theorem dX1_levelsIn_31 : decode cX1_levelsIn 31 = .ok (.aload_n 2, 1) := dk_44 (dk_at dksX1_levelsIn_1 7 rfl rfl)
theorem dX1_levelsIn_32 : decode cX1_levelsIn 32 = .ok (.areturn, 1) := dk_176 (dk_at dksX1_levelsIn_1 8 rfl rfl)
abbrev cX1_lambda_setBlock_2 : ByteArray := prog_1_method_66_code
def yX1_lambda_setBlock_2 : MethodName := ⟨RX1, "lambda$setBlock$2", "(I[II)Z"⟩
def dkwX1_lambda_setBlock_2_0 : List UInt8 := [42, 180, 0, 35, 27, 29, 182, 0, 143, 44, 29, 46, 159, 0, 7, 4, 167, 0, 4, 3, 172]
abbrev dktX1_lambda_setBlock_2_0 : List UInt8 := dkwX1_lambda_setBlock_2_0 ++ []
theorem dksX1_lambda_setBlock_2_0 : cX1_lambda_setBlock_2.data.toList.drop 0 = dktX1_lambda_setBlock_2_0 := by decide +kernel
theorem dX1_lambda_setBlock_2_0 : decode cX1_lambda_setBlock_2 0 = .ok (.aload_n 0, 1) := dk_42 (dk_at dksX1_lambda_setBlock_2_0 0 rfl rfl)
theorem dX1_lambda_setBlock_2_1 : decode cX1_lambda_setBlock_2 1 = .ok (.getfield 35, 3) := dk_180 0 35 (dk_at dksX1_lambda_setBlock_2_0 1 rfl rfl)
theorem dX1_lambda_setBlock_2_4 : decode cX1_lambda_setBlock_2 4 = .ok (.iload_n 1, 1) := dk_27 (dk_at dksX1_lambda_setBlock_2_0 4 rfl rfl)
theorem dX1_lambda_setBlock_2_5 : decode cX1_lambda_setBlock_2 5 = .ok (.iload_n 3, 1) := dk_29 (dk_at dksX1_lambda_setBlock_2_0 5 rfl rfl)
theorem dX1_lambda_setBlock_2_6 : decode cX1_lambda_setBlock_2 6 = .ok (.invokevirtual 143, 3) := dk_182 0 143 (dk_at dksX1_lambda_setBlock_2_0 6 rfl rfl)
theorem dX1_lambda_setBlock_2_9 : decode cX1_lambda_setBlock_2 9 = .ok (.aload_n 2, 1) := dk_44 (dk_at dksX1_lambda_setBlock_2_0 9 rfl rfl)
theorem dX1_lambda_setBlock_2_10 : decode cX1_lambda_setBlock_2 10 = .ok (.iload_n 3, 1) := dk_29 (dk_at dksX1_lambda_setBlock_2_0 10 rfl rfl)
theorem dX1_lambda_setBlock_2_11 : decode cX1_lambda_setBlock_2 11 = .ok (.iaload, 1) := dk_46 (dk_at dksX1_lambda_setBlock_2_0 11 rfl rfl)
theorem dX1_lambda_setBlock_2_12 : decode cX1_lambda_setBlock_2 12 = .ok (.if_icmp .eq 7, 3) := dk_159 0 7 (dk_at dksX1_lambda_setBlock_2_0 12 rfl rfl)
theorem dX1_lambda_setBlock_2_15 : decode cX1_lambda_setBlock_2 15 = .ok (.iconst 1, 1) := dk_4 (dk_at dksX1_lambda_setBlock_2_0 15 rfl rfl)
theorem dX1_lambda_setBlock_2_16 : decode cX1_lambda_setBlock_2 16 = .ok (.goto 4, 3) := dk_167 0 4 (dk_at dksX1_lambda_setBlock_2_0 16 rfl rfl)
theorem dX1_lambda_setBlock_2_19 : decode cX1_lambda_setBlock_2 19 = .ok (.iconst 0, 1) := dk_3 (dk_at dksX1_lambda_setBlock_2_0 19 rfl rfl)
theorem dX1_lambda_setBlock_2_20 : decode cX1_lambda_setBlock_2 20 = .ok (.ireturn, 1) := dk_172 (dk_at dksX1_lambda_setBlock_2_0 20 rfl rfl)
abbrev cX1_setOf : ByteArray := prog_1_method_7_code
def yX1_setOf : MethodName := ⟨RX1, "setOf", "(LCueStack$Test;)I"⟩
def dkwX1_setOf_1 : List UInt8 := [167, 0, 4, 3, 128, 60, 132, 2, 1, 167, 255, 227, 27, 172]
abbrev dktX1_setOf_1 : List UInt8 := dkwX1_setOf_1 ++ []
def dkwX1_setOf_0 : List UInt8 := [3, 60, 3, 61, 28, 16, 12, 162, 0, 29, 27, 42, 28, 185, 0, 23, 2, 0, 153, 0, 9, 4, 28, 120]
abbrev dktX1_setOf_0 : List UInt8 := dkwX1_setOf_0 ++ dktX1_setOf_1
theorem dksX1_setOf_0 : cX1_setOf.data.toList.drop 0 = dktX1_setOf_0 := by decide +kernel
theorem dksX1_setOf_1 : cX1_setOf.data.toList.drop 24 = dktX1_setOf_1 := dk_seg dksX1_setOf_0 24 rfl rfl
theorem dX1_setOf_0 : decode cX1_setOf 0 = .ok (.iconst 0, 1) := dk_3 (dk_at dksX1_setOf_0 0 rfl rfl)
theorem dX1_setOf_1 : decode cX1_setOf 1 = .ok (.istore_n 1, 1) := dk_60 (dk_at dksX1_setOf_0 1 rfl rfl)
theorem dX1_setOf_2 : decode cX1_setOf 2 = .ok (.iconst 0, 1) := dk_3 (dk_at dksX1_setOf_0 2 rfl rfl)
theorem dX1_setOf_3 : decode cX1_setOf 3 = .ok (.istore_n 2, 1) := dk_61 (dk_at dksX1_setOf_0 3 rfl rfl)
theorem dX1_setOf_4 : decode cX1_setOf 4 = .ok (.iload_n 2, 1) := dk_28 (dk_at dksX1_setOf_0 4 rfl rfl)
theorem dX1_setOf_5 : decode cX1_setOf 5 = .ok (.bipush 12, 2) := dk_16 12 (dk_at dksX1_setOf_0 5 rfl rfl)
theorem dX1_setOf_7 : decode cX1_setOf 7 = .ok (.if_icmp .ge 29, 3) := dk_162 0 29 (dk_at dksX1_setOf_0 7 rfl rfl)
theorem dX1_setOf_10 : decode cX1_setOf 10 = .ok (.iload_n 1, 1) := dk_27 (dk_at dksX1_setOf_0 10 rfl rfl)
theorem dX1_setOf_11 : decode cX1_setOf 11 = .ok (.aload_n 0, 1) := dk_42 (dk_at dksX1_setOf_0 11 rfl rfl)
theorem dX1_setOf_12 : decode cX1_setOf 12 = .ok (.iload_n 2, 1) := dk_28 (dk_at dksX1_setOf_0 12 rfl rfl)
theorem dX1_setOf_13 : decode cX1_setOf 13 = .ok (.invokeinterface 23 2, 5) := by decide +kernel
theorem dX1_setOf_18 : decode cX1_setOf 18 = .ok (.ifCond .eq 9, 3) := dk_153 0 9 (dk_at dksX1_setOf_0 18 rfl rfl)
theorem dX1_setOf_21 : decode cX1_setOf 21 = .ok (.iconst 1, 1) := dk_4 (dk_at dksX1_setOf_0 21 rfl rfl)
theorem dX1_setOf_22 : decode cX1_setOf 22 = .ok (.iload_n 2, 1) := dk_28 (dk_at dksX1_setOf_0 22 rfl rfl)
theorem dX1_setOf_23 : decode cX1_setOf 23 = .ok (.ishl, 1) := dk_120 (dk_at dksX1_setOf_0 23 rfl rfl)
theorem dX1_setOf_24 : decode cX1_setOf 24 = .ok (.goto 4, 3) := dk_167 0 4 (dk_at dksX1_setOf_1 0 rfl rfl)
theorem dX1_setOf_27 : decode cX1_setOf 27 = .ok (.iconst 0, 1) := dk_3 (dk_at dksX1_setOf_1 3 rfl rfl)
theorem dX1_setOf_28 : decode cX1_setOf 28 = .ok (.ior, 1) := dk_128 (dk_at dksX1_setOf_1 4 rfl rfl)
theorem dX1_setOf_29 : decode cX1_setOf 29 = .ok (.istore_n 1, 1) := dk_60 (dk_at dksX1_setOf_1 5 rfl rfl)
theorem dX1_setOf_30 : decode cX1_setOf 30 = .ok (.iinc 2 1, 3) := dk_132 2 1 (dk_at dksX1_setOf_1 6 rfl rfl)
theorem dX1_setOf_33 : decode cX1_setOf 33 = .ok (.goto (-29), 3) := dk_167 255 227 (dk_at dksX1_setOf_1 9 rfl rfl)
theorem dX1_setOf_36 : decode cX1_setOf 36 = .ok (.iload_n 1, 1) := dk_27 (dk_at dksX1_setOf_1 12 rfl rfl)
theorem dX1_setOf_37 : decode cX1_setOf 37 = .ok (.ireturn, 1) := dk_172 (dk_at dksX1_setOf_1 13 rfl rfl)
abbrev cX1_setProtected : ByteArray := prog_1_method_20_code
def yX1_setProtected : MethodName := ⟨RX1, "setProtected", "(IZ)Z"⟩
def dkwX1_setProtected_1 : List UInt8 := [180, 0, 35, 27, 182, 0, 133, 28, 181, 0, 167, 29, 172]
abbrev dktX1_setProtected_1 : List UInt8 := dkwX1_setProtected_1 ++ []
def dkwX1_setProtected_0 : List UInt8 := [42, 180, 0, 35, 27, 182, 0, 133, 180, 0, 167, 62, 42, 180, 0, 42, 42, 180, 0, 35, 182, 0, 62, 42]
abbrev dktX1_setProtected_0 : List UInt8 := dkwX1_setProtected_0 ++ dktX1_setProtected_1
theorem dksX1_setProtected_0 : cX1_setProtected.data.toList.drop 0 = dktX1_setProtected_0 := by decide +kernel
theorem dksX1_setProtected_1 : cX1_setProtected.data.toList.drop 24 = dktX1_setProtected_1 := dk_seg dksX1_setProtected_0 24 rfl rfl
theorem dX1_setProtected_0 : decode cX1_setProtected 0 = .ok (.aload_n 0, 1) := dk_42 (dk_at dksX1_setProtected_0 0 rfl rfl)
theorem dX1_setProtected_1 : decode cX1_setProtected 1 = .ok (.getfield 35, 3) := dk_180 0 35 (dk_at dksX1_setProtected_0 1 rfl rfl)
theorem dX1_setProtected_4 : decode cX1_setProtected 4 = .ok (.iload_n 1, 1) := dk_27 (dk_at dksX1_setProtected_0 4 rfl rfl)
theorem dX1_setProtected_5 : decode cX1_setProtected 5 = .ok (.invokevirtual 133, 3) := dk_182 0 133 (dk_at dksX1_setProtected_0 5 rfl rfl)
theorem dX1_setProtected_8 : decode cX1_setProtected 8 = .ok (.getfield 167, 3) := dk_180 0 167 (dk_at dksX1_setProtected_0 8 rfl rfl)
theorem dX1_setProtected_11 : decode cX1_setProtected 11 = .ok (.istore_n 3, 1) := dk_62 (dk_at dksX1_setProtected_0 11 rfl rfl)
theorem dX1_setProtected_12 : decode cX1_setProtected 12 = .ok (.aload_n 0, 1) := dk_42 (dk_at dksX1_setProtected_0 12 rfl rfl)
theorem dX1_setProtected_13 : decode cX1_setProtected 13 = .ok (.getfield 42, 3) := dk_180 0 42 (dk_at dksX1_setProtected_0 13 rfl rfl)
theorem dX1_setProtected_16 : decode cX1_setProtected 16 = .ok (.aload_n 0, 1) := dk_42 (dk_at dksX1_setProtected_0 16 rfl rfl)
theorem dX1_setProtected_17 : decode cX1_setProtected 17 = .ok (.getfield 35, 3) := dk_180 0 35 (dk_at dksX1_setProtected_0 17 rfl rfl)
theorem dX1_setProtected_20 : decode cX1_setProtected 20 = .ok (.invokevirtual 62, 3) := dk_182 0 62 (dk_at dksX1_setProtected_0 20 rfl rfl)
theorem dX1_setProtected_23 : decode cX1_setProtected 23 = .ok (.aload_n 0, 1) := dk_42 (dk_at dksX1_setProtected_0 23 rfl rfl)
theorem dX1_setProtected_24 : decode cX1_setProtected 24 = .ok (.getfield 35, 3) := dk_180 0 35 (dk_at dksX1_setProtected_1 0 rfl rfl)
theorem dX1_setProtected_27 : decode cX1_setProtected 27 = .ok (.iload_n 1, 1) := dk_27 (dk_at dksX1_setProtected_1 3 rfl rfl)
theorem dX1_setProtected_28 : decode cX1_setProtected 28 = .ok (.invokevirtual 133, 3) := dk_182 0 133 (dk_at dksX1_setProtected_1 4 rfl rfl)
theorem dX1_setProtected_31 : decode cX1_setProtected 31 = .ok (.iload_n 2, 1) := dk_28 (dk_at dksX1_setProtected_1 7 rfl rfl)
theorem dX1_setProtected_32 : decode cX1_setProtected 32 = .ok (.putfield 167, 3) := dk_181 0 167 (dk_at dksX1_setProtected_1 8 rfl rfl)
theorem dX1_setProtected_35 : decode cX1_setProtected 35 = .ok (.iload_n 3, 1) := dk_29 (dk_at dksX1_setProtected_1 11 rfl rfl)
theorem dX1_setProtected_36 : decode cX1_setProtected 36 = .ok (.ireturn, 1) := dk_172 (dk_at dksX1_setProtected_1 12 rfl rfl)
abbrev cX1_setPart : ByteArray := prog_1_method_21_code
def yX1_setPart : MethodName := ⟨RX1, "setPart", "(IIZI)I"⟩
def dkwX1_setPart_3 : List UInt8 := [79, 21, 5, 172]
abbrev dktX1_setPart_3 : List UInt8 := dkwX1_setPart_3 ++ []
def dkwX1_setPart_2 : List UInt8 := [180, 0, 174, 167, 0, 14, 42, 180, 0, 35, 27, 182, 0, 133, 180, 0, 178, 58, 6, 25, 6, 28, 21, 4]
abbrev dktX1_setPart_2 : List UInt8 := dkwX1_setPart_2 ++ dktX1_setPart_3
def dkwX1_setPart_1 : List UInt8 := [180, 0, 42, 42, 180, 0, 35, 182, 0, 62, 29, 153, 0, 17, 42, 180, 0, 35, 27, 182, 0, 133]
abbrev dktX1_setPart_1 : List UInt8 := dkwX1_setPart_1 ++ dktX1_setPart_2
def dkwX1_setPart_0 : List UInt8 := [42, 27, 28, 29, 182, 0, 170, 54, 5, 21, 4, 3, 17, 2, 88, 184, 0, 73, 184, 0, 140, 42]
abbrev dktX1_setPart_0 : List UInt8 := dkwX1_setPart_0 ++ dktX1_setPart_1
theorem dksX1_setPart_0 : cX1_setPart.data.toList.drop 0 = dktX1_setPart_0 := by decide +kernel
theorem dksX1_setPart_1 : cX1_setPart.data.toList.drop 22 = dktX1_setPart_1 := dk_seg dksX1_setPart_0 22 rfl rfl
theorem dksX1_setPart_2 : cX1_setPart.data.toList.drop 44 = dktX1_setPart_2 := dk_seg dksX1_setPart_1 22 rfl rfl
theorem dksX1_setPart_3 : cX1_setPart.data.toList.drop 68 = dktX1_setPart_3 := dk_seg dksX1_setPart_2 24 rfl rfl
theorem dX1_setPart_0 : decode cX1_setPart 0 = .ok (.aload_n 0, 1) := dk_42 (dk_at dksX1_setPart_0 0 rfl rfl)
theorem dX1_setPart_1 : decode cX1_setPart 1 = .ok (.iload_n 1, 1) := dk_27 (dk_at dksX1_setPart_0 1 rfl rfl)
theorem dX1_setPart_2 : decode cX1_setPart 2 = .ok (.iload_n 2, 1) := dk_28 (dk_at dksX1_setPart_0 2 rfl rfl)
theorem dX1_setPart_3 : decode cX1_setPart 3 = .ok (.iload_n 3, 1) := dk_29 (dk_at dksX1_setPart_0 3 rfl rfl)
theorem dX1_setPart_4 : decode cX1_setPart 4 = .ok (.invokevirtual 170, 3) := dk_182 0 170 (dk_at dksX1_setPart_0 4 rfl rfl)
theorem dX1_setPart_7 : decode cX1_setPart 7 = .ok (.istore 5, 2) := dk_54 5 (dk_at dksX1_setPart_0 7 rfl rfl)
theorem dX1_setPart_9 : decode cX1_setPart 9 = .ok (.iload 4, 2) := dk_21 4 (dk_at dksX1_setPart_0 9 rfl rfl)
theorem dX1_setPart_11 : decode cX1_setPart 11 = .ok (.iconst 0, 1) := dk_3 (dk_at dksX1_setPart_0 11 rfl rfl)
theorem dX1_setPart_12 : decode cX1_setPart 12 = .ok (.sipush 600, 3) := dk_17 2 88 (dk_at dksX1_setPart_0 12 rfl rfl)
theorem dX1_setPart_15 : decode cX1_setPart 15 = .ok (.invokestatic 73, 3) := dk_184 0 73 (dk_at dksX1_setPart_0 15 rfl rfl)
theorem dX1_setPart_18 : decode cX1_setPart 18 = .ok (.invokestatic 140, 3) := dk_184 0 140 (dk_at dksX1_setPart_0 18 rfl rfl)
theorem dX1_setPart_21 : decode cX1_setPart 21 = .ok (.aload_n 0, 1) := dk_42 (dk_at dksX1_setPart_0 21 rfl rfl)
theorem dX1_setPart_22 : decode cX1_setPart 22 = .ok (.getfield 42, 3) := dk_180 0 42 (dk_at dksX1_setPart_1 0 rfl rfl)
theorem dX1_setPart_25 : decode cX1_setPart 25 = .ok (.aload_n 0, 1) := dk_42 (dk_at dksX1_setPart_1 3 rfl rfl)
theorem dX1_setPart_26 : decode cX1_setPart 26 = .ok (.getfield 35, 3) := dk_180 0 35 (dk_at dksX1_setPart_1 4 rfl rfl)
theorem dX1_setPart_29 : decode cX1_setPart 29 = .ok (.invokevirtual 62, 3) := dk_182 0 62 (dk_at dksX1_setPart_1 7 rfl rfl)
theorem dX1_setPart_32 : decode cX1_setPart 32 = .ok (.iload_n 3, 1) := dk_29 (dk_at dksX1_setPart_1 10 rfl rfl)
theorem dX1_setPart_33 : decode cX1_setPart 33 = .ok (.ifCond .eq 17, 3) := dk_153 0 17 (dk_at dksX1_setPart_1 11 rfl rfl)
theorem dX1_setPart_36 : decode cX1_setPart 36 = .ok (.aload_n 0, 1) := dk_42 (dk_at dksX1_setPart_1 14 rfl rfl)
theorem dX1_setPart_37 : decode cX1_setPart 37 = .ok (.getfield 35, 3) := dk_180 0 35 (dk_at dksX1_setPart_1 15 rfl rfl)
theorem dX1_setPart_40 : decode cX1_setPart 40 = .ok (.iload_n 1, 1) := dk_27 (dk_at dksX1_setPart_1 18 rfl rfl)
theorem dX1_setPart_41 : decode cX1_setPart 41 = .ok (.invokevirtual 133, 3) := dk_182 0 133 (dk_at dksX1_setPart_1 19 rfl rfl)
theorem dX1_setPart_44 : decode cX1_setPart 44 = .ok (.getfield 174, 3) := dk_180 0 174 (dk_at dksX1_setPart_2 0 rfl rfl)
theorem dX1_setPart_47 : decode cX1_setPart 47 = .ok (.goto 14, 3) := dk_167 0 14 (dk_at dksX1_setPart_2 3 rfl rfl)
theorem dX1_setPart_50 : decode cX1_setPart 50 = .ok (.aload_n 0, 1) := dk_42 (dk_at dksX1_setPart_2 6 rfl rfl)
theorem dX1_setPart_51 : decode cX1_setPart 51 = .ok (.getfield 35, 3) := dk_180 0 35 (dk_at dksX1_setPart_2 7 rfl rfl)
theorem dX1_setPart_54 : decode cX1_setPart 54 = .ok (.iload_n 1, 1) := dk_27 (dk_at dksX1_setPart_2 10 rfl rfl)
theorem dX1_setPart_55 : decode cX1_setPart 55 = .ok (.invokevirtual 133, 3) := dk_182 0 133 (dk_at dksX1_setPart_2 11 rfl rfl)
theorem dX1_setPart_58 : decode cX1_setPart 58 = .ok (.getfield 178, 3) := dk_180 0 178 (dk_at dksX1_setPart_2 14 rfl rfl)
theorem dX1_setPart_61 : decode cX1_setPart 61 = .ok (.astore 6, 2) := dk_58 6 (dk_at dksX1_setPart_2 17 rfl rfl)
theorem dX1_setPart_63 : decode cX1_setPart 63 = .ok (.aload 6, 2) := dk_25 6 (dk_at dksX1_setPart_2 19 rfl rfl)
theorem dX1_setPart_65 : decode cX1_setPart 65 = .ok (.iload_n 2, 1) := dk_28 (dk_at dksX1_setPart_2 21 rfl rfl)
theorem dX1_setPart_66 : decode cX1_setPart 66 = .ok (.iload 4, 2) := dk_21 4 (dk_at dksX1_setPart_2 22 rfl rfl)
theorem dX1_setPart_68 : decode cX1_setPart 68 = .ok (.iastore, 1) := dk_79 (dk_at dksX1_setPart_3 0 rfl rfl)
theorem dX1_setPart_69 : decode cX1_setPart 69 = .ok (.iload 5, 2) := dk_21 5 (dk_at dksX1_setPart_3 1 rfl rfl)
theorem dX1_setPart_71 : decode cX1_setPart 71 = .ok (.ireturn, 1) := dk_172 (dk_at dksX1_setPart_3 3 rfl rfl)
abbrev cX1_part : ByteArray := prog_1_method_24_code
def yX1_part : MethodName := ⟨RX1, "part", "(IIZ)I"⟩
def dkwX1_part_1 : List UInt8 := [46, 167, 0, 10, 25, 4, 180, 0, 178, 28, 46, 172]
abbrev dktX1_part_1 : List UInt8 := dkwX1_part_1 ++ []
def dkwX1_part_0 : List UInt8 := [42, 180, 0, 35, 27, 182, 0, 133, 58, 4, 28, 184, 0, 202, 29, 153, 0, 13, 25, 4, 180, 0, 174, 28]
abbrev dktX1_part_0 : List UInt8 := dkwX1_part_0 ++ dktX1_part_1
theorem dksX1_part_0 : cX1_part.data.toList.drop 0 = dktX1_part_0 := by decide +kernel
theorem dksX1_part_1 : cX1_part.data.toList.drop 24 = dktX1_part_1 := dk_seg dksX1_part_0 24 rfl rfl
theorem dX1_part_0 : decode cX1_part 0 = .ok (.aload_n 0, 1) := dk_42 (dk_at dksX1_part_0 0 rfl rfl)
theorem dX1_part_1 : decode cX1_part 1 = .ok (.getfield 35, 3) := dk_180 0 35 (dk_at dksX1_part_0 1 rfl rfl)
theorem dX1_part_4 : decode cX1_part 4 = .ok (.iload_n 1, 1) := dk_27 (dk_at dksX1_part_0 4 rfl rfl)
theorem dX1_part_5 : decode cX1_part 5 = .ok (.invokevirtual 133, 3) := dk_182 0 133 (dk_at dksX1_part_0 5 rfl rfl)
theorem dX1_part_8 : decode cX1_part 8 = .ok (.astore 4, 2) := dk_58 4 (dk_at dksX1_part_0 8 rfl rfl)
theorem dX1_part_10 : decode cX1_part 10 = .ok (.iload_n 2, 1) := dk_28 (dk_at dksX1_part_0 10 rfl rfl)
theorem dX1_part_11 : decode cX1_part 11 = .ok (.invokestatic 202, 3) := dk_184 0 202 (dk_at dksX1_part_0 11 rfl rfl)
theorem dX1_part_14 : decode cX1_part 14 = .ok (.iload_n 3, 1) := dk_29 (dk_at dksX1_part_0 14 rfl rfl)
theorem dX1_part_15 : decode cX1_part 15 = .ok (.ifCond .eq 13, 3) := dk_153 0 13 (dk_at dksX1_part_0 15 rfl rfl)
theorem dX1_part_18 : decode cX1_part 18 = .ok (.aload 4, 2) := dk_25 4 (dk_at dksX1_part_0 18 rfl rfl)
theorem dX1_part_20 : decode cX1_part 20 = .ok (.getfield 174, 3) := dk_180 0 174 (dk_at dksX1_part_0 20 rfl rfl)
theorem dX1_part_23 : decode cX1_part 23 = .ok (.iload_n 2, 1) := dk_28 (dk_at dksX1_part_0 23 rfl rfl)
theorem dX1_part_24 : decode cX1_part 24 = .ok (.iaload, 1) := dk_46 (dk_at dksX1_part_1 0 rfl rfl)
theorem dX1_part_25 : decode cX1_part 25 = .ok (.goto 10, 3) := dk_167 0 10 (dk_at dksX1_part_1 1 rfl rfl)
theorem dX1_part_28 : decode cX1_part 28 = .ok (.aload 4, 2) := dk_25 4 (dk_at dksX1_part_1 4 rfl rfl)
theorem dX1_part_30 : decode cX1_part 30 = .ok (.getfield 178, 3) := dk_180 0 178 (dk_at dksX1_part_1 6 rfl rfl)
theorem dX1_part_33 : decode cX1_part 33 = .ok (.iload_n 2, 1) := dk_28 (dk_at dksX1_part_1 9 rfl rfl)
theorem dX1_part_34 : decode cX1_part 34 = .ok (.iaload, 1) := dk_46 (dk_at dksX1_part_1 10 rfl rfl)
theorem dX1_part_35 : decode cX1_part 35 = .ok (.ireturn, 1) := dk_172 (dk_at dksX1_part_1 11 rfl rfl)
abbrev cX1_checkPart : ByteArray := prog_1_method_12_code
def yX1_checkPart : MethodName := ⟨RX1, "checkPart", "(I)V"⟩
def dkwX1_checkPart_0 : List UInt8 := [26, 3, 6, 184, 0, 73, 184, 0, 77, 177]
abbrev dktX1_checkPart_0 : List UInt8 := dkwX1_checkPart_0 ++ []
theorem dksX1_checkPart_0 : cX1_checkPart.data.toList.drop 0 = dktX1_checkPart_0 := by decide +kernel
theorem dX1_checkPart_0 : decode cX1_checkPart 0 = .ok (.iload_n 0, 1) := dk_26 (dk_at dksX1_checkPart_0 0 rfl rfl)
theorem dX1_checkPart_1 : decode cX1_checkPart 1 = .ok (.iconst 0, 1) := dk_3 (dk_at dksX1_checkPart_0 1 rfl rfl)
theorem dX1_checkPart_2 : decode cX1_checkPart 2 = .ok (.iconst 3, 1) := dk_6 (dk_at dksX1_checkPart_0 2 rfl rfl)
theorem dX1_checkPart_3 : decode cX1_checkPart 3 = .ok (.invokestatic 73, 3) := dk_184 0 73 (dk_at dksX1_checkPart_0 3 rfl rfl)
theorem dX1_checkPart_6 : decode cX1_checkPart 6 = .ok (.invokestatic 77, 3) := dk_184 0 77 (dk_at dksX1_checkPart_0 6 rfl rfl)
theorem dX1_checkPart_9 : decode cX1_checkPart 9 = .ok (.return_, 1) := dk_177 (dk_at dksX1_checkPart_0 9 rfl rfl)
abbrev cX1_cue : ByteArray := prog_1_method_23_code
def yX1_cue : MethodName := ⟨RX1, "cue", "(II)I"⟩
def dkwX1_cue_5 : List UInt8 := [186, 0, 196, 0, 0, 184, 0, 158, 172, 42, 29, 182, 0, 199, 172]
abbrev dktX1_cue_5 : List UInt8 := dkwX1_cue_5 ++ []
def dkwX1_cue_4 : List UInt8 := [153, 0, 7, 4, 167, 0, 4, 3, 172, 42, 180, 0, 35, 27, 182, 0, 109, 172, 42, 29]
abbrev dktX1_cue_4 : List UInt8 := dkwX1_cue_4 ++ dktX1_cue_5
def dkwX1_cue_3 : List UInt8 := [180, 0, 151, 153, 0, 7, 4, 167, 0, 4, 3, 172, 42, 180, 0, 35, 27, 182, 0, 133, 180, 0, 167]
abbrev dktX1_cue_3 : List UInt8 := dkwX1_cue_3 ++ dktX1_cue_4
def dkwX1_cue_2 : List UInt8 := [29, 172, 42, 180, 0, 35, 27, 182, 0, 133, 180, 0, 137, 172, 42, 180, 0, 35, 27, 182, 0, 133]
abbrev dktX1_cue_2 : List UInt8 := dkwX1_cue_2 ++ dktX1_cue_3
def dkwX1_cue_1 : List UInt8 := [170, 0, 0, 0, 0, 0, 0, 114, 0, 0, 0, 0, 0, 0, 0, 5, 0, 0, 0, 40, 0, 0, 0, 42, 0, 0, 0, 54, 0, 0, 0, 74, 0, 0, 0, 94, 0, 0, 0, 103]
abbrev dktX1_cue_1 : List UInt8 := dkwX1_cue_1 ++ dktX1_cue_2
def dkwX1_cue_0 : List UInt8 := [42, 180, 0, 35, 27, 182, 0, 105, 62, 28, 3, 16, 6, 184, 0, 73, 184, 0, 140, 28]
abbrev dktX1_cue_0 : List UInt8 := dkwX1_cue_0 ++ dktX1_cue_1
theorem dksX1_cue_0 : cX1_cue.data.toList.drop 0 = dktX1_cue_0 := by decide +kernel
theorem dksX1_cue_1 : cX1_cue.data.toList.drop 20 = dktX1_cue_1 := dk_seg dksX1_cue_0 20 rfl rfl
theorem dksX1_cue_2 : cX1_cue.data.toList.drop 60 = dktX1_cue_2 := dk_seg dksX1_cue_1 40 rfl rfl
theorem dksX1_cue_3 : cX1_cue.data.toList.drop 82 = dktX1_cue_3 := dk_seg dksX1_cue_2 22 rfl rfl
theorem dksX1_cue_4 : cX1_cue.data.toList.drop 105 = dktX1_cue_4 := dk_seg dksX1_cue_3 23 rfl rfl
theorem dksX1_cue_5 : cX1_cue.data.toList.drop 125 = dktX1_cue_5 := dk_seg dksX1_cue_4 20 rfl rfl
theorem dX1_cue_0 : decode cX1_cue 0 = .ok (.aload_n 0, 1) := dk_42 (dk_at dksX1_cue_0 0 rfl rfl)
theorem dX1_cue_1 : decode cX1_cue 1 = .ok (.getfield 35, 3) := dk_180 0 35 (dk_at dksX1_cue_0 1 rfl rfl)
theorem dX1_cue_4 : decode cX1_cue 4 = .ok (.iload_n 1, 1) := dk_27 (dk_at dksX1_cue_0 4 rfl rfl)
theorem dX1_cue_5 : decode cX1_cue 5 = .ok (.invokevirtual 105, 3) := dk_182 0 105 (dk_at dksX1_cue_0 5 rfl rfl)
theorem dX1_cue_8 : decode cX1_cue 8 = .ok (.istore_n 3, 1) := dk_62 (dk_at dksX1_cue_0 8 rfl rfl)
theorem dX1_cue_9 : decode cX1_cue 9 = .ok (.iload_n 2, 1) := dk_28 (dk_at dksX1_cue_0 9 rfl rfl)
theorem dX1_cue_10 : decode cX1_cue 10 = .ok (.iconst 0, 1) := dk_3 (dk_at dksX1_cue_0 10 rfl rfl)
theorem dX1_cue_11 : decode cX1_cue 11 = .ok (.bipush 6, 2) := dk_16 6 (dk_at dksX1_cue_0 11 rfl rfl)
theorem dX1_cue_13 : decode cX1_cue 13 = .ok (.invokestatic 73, 3) := dk_184 0 73 (dk_at dksX1_cue_0 13 rfl rfl)
theorem dX1_cue_16 : decode cX1_cue 16 = .ok (.invokestatic 140, 3) := dk_184 0 140 (dk_at dksX1_cue_0 16 rfl rfl)
theorem dX1_cue_19 : decode cX1_cue 19 = .ok (.iload_n 2, 1) := dk_28 (dk_at dksX1_cue_0 19 rfl rfl)
theorem dX1_cue_20 : decode cX1_cue 20 = .ok (.tableswitch 114 0 5 #[40, 42, 54, 74, 94, 103], 40) := by decide +kernel
theorem dX1_cue_60 : decode cX1_cue 60 = .ok (.iload_n 3, 1) := dk_29 (dk_at dksX1_cue_2 0 rfl rfl)
theorem dX1_cue_61 : decode cX1_cue 61 = .ok (.ireturn, 1) := dk_172 (dk_at dksX1_cue_2 1 rfl rfl)
theorem dX1_cue_62 : decode cX1_cue 62 = .ok (.aload_n 0, 1) := dk_42 (dk_at dksX1_cue_2 2 rfl rfl)
theorem dX1_cue_63 : decode cX1_cue 63 = .ok (.getfield 35, 3) := dk_180 0 35 (dk_at dksX1_cue_2 3 rfl rfl)
theorem dX1_cue_66 : decode cX1_cue 66 = .ok (.iload_n 1, 1) := dk_27 (dk_at dksX1_cue_2 6 rfl rfl)
theorem dX1_cue_67 : decode cX1_cue 67 = .ok (.invokevirtual 133, 3) := dk_182 0 133 (dk_at dksX1_cue_2 7 rfl rfl)
theorem dX1_cue_70 : decode cX1_cue 70 = .ok (.getfield 137, 3) := dk_180 0 137 (dk_at dksX1_cue_2 10 rfl rfl)
theorem dX1_cue_73 : decode cX1_cue 73 = .ok (.ireturn, 1) := dk_172 (dk_at dksX1_cue_2 13 rfl rfl)
theorem dX1_cue_74 : decode cX1_cue 74 = .ok (.aload_n 0, 1) := dk_42 (dk_at dksX1_cue_2 14 rfl rfl)
theorem dX1_cue_75 : decode cX1_cue 75 = .ok (.getfield 35, 3) := dk_180 0 35 (dk_at dksX1_cue_2 15 rfl rfl)
theorem dX1_cue_78 : decode cX1_cue 78 = .ok (.iload_n 1, 1) := dk_27 (dk_at dksX1_cue_2 18 rfl rfl)
theorem dX1_cue_79 : decode cX1_cue 79 = .ok (.invokevirtual 133, 3) := dk_182 0 133 (dk_at dksX1_cue_2 19 rfl rfl)
theorem dX1_cue_82 : decode cX1_cue 82 = .ok (.getfield 151, 3) := dk_180 0 151 (dk_at dksX1_cue_3 0 rfl rfl)
theorem dX1_cue_85 : decode cX1_cue 85 = .ok (.ifCond .eq 7, 3) := dk_153 0 7 (dk_at dksX1_cue_3 3 rfl rfl)
theorem dX1_cue_88 : decode cX1_cue 88 = .ok (.iconst 1, 1) := dk_4 (dk_at dksX1_cue_3 6 rfl rfl)
theorem dX1_cue_89 : decode cX1_cue 89 = .ok (.goto 4, 3) := dk_167 0 4 (dk_at dksX1_cue_3 7 rfl rfl)
theorem dX1_cue_92 : decode cX1_cue 92 = .ok (.iconst 0, 1) := dk_3 (dk_at dksX1_cue_3 10 rfl rfl)
theorem dX1_cue_93 : decode cX1_cue 93 = .ok (.ireturn, 1) := dk_172 (dk_at dksX1_cue_3 11 rfl rfl)
theorem dX1_cue_94 : decode cX1_cue 94 = .ok (.aload_n 0, 1) := dk_42 (dk_at dksX1_cue_3 12 rfl rfl)
theorem dX1_cue_95 : decode cX1_cue 95 = .ok (.getfield 35, 3) := dk_180 0 35 (dk_at dksX1_cue_3 13 rfl rfl)
theorem dX1_cue_98 : decode cX1_cue 98 = .ok (.iload_n 1, 1) := dk_27 (dk_at dksX1_cue_3 16 rfl rfl)
theorem dX1_cue_99 : decode cX1_cue 99 = .ok (.invokevirtual 133, 3) := dk_182 0 133 (dk_at dksX1_cue_3 17 rfl rfl)
theorem dX1_cue_102 : decode cX1_cue 102 = .ok (.getfield 167, 3) := dk_180 0 167 (dk_at dksX1_cue_3 20 rfl rfl)
theorem dX1_cue_105 : decode cX1_cue 105 = .ok (.ifCond .eq 7, 3) := dk_153 0 7 (dk_at dksX1_cue_4 0 rfl rfl)
theorem dX1_cue_108 : decode cX1_cue 108 = .ok (.iconst 1, 1) := dk_4 (dk_at dksX1_cue_4 3 rfl rfl)
theorem dX1_cue_109 : decode cX1_cue 109 = .ok (.goto 4, 3) := dk_167 0 4 (dk_at dksX1_cue_4 4 rfl rfl)
theorem dX1_cue_112 : decode cX1_cue 112 = .ok (.iconst 0, 1) := dk_3 (dk_at dksX1_cue_4 7 rfl rfl)
theorem dX1_cue_113 : decode cX1_cue 113 = .ok (.ireturn, 1) := dk_172 (dk_at dksX1_cue_4 8 rfl rfl)
theorem dX1_cue_114 : decode cX1_cue 114 = .ok (.aload_n 0, 1) := dk_42 (dk_at dksX1_cue_4 9 rfl rfl)
theorem dX1_cue_115 : decode cX1_cue 115 = .ok (.getfield 35, 3) := dk_180 0 35 (dk_at dksX1_cue_4 10 rfl rfl)
theorem dX1_cue_118 : decode cX1_cue 118 = .ok (.iload_n 1, 1) := dk_27 (dk_at dksX1_cue_4 13 rfl rfl)
theorem dX1_cue_119 : decode cX1_cue 119 = .ok (.invokevirtual 109, 3) := dk_182 0 109 (dk_at dksX1_cue_4 14 rfl rfl)
theorem dX1_cue_122 : decode cX1_cue 122 = .ok (.ireturn, 1) := dk_172 (dk_at dksX1_cue_4 17 rfl rfl)
theorem dX1_cue_123 : decode cX1_cue 123 = .ok (.aload_n 0, 1) := dk_42 (dk_at dksX1_cue_4 18 rfl rfl)
theorem dX1_cue_124 : decode cX1_cue 124 = .ok (.iload_n 3, 1) := dk_29 (dk_at dksX1_cue_4 19 rfl rfl)
theorem dX1_cue_125 : decode cX1_cue 125 = .ok (.invokedynamic 196, 5) := by decide +kernel
theorem dX1_cue_130 : decode cX1_cue 130 = .ok (.invokestatic 158, 3) := dk_184 0 158 (dk_at dksX1_cue_5 5 rfl rfl)
theorem dX1_cue_133 : decode cX1_cue 133 = .ok (.ireturn, 1) := dk_172 (dk_at dksX1_cue_5 8 rfl rfl)
theorem dX1_cue_134 : decode cX1_cue 134 = .ok (.aload_n 0, 1) := dk_42 (dk_at dksX1_cue_5 9 rfl rfl)
theorem dX1_cue_135 : decode cX1_cue 135 = .ok (.iload_n 3, 1) := dk_29 (dk_at dksX1_cue_5 10 rfl rfl)
theorem dX1_cue_136 : decode cX1_cue 136 = .ok (.invokevirtual 199, 3) := dk_182 0 199 (dk_at dksX1_cue_5 11 rfl rfl)
theorem dX1_cue_139 : decode cX1_cue 139 = .ok (.ireturn, 1) := dk_172 (dk_at dksX1_cue_5 14 rfl rfl)
abbrev cX1_lambda_cue_3 : ByteArray := prog_1_method_65_code
def yX1_lambda_cue_3 : MethodName := ⟨RX1, "lambda$cue$3", "(II)Z"⟩
def dkwX1_lambda_cue_3_0 : List UInt8 := [42, 180, 0, 35, 27, 28, 182, 0, 187, 172]
abbrev dktX1_lambda_cue_3_0 : List UInt8 := dkwX1_lambda_cue_3_0 ++ []
theorem dksX1_lambda_cue_3_0 : cX1_lambda_cue_3.data.toList.drop 0 = dktX1_lambda_cue_3_0 := by decide +kernel
theorem dX1_lambda_cue_3_0 : decode cX1_lambda_cue_3 0 = .ok (.aload_n 0, 1) := dk_42 (dk_at dksX1_lambda_cue_3_0 0 rfl rfl)
theorem dX1_lambda_cue_3_1 : decode cX1_lambda_cue_3 1 = .ok (.getfield 35, 3) := dk_180 0 35 (dk_at dksX1_lambda_cue_3_0 1 rfl rfl)
theorem dX1_lambda_cue_3_4 : decode cX1_lambda_cue_3 4 = .ok (.iload_n 1, 1) := dk_27 (dk_at dksX1_lambda_cue_3_0 4 rfl rfl)
theorem dX1_lambda_cue_3_5 : decode cX1_lambda_cue_3 5 = .ok (.iload_n 2, 1) := dk_28 (dk_at dksX1_lambda_cue_3_0 5 rfl rfl)
theorem dX1_lambda_cue_3_6 : decode cX1_lambda_cue_3 6 = .ok (.invokevirtual 187, 3) := dk_182 0 187 (dk_at dksX1_lambda_cue_3_0 6 rfl rfl)
theorem dX1_lambda_cue_3_9 : decode cX1_lambda_cue_3 9 = .ok (.ireturn, 1) := dk_172 (dk_at dksX1_lambda_cue_3_0 9 rfl rfl)
abbrev cX1_lengthOf : ByteArray := prog_1_method_22_code
def yX1_lengthOf : MethodName := ⟨RX1, "lengthOf", "(I)I"⟩
def dkwX1_lengthOf_2 : List UInt8 := [153, 0, 12, 28, 21, 4, 184, 0, 191, 167, 0, 4, 28, 61, 132, 3, 1, 167, 255, 196, 28, 172]
abbrev dktX1_lengthOf_2 : List UInt8 := dkwX1_lengthOf_2 ++ []
def dkwX1_lengthOf_1 : List UInt8 := [42, 180, 0, 35, 27, 29, 182, 0, 181, 182, 0, 184, 54, 4, 42, 180, 0, 35, 27, 29, 182, 0, 187]
abbrev dktX1_lengthOf_1 : List UInt8 := dkwX1_lengthOf_1 ++ dktX1_lengthOf_2
def dkwX1_lengthOf_0 : List UInt8 := [3, 61, 3, 62, 29, 16, 12, 162, 0, 60, 42, 180, 0, 35, 180, 0, 81, 27, 182, 0, 123, 192, 0, 127]
abbrev dktX1_lengthOf_0 : List UInt8 := dkwX1_lengthOf_0 ++ dktX1_lengthOf_1
theorem dksX1_lengthOf_0 : cX1_lengthOf.data.toList.drop 0 = dktX1_lengthOf_0 := by decide +kernel
theorem dksX1_lengthOf_1 : cX1_lengthOf.data.toList.drop 24 = dktX1_lengthOf_1 := dk_seg dksX1_lengthOf_0 24 rfl rfl
theorem dksX1_lengthOf_2 : cX1_lengthOf.data.toList.drop 47 = dktX1_lengthOf_2 := dk_seg dksX1_lengthOf_1 23 rfl rfl
theorem dX1_lengthOf_0 : decode cX1_lengthOf 0 = .ok (.iconst 0, 1) := dk_3 (dk_at dksX1_lengthOf_0 0 rfl rfl)
theorem dX1_lengthOf_1 : decode cX1_lengthOf 1 = .ok (.istore_n 2, 1) := dk_61 (dk_at dksX1_lengthOf_0 1 rfl rfl)
theorem dX1_lengthOf_2 : decode cX1_lengthOf 2 = .ok (.iconst 0, 1) := dk_3 (dk_at dksX1_lengthOf_0 2 rfl rfl)
theorem dX1_lengthOf_3 : decode cX1_lengthOf 3 = .ok (.istore_n 3, 1) := dk_62 (dk_at dksX1_lengthOf_0 3 rfl rfl)
theorem dX1_lengthOf_4 : decode cX1_lengthOf 4 = .ok (.iload_n 3, 1) := dk_29 (dk_at dksX1_lengthOf_0 4 rfl rfl)
theorem dX1_lengthOf_5 : decode cX1_lengthOf 5 = .ok (.bipush 12, 2) := dk_16 12 (dk_at dksX1_lengthOf_0 5 rfl rfl)
theorem dX1_lengthOf_7 : decode cX1_lengthOf 7 = .ok (.if_icmp .ge 60, 3) := dk_162 0 60 (dk_at dksX1_lengthOf_0 7 rfl rfl)
theorem dX1_lengthOf_10 : decode cX1_lengthOf 10 = .ok (.aload_n 0, 1) := dk_42 (dk_at dksX1_lengthOf_0 10 rfl rfl)
theorem dX1_lengthOf_11 : decode cX1_lengthOf 11 = .ok (.getfield 35, 3) := dk_180 0 35 (dk_at dksX1_lengthOf_0 11 rfl rfl)
theorem dX1_lengthOf_14 : decode cX1_lengthOf 14 = .ok (.getfield 81, 3) := dk_180 0 81 (dk_at dksX1_lengthOf_0 14 rfl rfl)
theorem dX1_lengthOf_17 : decode cX1_lengthOf 17 = .ok (.iload_n 1, 1) := dk_27 (dk_at dksX1_lengthOf_0 17 rfl rfl)
theorem dX1_lengthOf_18 : decode cX1_lengthOf 18 = .ok (.invokevirtual 123, 3) := dk_182 0 123 (dk_at dksX1_lengthOf_0 18 rfl rfl)
theorem dX1_lengthOf_21 : decode cX1_lengthOf 21 = .ok (.checkcast 127, 3) := dk_192 0 127 (dk_at dksX1_lengthOf_0 21 rfl rfl)
theorem dX1_lengthOf_24 : decode cX1_lengthOf 24 = .ok (.aload_n 0, 1) := dk_42 (dk_at dksX1_lengthOf_1 0 rfl rfl)
theorem dX1_lengthOf_25 : decode cX1_lengthOf 25 = .ok (.getfield 35, 3) := dk_180 0 35 (dk_at dksX1_lengthOf_1 1 rfl rfl)
theorem dX1_lengthOf_28 : decode cX1_lengthOf 28 = .ok (.iload_n 1, 1) := dk_27 (dk_at dksX1_lengthOf_1 4 rfl rfl)
theorem dX1_lengthOf_29 : decode cX1_lengthOf 29 = .ok (.iload_n 3, 1) := dk_29 (dk_at dksX1_lengthOf_1 5 rfl rfl)
theorem dX1_lengthOf_30 : decode cX1_lengthOf 30 = .ok (.invokevirtual 181, 3) := dk_182 0 181 (dk_at dksX1_lengthOf_1 6 rfl rfl)
theorem dX1_lengthOf_33 : decode cX1_lengthOf 33 = .ok (.invokevirtual 184, 3) := dk_182 0 184 (dk_at dksX1_lengthOf_1 9 rfl rfl)
theorem dX1_lengthOf_36 : decode cX1_lengthOf 36 = .ok (.istore 4, 2) := dk_54 4 (dk_at dksX1_lengthOf_1 12 rfl rfl)
theorem dX1_lengthOf_38 : decode cX1_lengthOf 38 = .ok (.aload_n 0, 1) := dk_42 (dk_at dksX1_lengthOf_1 14 rfl rfl)
theorem dX1_lengthOf_39 : decode cX1_lengthOf 39 = .ok (.getfield 35, 3) := dk_180 0 35 (dk_at dksX1_lengthOf_1 15 rfl rfl)
theorem dX1_lengthOf_42 : decode cX1_lengthOf 42 = .ok (.iload_n 1, 1) := dk_27 (dk_at dksX1_lengthOf_1 18 rfl rfl)
theorem dX1_lengthOf_43 : decode cX1_lengthOf 43 = .ok (.iload_n 3, 1) := dk_29 (dk_at dksX1_lengthOf_1 19 rfl rfl)
theorem dX1_lengthOf_44 : decode cX1_lengthOf 44 = .ok (.invokevirtual 187, 3) := dk_182 0 187 (dk_at dksX1_lengthOf_1 20 rfl rfl)
theorem dX1_lengthOf_47 : decode cX1_lengthOf 47 = .ok (.ifCond .eq 12, 3) := dk_153 0 12 (dk_at dksX1_lengthOf_2 0 rfl rfl)
theorem dX1_lengthOf_50 : decode cX1_lengthOf 50 = .ok (.iload_n 2, 1) := dk_28 (dk_at dksX1_lengthOf_2 3 rfl rfl)
theorem dX1_lengthOf_51 : decode cX1_lengthOf 51 = .ok (.iload 4, 2) := dk_21 4 (dk_at dksX1_lengthOf_2 4 rfl rfl)
theorem dX1_lengthOf_53 : decode cX1_lengthOf 53 = .ok (.invokestatic 191, 3) := dk_184 0 191 (dk_at dksX1_lengthOf_2 6 rfl rfl)
theorem dX1_lengthOf_56 : decode cX1_lengthOf 56 = .ok (.goto 4, 3) := dk_167 0 4 (dk_at dksX1_lengthOf_2 9 rfl rfl)
theorem dX1_lengthOf_59 : decode cX1_lengthOf 59 = .ok (.iload_n 2, 1) := dk_28 (dk_at dksX1_lengthOf_2 12 rfl rfl)
theorem dX1_lengthOf_60 : decode cX1_lengthOf 60 = .ok (.istore_n 2, 1) := dk_61 (dk_at dksX1_lengthOf_2 13 rfl rfl)
theorem dX1_lengthOf_61 : decode cX1_lengthOf 61 = .ok (.iinc 3 1, 3) := dk_132 3 1 (dk_at dksX1_lengthOf_2 14 rfl rfl)
theorem dX1_lengthOf_64 : decode cX1_lengthOf 64 = .ok (.goto (-60), 3) := dk_167 255 196 (dk_at dksX1_lengthOf_2 17 rfl rfl)
theorem dX1_lengthOf_67 : decode cX1_lengthOf 67 = .ok (.iload_n 2, 1) := dk_28 (dk_at dksX1_lengthOf_2 20 rfl rfl)
theorem dX1_lengthOf_68 : decode cX1_lengthOf 68 = .ok (.ireturn, 1) := dk_172 (dk_at dksX1_lengthOf_2 21 rfl rfl)
abbrev cX1_setHome : ByteArray := prog_1_method_25_code
def yX1_setHome : MethodName := ⟨RX1, "setHome", "(II)I"⟩
def dkwX1_setHome_1 : List UInt8 := [42, 180, 0, 42, 42, 180, 0, 35, 182, 0, 62, 42, 180, 0, 35, 180, 0, 208, 27, 28, 79, 29, 172]
abbrev dktX1_setHome_1 : List UInt8 := dkwX1_setHome_1 ++ []
def dkwX1_setHome_0 : List UInt8 := [27, 184, 0, 205, 28, 3, 16, 100, 184, 0, 73, 184, 0, 140, 42, 180, 0, 35, 180, 0, 208, 27, 46, 62]
abbrev dktX1_setHome_0 : List UInt8 := dkwX1_setHome_0 ++ dktX1_setHome_1
theorem dksX1_setHome_0 : cX1_setHome.data.toList.drop 0 = dktX1_setHome_0 := by decide +kernel
theorem dksX1_setHome_1 : cX1_setHome.data.toList.drop 24 = dktX1_setHome_1 := dk_seg dksX1_setHome_0 24 rfl rfl
theorem dX1_setHome_0 : decode cX1_setHome 0 = .ok (.iload_n 1, 1) := dk_27 (dk_at dksX1_setHome_0 0 rfl rfl)
theorem dX1_setHome_1 : decode cX1_setHome 1 = .ok (.invokestatic 205, 3) := dk_184 0 205 (dk_at dksX1_setHome_0 1 rfl rfl)
theorem dX1_setHome_4 : decode cX1_setHome 4 = .ok (.iload_n 2, 1) := dk_28 (dk_at dksX1_setHome_0 4 rfl rfl)
theorem dX1_setHome_5 : decode cX1_setHome 5 = .ok (.iconst 0, 1) := dk_3 (dk_at dksX1_setHome_0 5 rfl rfl)
theorem dX1_setHome_6 : decode cX1_setHome 6 = .ok (.bipush 100, 2) := dk_16 100 (dk_at dksX1_setHome_0 6 rfl rfl)
theorem dX1_setHome_8 : decode cX1_setHome 8 = .ok (.invokestatic 73, 3) := dk_184 0 73 (dk_at dksX1_setHome_0 8 rfl rfl)
theorem dX1_setHome_11 : decode cX1_setHome 11 = .ok (.invokestatic 140, 3) := dk_184 0 140 (dk_at dksX1_setHome_0 11 rfl rfl)
theorem dX1_setHome_14 : decode cX1_setHome 14 = .ok (.aload_n 0, 1) := dk_42 (dk_at dksX1_setHome_0 14 rfl rfl)
theorem dX1_setHome_15 : decode cX1_setHome 15 = .ok (.getfield 35, 3) := dk_180 0 35 (dk_at dksX1_setHome_0 15 rfl rfl)
theorem dX1_setHome_18 : decode cX1_setHome 18 = .ok (.getfield 208, 3) := dk_180 0 208 (dk_at dksX1_setHome_0 18 rfl rfl)
theorem dX1_setHome_21 : decode cX1_setHome 21 = .ok (.iload_n 1, 1) := dk_27 (dk_at dksX1_setHome_0 21 rfl rfl)
theorem dX1_setHome_22 : decode cX1_setHome 22 = .ok (.iaload, 1) := dk_46 (dk_at dksX1_setHome_0 22 rfl rfl)
theorem dX1_setHome_23 : decode cX1_setHome 23 = .ok (.istore_n 3, 1) := dk_62 (dk_at dksX1_setHome_0 23 rfl rfl)
theorem dX1_setHome_24 : decode cX1_setHome 24 = .ok (.aload_n 0, 1) := dk_42 (dk_at dksX1_setHome_1 0 rfl rfl)
theorem dX1_setHome_25 : decode cX1_setHome 25 = .ok (.getfield 42, 3) := dk_180 0 42 (dk_at dksX1_setHome_1 1 rfl rfl)
theorem dX1_setHome_28 : decode cX1_setHome 28 = .ok (.aload_n 0, 1) := dk_42 (dk_at dksX1_setHome_1 4 rfl rfl)
theorem dX1_setHome_29 : decode cX1_setHome 29 = .ok (.getfield 35, 3) := dk_180 0 35 (dk_at dksX1_setHome_1 5 rfl rfl)
theorem dX1_setHome_32 : decode cX1_setHome 32 = .ok (.invokevirtual 62, 3) := dk_182 0 62 (dk_at dksX1_setHome_1 8 rfl rfl)
theorem dX1_setHome_35 : decode cX1_setHome 35 = .ok (.aload_n 0, 1) := dk_42 (dk_at dksX1_setHome_1 11 rfl rfl)
theorem dX1_setHome_36 : decode cX1_setHome 36 = .ok (.getfield 35, 3) := dk_180 0 35 (dk_at dksX1_setHome_1 12 rfl rfl)
theorem dX1_setHome_39 : decode cX1_setHome 39 = .ok (.getfield 208, 3) := dk_180 0 208 (dk_at dksX1_setHome_1 15 rfl rfl)
theorem dX1_setHome_42 : decode cX1_setHome 42 = .ok (.iload_n 1, 1) := dk_27 (dk_at dksX1_setHome_1 18 rfl rfl)
theorem dX1_setHome_43 : decode cX1_setHome 43 = .ok (.iload_n 2, 1) := dk_28 (dk_at dksX1_setHome_1 19 rfl rfl)
theorem dX1_setHome_44 : decode cX1_setHome 44 = .ok (.iastore, 1) := dk_79 (dk_at dksX1_setHome_1 20 rfl rfl)
theorem dX1_setHome_45 : decode cX1_setHome 45 = .ok (.iload_n 3, 1) := dk_29 (dk_at dksX1_setHome_1 21 rfl rfl)
theorem dX1_setHome_46 : decode cX1_setHome 46 = .ok (.ireturn, 1) := dk_172 (dk_at dksX1_setHome_1 22 rfl rfl)
abbrev cX1_checkChannel : ByteArray := prog_1_method_11_code
def yX1_checkChannel : MethodName := ⟨RX1, "checkChannel", "(I)V"⟩
def dkwX1_checkChannel_0 : List UInt8 := [26, 3, 16, 11, 184, 0, 73, 184, 0, 77, 177]
abbrev dktX1_checkChannel_0 : List UInt8 := dkwX1_checkChannel_0 ++ []
theorem dksX1_checkChannel_0 : cX1_checkChannel.data.toList.drop 0 = dktX1_checkChannel_0 := by decide +kernel
theorem dX1_checkChannel_0 : decode cX1_checkChannel 0 = .ok (.iload_n 0, 1) := dk_26 (dk_at dksX1_checkChannel_0 0 rfl rfl)
theorem dX1_checkChannel_1 : decode cX1_checkChannel 1 = .ok (.iconst 0, 1) := dk_3 (dk_at dksX1_checkChannel_0 1 rfl rfl)
theorem dX1_checkChannel_2 : decode cX1_checkChannel 2 = .ok (.bipush 11, 2) := dk_16 11 (dk_at dksX1_checkChannel_0 2 rfl rfl)
theorem dX1_checkChannel_4 : decode cX1_checkChannel 4 = .ok (.invokestatic 73, 3) := dk_184 0 73 (dk_at dksX1_checkChannel_0 4 rfl rfl)
theorem dX1_checkChannel_7 : decode cX1_checkChannel 7 = .ok (.invokestatic 77, 3) := dk_184 0 77 (dk_at dksX1_checkChannel_0 7 rfl rfl)
theorem dX1_checkChannel_10 : decode cX1_checkChannel 10 = .ok (.return_, 1) := dk_177 (dk_at dksX1_checkChannel_0 10 rfl rfl)
abbrev cX1_set : ByteArray := prog_1_method_27_code
def yX1_set : MethodName := ⟨RX1, "set", "(IIIIZ)I"⟩
def dkwX1_set_2 : List UInt8 := [172]
abbrev dktX1_set_2 : List UInt8 := dkwX1_set_2 ++ []
def dkwX1_set_1 : List UInt8 := [184, 0, 73, 184, 0, 140, 42, 27, 28, 187, 0, 215, 89, 21, 4, 29, 183, 0, 217, 21, 5, 182, 0, 220]
abbrev dktX1_set_1 : List UInt8 := dkwX1_set_1 ++ dktX1_set_2
def dkwX1_set_0 : List UInt8 := [42, 180, 0, 35, 27, 182, 0, 105, 54, 6, 28, 184, 0, 205, 21, 4, 184, 0, 202, 29, 3, 16, 100]
abbrev dktX1_set_0 : List UInt8 := dkwX1_set_0 ++ dktX1_set_1
theorem dksX1_set_0 : cX1_set.data.toList.drop 0 = dktX1_set_0 := by decide +kernel
theorem dksX1_set_1 : cX1_set.data.toList.drop 23 = dktX1_set_1 := dk_seg dksX1_set_0 23 rfl rfl
theorem dksX1_set_2 : cX1_set.data.toList.drop 47 = dktX1_set_2 := dk_seg dksX1_set_1 24 rfl rfl
theorem dX1_set_0 : decode cX1_set 0 = .ok (.aload_n 0, 1) := dk_42 (dk_at dksX1_set_0 0 rfl rfl)
theorem dX1_set_1 : decode cX1_set 1 = .ok (.getfield 35, 3) := dk_180 0 35 (dk_at dksX1_set_0 1 rfl rfl)
theorem dX1_set_4 : decode cX1_set 4 = .ok (.iload_n 1, 1) := dk_27 (dk_at dksX1_set_0 4 rfl rfl)
theorem dX1_set_5 : decode cX1_set 5 = .ok (.invokevirtual 105, 3) := dk_182 0 105 (dk_at dksX1_set_0 5 rfl rfl)
theorem dX1_set_8 : decode cX1_set 8 = .ok (.istore 6, 2) := dk_54 6 (dk_at dksX1_set_0 8 rfl rfl)
theorem dX1_set_10 : decode cX1_set 10 = .ok (.iload_n 2, 1) := dk_28 (dk_at dksX1_set_0 10 rfl rfl)
theorem dX1_set_11 : decode cX1_set 11 = .ok (.invokestatic 205, 3) := dk_184 0 205 (dk_at dksX1_set_0 11 rfl rfl)
theorem dX1_set_14 : decode cX1_set 14 = .ok (.iload 4, 2) := dk_21 4 (dk_at dksX1_set_0 14 rfl rfl)
theorem dX1_set_16 : decode cX1_set 16 = .ok (.invokestatic 202, 3) := dk_184 0 202 (dk_at dksX1_set_0 16 rfl rfl)
theorem dX1_set_19 : decode cX1_set 19 = .ok (.iload_n 3, 1) := dk_29 (dk_at dksX1_set_0 19 rfl rfl)
theorem dX1_set_20 : decode cX1_set 20 = .ok (.iconst 0, 1) := dk_3 (dk_at dksX1_set_0 20 rfl rfl)
theorem dX1_set_21 : decode cX1_set 21 = .ok (.bipush 100, 2) := dk_16 100 (dk_at dksX1_set_0 21 rfl rfl)
theorem dX1_set_23 : decode cX1_set 23 = .ok (.invokestatic 73, 3) := dk_184 0 73 (dk_at dksX1_set_1 0 rfl rfl)
theorem dX1_set_26 : decode cX1_set 26 = .ok (.invokestatic 140, 3) := dk_184 0 140 (dk_at dksX1_set_1 3 rfl rfl)
theorem dX1_set_29 : decode cX1_set 29 = .ok (.aload_n 0, 1) := dk_42 (dk_at dksX1_set_1 6 rfl rfl)
theorem dX1_set_30 : decode cX1_set 30 = .ok (.iload_n 1, 1) := dk_27 (dk_at dksX1_set_1 7 rfl rfl)
theorem dX1_set_31 : decode cX1_set 31 = .ok (.iload_n 2, 1) := dk_28 (dk_at dksX1_set_1 8 rfl rfl)
theorem dX1_set_32 : decode cX1_set 32 = .ok (.new 215, 3) := dk_187 0 215 (dk_at dksX1_set_1 9 rfl rfl)
theorem dX1_set_35 : decode cX1_set 35 = .ok (.dup, 1) := dk_89 (dk_at dksX1_set_1 12 rfl rfl)
theorem dX1_set_36 : decode cX1_set 36 = .ok (.iload 4, 2) := dk_21 4 (dk_at dksX1_set_1 13 rfl rfl)
theorem dX1_set_38 : decode cX1_set 38 = .ok (.iload_n 3, 1) := dk_29 (dk_at dksX1_set_1 15 rfl rfl)
theorem dX1_set_39 : decode cX1_set 39 = .ok (.invokespecial 217, 3) := dk_183 0 217 (dk_at dksX1_set_1 16 rfl rfl)
theorem dX1_set_42 : decode cX1_set 42 = .ok (.iload 5, 2) := dk_21 5 (dk_at dksX1_set_1 19 rfl rfl)
theorem dX1_set_44 : decode cX1_set 44 = .ok (.invokevirtual 220, 3) := dk_182 0 220 (dk_at dksX1_set_1 21 rfl rfl)
theorem dX1_set_47 : decode cX1_set 47 = .ok (.ireturn, 1) := dk_172 (dk_at dksX1_set_2 0 rfl rfl)
abbrev cX1_edit : ByteArray := prog_1_method_26_code
def yX1_edit : MethodName := ⟨RX1, "edit", "(IILCueStack$Instruction;Z)I"⟩
def dkwX1_edit_4 : List UInt8 := [182, 0, 101, 21, 6, 172]
abbrev dktX1_edit_4 : List UInt8 := dkwX1_edit_4 ++ []
def dkwX1_edit_3 : List UInt8 := [182, 0, 143, 159, 0, 7, 4, 167, 0, 4, 3, 96, 54, 6, 132, 7, 1, 167, 255, 207, 42, 25, 5]
abbrev dktX1_edit_3 : List UInt8 := dkwX1_edit_3 ++ dktX1_edit_4
def dkwX1_edit_2 : List UInt8 := [182, 0, 85, 162, 0, 40, 21, 6, 42, 180, 0, 35, 21, 7, 28, 182, 0, 143, 25, 5, 21, 7, 28]
abbrev dktX1_edit_2 : List UInt8 := dkwX1_edit_2 ++ dktX1_edit_3
def dkwX1_edit_1 : List UInt8 := [42, 25, 6, 182, 0, 116, 191, 3, 54, 6, 3, 54, 7, 21, 7, 42, 180, 0, 35, 180, 0, 81]
abbrev dktX1_edit_1 : List UInt8 := dkwX1_edit_1 ++ dktX1_edit_2
def dkwX1_edit_0 : List UInt8 := [42, 180, 0, 35, 182, 0, 94, 58, 5, 25, 5, 27, 28, 45, 21, 4, 182, 0, 211, 167, 0, 12, 58, 6]
abbrev dktX1_edit_0 : List UInt8 := dkwX1_edit_0 ++ dktX1_edit_1
theorem dksX1_edit_0 : cX1_edit.data.toList.drop 0 = dktX1_edit_0 := by decide +kernel
theorem dksX1_edit_1 : cX1_edit.data.toList.drop 24 = dktX1_edit_1 := dk_seg dksX1_edit_0 24 rfl rfl
theorem dksX1_edit_2 : cX1_edit.data.toList.drop 46 = dktX1_edit_2 := dk_seg dksX1_edit_1 22 rfl rfl
theorem dksX1_edit_3 : cX1_edit.data.toList.drop 69 = dktX1_edit_3 := dk_seg dksX1_edit_2 23 rfl rfl
theorem dksX1_edit_4 : cX1_edit.data.toList.drop 92 = dktX1_edit_4 := dk_seg dksX1_edit_3 23 rfl rfl
theorem dX1_edit_0 : decode cX1_edit 0 = .ok (.aload_n 0, 1) := dk_42 (dk_at dksX1_edit_0 0 rfl rfl)
theorem dX1_edit_1 : decode cX1_edit 1 = .ok (.getfield 35, 3) := dk_180 0 35 (dk_at dksX1_edit_0 1 rfl rfl)
theorem dX1_edit_4 : decode cX1_edit 4 = .ok (.invokevirtual 94, 3) := dk_182 0 94 (dk_at dksX1_edit_0 4 rfl rfl)
theorem dX1_edit_7 : decode cX1_edit 7 = .ok (.astore 5, 2) := dk_58 5 (dk_at dksX1_edit_0 7 rfl rfl)
theorem dX1_edit_9 : decode cX1_edit 9 = .ok (.aload 5, 2) := dk_25 5 (dk_at dksX1_edit_0 9 rfl rfl)
theorem dX1_edit_11 : decode cX1_edit 11 = .ok (.iload_n 1, 1) := dk_27 (dk_at dksX1_edit_0 11 rfl rfl)
theorem dX1_edit_12 : decode cX1_edit 12 = .ok (.iload_n 2, 1) := dk_28 (dk_at dksX1_edit_0 12 rfl rfl)
theorem dX1_edit_13 : decode cX1_edit 13 = .ok (.aload_n 3, 1) := dk_45 (dk_at dksX1_edit_0 13 rfl rfl)
theorem dX1_edit_14 : decode cX1_edit 14 = .ok (.iload 4, 2) := dk_21 4 (dk_at dksX1_edit_0 14 rfl rfl)
theorem dX1_edit_16 : decode cX1_edit 16 = .ok (.invokevirtual 211, 3) := dk_182 0 211 (dk_at dksX1_edit_0 16 rfl rfl)
theorem dX1_edit_19 : decode cX1_edit 19 = .ok (.goto 12, 3) := dk_167 0 12 (dk_at dksX1_edit_0 19 rfl rfl)
theorem dX1_edit_22 : decode cX1_edit 22 = .ok (.astore 6, 2) := dk_58 6 (dk_at dksX1_edit_0 22 rfl rfl)
theorem dX1_edit_24 : decode cX1_edit 24 = .ok (.aload_n 0, 1) := dk_42 (dk_at dksX1_edit_1 0 rfl rfl)
theorem dX1_edit_25 : decode cX1_edit 25 = .ok (.aload 6, 2) := dk_25 6 (dk_at dksX1_edit_1 1 rfl rfl)
theorem dX1_edit_27 : decode cX1_edit 27 = .ok (.invokevirtual 116, 3) := dk_182 0 116 (dk_at dksX1_edit_1 3 rfl rfl)
theorem dX1_edit_30 : decode cX1_edit 30 = .ok (.athrow, 1) := dk_191 (dk_at dksX1_edit_1 6 rfl rfl)
theorem dX1_edit_31 : decode cX1_edit 31 = .ok (.iconst 0, 1) := dk_3 (dk_at dksX1_edit_1 7 rfl rfl)
theorem dX1_edit_32 : decode cX1_edit 32 = .ok (.istore 6, 2) := dk_54 6 (dk_at dksX1_edit_1 8 rfl rfl)
theorem dX1_edit_34 : decode cX1_edit 34 = .ok (.iconst 0, 1) := dk_3 (dk_at dksX1_edit_1 10 rfl rfl)
theorem dX1_edit_35 : decode cX1_edit 35 = .ok (.istore 7, 2) := dk_54 7 (dk_at dksX1_edit_1 11 rfl rfl)
theorem dX1_edit_37 : decode cX1_edit 37 = .ok (.iload 7, 2) := dk_21 7 (dk_at dksX1_edit_1 13 rfl rfl)
theorem dX1_edit_39 : decode cX1_edit 39 = .ok (.aload_n 0, 1) := dk_42 (dk_at dksX1_edit_1 15 rfl rfl)
theorem dX1_edit_40 : decode cX1_edit 40 = .ok (.getfield 35, 3) := dk_180 0 35 (dk_at dksX1_edit_1 16 rfl rfl)
theorem dX1_edit_43 : decode cX1_edit 43 = .ok (.getfield 81, 3) := dk_180 0 81 (dk_at dksX1_edit_1 19 rfl rfl)
theorem dX1_edit_46 : decode cX1_edit 46 = .ok (.invokevirtual 85, 3) := dk_182 0 85 (dk_at dksX1_edit_2 0 rfl rfl)
theorem dX1_edit_49 : decode cX1_edit 49 = .ok (.if_icmp .ge 40, 3) := dk_162 0 40 (dk_at dksX1_edit_2 3 rfl rfl)
theorem dX1_edit_52 : decode cX1_edit 52 = .ok (.iload 6, 2) := dk_21 6 (dk_at dksX1_edit_2 6 rfl rfl)
theorem dX1_edit_54 : decode cX1_edit 54 = .ok (.aload_n 0, 1) := dk_42 (dk_at dksX1_edit_2 8 rfl rfl)
theorem dX1_edit_55 : decode cX1_edit 55 = .ok (.getfield 35, 3) := dk_180 0 35 (dk_at dksX1_edit_2 9 rfl rfl)
theorem dX1_edit_58 : decode cX1_edit 58 = .ok (.iload 7, 2) := dk_21 7 (dk_at dksX1_edit_2 12 rfl rfl)
theorem dX1_edit_60 : decode cX1_edit 60 = .ok (.iload_n 2, 1) := dk_28 (dk_at dksX1_edit_2 14 rfl rfl)
theorem dX1_edit_61 : decode cX1_edit 61 = .ok (.invokevirtual 143, 3) := dk_182 0 143 (dk_at dksX1_edit_2 15 rfl rfl)
theorem dX1_edit_64 : decode cX1_edit 64 = .ok (.aload 5, 2) := dk_25 5 (dk_at dksX1_edit_2 18 rfl rfl)
theorem dX1_edit_66 : decode cX1_edit 66 = .ok (.iload 7, 2) := dk_21 7 (dk_at dksX1_edit_2 20 rfl rfl)
theorem dX1_edit_68 : decode cX1_edit 68 = .ok (.iload_n 2, 1) := dk_28 (dk_at dksX1_edit_2 22 rfl rfl)
theorem dX1_edit_69 : decode cX1_edit 69 = .ok (.invokevirtual 143, 3) := dk_182 0 143 (dk_at dksX1_edit_3 0 rfl rfl)
theorem dX1_edit_72 : decode cX1_edit 72 = .ok (.if_icmp .eq 7, 3) := dk_159 0 7 (dk_at dksX1_edit_3 3 rfl rfl)
theorem dX1_edit_75 : decode cX1_edit 75 = .ok (.iconst 1, 1) := dk_4 (dk_at dksX1_edit_3 6 rfl rfl)
theorem dX1_edit_76 : decode cX1_edit 76 = .ok (.goto 4, 3) := dk_167 0 4 (dk_at dksX1_edit_3 7 rfl rfl)
theorem dX1_edit_79 : decode cX1_edit 79 = .ok (.iconst 0, 1) := dk_3 (dk_at dksX1_edit_3 10 rfl rfl)
theorem dX1_edit_80 : decode cX1_edit 80 = .ok (.iadd, 1) := dk_96 (dk_at dksX1_edit_3 11 rfl rfl)
theorem dX1_edit_81 : decode cX1_edit 81 = .ok (.istore 6, 2) := dk_54 6 (dk_at dksX1_edit_3 12 rfl rfl)
theorem dX1_edit_83 : decode cX1_edit 83 = .ok (.iinc 7 1, 3) := dk_132 7 1 (dk_at dksX1_edit_3 14 rfl rfl)
theorem dX1_edit_86 : decode cX1_edit 86 = .ok (.goto (-49), 3) := dk_167 255 207 (dk_at dksX1_edit_3 17 rfl rfl)
theorem dX1_edit_89 : decode cX1_edit 89 = .ok (.aload_n 0, 1) := dk_42 (dk_at dksX1_edit_3 20 rfl rfl)
theorem dX1_edit_90 : decode cX1_edit 90 = .ok (.aload 5, 2) := dk_25 5 (dk_at dksX1_edit_3 21 rfl rfl)
theorem dX1_edit_92 : decode cX1_edit 92 = .ok (.invokevirtual 101, 3) := dk_182 0 101 (dk_at dksX1_edit_4 0 rfl rfl)
theorem dX1_edit_95 : decode cX1_edit 95 = .ok (.iload 6, 2) := dk_21 6 (dk_at dksX1_edit_4 3 rfl rfl)
theorem dX1_edit_97 : decode cX1_edit 97 = .ok (.ireturn, 1) := dk_172 (dk_at dksX1_edit_4 5 rfl rfl)
abbrev cX1_release : ByteArray := prog_1_method_28_code
def yX1_release : MethodName := ⟨RX1, "release", "(IIIZ)I"⟩
def dkwX1_release_1 : List UInt8 := [89, 29, 183, 0, 225, 21, 4, 182, 0, 220, 172]
abbrev dktX1_release_1 : List UInt8 := dkwX1_release_1 ++ []
def dkwX1_release_0 : List UInt8 := [42, 180, 0, 35, 27, 182, 0, 105, 54, 5, 28, 184, 0, 205, 29, 184, 0, 202, 42, 27, 28, 187, 0, 223]
abbrev dktX1_release_0 : List UInt8 := dkwX1_release_0 ++ dktX1_release_1
theorem dksX1_release_0 : cX1_release.data.toList.drop 0 = dktX1_release_0 := by decide +kernel
theorem dksX1_release_1 : cX1_release.data.toList.drop 24 = dktX1_release_1 := dk_seg dksX1_release_0 24 rfl rfl
theorem dX1_release_0 : decode cX1_release 0 = .ok (.aload_n 0, 1) := dk_42 (dk_at dksX1_release_0 0 rfl rfl)
theorem dX1_release_1 : decode cX1_release 1 = .ok (.getfield 35, 3) := dk_180 0 35 (dk_at dksX1_release_0 1 rfl rfl)
theorem dX1_release_4 : decode cX1_release 4 = .ok (.iload_n 1, 1) := dk_27 (dk_at dksX1_release_0 4 rfl rfl)
theorem dX1_release_5 : decode cX1_release 5 = .ok (.invokevirtual 105, 3) := dk_182 0 105 (dk_at dksX1_release_0 5 rfl rfl)
theorem dX1_release_8 : decode cX1_release 8 = .ok (.istore 5, 2) := dk_54 5 (dk_at dksX1_release_0 8 rfl rfl)
theorem dX1_release_10 : decode cX1_release 10 = .ok (.iload_n 2, 1) := dk_28 (dk_at dksX1_release_0 10 rfl rfl)
theorem dX1_release_11 : decode cX1_release 11 = .ok (.invokestatic 205, 3) := dk_184 0 205 (dk_at dksX1_release_0 11 rfl rfl)
theorem dX1_release_14 : decode cX1_release 14 = .ok (.iload_n 3, 1) := dk_29 (dk_at dksX1_release_0 14 rfl rfl)
theorem dX1_release_15 : decode cX1_release 15 = .ok (.invokestatic 202, 3) := dk_184 0 202 (dk_at dksX1_release_0 15 rfl rfl)
theorem dX1_release_18 : decode cX1_release 18 = .ok (.aload_n 0, 1) := dk_42 (dk_at dksX1_release_0 18 rfl rfl)
theorem dX1_release_19 : decode cX1_release 19 = .ok (.iload_n 1, 1) := dk_27 (dk_at dksX1_release_0 19 rfl rfl)
theorem dX1_release_20 : decode cX1_release 20 = .ok (.iload_n 2, 1) := dk_28 (dk_at dksX1_release_0 20 rfl rfl)
theorem dX1_release_21 : decode cX1_release 21 = .ok (.new 223, 3) := dk_187 0 223 (dk_at dksX1_release_0 21 rfl rfl)
theorem dX1_release_24 : decode cX1_release 24 = .ok (.dup, 1) := dk_89 (dk_at dksX1_release_1 0 rfl rfl)
theorem dX1_release_25 : decode cX1_release 25 = .ok (.iload_n 3, 1) := dk_29 (dk_at dksX1_release_1 1 rfl rfl)
theorem dX1_release_26 : decode cX1_release 26 = .ok (.invokespecial 225, 3) := dk_183 0 225 (dk_at dksX1_release_1 2 rfl rfl)
theorem dX1_release_29 : decode cX1_release 29 = .ok (.iload 4, 2) := dk_21 4 (dk_at dksX1_release_1 5 rfl rfl)
theorem dX1_release_31 : decode cX1_release 31 = .ok (.invokevirtual 220, 3) := dk_182 0 220 (dk_at dksX1_release_1 7 rfl rfl)
theorem dX1_release_34 : decode cX1_release 34 = .ok (.ireturn, 1) := dk_172 (dk_at dksX1_release_1 10 rfl rfl)
abbrev cX1_unset : ByteArray := prog_1_method_29_code
def yX1_unset : MethodName := ⟨RX1, "unset", "(IIZ)I"⟩
def dkwX1_unset_0 : List UInt8 := [42, 180, 0, 35, 27, 182, 0, 105, 54, 4, 28, 184, 0, 205, 42, 27, 28, 1, 29, 182, 0, 220, 172]
abbrev dktX1_unset_0 : List UInt8 := dkwX1_unset_0 ++ []
theorem dksX1_unset_0 : cX1_unset.data.toList.drop 0 = dktX1_unset_0 := by decide +kernel
theorem dX1_unset_0 : decode cX1_unset 0 = .ok (.aload_n 0, 1) := dk_42 (dk_at dksX1_unset_0 0 rfl rfl)
theorem dX1_unset_1 : decode cX1_unset 1 = .ok (.getfield 35, 3) := dk_180 0 35 (dk_at dksX1_unset_0 1 rfl rfl)
theorem dX1_unset_4 : decode cX1_unset 4 = .ok (.iload_n 1, 1) := dk_27 (dk_at dksX1_unset_0 4 rfl rfl)
theorem dX1_unset_5 : decode cX1_unset 5 = .ok (.invokevirtual 105, 3) := dk_182 0 105 (dk_at dksX1_unset_0 5 rfl rfl)
theorem dX1_unset_8 : decode cX1_unset 8 = .ok (.istore 4, 2) := dk_54 4 (dk_at dksX1_unset_0 8 rfl rfl)
theorem dX1_unset_10 : decode cX1_unset 10 = .ok (.iload_n 2, 1) := dk_28 (dk_at dksX1_unset_0 10 rfl rfl)
theorem dX1_unset_11 : decode cX1_unset 11 = .ok (.invokestatic 205, 3) := dk_184 0 205 (dk_at dksX1_unset_0 11 rfl rfl)
theorem dX1_unset_14 : decode cX1_unset 14 = .ok (.aload_n 0, 1) := dk_42 (dk_at dksX1_unset_0 14 rfl rfl)
theorem dX1_unset_15 : decode cX1_unset 15 = .ok (.iload_n 1, 1) := dk_27 (dk_at dksX1_unset_0 15 rfl rfl)
theorem dX1_unset_16 : decode cX1_unset 16 = .ok (.iload_n 2, 1) := dk_28 (dk_at dksX1_unset_0 16 rfl rfl)
theorem dX1_unset_17 : decode cX1_unset 17 = .ok (.aconst_null, 1) := dk_1 (dk_at dksX1_unset_0 17 rfl rfl)
theorem dX1_unset_18 : decode cX1_unset 18 = .ok (.iload_n 3, 1) := dk_29 (dk_at dksX1_unset_0 18 rfl rfl)
theorem dX1_unset_19 : decode cX1_unset 19 = .ok (.invokevirtual 220, 3) := dk_182 0 220 (dk_at dksX1_unset_0 19 rfl rfl)
theorem dX1_unset_22 : decode cX1_unset 22 = .ok (.ireturn, 1) := dk_172 (dk_at dksX1_unset_0 22 rfl rfl)
abbrev cX1_instruction : ByteArray := prog_1_method_31_code
def yX1_instruction : MethodName := ⟨RX1, "instruction", "(II)I"⟩
def dkwX1_instruction_4 : List UInt8 := [182, 1, 9, 172, 42, 180, 0, 35, 180, 0, 226, 45, 182, 1, 4, 192, 1, 7, 180, 1, 12, 172]
abbrev dktX1_instruction_4 : List UInt8 := dkwX1_instruction_4 ++ []
def dkwX1_instruction_3 : List UInt8 := [45, 180, 0, 255, 172, 45, 180, 1, 1, 172, 42, 180, 0, 35, 180, 0, 226, 45, 182, 1, 4, 192, 1, 7]
abbrev dktX1_instruction_3 : List UInt8 := dkwX1_instruction_3 ++ dktX1_instruction_4
def dkwX1_instruction_2 : List UInt8 := [170, 0, 0, 0, 0, 0, 0, 56, 0, 0, 0, 0, 0, 0, 0, 2, 0, 0, 0, 28, 0, 0, 0, 33, 0, 0, 0, 38]
abbrev dktX1_instruction_2 : List UInt8 := dkwX1_instruction_2 ++ dktX1_instruction_3
def dkwX1_instruction_1 : List UInt8 := [184, 0, 73, 184, 0, 140, 42, 27, 182, 0, 251, 78, 28]
abbrev dktX1_instruction_1 : List UInt8 := dkwX1_instruction_1 ++ dktX1_instruction_2
def dkwX1_instruction_0 : List UInt8 := [27, 3, 42, 180, 0, 35, 180, 0, 226, 182, 0, 250, 4, 100, 184, 0, 73, 184, 0, 120, 28, 3, 6]
abbrev dktX1_instruction_0 : List UInt8 := dkwX1_instruction_0 ++ dktX1_instruction_1
theorem dksX1_instruction_0 : cX1_instruction.data.toList.drop 0 = dktX1_instruction_0 := by decide +kernel
theorem dksX1_instruction_1 : cX1_instruction.data.toList.drop 23 = dktX1_instruction_1 := dk_seg dksX1_instruction_0 23 rfl rfl
theorem dksX1_instruction_2 : cX1_instruction.data.toList.drop 36 = dktX1_instruction_2 := dk_seg dksX1_instruction_1 13 rfl rfl
theorem dksX1_instruction_3 : cX1_instruction.data.toList.drop 64 = dktX1_instruction_3 := dk_seg dksX1_instruction_2 28 rfl rfl
theorem dksX1_instruction_4 : cX1_instruction.data.toList.drop 88 = dktX1_instruction_4 := dk_seg dksX1_instruction_3 24 rfl rfl
theorem dX1_instruction_0 : decode cX1_instruction 0 = .ok (.iload_n 1, 1) := dk_27 (dk_at dksX1_instruction_0 0 rfl rfl)
theorem dX1_instruction_1 : decode cX1_instruction 1 = .ok (.iconst 0, 1) := dk_3 (dk_at dksX1_instruction_0 1 rfl rfl)
theorem dX1_instruction_2 : decode cX1_instruction 2 = .ok (.aload_n 0, 1) := dk_42 (dk_at dksX1_instruction_0 2 rfl rfl)
theorem dX1_instruction_3 : decode cX1_instruction 3 = .ok (.getfield 35, 3) := dk_180 0 35 (dk_at dksX1_instruction_0 3 rfl rfl)
theorem dX1_instruction_6 : decode cX1_instruction 6 = .ok (.getfield 226, 3) := dk_180 0 226 (dk_at dksX1_instruction_0 6 rfl rfl)
theorem dX1_instruction_9 : decode cX1_instruction 9 = .ok (.invokevirtual 250, 3) := dk_182 0 250 (dk_at dksX1_instruction_0 9 rfl rfl)
theorem dX1_instruction_12 : decode cX1_instruction 12 = .ok (.iconst 1, 1) := dk_4 (dk_at dksX1_instruction_0 12 rfl rfl)
theorem dX1_instruction_13 : decode cX1_instruction 13 = .ok (.isub, 1) := dk_100 (dk_at dksX1_instruction_0 13 rfl rfl)
theorem dX1_instruction_14 : decode cX1_instruction 14 = .ok (.invokestatic 73, 3) := dk_184 0 73 (dk_at dksX1_instruction_0 14 rfl rfl)
theorem dX1_instruction_17 : decode cX1_instruction 17 = .ok (.invokestatic 120, 3) := dk_184 0 120 (dk_at dksX1_instruction_0 17 rfl rfl)
theorem dX1_instruction_20 : decode cX1_instruction 20 = .ok (.iload_n 2, 1) := dk_28 (dk_at dksX1_instruction_0 20 rfl rfl)
theorem dX1_instruction_21 : decode cX1_instruction 21 = .ok (.iconst 0, 1) := dk_3 (dk_at dksX1_instruction_0 21 rfl rfl)
theorem dX1_instruction_22 : decode cX1_instruction 22 = .ok (.iconst 3, 1) := dk_6 (dk_at dksX1_instruction_0 22 rfl rfl)
theorem dX1_instruction_23 : decode cX1_instruction 23 = .ok (.invokestatic 73, 3) := dk_184 0 73 (dk_at dksX1_instruction_1 0 rfl rfl)
theorem dX1_instruction_26 : decode cX1_instruction 26 = .ok (.invokestatic 140, 3) := dk_184 0 140 (dk_at dksX1_instruction_1 3 rfl rfl)
theorem dX1_instruction_29 : decode cX1_instruction 29 = .ok (.aload_n 0, 1) := dk_42 (dk_at dksX1_instruction_1 6 rfl rfl)
theorem dX1_instruction_30 : decode cX1_instruction 30 = .ok (.iload_n 1, 1) := dk_27 (dk_at dksX1_instruction_1 7 rfl rfl)
theorem dX1_instruction_31 : decode cX1_instruction 31 = .ok (.invokevirtual 251, 3) := dk_182 0 251 (dk_at dksX1_instruction_1 8 rfl rfl)
theorem dX1_instruction_34 : decode cX1_instruction 34 = .ok (.astore_n 3, 1) := dk_78 (dk_at dksX1_instruction_1 11 rfl rfl)
theorem dX1_instruction_35 : decode cX1_instruction 35 = .ok (.iload_n 2, 1) := dk_28 (dk_at dksX1_instruction_1 12 rfl rfl)
theorem dX1_instruction_36 : decode cX1_instruction 36 = .ok (.tableswitch 56 0 2 #[28, 33, 38], 28) := by decide +kernel
theorem dX1_instruction_64 : decode cX1_instruction 64 = .ok (.aload_n 3, 1) := dk_45 (dk_at dksX1_instruction_3 0 rfl rfl)
theorem dX1_instruction_65 : decode cX1_instruction 65 = .ok (.getfield 255, 3) := dk_180 0 255 (dk_at dksX1_instruction_3 1 rfl rfl)
theorem dX1_instruction_68 : decode cX1_instruction 68 = .ok (.ireturn, 1) := dk_172 (dk_at dksX1_instruction_3 4 rfl rfl)
theorem dX1_instruction_69 : decode cX1_instruction 69 = .ok (.aload_n 3, 1) := dk_45 (dk_at dksX1_instruction_3 5 rfl rfl)
theorem dX1_instruction_70 : decode cX1_instruction 70 = .ok (.getfield 257, 3) := dk_180 1 1 (dk_at dksX1_instruction_3 6 rfl rfl)
theorem dX1_instruction_73 : decode cX1_instruction 73 = .ok (.ireturn, 1) := dk_172 (dk_at dksX1_instruction_3 9 rfl rfl)
theorem dX1_instruction_74 : decode cX1_instruction 74 = .ok (.aload_n 0, 1) := dk_42 (dk_at dksX1_instruction_3 10 rfl rfl)
theorem dX1_instruction_75 : decode cX1_instruction 75 = .ok (.getfield 35, 3) := dk_180 0 35 (dk_at dksX1_instruction_3 11 rfl rfl)
theorem dX1_instruction_78 : decode cX1_instruction 78 = .ok (.getfield 226, 3) := dk_180 0 226 (dk_at dksX1_instruction_3 14 rfl rfl)
theorem dX1_instruction_81 : decode cX1_instruction 81 = .ok (.aload_n 3, 1) := dk_45 (dk_at dksX1_instruction_3 17 rfl rfl)
theorem dX1_instruction_82 : decode cX1_instruction 82 = .ok (.invokevirtual 260, 3) := dk_182 1 4 (dk_at dksX1_instruction_3 18 rfl rfl)
theorem dX1_instruction_85 : decode cX1_instruction 85 = .ok (.checkcast 263, 3) := dk_192 1 7 (dk_at dksX1_instruction_3 21 rfl rfl)
theorem dX1_instruction_88 : decode cX1_instruction 88 = .ok (.invokevirtual 265, 3) := dk_182 1 9 (dk_at dksX1_instruction_4 0 rfl rfl)
theorem dX1_instruction_91 : decode cX1_instruction 91 = .ok (.ireturn, 1) := dk_172 (dk_at dksX1_instruction_4 3 rfl rfl)
theorem dX1_instruction_92 : decode cX1_instruction 92 = .ok (.aload_n 0, 1) := dk_42 (dk_at dksX1_instruction_4 4 rfl rfl)
theorem dX1_instruction_93 : decode cX1_instruction 93 = .ok (.getfield 35, 3) := dk_180 0 35 (dk_at dksX1_instruction_4 5 rfl rfl)
theorem dX1_instruction_96 : decode cX1_instruction 96 = .ok (.getfield 226, 3) := dk_180 0 226 (dk_at dksX1_instruction_4 8 rfl rfl)
theorem dX1_instruction_99 : decode cX1_instruction 99 = .ok (.aload_n 3, 1) := dk_45 (dk_at dksX1_instruction_4 11 rfl rfl)
theorem dX1_instruction_100 : decode cX1_instruction 100 = .ok (.invokevirtual 260, 3) := dk_182 1 4 (dk_at dksX1_instruction_4 12 rfl rfl)
theorem dX1_instruction_103 : decode cX1_instruction 103 = .ok (.checkcast 263, 3) := dk_192 1 7 (dk_at dksX1_instruction_4 15 rfl rfl)
theorem dX1_instruction_106 : decode cX1_instruction 106 = .ok (.getfield 268, 3) := dk_180 1 12 (dk_at dksX1_instruction_4 18 rfl rfl)
theorem dX1_instruction_109 : decode cX1_instruction 109 = .ok (.ireturn, 1) := dk_172 (dk_at dksX1_instruction_4 21 rfl rfl)
abbrev cX1_keyAt : ByteArray := prog_1_method_30_code
def yX1_keyAt : MethodName := ⟨RX1, "keyAt", "(I)LCueStack$Key;"⟩
def dkwX1_keyAt_2 : List UInt8 := [132, 4, 1, 167, 255, 237, 45, 176]
abbrev dktX1_keyAt_2 : List UInt8 := dkwX1_keyAt_2 ++ []
def dkwX1_keyAt_1 : List UInt8 := [192, 0, 248, 78, 3, 54, 4, 21, 4, 27, 162, 0, 19, 44, 185, 0, 242, 1, 0, 192, 0, 248, 78]
abbrev dktX1_keyAt_1 : List UInt8 := dkwX1_keyAt_1 ++ dktX1_keyAt_2
def dkwX1_keyAt_0 : List UInt8 := [42, 180, 0, 35, 180, 0, 226, 182, 0, 230, 185, 0, 236, 1, 0, 77, 44, 185, 0, 242, 1, 0]
abbrev dktX1_keyAt_0 : List UInt8 := dkwX1_keyAt_0 ++ dktX1_keyAt_1
theorem dksX1_keyAt_0 : cX1_keyAt.data.toList.drop 0 = dktX1_keyAt_0 := by decide +kernel
theorem dksX1_keyAt_1 : cX1_keyAt.data.toList.drop 22 = dktX1_keyAt_1 := dk_seg dksX1_keyAt_0 22 rfl rfl
theorem dksX1_keyAt_2 : cX1_keyAt.data.toList.drop 45 = dktX1_keyAt_2 := dk_seg dksX1_keyAt_1 23 rfl rfl
theorem dX1_keyAt_0 : decode cX1_keyAt 0 = .ok (.aload_n 0, 1) := dk_42 (dk_at dksX1_keyAt_0 0 rfl rfl)
theorem dX1_keyAt_1 : decode cX1_keyAt 1 = .ok (.getfield 35, 3) := dk_180 0 35 (dk_at dksX1_keyAt_0 1 rfl rfl)
theorem dX1_keyAt_4 : decode cX1_keyAt 4 = .ok (.getfield 226, 3) := dk_180 0 226 (dk_at dksX1_keyAt_0 4 rfl rfl)
theorem dX1_keyAt_7 : decode cX1_keyAt 7 = .ok (.invokevirtual 230, 3) := dk_182 0 230 (dk_at dksX1_keyAt_0 7 rfl rfl)
theorem dX1_keyAt_10 : decode cX1_keyAt 10 = .ok (.invokeinterface 236 1, 5) := by decide +kernel
theorem dX1_keyAt_15 : decode cX1_keyAt 15 = .ok (.astore_n 2, 1) := dk_77 (dk_at dksX1_keyAt_0 15 rfl rfl)
theorem dX1_keyAt_16 : decode cX1_keyAt 16 = .ok (.aload_n 2, 1) := dk_44 (dk_at dksX1_keyAt_0 16 rfl rfl)
theorem dX1_keyAt_17 : decode cX1_keyAt 17 = .ok (.invokeinterface 242 1, 5) := by decide +kernel
theorem dX1_keyAt_22 : decode cX1_keyAt 22 = .ok (.checkcast 248, 3) := dk_192 0 248 (dk_at dksX1_keyAt_1 0 rfl rfl)
theorem dX1_keyAt_25 : decode cX1_keyAt 25 = .ok (.astore_n 3, 1) := dk_78 (dk_at dksX1_keyAt_1 3 rfl rfl)
theorem dX1_keyAt_26 : decode cX1_keyAt 26 = .ok (.iconst 0, 1) := dk_3 (dk_at dksX1_keyAt_1 4 rfl rfl)
theorem dX1_keyAt_27 : decode cX1_keyAt 27 = .ok (.istore 4, 2) := dk_54 4 (dk_at dksX1_keyAt_1 5 rfl rfl)
theorem dX1_keyAt_29 : decode cX1_keyAt 29 = .ok (.iload 4, 2) := dk_21 4 (dk_at dksX1_keyAt_1 7 rfl rfl)
theorem dX1_keyAt_31 : decode cX1_keyAt 31 = .ok (.iload_n 1, 1) := dk_27 (dk_at dksX1_keyAt_1 9 rfl rfl)
theorem dX1_keyAt_32 : decode cX1_keyAt 32 = .ok (.if_icmp .ge 19, 3) := dk_162 0 19 (dk_at dksX1_keyAt_1 10 rfl rfl)
theorem dX1_keyAt_35 : decode cX1_keyAt 35 = .ok (.aload_n 2, 1) := dk_44 (dk_at dksX1_keyAt_1 13 rfl rfl)
theorem dX1_keyAt_36 : decode cX1_keyAt 36 = .ok (.invokeinterface 242 1, 5) := by decide +kernel
theorem dX1_keyAt_41 : decode cX1_keyAt 41 = .ok (.checkcast 248, 3) := dk_192 0 248 (dk_at dksX1_keyAt_1 19 rfl rfl)
theorem dX1_keyAt_44 : decode cX1_keyAt 44 = .ok (.astore_n 3, 1) := dk_78 (dk_at dksX1_keyAt_1 22 rfl rfl)
theorem dX1_keyAt_45 : decode cX1_keyAt 45 = .ok (.iinc 4 1, 3) := dk_132 4 1 (dk_at dksX1_keyAt_2 0 rfl rfl)
theorem dX1_keyAt_48 : decode cX1_keyAt 48 = .ok (.goto (-19), 3) := dk_167 255 237 (dk_at dksX1_keyAt_2 3 rfl rfl)
theorem dX1_keyAt_51 : decode cX1_keyAt 51 = .ok (.aload_n 3, 1) := dk_45 (dk_at dksX1_keyAt_2 6 rfl rfl)
theorem dX1_keyAt_52 : decode cX1_keyAt 52 = .ok (.areturn, 1) := dk_176 (dk_at dksX1_keyAt_2 7 rfl rfl)
abbrev cX1_level : ByteArray := prog_1_method_33_code
def yX1_level : MethodName := ⟨RX1, "level", "(II)I"⟩
def dkwX1_level_0 : List UInt8 := [42, 42, 180, 0, 50, 27, 28, 182, 1, 18, 172]
abbrev dktX1_level_0 : List UInt8 := dkwX1_level_0 ++ []
theorem dksX1_level_0 : cX1_level.data.toList.drop 0 = dktX1_level_0 := by decide +kernel
theorem dX1_level_0 : decode cX1_level 0 = .ok (.aload_n 0, 1) := dk_42 (dk_at dksX1_level_0 0 rfl rfl)
theorem dX1_level_1 : decode cX1_level 1 = .ok (.aload_n 0, 1) := dk_42 (dk_at dksX1_level_0 1 rfl rfl)
theorem dX1_level_2 : decode cX1_level 2 = .ok (.getfield 50, 3) := dk_180 0 50 (dk_at dksX1_level_0 2 rfl rfl)
theorem dX1_level_5 : decode cX1_level 5 = .ok (.iload_n 1, 1) := dk_27 (dk_at dksX1_level_0 5 rfl rfl)
theorem dX1_level_6 : decode cX1_level 6 = .ok (.iload_n 2, 1) := dk_28 (dk_at dksX1_level_0 6 rfl rfl)
theorem dX1_level_7 : decode cX1_level 7 = .ok (.invokevirtual 274, 3) := dk_182 1 18 (dk_at dksX1_level_0 7 rfl rfl)
theorem dX1_level_10 : decode cX1_level 10 = .ok (.ireturn, 1) := dk_172 (dk_at dksX1_level_0 10 rfl rfl)
abbrev cX1_by : ByteArray := prog_1_method_32_code
def yX1_by : MethodName := ⟨RX1, "by", "(LCueStack$Levels;II)I"⟩
def dkwX1_by_0 : List UInt8 := [42, 180, 0, 35, 28, 182, 0, 105, 54, 4, 29, 184, 0, 205, 43, 21, 4, 29, 185, 1, 14, 3, 0, 172]
abbrev dktX1_by_0 : List UInt8 := dkwX1_by_0 ++ []
theorem dksX1_by_0 : cX1_by.data.toList.drop 0 = dktX1_by_0 := by decide +kernel
theorem dX1_by_0 : decode cX1_by 0 = .ok (.aload_n 0, 1) := dk_42 (dk_at dksX1_by_0 0 rfl rfl)
theorem dX1_by_1 : decode cX1_by 1 = .ok (.getfield 35, 3) := dk_180 0 35 (dk_at dksX1_by_0 1 rfl rfl)
theorem dX1_by_4 : decode cX1_by 4 = .ok (.iload_n 2, 1) := dk_28 (dk_at dksX1_by_0 4 rfl rfl)
theorem dX1_by_5 : decode cX1_by 5 = .ok (.invokevirtual 105, 3) := dk_182 0 105 (dk_at dksX1_by_0 5 rfl rfl)
theorem dX1_by_8 : decode cX1_by 8 = .ok (.istore 4, 2) := dk_54 4 (dk_at dksX1_by_0 8 rfl rfl)
theorem dX1_by_10 : decode cX1_by 10 = .ok (.iload_n 3, 1) := dk_29 (dk_at dksX1_by_0 10 rfl rfl)
theorem dX1_by_11 : decode cX1_by 11 = .ok (.invokestatic 205, 3) := dk_184 0 205 (dk_at dksX1_by_0 11 rfl rfl)
theorem dX1_by_14 : decode cX1_by 14 = .ok (.aload_n 1, 1) := dk_43 (dk_at dksX1_by_0 14 rfl rfl)
theorem dX1_by_15 : decode cX1_by 15 = .ok (.iload 4, 2) := dk_21 4 (dk_at dksX1_by_0 15 rfl rfl)
theorem dX1_by_17 : decode cX1_by 17 = .ok (.iload_n 3, 1) := dk_29 (dk_at dksX1_by_0 17 rfl rfl)
theorem dX1_by_18 : decode cX1_by 18 = .ok (.invokeinterface 270 3, 5) := by decide +kernel
theorem dX1_by_23 : decode cX1_by 23 = .ok (.ireturn, 1) := dk_172 (dk_at dksX1_by_0 23 rfl rfl)
abbrev cX1_levelAgain : ByteArray := prog_1_method_34_code
def yX1_levelAgain : MethodName := ⟨RX1, "levelAgain", "(II)I"⟩
def dkwX1_levelAgain_0 : List UInt8 := [42, 42, 180, 0, 55, 27, 28, 182, 1, 18, 172]
abbrev dktX1_levelAgain_0 : List UInt8 := dkwX1_levelAgain_0 ++ []
theorem dksX1_levelAgain_0 : cX1_levelAgain.data.toList.drop 0 = dktX1_levelAgain_0 := by decide +kernel
theorem dX1_levelAgain_0 : decode cX1_levelAgain 0 = .ok (.aload_n 0, 1) := dk_42 (dk_at dksX1_levelAgain_0 0 rfl rfl)
theorem dX1_levelAgain_1 : decode cX1_levelAgain 1 = .ok (.aload_n 0, 1) := dk_42 (dk_at dksX1_levelAgain_0 1 rfl rfl)
theorem dX1_levelAgain_2 : decode cX1_levelAgain 2 = .ok (.getfield 55, 3) := dk_180 0 55 (dk_at dksX1_levelAgain_0 2 rfl rfl)
theorem dX1_levelAgain_5 : decode cX1_levelAgain 5 = .ok (.iload_n 1, 1) := dk_27 (dk_at dksX1_levelAgain_0 5 rfl rfl)
theorem dX1_levelAgain_6 : decode cX1_levelAgain 6 = .ok (.iload_n 2, 1) := dk_28 (dk_at dksX1_levelAgain_0 6 rfl rfl)
theorem dX1_levelAgain_7 : decode cX1_levelAgain 7 = .ok (.invokevirtual 274, 3) := dk_182 1 18 (dk_at dksX1_levelAgain_0 7 rfl rfl)
theorem dX1_levelAgain_10 : decode cX1_levelAgain 10 = .ok (.ireturn, 1) := dk_172 (dk_at dksX1_levelAgain_0 10 rfl rfl)
abbrev cX1_source : ByteArray := prog_1_method_35_code
def yX1_source : MethodName := ⟨RX1, "source", "(II)I"⟩
def dkwX1_source_0 : List UInt8 := [42, 42, 186, 1, 22, 0, 0, 27, 28, 182, 1, 18, 172]
abbrev dktX1_source_0 : List UInt8 := dkwX1_source_0 ++ []
theorem dksX1_source_0 : cX1_source.data.toList.drop 0 = dktX1_source_0 := by decide +kernel
theorem dX1_source_0 : decode cX1_source 0 = .ok (.aload_n 0, 1) := dk_42 (dk_at dksX1_source_0 0 rfl rfl)
theorem dX1_source_1 : decode cX1_source 1 = .ok (.aload_n 0, 1) := dk_42 (dk_at dksX1_source_0 1 rfl rfl)
theorem dX1_source_2 : decode cX1_source 2 = .ok (.invokedynamic 278, 5) := by decide +kernel
theorem dX1_source_7 : decode cX1_source 7 = .ok (.iload_n 1, 1) := dk_27 (dk_at dksX1_source_0 7 rfl rfl)
theorem dX1_source_8 : decode cX1_source 8 = .ok (.iload_n 2, 1) := dk_28 (dk_at dksX1_source_0 8 rfl rfl)
theorem dX1_source_9 : decode cX1_source 9 = .ok (.invokevirtual 274, 3) := dk_182 1 18 (dk_at dksX1_source_0 9 rfl rfl)
theorem dX1_source_12 : decode cX1_source 12 = .ok (.ireturn, 1) := dk_172 (dk_at dksX1_source_0 12 rfl rfl)
abbrev cX1_lambda_source_4 : ByteArray := prog_1_method_64_code
def yX1_lambda_source_4 : MethodName := ⟨RX1, "lambda$source$4", "(II)I"⟩
def dkwX1_lambda_source_4_0 : List UInt8 := [42, 180, 0, 35, 27, 28, 182, 1, 150, 172]
abbrev dktX1_lambda_source_4_0 : List UInt8 := dkwX1_lambda_source_4_0 ++ []
theorem dksX1_lambda_source_4_0 : cX1_lambda_source_4.data.toList.drop 0 = dktX1_lambda_source_4_0 := by decide +kernel
theorem dX1_lambda_source_4_0 : decode cX1_lambda_source_4 0 = .ok (.aload_n 0, 1) := dk_42 (dk_at dksX1_lambda_source_4_0 0 rfl rfl)
theorem dX1_lambda_source_4_1 : decode cX1_lambda_source_4 1 = .ok (.getfield 35, 3) := dk_180 0 35 (dk_at dksX1_lambda_source_4_0 1 rfl rfl)
theorem dX1_lambda_source_4_4 : decode cX1_lambda_source_4 4 = .ok (.iload_n 1, 1) := dk_27 (dk_at dksX1_lambda_source_4_0 4 rfl rfl)
theorem dX1_lambda_source_4_5 : decode cX1_lambda_source_4 5 = .ok (.iload_n 2, 1) := dk_28 (dk_at dksX1_lambda_source_4_0 5 rfl rfl)
theorem dX1_lambda_source_4_6 : decode cX1_lambda_source_4 6 = .ok (.invokevirtual 406, 3) := dk_182 1 150 (dk_at dksX1_lambda_source_4_0 6 rfl rfl)
theorem dX1_lambda_source_4_9 : decode cX1_lambda_source_4 9 = .ok (.ireturn, 1) := dk_172 (dk_at dksX1_lambda_source_4_0 9 rfl rfl)
abbrev cX1_sum : ByteArray := prog_1_method_36_code
def yX1_sum : MethodName := ⟨RX1, "sum", "(I)I"⟩
def dkwX1_sum_1 : List UInt8 := [180, 0, 35, 28, 21, 4, 182, 0, 143, 96, 62, 132, 4, 1, 167, 255, 233, 29, 172]
abbrev dktX1_sum_1 : List UInt8 := dkwX1_sum_1 ++ []
def dkwX1_sum_0 : List UInt8 := [42, 180, 0, 35, 27, 182, 0, 105, 61, 3, 62, 3, 54, 4, 21, 4, 16, 12, 162, 0, 22, 29, 42]
abbrev dktX1_sum_0 : List UInt8 := dkwX1_sum_0 ++ dktX1_sum_1
theorem dksX1_sum_0 : cX1_sum.data.toList.drop 0 = dktX1_sum_0 := by decide +kernel
theorem dksX1_sum_1 : cX1_sum.data.toList.drop 23 = dktX1_sum_1 := dk_seg dksX1_sum_0 23 rfl rfl
theorem dX1_sum_0 : decode cX1_sum 0 = .ok (.aload_n 0, 1) := dk_42 (dk_at dksX1_sum_0 0 rfl rfl)
theorem dX1_sum_1 : decode cX1_sum 1 = .ok (.getfield 35, 3) := dk_180 0 35 (dk_at dksX1_sum_0 1 rfl rfl)
theorem dX1_sum_4 : decode cX1_sum 4 = .ok (.iload_n 1, 1) := dk_27 (dk_at dksX1_sum_0 4 rfl rfl)
theorem dX1_sum_5 : decode cX1_sum 5 = .ok (.invokevirtual 105, 3) := dk_182 0 105 (dk_at dksX1_sum_0 5 rfl rfl)
theorem dX1_sum_8 : decode cX1_sum 8 = .ok (.istore_n 2, 1) := dk_61 (dk_at dksX1_sum_0 8 rfl rfl)
theorem dX1_sum_9 : decode cX1_sum 9 = .ok (.iconst 0, 1) := dk_3 (dk_at dksX1_sum_0 9 rfl rfl)
theorem dX1_sum_10 : decode cX1_sum 10 = .ok (.istore_n 3, 1) := dk_62 (dk_at dksX1_sum_0 10 rfl rfl)
theorem dX1_sum_11 : decode cX1_sum 11 = .ok (.iconst 0, 1) := dk_3 (dk_at dksX1_sum_0 11 rfl rfl)
theorem dX1_sum_12 : decode cX1_sum 12 = .ok (.istore 4, 2) := dk_54 4 (dk_at dksX1_sum_0 12 rfl rfl)
theorem dX1_sum_14 : decode cX1_sum 14 = .ok (.iload 4, 2) := dk_21 4 (dk_at dksX1_sum_0 14 rfl rfl)
theorem dX1_sum_16 : decode cX1_sum 16 = .ok (.bipush 12, 2) := dk_16 12 (dk_at dksX1_sum_0 16 rfl rfl)
theorem dX1_sum_18 : decode cX1_sum 18 = .ok (.if_icmp .ge 22, 3) := dk_162 0 22 (dk_at dksX1_sum_0 18 rfl rfl)
theorem dX1_sum_21 : decode cX1_sum 21 = .ok (.iload_n 3, 1) := dk_29 (dk_at dksX1_sum_0 21 rfl rfl)
theorem dX1_sum_22 : decode cX1_sum 22 = .ok (.aload_n 0, 1) := dk_42 (dk_at dksX1_sum_0 22 rfl rfl)
theorem dX1_sum_23 : decode cX1_sum 23 = .ok (.getfield 35, 3) := dk_180 0 35 (dk_at dksX1_sum_1 0 rfl rfl)
theorem dX1_sum_26 : decode cX1_sum 26 = .ok (.iload_n 2, 1) := dk_28 (dk_at dksX1_sum_1 3 rfl rfl)
theorem dX1_sum_27 : decode cX1_sum 27 = .ok (.iload 4, 2) := dk_21 4 (dk_at dksX1_sum_1 4 rfl rfl)
theorem dX1_sum_29 : decode cX1_sum 29 = .ok (.invokevirtual 143, 3) := dk_182 0 143 (dk_at dksX1_sum_1 6 rfl rfl)
theorem dX1_sum_32 : decode cX1_sum 32 = .ok (.iadd, 1) := dk_96 (dk_at dksX1_sum_1 9 rfl rfl)
theorem dX1_sum_33 : decode cX1_sum 33 = .ok (.istore_n 3, 1) := dk_62 (dk_at dksX1_sum_1 10 rfl rfl)
theorem dX1_sum_34 : decode cX1_sum 34 = .ok (.iinc 4 1, 3) := dk_132 4 1 (dk_at dksX1_sum_1 11 rfl rfl)
theorem dX1_sum_37 : decode cX1_sum 37 = .ok (.goto (-23), 3) := dk_167 255 233 (dk_at dksX1_sum_1 14 rfl rfl)
theorem dX1_sum_40 : decode cX1_sum 40 = .ok (.iload_n 3, 1) := dk_29 (dk_at dksX1_sum_1 17 rfl rfl)
theorem dX1_sum_41 : decode cX1_sum 41 = .ok (.ireturn, 1) := dk_172 (dk_at dksX1_sum_1 18 rfl rfl)
abbrev cX1_apart : ByteArray := prog_1_method_37_code
def yX1_apart : MethodName := ⟨RX1, "apart", "(II)I"⟩
def dkwX1_apart_1 : List UInt8 := [186, 1, 23, 0, 0, 184, 0, 158, 184, 0, 162, 172]
abbrev dktX1_apart_1 : List UInt8 := dkwX1_apart_1 ++ []
def dkwX1_apart_0 : List UInt8 := [42, 180, 0, 35, 27, 182, 0, 105, 62, 42, 180, 0, 35, 28, 182, 0, 105, 54, 4, 42, 29, 21, 4]
abbrev dktX1_apart_0 : List UInt8 := dkwX1_apart_0 ++ dktX1_apart_1
theorem dksX1_apart_0 : cX1_apart.data.toList.drop 0 = dktX1_apart_0 := by decide +kernel
theorem dksX1_apart_1 : cX1_apart.data.toList.drop 23 = dktX1_apart_1 := dk_seg dksX1_apart_0 23 rfl rfl
theorem dX1_apart_0 : decode cX1_apart 0 = .ok (.aload_n 0, 1) := dk_42 (dk_at dksX1_apart_0 0 rfl rfl)
theorem dX1_apart_1 : decode cX1_apart 1 = .ok (.getfield 35, 3) := dk_180 0 35 (dk_at dksX1_apart_0 1 rfl rfl)
theorem dX1_apart_4 : decode cX1_apart 4 = .ok (.iload_n 1, 1) := dk_27 (dk_at dksX1_apart_0 4 rfl rfl)
theorem dX1_apart_5 : decode cX1_apart 5 = .ok (.invokevirtual 105, 3) := dk_182 0 105 (dk_at dksX1_apart_0 5 rfl rfl)
theorem dX1_apart_8 : decode cX1_apart 8 = .ok (.istore_n 3, 1) := dk_62 (dk_at dksX1_apart_0 8 rfl rfl)
theorem dX1_apart_9 : decode cX1_apart 9 = .ok (.aload_n 0, 1) := dk_42 (dk_at dksX1_apart_0 9 rfl rfl)
theorem dX1_apart_10 : decode cX1_apart 10 = .ok (.getfield 35, 3) := dk_180 0 35 (dk_at dksX1_apart_0 10 rfl rfl)
theorem dX1_apart_13 : decode cX1_apart 13 = .ok (.iload_n 2, 1) := dk_28 (dk_at dksX1_apart_0 13 rfl rfl)
theorem dX1_apart_14 : decode cX1_apart 14 = .ok (.invokevirtual 105, 3) := dk_182 0 105 (dk_at dksX1_apart_0 14 rfl rfl)
theorem dX1_apart_17 : decode cX1_apart 17 = .ok (.istore 4, 2) := dk_54 4 (dk_at dksX1_apart_0 17 rfl rfl)
theorem dX1_apart_19 : decode cX1_apart 19 = .ok (.aload_n 0, 1) := dk_42 (dk_at dksX1_apart_0 19 rfl rfl)
theorem dX1_apart_20 : decode cX1_apart 20 = .ok (.iload_n 3, 1) := dk_29 (dk_at dksX1_apart_0 20 rfl rfl)
theorem dX1_apart_21 : decode cX1_apart 21 = .ok (.iload 4, 2) := dk_21 4 (dk_at dksX1_apart_0 21 rfl rfl)
theorem dX1_apart_23 : decode cX1_apart 23 = .ok (.invokedynamic 279, 5) := by decide +kernel
theorem dX1_apart_28 : decode cX1_apart 28 = .ok (.invokestatic 158, 3) := dk_184 0 158 (dk_at dksX1_apart_1 5 rfl rfl)
theorem dX1_apart_31 : decode cX1_apart 31 = .ok (.invokestatic 162, 3) := dk_184 0 162 (dk_at dksX1_apart_1 8 rfl rfl)
theorem dX1_apart_34 : decode cX1_apart 34 = .ok (.ireturn, 1) := dk_172 (dk_at dksX1_apart_1 11 rfl rfl)
abbrev cX1_lambda_apart_5 : ByteArray := prog_1_method_63_code
def yX1_lambda_apart_5 : MethodName := ⟨RX1, "lambda$apart$5", "(III)Z"⟩
def dkwX1_lambda_apart_5_1 : List UInt8 := [167, 0, 4, 3, 172]
abbrev dktX1_lambda_apart_5_1 : List UInt8 := dkwX1_lambda_apart_5_1 ++ []
def dkwX1_lambda_apart_5_0 : List UInt8 := [42, 180, 0, 35, 27, 29, 182, 0, 143, 42, 180, 0, 35, 28, 29, 182, 0, 143, 159, 0, 7, 4]
abbrev dktX1_lambda_apart_5_0 : List UInt8 := dkwX1_lambda_apart_5_0 ++ dktX1_lambda_apart_5_1
theorem dksX1_lambda_apart_5_0 : cX1_lambda_apart_5.data.toList.drop 0 = dktX1_lambda_apart_5_0 := by decide +kernel
theorem dksX1_lambda_apart_5_1 : cX1_lambda_apart_5.data.toList.drop 22 = dktX1_lambda_apart_5_1 := dk_seg dksX1_lambda_apart_5_0 22 rfl rfl
theorem dX1_lambda_apart_5_0 : decode cX1_lambda_apart_5 0 = .ok (.aload_n 0, 1) := dk_42 (dk_at dksX1_lambda_apart_5_0 0 rfl rfl)
theorem dX1_lambda_apart_5_1 : decode cX1_lambda_apart_5 1 = .ok (.getfield 35, 3) := dk_180 0 35 (dk_at dksX1_lambda_apart_5_0 1 rfl rfl)
theorem dX1_lambda_apart_5_4 : decode cX1_lambda_apart_5 4 = .ok (.iload_n 1, 1) := dk_27 (dk_at dksX1_lambda_apart_5_0 4 rfl rfl)
theorem dX1_lambda_apart_5_5 : decode cX1_lambda_apart_5 5 = .ok (.iload_n 3, 1) := dk_29 (dk_at dksX1_lambda_apart_5_0 5 rfl rfl)
theorem dX1_lambda_apart_5_6 : decode cX1_lambda_apart_5 6 = .ok (.invokevirtual 143, 3) := dk_182 0 143 (dk_at dksX1_lambda_apart_5_0 6 rfl rfl)
theorem dX1_lambda_apart_5_9 : decode cX1_lambda_apart_5 9 = .ok (.aload_n 0, 1) := dk_42 (dk_at dksX1_lambda_apart_5_0 9 rfl rfl)
theorem dX1_lambda_apart_5_10 : decode cX1_lambda_apart_5 10 = .ok (.getfield 35, 3) := dk_180 0 35 (dk_at dksX1_lambda_apart_5_0 10 rfl rfl)
theorem dX1_lambda_apart_5_13 : decode cX1_lambda_apart_5 13 = .ok (.iload_n 2, 1) := dk_28 (dk_at dksX1_lambda_apart_5_0 13 rfl rfl)
theorem dX1_lambda_apart_5_14 : decode cX1_lambda_apart_5 14 = .ok (.iload_n 3, 1) := dk_29 (dk_at dksX1_lambda_apart_5_0 14 rfl rfl)
theorem dX1_lambda_apart_5_15 : decode cX1_lambda_apart_5 15 = .ok (.invokevirtual 143, 3) := dk_182 0 143 (dk_at dksX1_lambda_apart_5_0 15 rfl rfl)
theorem dX1_lambda_apart_5_18 : decode cX1_lambda_apart_5 18 = .ok (.if_icmp .eq 7, 3) := dk_159 0 7 (dk_at dksX1_lambda_apart_5_0 18 rfl rfl)
theorem dX1_lambda_apart_5_21 : decode cX1_lambda_apart_5 21 = .ok (.iconst 1, 1) := dk_4 (dk_at dksX1_lambda_apart_5_0 21 rfl rfl)
theorem dX1_lambda_apart_5_22 : decode cX1_lambda_apart_5 22 = .ok (.goto 4, 3) := dk_167 0 4 (dk_at dksX1_lambda_apart_5_1 0 rfl rfl)
theorem dX1_lambda_apart_5_25 : decode cX1_lambda_apart_5 25 = .ok (.iconst 0, 1) := dk_3 (dk_at dksX1_lambda_apart_5_1 3 rfl rfl)
theorem dX1_lambda_apart_5_26 : decode cX1_lambda_apart_5 26 = .ok (.ireturn, 1) := dk_172 (dk_at dksX1_lambda_apart_5_1 4 rfl rfl)
abbrev cX1_reason : ByteArray := prog_1_method_38_code
def yX1_reason : MethodName := ⟨RX1, "reason", "()I"⟩
def dkwX1_reason_0 : List UInt8 := [42, 180, 0, 66, 198, 0, 7, 4, 167, 0, 4, 3, 184, 0, 120, 42, 180, 0, 66, 180, 1, 26, 172]
abbrev dktX1_reason_0 : List UInt8 := dkwX1_reason_0 ++ []
theorem dksX1_reason_0 : cX1_reason.data.toList.drop 0 = dktX1_reason_0 := by decide +kernel
theorem dX1_reason_0 : decode cX1_reason 0 = .ok (.aload_n 0, 1) := dk_42 (dk_at dksX1_reason_0 0 rfl rfl)
theorem dX1_reason_1 : decode cX1_reason 1 = .ok (.getfield 66, 3) := dk_180 0 66 (dk_at dksX1_reason_0 1 rfl rfl)
theorem dX1_reason_4 : decode cX1_reason 4 = .ok (.ifnull 7, 3) := dk_198 0 7 (dk_at dksX1_reason_0 4 rfl rfl)
theorem dX1_reason_7 : decode cX1_reason 7 = .ok (.iconst 1, 1) := dk_4 (dk_at dksX1_reason_0 7 rfl rfl)
theorem dX1_reason_8 : decode cX1_reason 8 = .ok (.goto 4, 3) := dk_167 0 4 (dk_at dksX1_reason_0 8 rfl rfl)
theorem dX1_reason_11 : decode cX1_reason 11 = .ok (.iconst 0, 1) := dk_3 (dk_at dksX1_reason_0 11 rfl rfl)
theorem dX1_reason_12 : decode cX1_reason 12 = .ok (.invokestatic 120, 3) := dk_184 0 120 (dk_at dksX1_reason_0 12 rfl rfl)
theorem dX1_reason_15 : decode cX1_reason 15 = .ok (.aload_n 0, 1) := dk_42 (dk_at dksX1_reason_0 15 rfl rfl)
theorem dX1_reason_16 : decode cX1_reason 16 = .ok (.getfield 66, 3) := dk_180 0 66 (dk_at dksX1_reason_0 16 rfl rfl)
theorem dX1_reason_19 : decode cX1_reason 19 = .ok (.getfield 282, 3) := dk_180 1 26 (dk_at dksX1_reason_0 19 rfl rfl)
theorem dX1_reason_22 : decode cX1_reason 22 = .ok (.ireturn, 1) := dk_172 (dk_at dksX1_reason_0 22 rfl rfl)
abbrev cX1_go : ByteArray := prog_1_method_40_code
def yX1_go : MethodName := ⟨RX1, "go", "()I"⟩
def dkwX1_go_0 : List UInt8 := [42, 3, 182, 1, 35, 172]
abbrev dktX1_go_0 : List UInt8 := dkwX1_go_0 ++ []
theorem dksX1_go_0 : cX1_go.data.toList.drop 0 = dktX1_go_0 := by decide +kernel
theorem dX1_go_0 : decode cX1_go 0 = .ok (.aload_n 0, 1) := dk_42 (dk_at dksX1_go_0 0 rfl rfl)
theorem dX1_go_1 : decode cX1_go 1 = .ok (.iconst 0, 1) := dk_3 (dk_at dksX1_go_0 1 rfl rfl)
theorem dX1_go_2 : decode cX1_go 2 = .ok (.invokevirtual 291, 3) := dk_182 1 35 (dk_at dksX1_go_0 2 rfl rfl)
theorem dX1_go_5 : decode cX1_go 5 = .ok (.ireturn, 1) := dk_172 (dk_at dksX1_go_0 5 rfl rfl)
abbrev cX1_steps : ByteArray := prog_1_method_39_code
def yX1_steps : MethodName := ⟨RX1, "steps", "(Z)I"⟩
def dkwX1_steps_1 : List UInt8 := [42, 44, 182, 0, 101, 29, 172, 78, 42, 45, 182, 0, 116, 191]
abbrev dktX1_steps_1 : List UInt8 := dkwX1_steps_1 ++ []
def dkwX1_steps_0 : List UInt8 := [42, 180, 0, 35, 182, 0, 94, 77, 27, 153, 0, 10, 44, 182, 1, 29, 167, 0, 7, 44, 182, 1, 32, 62]
abbrev dktX1_steps_0 : List UInt8 := dkwX1_steps_0 ++ dktX1_steps_1
theorem dksX1_steps_0 : cX1_steps.data.toList.drop 0 = dktX1_steps_0 := by decide +kernel
theorem dksX1_steps_1 : cX1_steps.data.toList.drop 24 = dktX1_steps_1 := dk_seg dksX1_steps_0 24 rfl rfl
theorem dX1_steps_0 : decode cX1_steps 0 = .ok (.aload_n 0, 1) := dk_42 (dk_at dksX1_steps_0 0 rfl rfl)
theorem dX1_steps_1 : decode cX1_steps 1 = .ok (.getfield 35, 3) := dk_180 0 35 (dk_at dksX1_steps_0 1 rfl rfl)
theorem dX1_steps_4 : decode cX1_steps 4 = .ok (.invokevirtual 94, 3) := dk_182 0 94 (dk_at dksX1_steps_0 4 rfl rfl)
theorem dX1_steps_7 : decode cX1_steps 7 = .ok (.astore_n 2, 1) := dk_77 (dk_at dksX1_steps_0 7 rfl rfl)
theorem dX1_steps_8 : decode cX1_steps 8 = .ok (.iload_n 1, 1) := dk_27 (dk_at dksX1_steps_0 8 rfl rfl)
theorem dX1_steps_9 : decode cX1_steps 9 = .ok (.ifCond .eq 10, 3) := dk_153 0 10 (dk_at dksX1_steps_0 9 rfl rfl)
theorem dX1_steps_12 : decode cX1_steps 12 = .ok (.aload_n 2, 1) := dk_44 (dk_at dksX1_steps_0 12 rfl rfl)
theorem dX1_steps_13 : decode cX1_steps 13 = .ok (.invokevirtual 285, 3) := dk_182 1 29 (dk_at dksX1_steps_0 13 rfl rfl)
theorem dX1_steps_16 : decode cX1_steps 16 = .ok (.goto 7, 3) := dk_167 0 7 (dk_at dksX1_steps_0 16 rfl rfl)
theorem dX1_steps_19 : decode cX1_steps 19 = .ok (.aload_n 2, 1) := dk_44 (dk_at dksX1_steps_0 19 rfl rfl)
theorem dX1_steps_20 : decode cX1_steps 20 = .ok (.invokevirtual 288, 3) := dk_182 1 32 (dk_at dksX1_steps_0 20 rfl rfl)
theorem dX1_steps_23 : decode cX1_steps 23 = .ok (.istore_n 3, 1) := dk_62 (dk_at dksX1_steps_0 23 rfl rfl)
theorem dX1_steps_24 : decode cX1_steps 24 = .ok (.aload_n 0, 1) := dk_42 (dk_at dksX1_steps_1 0 rfl rfl)
theorem dX1_steps_25 : decode cX1_steps 25 = .ok (.aload_n 2, 1) := dk_44 (dk_at dksX1_steps_1 1 rfl rfl)
theorem dX1_steps_26 : decode cX1_steps 26 = .ok (.invokevirtual 101, 3) := dk_182 0 101 (dk_at dksX1_steps_1 2 rfl rfl)
theorem dX1_steps_29 : decode cX1_steps 29 = .ok (.iload_n 3, 1) := dk_29 (dk_at dksX1_steps_1 5 rfl rfl)
theorem dX1_steps_30 : decode cX1_steps 30 = .ok (.ireturn, 1) := dk_172 (dk_at dksX1_steps_1 6 rfl rfl)
theorem dX1_steps_31 : decode cX1_steps 31 = .ok (.astore_n 3, 1) := dk_78 (dk_at dksX1_steps_1 7 rfl rfl)
theorem dX1_steps_32 : decode cX1_steps 32 = .ok (.aload_n 0, 1) := dk_42 (dk_at dksX1_steps_1 8 rfl rfl)
theorem dX1_steps_33 : decode cX1_steps 33 = .ok (.aload_n 3, 1) := dk_45 (dk_at dksX1_steps_1 9 rfl rfl)
theorem dX1_steps_34 : decode cX1_steps 34 = .ok (.invokevirtual 116, 3) := dk_182 0 116 (dk_at dksX1_steps_1 10 rfl rfl)
theorem dX1_steps_37 : decode cX1_steps 37 = .ok (.athrow, 1) := dk_191 (dk_at dksX1_steps_1 13 rfl rfl)
abbrev cX1_back : ByteArray := prog_1_method_41_code
def yX1_back : MethodName := ⟨RX1, "back", "()I"⟩
def dkwX1_back_0 : List UInt8 := [42, 4, 182, 1, 35, 172]
abbrev dktX1_back_0 : List UInt8 := dkwX1_back_0 ++ []
theorem dksX1_back_0 : cX1_back.data.toList.drop 0 = dktX1_back_0 := by decide +kernel
theorem dX1_back_0 : decode cX1_back 0 = .ok (.aload_n 0, 1) := dk_42 (dk_at dksX1_back_0 0 rfl rfl)
theorem dX1_back_1 : decode cX1_back 1 = .ok (.iconst 1, 1) := dk_4 (dk_at dksX1_back_0 1 rfl rfl)
theorem dX1_back_2 : decode cX1_back 2 = .ok (.invokevirtual 291, 3) := dk_182 1 35 (dk_at dksX1_back_0 2 rfl rfl)
theorem dX1_back_5 : decode cX1_back 5 = .ok (.ireturn, 1) := dk_172 (dk_at dksX1_back_0 5 rfl rfl)
abbrev cX1_jump : ByteArray := prog_1_method_42_code
def yX1_jump : MethodName := ⟨RX1, "jump", "(I)I"⟩
def dkwX1_jump_1 : List UInt8 := [28, 182, 1, 39, 172]
abbrev dktX1_jump_1 : List UInt8 := dkwX1_jump_1 ++ []
def dkwX1_jump_0 : List UInt8 := [42, 180, 0, 35, 27, 182, 0, 105, 61, 42, 180, 0, 42, 42, 180, 0, 35, 182, 0, 62, 42, 180, 0, 35]
abbrev dktX1_jump_0 : List UInt8 := dkwX1_jump_0 ++ dktX1_jump_1
theorem dksX1_jump_0 : cX1_jump.data.toList.drop 0 = dktX1_jump_0 := by decide +kernel
theorem dksX1_jump_1 : cX1_jump.data.toList.drop 24 = dktX1_jump_1 := dk_seg dksX1_jump_0 24 rfl rfl
theorem dX1_jump_0 : decode cX1_jump 0 = .ok (.aload_n 0, 1) := dk_42 (dk_at dksX1_jump_0 0 rfl rfl)
theorem dX1_jump_1 : decode cX1_jump 1 = .ok (.getfield 35, 3) := dk_180 0 35 (dk_at dksX1_jump_0 1 rfl rfl)
theorem dX1_jump_4 : decode cX1_jump 4 = .ok (.iload_n 1, 1) := dk_27 (dk_at dksX1_jump_0 4 rfl rfl)
theorem dX1_jump_5 : decode cX1_jump 5 = .ok (.invokevirtual 105, 3) := dk_182 0 105 (dk_at dksX1_jump_0 5 rfl rfl)
theorem dX1_jump_8 : decode cX1_jump 8 = .ok (.istore_n 2, 1) := dk_61 (dk_at dksX1_jump_0 8 rfl rfl)
theorem dX1_jump_9 : decode cX1_jump 9 = .ok (.aload_n 0, 1) := dk_42 (dk_at dksX1_jump_0 9 rfl rfl)
theorem dX1_jump_10 : decode cX1_jump 10 = .ok (.getfield 42, 3) := dk_180 0 42 (dk_at dksX1_jump_0 10 rfl rfl)
theorem dX1_jump_13 : decode cX1_jump 13 = .ok (.aload_n 0, 1) := dk_42 (dk_at dksX1_jump_0 13 rfl rfl)
theorem dX1_jump_14 : decode cX1_jump 14 = .ok (.getfield 35, 3) := dk_180 0 35 (dk_at dksX1_jump_0 14 rfl rfl)
theorem dX1_jump_17 : decode cX1_jump 17 = .ok (.invokevirtual 62, 3) := dk_182 0 62 (dk_at dksX1_jump_0 17 rfl rfl)
theorem dX1_jump_20 : decode cX1_jump 20 = .ok (.aload_n 0, 1) := dk_42 (dk_at dksX1_jump_0 20 rfl rfl)
theorem dX1_jump_21 : decode cX1_jump 21 = .ok (.getfield 35, 3) := dk_180 0 35 (dk_at dksX1_jump_0 21 rfl rfl)
theorem dX1_jump_24 : decode cX1_jump 24 = .ok (.iload_n 2, 1) := dk_28 (dk_at dksX1_jump_1 0 rfl rfl)
theorem dX1_jump_25 : decode cX1_jump 25 = .ok (.invokevirtual 295, 3) := dk_182 1 39 (dk_at dksX1_jump_1 1 rfl rfl)
theorem dX1_jump_28 : decode cX1_jump 28 = .ok (.ireturn, 1) := dk_172 (dk_at dksX1_jump_1 4 rfl rfl)
abbrev cX1_pass : ByteArray := prog_1_method_43_code
def yX1_pass : MethodName := ⟨RX1, "pass", "(I)I"⟩
def dkwX1_pass_2 : List UInt8 := [180, 0, 35, 27, 182, 1, 49, 172]
abbrev dktX1_pass_2 : List UInt8 := dkwX1_pass_2 ++ []
def dkwX1_pass_1 : List UInt8 := [163, 0, 7, 4, 167, 0, 4, 3, 184, 1, 46, 42, 180, 0, 42, 42, 180, 0, 35, 182, 0, 62, 42]
abbrev dktX1_pass_1 : List UInt8 := dkwX1_pass_1 ++ dktX1_pass_2
def dkwX1_pass_0 : List UInt8 := [27, 3, 17, 23, 112, 184, 0, 73, 184, 0, 140, 42, 180, 0, 35, 180, 1, 42, 27, 96, 19, 1, 45]
abbrev dktX1_pass_0 : List UInt8 := dkwX1_pass_0 ++ dktX1_pass_1
theorem dksX1_pass_0 : cX1_pass.data.toList.drop 0 = dktX1_pass_0 := by decide +kernel
theorem dksX1_pass_1 : cX1_pass.data.toList.drop 23 = dktX1_pass_1 := dk_seg dksX1_pass_0 23 rfl rfl
theorem dksX1_pass_2 : cX1_pass.data.toList.drop 46 = dktX1_pass_2 := dk_seg dksX1_pass_1 23 rfl rfl
theorem dX1_pass_0 : decode cX1_pass 0 = .ok (.iload_n 1, 1) := dk_27 (dk_at dksX1_pass_0 0 rfl rfl)
theorem dX1_pass_1 : decode cX1_pass 1 = .ok (.iconst 0, 1) := dk_3 (dk_at dksX1_pass_0 1 rfl rfl)
theorem dX1_pass_2 : decode cX1_pass 2 = .ok (.sipush 6000, 3) := dk_17 23 112 (dk_at dksX1_pass_0 2 rfl rfl)
theorem dX1_pass_5 : decode cX1_pass 5 = .ok (.invokestatic 73, 3) := dk_184 0 73 (dk_at dksX1_pass_0 5 rfl rfl)
theorem dX1_pass_8 : decode cX1_pass 8 = .ok (.invokestatic 140, 3) := dk_184 0 140 (dk_at dksX1_pass_0 8 rfl rfl)
theorem dX1_pass_11 : decode cX1_pass 11 = .ok (.aload_n 0, 1) := dk_42 (dk_at dksX1_pass_0 11 rfl rfl)
theorem dX1_pass_12 : decode cX1_pass 12 = .ok (.getfield 35, 3) := dk_180 0 35 (dk_at dksX1_pass_0 12 rfl rfl)
theorem dX1_pass_15 : decode cX1_pass 15 = .ok (.getfield 298, 3) := dk_180 1 42 (dk_at dksX1_pass_0 15 rfl rfl)
theorem dX1_pass_18 : decode cX1_pass 18 = .ok (.iload_n 1, 1) := dk_27 (dk_at dksX1_pass_0 18 rfl rfl)
theorem dX1_pass_19 : decode cX1_pass 19 = .ok (.iadd, 1) := dk_96 (dk_at dksX1_pass_0 19 rfl rfl)
theorem dX1_pass_20 : decode cX1_pass 20 = .ok (.ldc_w 301, 3) := dk_19 1 45 (dk_at dksX1_pass_0 20 rfl rfl)
theorem dX1_pass_23 : decode cX1_pass 23 = .ok (.if_icmp .gt 7, 3) := dk_163 0 7 (dk_at dksX1_pass_1 0 rfl rfl)
theorem dX1_pass_26 : decode cX1_pass 26 = .ok (.iconst 1, 1) := dk_4 (dk_at dksX1_pass_1 3 rfl rfl)
theorem dX1_pass_27 : decode cX1_pass 27 = .ok (.goto 4, 3) := dk_167 0 4 (dk_at dksX1_pass_1 4 rfl rfl)
theorem dX1_pass_30 : decode cX1_pass 30 = .ok (.iconst 0, 1) := dk_3 (dk_at dksX1_pass_1 7 rfl rfl)
theorem dX1_pass_31 : decode cX1_pass 31 = .ok (.invokestatic 302, 3) := dk_184 1 46 (dk_at dksX1_pass_1 8 rfl rfl)
theorem dX1_pass_34 : decode cX1_pass 34 = .ok (.aload_n 0, 1) := dk_42 (dk_at dksX1_pass_1 11 rfl rfl)
theorem dX1_pass_35 : decode cX1_pass 35 = .ok (.getfield 42, 3) := dk_180 0 42 (dk_at dksX1_pass_1 12 rfl rfl)
theorem dX1_pass_38 : decode cX1_pass 38 = .ok (.aload_n 0, 1) := dk_42 (dk_at dksX1_pass_1 15 rfl rfl)
theorem dX1_pass_39 : decode cX1_pass 39 = .ok (.getfield 35, 3) := dk_180 0 35 (dk_at dksX1_pass_1 16 rfl rfl)
theorem dX1_pass_42 : decode cX1_pass 42 = .ok (.invokevirtual 62, 3) := dk_182 0 62 (dk_at dksX1_pass_1 19 rfl rfl)
theorem dX1_pass_45 : decode cX1_pass 45 = .ok (.aload_n 0, 1) := dk_42 (dk_at dksX1_pass_1 22 rfl rfl)
theorem dX1_pass_46 : decode cX1_pass 46 = .ok (.getfield 35, 3) := dk_180 0 35 (dk_at dksX1_pass_2 0 rfl rfl)
theorem dX1_pass_49 : decode cX1_pass 49 = .ok (.iload_n 1, 1) := dk_27 (dk_at dksX1_pass_2 3 rfl rfl)
theorem dX1_pass_50 : decode cX1_pass 50 = .ok (.invokevirtual 305, 3) := dk_182 1 49 (dk_at dksX1_pass_2 4 rfl rfl)
theorem dX1_pass_53 : decode cX1_pass 53 = .ok (.ireturn, 1) := dk_172 (dk_at dksX1_pass_2 7 rfl rfl)
abbrev cX1_now : ByteArray := prog_1_method_44_code
def yX1_now : MethodName := ⟨RX1, "now", "(I)I"⟩
def dkwX1_now_0 : List UInt8 := [27, 184, 0, 205, 42, 180, 0, 35, 180, 1, 52, 27, 182, 0, 123, 192, 1, 55, 182, 1, 57, 172]
abbrev dktX1_now_0 : List UInt8 := dkwX1_now_0 ++ []
theorem dksX1_now_0 : cX1_now.data.toList.drop 0 = dktX1_now_0 := by decide +kernel
theorem dX1_now_0 : decode cX1_now 0 = .ok (.iload_n 1, 1) := dk_27 (dk_at dksX1_now_0 0 rfl rfl)
theorem dX1_now_1 : decode cX1_now 1 = .ok (.invokestatic 205, 3) := dk_184 0 205 (dk_at dksX1_now_0 1 rfl rfl)
theorem dX1_now_4 : decode cX1_now 4 = .ok (.aload_n 0, 1) := dk_42 (dk_at dksX1_now_0 4 rfl rfl)
theorem dX1_now_5 : decode cX1_now 5 = .ok (.getfield 35, 3) := dk_180 0 35 (dk_at dksX1_now_0 5 rfl rfl)
theorem dX1_now_8 : decode cX1_now 8 = .ok (.getfield 308, 3) := dk_180 1 52 (dk_at dksX1_now_0 8 rfl rfl)
theorem dX1_now_11 : decode cX1_now 11 = .ok (.iload_n 1, 1) := dk_27 (dk_at dksX1_now_0 11 rfl rfl)
theorem dX1_now_12 : decode cX1_now 12 = .ok (.invokevirtual 123, 3) := dk_182 0 123 (dk_at dksX1_now_0 12 rfl rfl)
theorem dX1_now_15 : decode cX1_now 15 = .ok (.checkcast 311, 3) := dk_192 1 55 (dk_at dksX1_now_0 15 rfl rfl)
theorem dX1_now_18 : decode cX1_now 18 = .ok (.invokevirtual 313, 3) := dk_182 1 57 (dk_at dksX1_now_0 18 rfl rfl)
theorem dX1_now_21 : decode cX1_now 21 = .ok (.ireturn, 1) := dk_172 (dk_at dksX1_now_0 21 rfl rfl)
abbrev cX1_target : ByteArray := prog_1_method_45_code
def yX1_target : MethodName := ⟨RX1, "target", "(I)I"⟩
def dkwX1_target_0 : List UInt8 := [27, 184, 0, 205, 42, 180, 0, 35, 180, 1, 52, 27, 182, 0, 123, 192, 1, 55, 180, 1, 60, 172]
abbrev dktX1_target_0 : List UInt8 := dkwX1_target_0 ++ []
theorem dksX1_target_0 : cX1_target.data.toList.drop 0 = dktX1_target_0 := by decide +kernel
theorem dX1_target_0 : decode cX1_target 0 = .ok (.iload_n 1, 1) := dk_27 (dk_at dksX1_target_0 0 rfl rfl)
theorem dX1_target_1 : decode cX1_target 1 = .ok (.invokestatic 205, 3) := dk_184 0 205 (dk_at dksX1_target_0 1 rfl rfl)
theorem dX1_target_4 : decode cX1_target 4 = .ok (.aload_n 0, 1) := dk_42 (dk_at dksX1_target_0 4 rfl rfl)
theorem dX1_target_5 : decode cX1_target 5 = .ok (.getfield 35, 3) := dk_180 0 35 (dk_at dksX1_target_0 5 rfl rfl)
theorem dX1_target_8 : decode cX1_target 8 = .ok (.getfield 308, 3) := dk_180 1 52 (dk_at dksX1_target_0 8 rfl rfl)
theorem dX1_target_11 : decode cX1_target 11 = .ok (.iload_n 1, 1) := dk_27 (dk_at dksX1_target_0 11 rfl rfl)
theorem dX1_target_12 : decode cX1_target 12 = .ok (.invokevirtual 123, 3) := dk_182 0 123 (dk_at dksX1_target_0 12 rfl rfl)
theorem dX1_target_15 : decode cX1_target 15 = .ok (.checkcast 311, 3) := dk_192 1 55 (dk_at dksX1_target_0 15 rfl rfl)
theorem dX1_target_18 : decode cX1_target 18 = .ok (.getfield 316, 3) := dk_180 1 60 (dk_at dksX1_target_0 18 rfl rfl)
theorem dX1_target_21 : decode cX1_target 21 = .ok (.ireturn, 1) := dk_172 (dk_at dksX1_target_0 21 rfl rfl)
abbrev cX1_playing : ByteArray := prog_1_method_47_code
def yX1_playing : MethodName := ⟨RX1, "playing", "(I)I"⟩
def dkwX1_playing_6 : List UInt8 := [182, 1, 78, 42, 180, 0, 35, 180, 1, 69, 100, 184, 0, 191, 172]
abbrev dktX1_playing_6 : List UInt8 := dkwX1_playing_6 ++ []
def dkwX1_playing_5 : List UInt8 := [182, 1, 75, 172, 42, 180, 0, 35, 182, 1, 78, 2, 160, 0, 7, 2, 167, 0, 22, 4, 42, 180, 0, 35]
abbrev dktX1_playing_5 : List UInt8 := dkwX1_playing_5 ++ dktX1_playing_6
def dkwX1_playing_4 : List UInt8 := [167, 0, 20, 42, 180, 0, 35, 180, 0, 81, 28, 182, 0, 123, 192, 0, 127, 180, 0, 129, 172, 42]
abbrev dktX1_playing_4 : List UInt8 := dkwX1_playing_4 ++ dktX1_playing_5
def dkwX1_playing_3 : List UInt8 := [180, 1, 66, 182, 1, 72, 61, 28, 42, 180, 0, 35, 180, 0, 81, 182, 0, 85, 160, 0, 7, 3]
abbrev dktX1_playing_3 : List UInt8 := dkwX1_playing_3 ++ dktX1_playing_4
def dkwX1_playing_2 : List UInt8 := [42, 180, 0, 35, 180, 1, 66, 172, 42, 180, 0, 35, 180, 1, 69, 172, 42, 180, 0, 35, 42, 180, 0, 35]
abbrev dktX1_playing_2 : List UInt8 := dkwX1_playing_2 ++ dktX1_playing_3
def dkwX1_playing_1 : List UInt8 := [170, 0, 0, 0, 0, 102, 0, 0, 0, 0, 0, 0, 0, 3, 0, 0, 0, 30, 0, 0, 0, 38, 0, 0, 0, 46, 0, 0, 0, 97]
abbrev dktX1_playing_1 : List UInt8 := dkwX1_playing_1 ++ dktX1_playing_2
def dkwX1_playing_0 : List UInt8 := [27, 3, 7, 184, 0, 73, 184, 0, 140, 27]
abbrev dktX1_playing_0 : List UInt8 := dkwX1_playing_0 ++ dktX1_playing_1
theorem dksX1_playing_0 : cX1_playing.data.toList.drop 0 = dktX1_playing_0 := by decide +kernel
theorem dksX1_playing_1 : cX1_playing.data.toList.drop 10 = dktX1_playing_1 := dk_seg dksX1_playing_0 10 rfl rfl
theorem dksX1_playing_2 : cX1_playing.data.toList.drop 40 = dktX1_playing_2 := dk_seg dksX1_playing_1 30 rfl rfl
theorem dksX1_playing_3 : cX1_playing.data.toList.drop 64 = dktX1_playing_3 := dk_seg dksX1_playing_2 24 rfl rfl
theorem dksX1_playing_4 : cX1_playing.data.toList.drop 86 = dktX1_playing_4 := dk_seg dksX1_playing_3 22 rfl rfl
theorem dksX1_playing_5 : cX1_playing.data.toList.drop 108 = dktX1_playing_5 := dk_seg dksX1_playing_4 22 rfl rfl
theorem dksX1_playing_6 : cX1_playing.data.toList.drop 132 = dktX1_playing_6 := dk_seg dksX1_playing_5 24 rfl rfl
theorem dX1_playing_0 : decode cX1_playing 0 = .ok (.iload_n 1, 1) := dk_27 (dk_at dksX1_playing_0 0 rfl rfl)
theorem dX1_playing_1 : decode cX1_playing 1 = .ok (.iconst 0, 1) := dk_3 (dk_at dksX1_playing_0 1 rfl rfl)
theorem dX1_playing_2 : decode cX1_playing 2 = .ok (.iconst 4, 1) := dk_7 (dk_at dksX1_playing_0 2 rfl rfl)
theorem dX1_playing_3 : decode cX1_playing 3 = .ok (.invokestatic 73, 3) := dk_184 0 73 (dk_at dksX1_playing_0 3 rfl rfl)
theorem dX1_playing_6 : decode cX1_playing 6 = .ok (.invokestatic 140, 3) := dk_184 0 140 (dk_at dksX1_playing_0 6 rfl rfl)
theorem dX1_playing_9 : decode cX1_playing 9 = .ok (.iload_n 1, 1) := dk_27 (dk_at dksX1_playing_0 9 rfl rfl)
theorem dX1_playing_10 : decode cX1_playing 10 = .ok (.tableswitch 102 0 3 #[30, 38, 46, 97], 30) := by decide +kernel
theorem dX1_playing_40 : decode cX1_playing 40 = .ok (.aload_n 0, 1) := dk_42 (dk_at dksX1_playing_2 0 rfl rfl)
theorem dX1_playing_41 : decode cX1_playing 41 = .ok (.getfield 35, 3) := dk_180 0 35 (dk_at dksX1_playing_2 1 rfl rfl)
theorem dX1_playing_44 : decode cX1_playing 44 = .ok (.getfield 322, 3) := dk_180 1 66 (dk_at dksX1_playing_2 4 rfl rfl)
theorem dX1_playing_47 : decode cX1_playing 47 = .ok (.ireturn, 1) := dk_172 (dk_at dksX1_playing_2 7 rfl rfl)
theorem dX1_playing_48 : decode cX1_playing 48 = .ok (.aload_n 0, 1) := dk_42 (dk_at dksX1_playing_2 8 rfl rfl)
theorem dX1_playing_49 : decode cX1_playing 49 = .ok (.getfield 35, 3) := dk_180 0 35 (dk_at dksX1_playing_2 9 rfl rfl)
theorem dX1_playing_52 : decode cX1_playing 52 = .ok (.getfield 325, 3) := dk_180 1 69 (dk_at dksX1_playing_2 12 rfl rfl)
theorem dX1_playing_55 : decode cX1_playing 55 = .ok (.ireturn, 1) := dk_172 (dk_at dksX1_playing_2 15 rfl rfl)
theorem dX1_playing_56 : decode cX1_playing 56 = .ok (.aload_n 0, 1) := dk_42 (dk_at dksX1_playing_2 16 rfl rfl)
theorem dX1_playing_57 : decode cX1_playing 57 = .ok (.getfield 35, 3) := dk_180 0 35 (dk_at dksX1_playing_2 17 rfl rfl)
theorem dX1_playing_60 : decode cX1_playing 60 = .ok (.aload_n 0, 1) := dk_42 (dk_at dksX1_playing_2 20 rfl rfl)
theorem dX1_playing_61 : decode cX1_playing 61 = .ok (.getfield 35, 3) := dk_180 0 35 (dk_at dksX1_playing_2 21 rfl rfl)
theorem dX1_playing_64 : decode cX1_playing 64 = .ok (.getfield 322, 3) := dk_180 1 66 (dk_at dksX1_playing_3 0 rfl rfl)
theorem dX1_playing_67 : decode cX1_playing 67 = .ok (.invokevirtual 328, 3) := dk_182 1 72 (dk_at dksX1_playing_3 3 rfl rfl)
theorem dX1_playing_70 : decode cX1_playing 70 = .ok (.istore_n 2, 1) := dk_61 (dk_at dksX1_playing_3 6 rfl rfl)
theorem dX1_playing_71 : decode cX1_playing 71 = .ok (.iload_n 2, 1) := dk_28 (dk_at dksX1_playing_3 7 rfl rfl)
theorem dX1_playing_72 : decode cX1_playing 72 = .ok (.aload_n 0, 1) := dk_42 (dk_at dksX1_playing_3 8 rfl rfl)
theorem dX1_playing_73 : decode cX1_playing 73 = .ok (.getfield 35, 3) := dk_180 0 35 (dk_at dksX1_playing_3 9 rfl rfl)
theorem dX1_playing_76 : decode cX1_playing 76 = .ok (.getfield 81, 3) := dk_180 0 81 (dk_at dksX1_playing_3 12 rfl rfl)
theorem dX1_playing_79 : decode cX1_playing 79 = .ok (.invokevirtual 85, 3) := dk_182 0 85 (dk_at dksX1_playing_3 15 rfl rfl)
theorem dX1_playing_82 : decode cX1_playing 82 = .ok (.if_icmp .ne 7, 3) := dk_160 0 7 (dk_at dksX1_playing_3 18 rfl rfl)
theorem dX1_playing_85 : decode cX1_playing 85 = .ok (.iconst 0, 1) := dk_3 (dk_at dksX1_playing_3 21 rfl rfl)
theorem dX1_playing_86 : decode cX1_playing 86 = .ok (.goto 20, 3) := dk_167 0 20 (dk_at dksX1_playing_4 0 rfl rfl)
theorem dX1_playing_89 : decode cX1_playing 89 = .ok (.aload_n 0, 1) := dk_42 (dk_at dksX1_playing_4 3 rfl rfl)
theorem dX1_playing_90 : decode cX1_playing 90 = .ok (.getfield 35, 3) := dk_180 0 35 (dk_at dksX1_playing_4 4 rfl rfl)
theorem dX1_playing_93 : decode cX1_playing 93 = .ok (.getfield 81, 3) := dk_180 0 81 (dk_at dksX1_playing_4 7 rfl rfl)
theorem dX1_playing_96 : decode cX1_playing 96 = .ok (.iload_n 2, 1) := dk_28 (dk_at dksX1_playing_4 10 rfl rfl)
theorem dX1_playing_97 : decode cX1_playing 97 = .ok (.invokevirtual 123, 3) := dk_182 0 123 (dk_at dksX1_playing_4 11 rfl rfl)
theorem dX1_playing_100 : decode cX1_playing 100 = .ok (.checkcast 127, 3) := dk_192 0 127 (dk_at dksX1_playing_4 14 rfl rfl)
theorem dX1_playing_103 : decode cX1_playing 103 = .ok (.getfield 129, 3) := dk_180 0 129 (dk_at dksX1_playing_4 17 rfl rfl)
theorem dX1_playing_106 : decode cX1_playing 106 = .ok (.ireturn, 1) := dk_172 (dk_at dksX1_playing_4 20 rfl rfl)
theorem dX1_playing_107 : decode cX1_playing 107 = .ok (.aload_n 0, 1) := dk_42 (dk_at dksX1_playing_4 21 rfl rfl)
theorem dX1_playing_108 : decode cX1_playing 108 = .ok (.invokevirtual 331, 3) := dk_182 1 75 (dk_at dksX1_playing_5 0 rfl rfl)
theorem dX1_playing_111 : decode cX1_playing 111 = .ok (.ireturn, 1) := dk_172 (dk_at dksX1_playing_5 3 rfl rfl)
theorem dX1_playing_112 : decode cX1_playing 112 = .ok (.aload_n 0, 1) := dk_42 (dk_at dksX1_playing_5 4 rfl rfl)
theorem dX1_playing_113 : decode cX1_playing 113 = .ok (.getfield 35, 3) := dk_180 0 35 (dk_at dksX1_playing_5 5 rfl rfl)
theorem dX1_playing_116 : decode cX1_playing 116 = .ok (.invokevirtual 334, 3) := dk_182 1 78 (dk_at dksX1_playing_5 8 rfl rfl)
theorem dX1_playing_119 : decode cX1_playing 119 = .ok (.iconst (-1), 1) := dk_2 (dk_at dksX1_playing_5 11 rfl rfl)
theorem dX1_playing_120 : decode cX1_playing 120 = .ok (.if_icmp .ne 7, 3) := dk_160 0 7 (dk_at dksX1_playing_5 12 rfl rfl)
theorem dX1_playing_123 : decode cX1_playing 123 = .ok (.iconst (-1), 1) := dk_2 (dk_at dksX1_playing_5 15 rfl rfl)
theorem dX1_playing_124 : decode cX1_playing 124 = .ok (.goto 22, 3) := dk_167 0 22 (dk_at dksX1_playing_5 16 rfl rfl)
theorem dX1_playing_127 : decode cX1_playing 127 = .ok (.iconst 1, 1) := dk_4 (dk_at dksX1_playing_5 19 rfl rfl)
theorem dX1_playing_128 : decode cX1_playing 128 = .ok (.aload_n 0, 1) := dk_42 (dk_at dksX1_playing_5 20 rfl rfl)
theorem dX1_playing_129 : decode cX1_playing 129 = .ok (.getfield 35, 3) := dk_180 0 35 (dk_at dksX1_playing_5 21 rfl rfl)
theorem dX1_playing_132 : decode cX1_playing 132 = .ok (.invokevirtual 334, 3) := dk_182 1 78 (dk_at dksX1_playing_6 0 rfl rfl)
theorem dX1_playing_135 : decode cX1_playing 135 = .ok (.aload_n 0, 1) := dk_42 (dk_at dksX1_playing_6 3 rfl rfl)
theorem dX1_playing_136 : decode cX1_playing 136 = .ok (.getfield 35, 3) := dk_180 0 35 (dk_at dksX1_playing_6 4 rfl rfl)
theorem dX1_playing_139 : decode cX1_playing 139 = .ok (.getfield 325, 3) := dk_180 1 69 (dk_at dksX1_playing_6 7 rfl rfl)
theorem dX1_playing_142 : decode cX1_playing 142 = .ok (.isub, 1) := dk_100 (dk_at dksX1_playing_6 10 rfl rfl)
theorem dX1_playing_143 : decode cX1_playing 143 = .ok (.invokestatic 191, 3) := dk_184 0 191 (dk_at dksX1_playing_6 11 rfl rfl)
theorem dX1_playing_146 : decode cX1_playing 146 = .ok (.ireturn, 1) := dk_172 (dk_at dksX1_playing_6 14 rfl rfl)
abbrev cX1_fading : ByteArray := prog_1_method_46_code
def yX1_fading : MethodName := ⟨RX1, "fading", "()I"⟩
def dkwX1_fading_0 : List UInt8 := [42, 186, 1, 63, 0, 0, 184, 0, 158, 172]
abbrev dktX1_fading_0 : List UInt8 := dkwX1_fading_0 ++ []
theorem dksX1_fading_0 : cX1_fading.data.toList.drop 0 = dktX1_fading_0 := by decide +kernel
theorem dX1_fading_0 : decode cX1_fading 0 = .ok (.aload_n 0, 1) := dk_42 (dk_at dksX1_fading_0 0 rfl rfl)
theorem dX1_fading_1 : decode cX1_fading 1 = .ok (.invokedynamic 319, 5) := by decide +kernel
theorem dX1_fading_6 : decode cX1_fading 6 = .ok (.invokestatic 158, 3) := dk_184 0 158 (dk_at dksX1_fading_0 6 rfl rfl)
theorem dX1_fading_9 : decode cX1_fading 9 = .ok (.ireturn, 1) := dk_172 (dk_at dksX1_fading_0 9 rfl rfl)
abbrev cX1_lambda_fading_6 : ByteArray := prog_1_method_62_code
def yX1_lambda_fading_6 : MethodName := ⟨RX1, "lambda$fading$6", "(I)Z"⟩
def dkwX1_lambda_fading_6_0 : List UInt8 := [42, 180, 0, 35, 180, 1, 52, 27, 182, 0, 123, 192, 1, 55, 182, 1, 147, 172]
abbrev dktX1_lambda_fading_6_0 : List UInt8 := dkwX1_lambda_fading_6_0 ++ []
theorem dksX1_lambda_fading_6_0 : cX1_lambda_fading_6.data.toList.drop 0 = dktX1_lambda_fading_6_0 := by decide +kernel
theorem dX1_lambda_fading_6_0 : decode cX1_lambda_fading_6 0 = .ok (.aload_n 0, 1) := dk_42 (dk_at dksX1_lambda_fading_6_0 0 rfl rfl)
theorem dX1_lambda_fading_6_1 : decode cX1_lambda_fading_6 1 = .ok (.getfield 35, 3) := dk_180 0 35 (dk_at dksX1_lambda_fading_6_0 1 rfl rfl)
theorem dX1_lambda_fading_6_4 : decode cX1_lambda_fading_6 4 = .ok (.getfield 308, 3) := dk_180 1 52 (dk_at dksX1_lambda_fading_6_0 4 rfl rfl)
theorem dX1_lambda_fading_6_7 : decode cX1_lambda_fading_6 7 = .ok (.iload_n 1, 1) := dk_27 (dk_at dksX1_lambda_fading_6_0 7 rfl rfl)
theorem dX1_lambda_fading_6_8 : decode cX1_lambda_fading_6 8 = .ok (.invokevirtual 123, 3) := dk_182 0 123 (dk_at dksX1_lambda_fading_6_0 8 rfl rfl)
theorem dX1_lambda_fading_6_11 : decode cX1_lambda_fading_6 11 = .ok (.checkcast 311, 3) := dk_192 1 55 (dk_at dksX1_lambda_fading_6_0 11 rfl rfl)
theorem dX1_lambda_fading_6_14 : decode cX1_lambda_fading_6 14 = .ok (.invokevirtual 403, 3) := dk_182 1 147 (dk_at dksX1_lambda_fading_6_0 14 rfl rfl)
theorem dX1_lambda_fading_6_17 : decode cX1_lambda_fading_6 17 = .ok (.ireturn, 1) := dk_172 (dk_at dksX1_lambda_fading_6_0 17 rfl rfl)
abbrev cX1_chain : ByteArray := prog_1_method_48_code
def yX1_chain : MethodName := ⟨RX1, "chain", "(I)I"⟩
def dkwX1_chain_3 : List UInt8 := [167, 255, 196, 28, 172]
abbrev dktX1_chain_3 : List UInt8 := dkwX1_chain_3 ++ []
def dkwX1_chain_2 : List UInt8 := [28, 42, 180, 0, 35, 180, 0, 81, 29, 182, 0, 123, 192, 0, 127, 180, 0, 137, 96, 61, 132, 3, 1]
abbrev dktX1_chain_2 : List UInt8 := dkwX1_chain_2 ++ dktX1_chain_3
def dkwX1_chain_1 : List UInt8 := [162, 0, 50, 42, 180, 0, 35, 180, 0, 81, 29, 182, 0, 123, 192, 0, 127, 180, 0, 137, 2, 159, 0, 29]
abbrev dktX1_chain_1 : List UInt8 := dkwX1_chain_1 ++ dktX1_chain_2
def dkwX1_chain_0 : List UInt8 := [3, 61, 42, 180, 0, 35, 27, 182, 0, 105, 62, 29, 4, 96, 42, 180, 0, 35, 180, 0, 81, 182, 0, 85]
abbrev dktX1_chain_0 : List UInt8 := dkwX1_chain_0 ++ dktX1_chain_1
theorem dksX1_chain_0 : cX1_chain.data.toList.drop 0 = dktX1_chain_0 := by decide +kernel
theorem dksX1_chain_1 : cX1_chain.data.toList.drop 24 = dktX1_chain_1 := dk_seg dksX1_chain_0 24 rfl rfl
theorem dksX1_chain_2 : cX1_chain.data.toList.drop 48 = dktX1_chain_2 := dk_seg dksX1_chain_1 24 rfl rfl
theorem dksX1_chain_3 : cX1_chain.data.toList.drop 71 = dktX1_chain_3 := dk_seg dksX1_chain_2 23 rfl rfl
theorem dX1_chain_0 : decode cX1_chain 0 = .ok (.iconst 0, 1) := dk_3 (dk_at dksX1_chain_0 0 rfl rfl)
theorem dX1_chain_1 : decode cX1_chain 1 = .ok (.istore_n 2, 1) := dk_61 (dk_at dksX1_chain_0 1 rfl rfl)
theorem dX1_chain_2 : decode cX1_chain 2 = .ok (.aload_n 0, 1) := dk_42 (dk_at dksX1_chain_0 2 rfl rfl)
theorem dX1_chain_3 : decode cX1_chain 3 = .ok (.getfield 35, 3) := dk_180 0 35 (dk_at dksX1_chain_0 3 rfl rfl)
theorem dX1_chain_6 : decode cX1_chain 6 = .ok (.iload_n 1, 1) := dk_27 (dk_at dksX1_chain_0 6 rfl rfl)
theorem dX1_chain_7 : decode cX1_chain 7 = .ok (.invokevirtual 105, 3) := dk_182 0 105 (dk_at dksX1_chain_0 7 rfl rfl)
theorem dX1_chain_10 : decode cX1_chain 10 = .ok (.istore_n 3, 1) := dk_62 (dk_at dksX1_chain_0 10 rfl rfl)
theorem dX1_chain_11 : decode cX1_chain 11 = .ok (.iload_n 3, 1) := dk_29 (dk_at dksX1_chain_0 11 rfl rfl)
theorem dX1_chain_12 : decode cX1_chain 12 = .ok (.iconst 1, 1) := dk_4 (dk_at dksX1_chain_0 12 rfl rfl)
theorem dX1_chain_13 : decode cX1_chain 13 = .ok (.iadd, 1) := dk_96 (dk_at dksX1_chain_0 13 rfl rfl)
theorem dX1_chain_14 : decode cX1_chain 14 = .ok (.aload_n 0, 1) := dk_42 (dk_at dksX1_chain_0 14 rfl rfl)
theorem dX1_chain_15 : decode cX1_chain 15 = .ok (.getfield 35, 3) := dk_180 0 35 (dk_at dksX1_chain_0 15 rfl rfl)
theorem dX1_chain_18 : decode cX1_chain 18 = .ok (.getfield 81, 3) := dk_180 0 81 (dk_at dksX1_chain_0 18 rfl rfl)
theorem dX1_chain_21 : decode cX1_chain 21 = .ok (.invokevirtual 85, 3) := dk_182 0 85 (dk_at dksX1_chain_0 21 rfl rfl)
theorem dX1_chain_24 : decode cX1_chain 24 = .ok (.if_icmp .ge 50, 3) := dk_162 0 50 (dk_at dksX1_chain_1 0 rfl rfl)
theorem dX1_chain_27 : decode cX1_chain 27 = .ok (.aload_n 0, 1) := dk_42 (dk_at dksX1_chain_1 3 rfl rfl)
theorem dX1_chain_28 : decode cX1_chain 28 = .ok (.getfield 35, 3) := dk_180 0 35 (dk_at dksX1_chain_1 4 rfl rfl)
theorem dX1_chain_31 : decode cX1_chain 31 = .ok (.getfield 81, 3) := dk_180 0 81 (dk_at dksX1_chain_1 7 rfl rfl)
theorem dX1_chain_34 : decode cX1_chain 34 = .ok (.iload_n 3, 1) := dk_29 (dk_at dksX1_chain_1 10 rfl rfl)
theorem dX1_chain_35 : decode cX1_chain 35 = .ok (.invokevirtual 123, 3) := dk_182 0 123 (dk_at dksX1_chain_1 11 rfl rfl)
theorem dX1_chain_38 : decode cX1_chain 38 = .ok (.checkcast 127, 3) := dk_192 0 127 (dk_at dksX1_chain_1 14 rfl rfl)
theorem dX1_chain_41 : decode cX1_chain 41 = .ok (.getfield 137, 3) := dk_180 0 137 (dk_at dksX1_chain_1 17 rfl rfl)
theorem dX1_chain_44 : decode cX1_chain 44 = .ok (.iconst (-1), 1) := dk_2 (dk_at dksX1_chain_1 20 rfl rfl)
theorem dX1_chain_45 : decode cX1_chain 45 = .ok (.if_icmp .eq 29, 3) := dk_159 0 29 (dk_at dksX1_chain_1 21 rfl rfl)
theorem dX1_chain_48 : decode cX1_chain 48 = .ok (.iload_n 2, 1) := dk_28 (dk_at dksX1_chain_2 0 rfl rfl)
theorem dX1_chain_49 : decode cX1_chain 49 = .ok (.aload_n 0, 1) := dk_42 (dk_at dksX1_chain_2 1 rfl rfl)
theorem dX1_chain_50 : decode cX1_chain 50 = .ok (.getfield 35, 3) := dk_180 0 35 (dk_at dksX1_chain_2 2 rfl rfl)
theorem dX1_chain_53 : decode cX1_chain 53 = .ok (.getfield 81, 3) := dk_180 0 81 (dk_at dksX1_chain_2 5 rfl rfl)
theorem dX1_chain_56 : decode cX1_chain 56 = .ok (.iload_n 3, 1) := dk_29 (dk_at dksX1_chain_2 8 rfl rfl)
theorem dX1_chain_57 : decode cX1_chain 57 = .ok (.invokevirtual 123, 3) := dk_182 0 123 (dk_at dksX1_chain_2 9 rfl rfl)
theorem dX1_chain_60 : decode cX1_chain 60 = .ok (.checkcast 127, 3) := dk_192 0 127 (dk_at dksX1_chain_2 12 rfl rfl)
theorem dX1_chain_63 : decode cX1_chain 63 = .ok (.getfield 137, 3) := dk_180 0 137 (dk_at dksX1_chain_2 15 rfl rfl)
theorem dX1_chain_66 : decode cX1_chain 66 = .ok (.iadd, 1) := dk_96 (dk_at dksX1_chain_2 18 rfl rfl)
theorem dX1_chain_67 : decode cX1_chain 67 = .ok (.istore_n 2, 1) := dk_61 (dk_at dksX1_chain_2 19 rfl rfl)
theorem dX1_chain_68 : decode cX1_chain 68 = .ok (.iinc 3 1, 3) := dk_132 3 1 (dk_at dksX1_chain_2 20 rfl rfl)
theorem dX1_chain_71 : decode cX1_chain 71 = .ok (.goto (-60), 3) := dk_167 255 196 (dk_at dksX1_chain_3 0 rfl rfl)
theorem dX1_chain_74 : decode cX1_chain 74 = .ok (.iload_n 2, 1) := dk_28 (dk_at dksX1_chain_3 3 rfl rfl)
theorem dX1_chain_75 : decode cX1_chain 75 = .ok (.ireturn, 1) := dk_172 (dk_at dksX1_chain_3 4 rfl rfl)
abbrev cX1_account : ByteArray := prog_1_method_52_code
def yX1_account : MethodName := ⟨RX1, "account", "(I)I"⟩
def dkwX1_account_5 : List UInt8 := [167, 0, 8, 42, 27, 182, 1, 102, 172]
abbrev dktX1_account_5 : List UInt8 := dkwX1_account_5 ++ []
def dkwX1_account_4 : List UInt8 := [180, 0, 35, 180, 1, 96, 167, 0, 25, 42, 180, 0, 35, 180, 1, 42, 167, 0, 15, 42, 182, 1, 99]
abbrev dktX1_account_4 : List UInt8 := dkwX1_account_4 ++ dktX1_account_5
def dkwX1_account_3 : List UInt8 := [167, 0, 53, 42, 27, 182, 1, 93, 167, 0, 45, 42, 182, 1, 75, 184, 0, 162, 167, 0, 35, 42]
abbrev dktX1_account_3 : List UInt8 := dkwX1_account_3 ++ dktX1_account_4
def dkwX1_account_2 : List UInt8 := [42, 180, 0, 35, 180, 0, 81, 182, 0, 85, 167, 0, 66, 42, 180, 0, 35, 180, 0, 226, 182, 0, 250]
abbrev dktX1_account_2 : List UInt8 := dkwX1_account_2 ++ dktX1_account_3
def dkwX1_account_1 : List UInt8 := [170, 0, 0, 0, 128, 0, 0, 0, 0, 0, 0, 0, 10, 0, 0, 0, 57, 0, 0, 0, 70, 0, 0, 0, 83, 0, 0, 0, 83, 0, 0, 0, 91, 0, 0, 0, 101, 0, 0, 0, 111, 0, 0, 0, 128, 0, 0, 0, 128, 0, 0, 0, 128, 0, 0, 0, 121]
abbrev dktX1_account_1 : List UInt8 := dkwX1_account_1 ++ dktX1_account_2
def dkwX1_account_0 : List UInt8 := [27, 3, 16, 10, 184, 0, 73, 184, 0, 140, 27]
abbrev dktX1_account_0 : List UInt8 := dkwX1_account_0 ++ dktX1_account_1
theorem dksX1_account_0 : cX1_account.data.toList.drop 0 = dktX1_account_0 := by decide +kernel
theorem dksX1_account_1 : cX1_account.data.toList.drop 11 = dktX1_account_1 := dk_seg dksX1_account_0 11 rfl rfl
theorem dksX1_account_2 : cX1_account.data.toList.drop 68 = dktX1_account_2 := dk_seg dksX1_account_1 57 rfl rfl
theorem dksX1_account_3 : cX1_account.data.toList.drop 91 = dktX1_account_3 := dk_seg dksX1_account_2 23 rfl rfl
theorem dksX1_account_4 : cX1_account.data.toList.drop 113 = dktX1_account_4 := dk_seg dksX1_account_3 22 rfl rfl
theorem dksX1_account_5 : cX1_account.data.toList.drop 136 = dktX1_account_5 := dk_seg dksX1_account_4 23 rfl rfl
theorem dX1_account_0 : decode cX1_account 0 = .ok (.iload_n 1, 1) := dk_27 (dk_at dksX1_account_0 0 rfl rfl)
theorem dX1_account_1 : decode cX1_account 1 = .ok (.iconst 0, 1) := dk_3 (dk_at dksX1_account_0 1 rfl rfl)
theorem dX1_account_2 : decode cX1_account 2 = .ok (.bipush 10, 2) := dk_16 10 (dk_at dksX1_account_0 2 rfl rfl)
theorem dX1_account_4 : decode cX1_account 4 = .ok (.invokestatic 73, 3) := dk_184 0 73 (dk_at dksX1_account_0 4 rfl rfl)
theorem dX1_account_7 : decode cX1_account 7 = .ok (.invokestatic 140, 3) := dk_184 0 140 (dk_at dksX1_account_0 7 rfl rfl)
theorem dX1_account_10 : decode cX1_account 10 = .ok (.iload_n 1, 1) := dk_27 (dk_at dksX1_account_0 10 rfl rfl)
theorem dX1_account_11 : decode cX1_account 11 = .ok (.tableswitch 128 0 10 #[57, 70, 83, 83, 91, 101, 111, 128, 128, 128, 121], 57) := by decide +kernel
theorem dX1_account_68 : decode cX1_account 68 = .ok (.aload_n 0, 1) := dk_42 (dk_at dksX1_account_2 0 rfl rfl)
theorem dX1_account_69 : decode cX1_account 69 = .ok (.getfield 35, 3) := dk_180 0 35 (dk_at dksX1_account_2 1 rfl rfl)
theorem dX1_account_72 : decode cX1_account 72 = .ok (.getfield 81, 3) := dk_180 0 81 (dk_at dksX1_account_2 4 rfl rfl)
theorem dX1_account_75 : decode cX1_account 75 = .ok (.invokevirtual 85, 3) := dk_182 0 85 (dk_at dksX1_account_2 7 rfl rfl)
theorem dX1_account_78 : decode cX1_account 78 = .ok (.goto 66, 3) := dk_167 0 66 (dk_at dksX1_account_2 10 rfl rfl)
theorem dX1_account_81 : decode cX1_account 81 = .ok (.aload_n 0, 1) := dk_42 (dk_at dksX1_account_2 13 rfl rfl)
theorem dX1_account_82 : decode cX1_account 82 = .ok (.getfield 35, 3) := dk_180 0 35 (dk_at dksX1_account_2 14 rfl rfl)
theorem dX1_account_85 : decode cX1_account 85 = .ok (.getfield 226, 3) := dk_180 0 226 (dk_at dksX1_account_2 17 rfl rfl)
theorem dX1_account_88 : decode cX1_account 88 = .ok (.invokevirtual 250, 3) := dk_182 0 250 (dk_at dksX1_account_2 20 rfl rfl)
theorem dX1_account_91 : decode cX1_account 91 = .ok (.goto 53, 3) := dk_167 0 53 (dk_at dksX1_account_3 0 rfl rfl)
theorem dX1_account_94 : decode cX1_account 94 = .ok (.aload_n 0, 1) := dk_42 (dk_at dksX1_account_3 3 rfl rfl)
theorem dX1_account_95 : decode cX1_account 95 = .ok (.iload_n 1, 1) := dk_27 (dk_at dksX1_account_3 4 rfl rfl)
theorem dX1_account_96 : decode cX1_account 96 = .ok (.invokevirtual 349, 3) := dk_182 1 93 (dk_at dksX1_account_3 5 rfl rfl)
theorem dX1_account_99 : decode cX1_account 99 = .ok (.goto 45, 3) := dk_167 0 45 (dk_at dksX1_account_3 8 rfl rfl)
theorem dX1_account_102 : decode cX1_account 102 = .ok (.aload_n 0, 1) := dk_42 (dk_at dksX1_account_3 11 rfl rfl)
theorem dX1_account_103 : decode cX1_account 103 = .ok (.invokevirtual 331, 3) := dk_182 1 75 (dk_at dksX1_account_3 12 rfl rfl)
theorem dX1_account_106 : decode cX1_account 106 = .ok (.invokestatic 162, 3) := dk_184 0 162 (dk_at dksX1_account_3 15 rfl rfl)
theorem dX1_account_109 : decode cX1_account 109 = .ok (.goto 35, 3) := dk_167 0 35 (dk_at dksX1_account_3 18 rfl rfl)
theorem dX1_account_112 : decode cX1_account 112 = .ok (.aload_n 0, 1) := dk_42 (dk_at dksX1_account_3 21 rfl rfl)
theorem dX1_account_113 : decode cX1_account 113 = .ok (.getfield 35, 3) := dk_180 0 35 (dk_at dksX1_account_4 0 rfl rfl)
theorem dX1_account_116 : decode cX1_account 116 = .ok (.getfield 352, 3) := dk_180 1 96 (dk_at dksX1_account_4 3 rfl rfl)
theorem dX1_account_119 : decode cX1_account 119 = .ok (.goto 25, 3) := dk_167 0 25 (dk_at dksX1_account_4 6 rfl rfl)
theorem dX1_account_122 : decode cX1_account 122 = .ok (.aload_n 0, 1) := dk_42 (dk_at dksX1_account_4 9 rfl rfl)
theorem dX1_account_123 : decode cX1_account 123 = .ok (.getfield 35, 3) := dk_180 0 35 (dk_at dksX1_account_4 10 rfl rfl)
theorem dX1_account_126 : decode cX1_account 126 = .ok (.getfield 298, 3) := dk_180 1 42 (dk_at dksX1_account_4 13 rfl rfl)
theorem dX1_account_129 : decode cX1_account 129 = .ok (.goto 15, 3) := dk_167 0 15 (dk_at dksX1_account_4 16 rfl rfl)
theorem dX1_account_132 : decode cX1_account 132 = .ok (.aload_n 0, 1) := dk_42 (dk_at dksX1_account_4 19 rfl rfl)
theorem dX1_account_133 : decode cX1_account 133 = .ok (.invokevirtual 355, 3) := dk_182 1 99 (dk_at dksX1_account_4 20 rfl rfl)
theorem dX1_account_136 : decode cX1_account 136 = .ok (.goto 8, 3) := dk_167 0 8 (dk_at dksX1_account_5 0 rfl rfl)
theorem dX1_account_139 : decode cX1_account 139 = .ok (.aload_n 0, 1) := dk_42 (dk_at dksX1_account_5 3 rfl rfl)
theorem dX1_account_140 : decode cX1_account 140 = .ok (.iload_n 1, 1) := dk_27 (dk_at dksX1_account_5 4 rfl rfl)
theorem dX1_account_141 : decode cX1_account 141 = .ok (.invokevirtual 358, 3) := dk_182 1 102 (dk_at dksX1_account_5 5 rfl rfl)
theorem dX1_account_144 : decode cX1_account 144 = .ok (.ireturn, 1) := dk_172 (dk_at dksX1_account_5 8 rfl rfl)
abbrev cX1_releases : ByteArray := prog_1_method_51_code
def yX1_releases : MethodName := ⟨RX1, "releases", "()I"⟩
def dkwX1_releases_2 : List UInt8 := [167, 0, 4, 3, 96, 60, 167, 255, 222, 27, 172]
abbrev dktX1_releases_2 : List UInt8 := dkwX1_releases_2 ++ []
def dkwX1_releases_1 : List UInt8 := [153, 0, 31, 44, 185, 0, 242, 1, 0, 192, 1, 7, 78, 27, 45, 193, 0, 223, 153, 0, 7, 4]
abbrev dktX1_releases_1 : List UInt8 := dkwX1_releases_1 ++ dktX1_releases_2
def dkwX1_releases_0 : List UInt8 := [3, 60, 42, 180, 0, 35, 180, 0, 226, 182, 1, 82, 185, 1, 86, 1, 0, 77, 44, 185, 1, 89, 1, 0]
abbrev dktX1_releases_0 : List UInt8 := dkwX1_releases_0 ++ dktX1_releases_1
theorem dksX1_releases_0 : cX1_releases.data.toList.drop 0 = dktX1_releases_0 := by decide +kernel
theorem dksX1_releases_1 : cX1_releases.data.toList.drop 24 = dktX1_releases_1 := dk_seg dksX1_releases_0 24 rfl rfl
theorem dksX1_releases_2 : cX1_releases.data.toList.drop 46 = dktX1_releases_2 := dk_seg dksX1_releases_1 22 rfl rfl
theorem dX1_releases_0 : decode cX1_releases 0 = .ok (.iconst 0, 1) := dk_3 (dk_at dksX1_releases_0 0 rfl rfl)
theorem dX1_releases_1 : decode cX1_releases 1 = .ok (.istore_n 1, 1) := dk_60 (dk_at dksX1_releases_0 1 rfl rfl)
theorem dX1_releases_2 : decode cX1_releases 2 = .ok (.aload_n 0, 1) := dk_42 (dk_at dksX1_releases_0 2 rfl rfl)
theorem dX1_releases_3 : decode cX1_releases 3 = .ok (.getfield 35, 3) := dk_180 0 35 (dk_at dksX1_releases_0 3 rfl rfl)
theorem dX1_releases_6 : decode cX1_releases 6 = .ok (.getfield 226, 3) := dk_180 0 226 (dk_at dksX1_releases_0 6 rfl rfl)
theorem dX1_releases_9 : decode cX1_releases 9 = .ok (.invokevirtual 338, 3) := dk_182 1 82 (dk_at dksX1_releases_0 9 rfl rfl)
theorem dX1_releases_12 : decode cX1_releases 12 = .ok (.invokeinterface 342 1, 5) := by decide +kernel
theorem dX1_releases_17 : decode cX1_releases 17 = .ok (.astore_n 2, 1) := dk_77 (dk_at dksX1_releases_0 17 rfl rfl)
theorem dX1_releases_18 : decode cX1_releases 18 = .ok (.aload_n 2, 1) := dk_44 (dk_at dksX1_releases_0 18 rfl rfl)
theorem dX1_releases_19 : decode cX1_releases 19 = .ok (.invokeinterface 345 1, 5) := by decide +kernel
theorem dX1_releases_24 : decode cX1_releases 24 = .ok (.ifCond .eq 31, 3) := dk_153 0 31 (dk_at dksX1_releases_1 0 rfl rfl)
theorem dX1_releases_27 : decode cX1_releases 27 = .ok (.aload_n 2, 1) := dk_44 (dk_at dksX1_releases_1 3 rfl rfl)
theorem dX1_releases_28 : decode cX1_releases 28 = .ok (.invokeinterface 242 1, 5) := by decide +kernel
theorem dX1_releases_33 : decode cX1_releases 33 = .ok (.checkcast 263, 3) := dk_192 1 7 (dk_at dksX1_releases_1 9 rfl rfl)
theorem dX1_releases_36 : decode cX1_releases 36 = .ok (.astore_n 3, 1) := dk_78 (dk_at dksX1_releases_1 12 rfl rfl)
theorem dX1_releases_37 : decode cX1_releases 37 = .ok (.iload_n 1, 1) := dk_27 (dk_at dksX1_releases_1 13 rfl rfl)
theorem dX1_releases_38 : decode cX1_releases 38 = .ok (.aload_n 3, 1) := dk_45 (dk_at dksX1_releases_1 14 rfl rfl)
theorem dX1_releases_39 : decode cX1_releases 39 = .ok (.instanceof 223, 3) := dk_193 0 223 (dk_at dksX1_releases_1 15 rfl rfl)
theorem dX1_releases_42 : decode cX1_releases 42 = .ok (.ifCond .eq 7, 3) := dk_153 0 7 (dk_at dksX1_releases_1 18 rfl rfl)
theorem dX1_releases_45 : decode cX1_releases 45 = .ok (.iconst 1, 1) := dk_4 (dk_at dksX1_releases_1 21 rfl rfl)
theorem dX1_releases_46 : decode cX1_releases 46 = .ok (.goto 4, 3) := dk_167 0 4 (dk_at dksX1_releases_2 0 rfl rfl)
theorem dX1_releases_49 : decode cX1_releases 49 = .ok (.iconst 0, 1) := dk_3 (dk_at dksX1_releases_2 3 rfl rfl)
theorem dX1_releases_50 : decode cX1_releases 50 = .ok (.iadd, 1) := dk_96 (dk_at dksX1_releases_2 4 rfl rfl)
theorem dX1_releases_51 : decode cX1_releases 51 = .ok (.istore_n 1, 1) := dk_60 (dk_at dksX1_releases_2 5 rfl rfl)
theorem dX1_releases_52 : decode cX1_releases 52 = .ok (.goto (-34), 3) := dk_167 255 222 (dk_at dksX1_releases_2 6 rfl rfl)
theorem dX1_releases_55 : decode cX1_releases 55 = .ok (.iload_n 1, 1) := dk_27 (dk_at dksX1_releases_2 9 rfl rfl)
theorem dX1_releases_56 : decode cX1_releases 56 = .ok (.ireturn, 1) := dk_172 (dk_at dksX1_releases_2 10 rfl rfl)
abbrev cX1_sumOfCues : ByteArray := prog_1_method_50_code
def yX1_sumOfCues : MethodName := ⟨RX1, "sumOfCues", "(I)I"⟩
def dkwX1_sumOfCues_4 : List UInt8 := [153, 0, 7, 4, 167, 0, 4, 3, 96, 61, 132, 3, 1, 167, 255, 155, 28, 172]
abbrev dktX1_sumOfCues_4 : List UInt8 := dkwX1_sumOfCues_4 ++ []
def dkwX1_sumOfCues_3 : List UInt8 := [160, 0, 20, 42, 21, 4, 186, 1, 81, 0, 0, 184, 0, 158, 184, 0, 162, 167, 0, 13, 21, 5]
abbrev dktX1_sumOfCues_3 : List UInt8 := dkwX1_sumOfCues_3 ++ dktX1_sumOfCues_4
def dkwX1_sumOfCues_2 : List UInt8 := [180, 0, 35, 180, 0, 81, 29, 182, 0, 123, 192, 0, 127, 180, 0, 151, 54, 5, 28, 27, 16, 7]
abbrev dktX1_sumOfCues_2 : List UInt8 := dkwX1_sumOfCues_2 ++ dktX1_sumOfCues_3
def dkwX1_sumOfCues_1 : List UInt8 := [160, 0, 23, 42, 180, 0, 35, 180, 0, 81, 29, 182, 0, 123, 192, 0, 127, 180, 0, 167, 167, 0, 20, 42]
abbrev dktX1_sumOfCues_1 : List UInt8 := dkwX1_sumOfCues_1 ++ dktX1_sumOfCues_2
def dkwX1_sumOfCues_0 : List UInt8 := [3, 61, 3, 62, 29, 42, 180, 0, 35, 180, 0, 81, 182, 0, 85, 162, 0, 93, 29, 54, 4, 27, 16, 8]
abbrev dktX1_sumOfCues_0 : List UInt8 := dkwX1_sumOfCues_0 ++ dktX1_sumOfCues_1
theorem dksX1_sumOfCues_0 : cX1_sumOfCues.data.toList.drop 0 = dktX1_sumOfCues_0 := by decide +kernel
theorem dksX1_sumOfCues_1 : cX1_sumOfCues.data.toList.drop 24 = dktX1_sumOfCues_1 := dk_seg dksX1_sumOfCues_0 24 rfl rfl
theorem dksX1_sumOfCues_2 : cX1_sumOfCues.data.toList.drop 48 = dktX1_sumOfCues_2 := dk_seg dksX1_sumOfCues_1 24 rfl rfl
theorem dksX1_sumOfCues_3 : cX1_sumOfCues.data.toList.drop 70 = dktX1_sumOfCues_3 := dk_seg dksX1_sumOfCues_2 22 rfl rfl
theorem dksX1_sumOfCues_4 : cX1_sumOfCues.data.toList.drop 92 = dktX1_sumOfCues_4 := dk_seg dksX1_sumOfCues_3 22 rfl rfl
theorem dX1_sumOfCues_0 : decode cX1_sumOfCues 0 = .ok (.iconst 0, 1) := dk_3 (dk_at dksX1_sumOfCues_0 0 rfl rfl)
theorem dX1_sumOfCues_1 : decode cX1_sumOfCues 1 = .ok (.istore_n 2, 1) := dk_61 (dk_at dksX1_sumOfCues_0 1 rfl rfl)
theorem dX1_sumOfCues_2 : decode cX1_sumOfCues 2 = .ok (.iconst 0, 1) := dk_3 (dk_at dksX1_sumOfCues_0 2 rfl rfl)
theorem dX1_sumOfCues_3 : decode cX1_sumOfCues 3 = .ok (.istore_n 3, 1) := dk_62 (dk_at dksX1_sumOfCues_0 3 rfl rfl)
theorem dX1_sumOfCues_4 : decode cX1_sumOfCues 4 = .ok (.iload_n 3, 1) := dk_29 (dk_at dksX1_sumOfCues_0 4 rfl rfl)
theorem dX1_sumOfCues_5 : decode cX1_sumOfCues 5 = .ok (.aload_n 0, 1) := dk_42 (dk_at dksX1_sumOfCues_0 5 rfl rfl)
theorem dX1_sumOfCues_6 : decode cX1_sumOfCues 6 = .ok (.getfield 35, 3) := dk_180 0 35 (dk_at dksX1_sumOfCues_0 6 rfl rfl)
theorem dX1_sumOfCues_9 : decode cX1_sumOfCues 9 = .ok (.getfield 81, 3) := dk_180 0 81 (dk_at dksX1_sumOfCues_0 9 rfl rfl)
theorem dX1_sumOfCues_12 : decode cX1_sumOfCues 12 = .ok (.invokevirtual 85, 3) := dk_182 0 85 (dk_at dksX1_sumOfCues_0 12 rfl rfl)
theorem dX1_sumOfCues_15 : decode cX1_sumOfCues 15 = .ok (.if_icmp .ge 93, 3) := dk_162 0 93 (dk_at dksX1_sumOfCues_0 15 rfl rfl)
theorem dX1_sumOfCues_18 : decode cX1_sumOfCues 18 = .ok (.iload_n 3, 1) := dk_29 (dk_at dksX1_sumOfCues_0 18 rfl rfl)
theorem dX1_sumOfCues_19 : decode cX1_sumOfCues 19 = .ok (.istore 4, 2) := dk_54 4 (dk_at dksX1_sumOfCues_0 19 rfl rfl)
theorem dX1_sumOfCues_21 : decode cX1_sumOfCues 21 = .ok (.iload_n 1, 1) := dk_27 (dk_at dksX1_sumOfCues_0 21 rfl rfl)
theorem dX1_sumOfCues_22 : decode cX1_sumOfCues 22 = .ok (.bipush 8, 2) := dk_16 8 (dk_at dksX1_sumOfCues_0 22 rfl rfl)
theorem dX1_sumOfCues_24 : decode cX1_sumOfCues 24 = .ok (.if_icmp .ne 23, 3) := dk_160 0 23 (dk_at dksX1_sumOfCues_1 0 rfl rfl)
theorem dX1_sumOfCues_27 : decode cX1_sumOfCues 27 = .ok (.aload_n 0, 1) := dk_42 (dk_at dksX1_sumOfCues_1 3 rfl rfl)
theorem dX1_sumOfCues_28 : decode cX1_sumOfCues 28 = .ok (.getfield 35, 3) := dk_180 0 35 (dk_at dksX1_sumOfCues_1 4 rfl rfl)
theorem dX1_sumOfCues_31 : decode cX1_sumOfCues 31 = .ok (.getfield 81, 3) := dk_180 0 81 (dk_at dksX1_sumOfCues_1 7 rfl rfl)
theorem dX1_sumOfCues_34 : decode cX1_sumOfCues 34 = .ok (.iload_n 3, 1) := dk_29 (dk_at dksX1_sumOfCues_1 10 rfl rfl)
theorem dX1_sumOfCues_35 : decode cX1_sumOfCues 35 = .ok (.invokevirtual 123, 3) := dk_182 0 123 (dk_at dksX1_sumOfCues_1 11 rfl rfl)
theorem dX1_sumOfCues_38 : decode cX1_sumOfCues 38 = .ok (.checkcast 127, 3) := dk_192 0 127 (dk_at dksX1_sumOfCues_1 14 rfl rfl)
theorem dX1_sumOfCues_41 : decode cX1_sumOfCues 41 = .ok (.getfield 167, 3) := dk_180 0 167 (dk_at dksX1_sumOfCues_1 17 rfl rfl)
theorem dX1_sumOfCues_44 : decode cX1_sumOfCues 44 = .ok (.goto 20, 3) := dk_167 0 20 (dk_at dksX1_sumOfCues_1 20 rfl rfl)
theorem dX1_sumOfCues_47 : decode cX1_sumOfCues 47 = .ok (.aload_n 0, 1) := dk_42 (dk_at dksX1_sumOfCues_1 23 rfl rfl)
theorem dX1_sumOfCues_48 : decode cX1_sumOfCues 48 = .ok (.getfield 35, 3) := dk_180 0 35 (dk_at dksX1_sumOfCues_2 0 rfl rfl)
theorem dX1_sumOfCues_51 : decode cX1_sumOfCues 51 = .ok (.getfield 81, 3) := dk_180 0 81 (dk_at dksX1_sumOfCues_2 3 rfl rfl)
theorem dX1_sumOfCues_54 : decode cX1_sumOfCues 54 = .ok (.iload_n 3, 1) := dk_29 (dk_at dksX1_sumOfCues_2 6 rfl rfl)
theorem dX1_sumOfCues_55 : decode cX1_sumOfCues 55 = .ok (.invokevirtual 123, 3) := dk_182 0 123 (dk_at dksX1_sumOfCues_2 7 rfl rfl)
theorem dX1_sumOfCues_58 : decode cX1_sumOfCues 58 = .ok (.checkcast 127, 3) := dk_192 0 127 (dk_at dksX1_sumOfCues_2 10 rfl rfl)
theorem dX1_sumOfCues_61 : decode cX1_sumOfCues 61 = .ok (.getfield 151, 3) := dk_180 0 151 (dk_at dksX1_sumOfCues_2 13 rfl rfl)
theorem dX1_sumOfCues_64 : decode cX1_sumOfCues 64 = .ok (.istore 5, 2) := dk_54 5 (dk_at dksX1_sumOfCues_2 16 rfl rfl)
theorem dX1_sumOfCues_66 : decode cX1_sumOfCues 66 = .ok (.iload_n 2, 1) := dk_28 (dk_at dksX1_sumOfCues_2 18 rfl rfl)
theorem dX1_sumOfCues_67 : decode cX1_sumOfCues 67 = .ok (.iload_n 1, 1) := dk_27 (dk_at dksX1_sumOfCues_2 19 rfl rfl)
theorem dX1_sumOfCues_68 : decode cX1_sumOfCues 68 = .ok (.bipush 7, 2) := dk_16 7 (dk_at dksX1_sumOfCues_2 20 rfl rfl)
theorem dX1_sumOfCues_70 : decode cX1_sumOfCues 70 = .ok (.if_icmp .ne 20, 3) := dk_160 0 20 (dk_at dksX1_sumOfCues_3 0 rfl rfl)
theorem dX1_sumOfCues_73 : decode cX1_sumOfCues 73 = .ok (.aload_n 0, 1) := dk_42 (dk_at dksX1_sumOfCues_3 3 rfl rfl)
theorem dX1_sumOfCues_74 : decode cX1_sumOfCues 74 = .ok (.iload 4, 2) := dk_21 4 (dk_at dksX1_sumOfCues_3 4 rfl rfl)
theorem dX1_sumOfCues_76 : decode cX1_sumOfCues 76 = .ok (.invokedynamic 337, 5) := by decide +kernel
theorem dX1_sumOfCues_81 : decode cX1_sumOfCues 81 = .ok (.invokestatic 158, 3) := dk_184 0 158 (dk_at dksX1_sumOfCues_3 11 rfl rfl)
theorem dX1_sumOfCues_84 : decode cX1_sumOfCues 84 = .ok (.invokestatic 162, 3) := dk_184 0 162 (dk_at dksX1_sumOfCues_3 14 rfl rfl)
theorem dX1_sumOfCues_87 : decode cX1_sumOfCues 87 = .ok (.goto 13, 3) := dk_167 0 13 (dk_at dksX1_sumOfCues_3 17 rfl rfl)
theorem dX1_sumOfCues_90 : decode cX1_sumOfCues 90 = .ok (.iload 5, 2) := dk_21 5 (dk_at dksX1_sumOfCues_3 20 rfl rfl)
theorem dX1_sumOfCues_92 : decode cX1_sumOfCues 92 = .ok (.ifCond .eq 7, 3) := dk_153 0 7 (dk_at dksX1_sumOfCues_4 0 rfl rfl)
theorem dX1_sumOfCues_95 : decode cX1_sumOfCues 95 = .ok (.iconst 1, 1) := dk_4 (dk_at dksX1_sumOfCues_4 3 rfl rfl)
theorem dX1_sumOfCues_96 : decode cX1_sumOfCues 96 = .ok (.goto 4, 3) := dk_167 0 4 (dk_at dksX1_sumOfCues_4 4 rfl rfl)
theorem dX1_sumOfCues_99 : decode cX1_sumOfCues 99 = .ok (.iconst 0, 1) := dk_3 (dk_at dksX1_sumOfCues_4 7 rfl rfl)
theorem dX1_sumOfCues_100 : decode cX1_sumOfCues 100 = .ok (.iadd, 1) := dk_96 (dk_at dksX1_sumOfCues_4 8 rfl rfl)
theorem dX1_sumOfCues_101 : decode cX1_sumOfCues 101 = .ok (.istore_n 2, 1) := dk_61 (dk_at dksX1_sumOfCues_4 9 rfl rfl)
theorem dX1_sumOfCues_102 : decode cX1_sumOfCues 102 = .ok (.iinc 3 1, 3) := dk_132 3 1 (dk_at dksX1_sumOfCues_4 10 rfl rfl)
theorem dX1_sumOfCues_105 : decode cX1_sumOfCues 105 = .ok (.goto (-101), 3) := dk_167 255 155 (dk_at dksX1_sumOfCues_4 13 rfl rfl)
theorem dX1_sumOfCues_108 : decode cX1_sumOfCues 108 = .ok (.iload_n 2, 1) := dk_28 (dk_at dksX1_sumOfCues_4 16 rfl rfl)
theorem dX1_sumOfCues_109 : decode cX1_sumOfCues 109 = .ok (.ireturn, 1) := dk_172 (dk_at dksX1_sumOfCues_4 17 rfl rfl)
abbrev cX1_lambda_sumOfCues_7 : ByteArray := prog_1_method_61_code
def yX1_lambda_sumOfCues_7 : MethodName := ⟨RX1, "lambda$sumOfCues$7", "(II)Z"⟩
def dkwX1_lambda_sumOfCues_7_0 : List UInt8 := [42, 180, 0, 35, 27, 28, 182, 0, 187, 172]
abbrev dktX1_lambda_sumOfCues_7_0 : List UInt8 := dkwX1_lambda_sumOfCues_7_0 ++ []
theorem dksX1_lambda_sumOfCues_7_0 : cX1_lambda_sumOfCues_7.data.toList.drop 0 = dktX1_lambda_sumOfCues_7_0 := by decide +kernel
theorem dX1_lambda_sumOfCues_7_0 : decode cX1_lambda_sumOfCues_7 0 = .ok (.aload_n 0, 1) := dk_42 (dk_at dksX1_lambda_sumOfCues_7_0 0 rfl rfl)
theorem dX1_lambda_sumOfCues_7_1 : decode cX1_lambda_sumOfCues_7 1 = .ok (.getfield 35, 3) := dk_180 0 35 (dk_at dksX1_lambda_sumOfCues_7_0 1 rfl rfl)
theorem dX1_lambda_sumOfCues_7_4 : decode cX1_lambda_sumOfCues_7 4 = .ok (.iload_n 1, 1) := dk_27 (dk_at dksX1_lambda_sumOfCues_7_0 4 rfl rfl)
theorem dX1_lambda_sumOfCues_7_5 : decode cX1_lambda_sumOfCues_7 5 = .ok (.iload_n 2, 1) := dk_28 (dk_at dksX1_lambda_sumOfCues_7_0 5 rfl rfl)
theorem dX1_lambda_sumOfCues_7_6 : decode cX1_lambda_sumOfCues_7 6 = .ok (.invokevirtual 187, 3) := dk_182 0 187 (dk_at dksX1_lambda_sumOfCues_7_0 6 rfl rfl)
theorem dX1_lambda_sumOfCues_7_9 : decode cX1_lambda_sumOfCues_7 9 = .ok (.ireturn, 1) := dk_172 (dk_at dksX1_lambda_sumOfCues_7_0 9 rfl rfl)
abbrev cX1_append : ByteArray := prog_1_method_54_code
def yX1_append : MethodName := ⟨RX1, "append", "(C)I"⟩
def dkwX1_append_2 : List UInt8 := [42, 180, 1, 107, 172]
abbrev dktX1_append_2 : List UInt8 := dkwX1_append_2 ++ []
def dkwX1_append_1 : List UInt8 := [3, 184, 1, 46, 42, 180, 0, 58, 42, 180, 1, 107, 27, 85, 42, 89, 180, 1, 107, 4, 96, 181, 1, 107]
abbrev dktX1_append_1 : List UInt8 := dkwX1_append_1 ++ dktX1_append_2
def dkwX1_append_0 : List UInt8 := [27, 16, 32, 16, 126, 184, 0, 73, 184, 0, 140, 42, 180, 1, 107, 16, 60, 162, 0, 7, 4, 167, 0, 4]
abbrev dktX1_append_0 : List UInt8 := dkwX1_append_0 ++ dktX1_append_1
theorem dksX1_append_0 : cX1_append.data.toList.drop 0 = dktX1_append_0 := by decide +kernel
theorem dksX1_append_1 : cX1_append.data.toList.drop 24 = dktX1_append_1 := dk_seg dksX1_append_0 24 rfl rfl
theorem dksX1_append_2 : cX1_append.data.toList.drop 48 = dktX1_append_2 := dk_seg dksX1_append_1 24 rfl rfl
theorem dX1_append_0 : decode cX1_append 0 = .ok (.iload_n 1, 1) := dk_27 (dk_at dksX1_append_0 0 rfl rfl)
theorem dX1_append_1 : decode cX1_append 1 = .ok (.bipush 32, 2) := dk_16 32 (dk_at dksX1_append_0 1 rfl rfl)
theorem dX1_append_3 : decode cX1_append 3 = .ok (.bipush 126, 2) := dk_16 126 (dk_at dksX1_append_0 3 rfl rfl)
theorem dX1_append_5 : decode cX1_append 5 = .ok (.invokestatic 73, 3) := dk_184 0 73 (dk_at dksX1_append_0 5 rfl rfl)
theorem dX1_append_8 : decode cX1_append 8 = .ok (.invokestatic 140, 3) := dk_184 0 140 (dk_at dksX1_append_0 8 rfl rfl)
theorem dX1_append_11 : decode cX1_append 11 = .ok (.aload_n 0, 1) := dk_42 (dk_at dksX1_append_0 11 rfl rfl)
theorem dX1_append_12 : decode cX1_append 12 = .ok (.getfield 363, 3) := dk_180 1 107 (dk_at dksX1_append_0 12 rfl rfl)
theorem dX1_append_15 : decode cX1_append 15 = .ok (.bipush 60, 2) := dk_16 60 (dk_at dksX1_append_0 15 rfl rfl)
theorem dX1_append_17 : decode cX1_append 17 = .ok (.if_icmp .ge 7, 3) := dk_162 0 7 (dk_at dksX1_append_0 17 rfl rfl)
theorem dX1_append_20 : decode cX1_append 20 = .ok (.iconst 1, 1) := dk_4 (dk_at dksX1_append_0 20 rfl rfl)
theorem dX1_append_21 : decode cX1_append 21 = .ok (.goto 4, 3) := dk_167 0 4 (dk_at dksX1_append_0 21 rfl rfl)
theorem dX1_append_24 : decode cX1_append 24 = .ok (.iconst 0, 1) := dk_3 (dk_at dksX1_append_1 0 rfl rfl)
theorem dX1_append_25 : decode cX1_append 25 = .ok (.invokestatic 302, 3) := dk_184 1 46 (dk_at dksX1_append_1 1 rfl rfl)
theorem dX1_append_28 : decode cX1_append 28 = .ok (.aload_n 0, 1) := dk_42 (dk_at dksX1_append_1 4 rfl rfl)
theorem dX1_append_29 : decode cX1_append 29 = .ok (.getfield 58, 3) := dk_180 0 58 (dk_at dksX1_append_1 5 rfl rfl)
theorem dX1_append_32 : decode cX1_append 32 = .ok (.aload_n 0, 1) := dk_42 (dk_at dksX1_append_1 8 rfl rfl)
theorem dX1_append_33 : decode cX1_append 33 = .ok (.getfield 363, 3) := dk_180 1 107 (dk_at dksX1_append_1 9 rfl rfl)
theorem dX1_append_36 : decode cX1_append 36 = .ok (.iload_n 1, 1) := dk_27 (dk_at dksX1_append_1 12 rfl rfl)
theorem dX1_append_37 : decode cX1_append 37 = .ok (.castore, 1) := dk_85 (dk_at dksX1_append_1 13 rfl rfl)
theorem dX1_append_38 : decode cX1_append 38 = .ok (.aload_n 0, 1) := dk_42 (dk_at dksX1_append_1 14 rfl rfl)
theorem dX1_append_39 : decode cX1_append 39 = .ok (.dup, 1) := dk_89 (dk_at dksX1_append_1 15 rfl rfl)
theorem dX1_append_40 : decode cX1_append 40 = .ok (.getfield 363, 3) := dk_180 1 107 (dk_at dksX1_append_1 16 rfl rfl)
theorem dX1_append_43 : decode cX1_append 43 = .ok (.iconst 1, 1) := dk_4 (dk_at dksX1_append_1 19 rfl rfl)
theorem dX1_append_44 : decode cX1_append 44 = .ok (.iadd, 1) := dk_96 (dk_at dksX1_append_1 20 rfl rfl)
theorem dX1_append_45 : decode cX1_append 45 = .ok (.putfield 363, 3) := dk_181 1 107 (dk_at dksX1_append_1 21 rfl rfl)
theorem dX1_append_48 : decode cX1_append 48 = .ok (.aload_n 0, 1) := dk_42 (dk_at dksX1_append_2 0 rfl rfl)
theorem dX1_append_49 : decode cX1_append 49 = .ok (.getfield 363, 3) := dk_180 1 107 (dk_at dksX1_append_2 1 rfl rfl)
theorem dX1_append_52 : decode cX1_append 52 = .ok (.ireturn, 1) := dk_172 (dk_at dksX1_append_2 4 rfl rfl)
abbrev cX1_read : ByteArray := prog_1_method_55_code
def yX1_read : MethodName := ⟨RX1, "read", "()I"⟩
def dkwX1_read_4 : List UInt8 := [182, 0, 85, 172]
abbrev dktX1_read_4 : List UInt8 := dkwX1_read_4 ++ []
def dkwX1_read_3 : List UInt8 := [182, 0, 123, 192, 1, 127, 182, 1, 129, 132, 3, 1, 167, 255, 226, 42, 44, 182, 0, 101, 43, 180, 1, 124]
abbrev dktX1_read_3 : List UInt8 := dkwX1_read_3 ++ dktX1_read_4
def dkwX1_read_2 : List UInt8 := [182, 0, 94, 77, 3, 62, 29, 43, 180, 1, 124, 182, 0, 85, 162, 0, 25, 42, 44, 43, 180, 1, 124, 29]
abbrev dktX1_read_2 : List UInt8 := dkwX1_read_2 ++ dktX1_read_3
def dkwX1_read_1 : List UInt8 := [182, 1, 115, 167, 0, 17, 77, 42, 44, 181, 1, 120, 187, 0, 1, 89, 183, 0, 3, 191, 42, 180, 0, 35]
abbrev dktX1_read_1 : List UInt8 := dkwX1_read_1 ++ dktX1_read_2
def dkwX1_read_0 : List UInt8 := [187, 1, 110, 89, 42, 180, 0, 58, 42, 180, 1, 107, 183, 1, 112, 76, 42, 3, 181, 1, 107, 43]
abbrev dktX1_read_0 : List UInt8 := dkwX1_read_0 ++ dktX1_read_1
theorem dksX1_read_0 : cX1_read.data.toList.drop 0 = dktX1_read_0 := by decide +kernel
theorem dksX1_read_1 : cX1_read.data.toList.drop 22 = dktX1_read_1 := dk_seg dksX1_read_0 22 rfl rfl
theorem dksX1_read_2 : cX1_read.data.toList.drop 46 = dktX1_read_2 := dk_seg dksX1_read_1 24 rfl rfl
theorem dksX1_read_3 : cX1_read.data.toList.drop 70 = dktX1_read_3 := dk_seg dksX1_read_2 24 rfl rfl
theorem dksX1_read_4 : cX1_read.data.toList.drop 94 = dktX1_read_4 := dk_seg dksX1_read_3 24 rfl rfl
theorem dX1_read_0 : decode cX1_read 0 = .ok (.new 366, 3) := dk_187 1 110 (dk_at dksX1_read_0 0 rfl rfl)
theorem dX1_read_3 : decode cX1_read 3 = .ok (.dup, 1) := dk_89 (dk_at dksX1_read_0 3 rfl rfl)
theorem dX1_read_4 : decode cX1_read 4 = .ok (.aload_n 0, 1) := dk_42 (dk_at dksX1_read_0 4 rfl rfl)
theorem dX1_read_5 : decode cX1_read 5 = .ok (.getfield 58, 3) := dk_180 0 58 (dk_at dksX1_read_0 5 rfl rfl)
theorem dX1_read_8 : decode cX1_read 8 = .ok (.aload_n 0, 1) := dk_42 (dk_at dksX1_read_0 8 rfl rfl)
theorem dX1_read_9 : decode cX1_read 9 = .ok (.getfield 363, 3) := dk_180 1 107 (dk_at dksX1_read_0 9 rfl rfl)
theorem dX1_read_12 : decode cX1_read 12 = .ok (.invokespecial 368, 3) := dk_183 1 112 (dk_at dksX1_read_0 12 rfl rfl)
theorem dX1_read_15 : decode cX1_read 15 = .ok (.astore_n 1, 1) := dk_76 (dk_at dksX1_read_0 15 rfl rfl)
theorem dX1_read_16 : decode cX1_read 16 = .ok (.aload_n 0, 1) := dk_42 (dk_at dksX1_read_0 16 rfl rfl)
theorem dX1_read_17 : decode cX1_read 17 = .ok (.iconst 0, 1) := dk_3 (dk_at dksX1_read_0 17 rfl rfl)
theorem dX1_read_18 : decode cX1_read 18 = .ok (.putfield 363, 3) := dk_181 1 107 (dk_at dksX1_read_0 18 rfl rfl)
theorem dX1_read_21 : decode cX1_read 21 = .ok (.aload_n 1, 1) := dk_43 (dk_at dksX1_read_0 21 rfl rfl)
theorem dX1_read_22 : decode cX1_read 22 = .ok (.invokevirtual 371, 3) := dk_182 1 115 (dk_at dksX1_read_1 0 rfl rfl)
theorem dX1_read_25 : decode cX1_read 25 = .ok (.goto 17, 3) := dk_167 0 17 (dk_at dksX1_read_1 3 rfl rfl)
theorem dX1_read_28 : decode cX1_read 28 = .ok (.astore_n 2, 1) := dk_77 (dk_at dksX1_read_1 6 rfl rfl)
theorem dX1_read_29 : decode cX1_read 29 = .ok (.aload_n 0, 1) := dk_42 (dk_at dksX1_read_1 7 rfl rfl)
theorem dX1_read_30 : decode cX1_read 30 = .ok (.aload_n 2, 1) := dk_44 (dk_at dksX1_read_1 8 rfl rfl)
theorem dX1_read_31 : decode cX1_read 31 = .ok (.putfield 376, 3) := dk_181 1 120 (dk_at dksX1_read_1 9 rfl rfl)
theorem dX1_read_34 : decode cX1_read 34 = .ok (.new 1, 3) := dk_187 0 1 (dk_at dksX1_read_1 12 rfl rfl)
theorem dX1_read_37 : decode cX1_read 37 = .ok (.dup, 1) := dk_89 (dk_at dksX1_read_1 15 rfl rfl)
theorem dX1_read_38 : decode cX1_read 38 = .ok (.invokespecial 3, 3) := dk_183 0 3 (dk_at dksX1_read_1 16 rfl rfl)
theorem dX1_read_41 : decode cX1_read 41 = .ok (.athrow, 1) := dk_191 (dk_at dksX1_read_1 19 rfl rfl)
theorem dX1_read_42 : decode cX1_read 42 = .ok (.aload_n 0, 1) := dk_42 (dk_at dksX1_read_1 20 rfl rfl)
theorem dX1_read_43 : decode cX1_read 43 = .ok (.getfield 35, 3) := dk_180 0 35 (dk_at dksX1_read_1 21 rfl rfl)
theorem dX1_read_46 : decode cX1_read 46 = .ok (.invokevirtual 94, 3) := dk_182 0 94 (dk_at dksX1_read_2 0 rfl rfl)
theorem dX1_read_49 : decode cX1_read 49 = .ok (.astore_n 2, 1) := dk_77 (dk_at dksX1_read_2 3 rfl rfl)
theorem dX1_read_50 : decode cX1_read 50 = .ok (.iconst 0, 1) := dk_3 (dk_at dksX1_read_2 4 rfl rfl)
theorem dX1_read_51 : decode cX1_read 51 = .ok (.istore_n 3, 1) := dk_62 (dk_at dksX1_read_2 5 rfl rfl)
theorem dX1_read_52 : decode cX1_read 52 = .ok (.iload_n 3, 1) := dk_29 (dk_at dksX1_read_2 6 rfl rfl)
theorem dX1_read_53 : decode cX1_read 53 = .ok (.aload_n 1, 1) := dk_43 (dk_at dksX1_read_2 7 rfl rfl)
theorem dX1_read_54 : decode cX1_read 54 = .ok (.getfield 380, 3) := dk_180 1 124 (dk_at dksX1_read_2 8 rfl rfl)
theorem dX1_read_57 : decode cX1_read 57 = .ok (.invokevirtual 85, 3) := dk_182 0 85 (dk_at dksX1_read_2 11 rfl rfl)
theorem dX1_read_60 : decode cX1_read 60 = .ok (.if_icmp .ge 25, 3) := dk_162 0 25 (dk_at dksX1_read_2 14 rfl rfl)
theorem dX1_read_63 : decode cX1_read 63 = .ok (.aload_n 0, 1) := dk_42 (dk_at dksX1_read_2 17 rfl rfl)
theorem dX1_read_64 : decode cX1_read 64 = .ok (.aload_n 2, 1) := dk_44 (dk_at dksX1_read_2 18 rfl rfl)
theorem dX1_read_65 : decode cX1_read 65 = .ok (.aload_n 1, 1) := dk_43 (dk_at dksX1_read_2 19 rfl rfl)
theorem dX1_read_66 : decode cX1_read 66 = .ok (.getfield 380, 3) := dk_180 1 124 (dk_at dksX1_read_2 20 rfl rfl)
theorem dX1_read_69 : decode cX1_read 69 = .ok (.iload_n 3, 1) := dk_29 (dk_at dksX1_read_2 23 rfl rfl)
theorem dX1_read_70 : decode cX1_read 70 = .ok (.invokevirtual 123, 3) := dk_182 0 123 (dk_at dksX1_read_3 0 rfl rfl)
theorem dX1_read_73 : decode cX1_read 73 = .ok (.checkcast 383, 3) := dk_192 1 127 (dk_at dksX1_read_3 3 rfl rfl)
theorem dX1_read_76 : decode cX1_read 76 = .ok (.invokevirtual 385, 3) := dk_182 1 129 (dk_at dksX1_read_3 6 rfl rfl)
theorem dX1_read_79 : decode cX1_read 79 = .ok (.iinc 3 1, 3) := dk_132 3 1 (dk_at dksX1_read_3 9 rfl rfl)
theorem dX1_read_82 : decode cX1_read 82 = .ok (.goto (-30), 3) := dk_167 255 226 (dk_at dksX1_read_3 12 rfl rfl)
theorem dX1_read_85 : decode cX1_read 85 = .ok (.aload_n 0, 1) := dk_42 (dk_at dksX1_read_3 15 rfl rfl)
theorem dX1_read_86 : decode cX1_read 86 = .ok (.aload_n 2, 1) := dk_44 (dk_at dksX1_read_3 16 rfl rfl)
theorem dX1_read_87 : decode cX1_read 87 = .ok (.invokevirtual 101, 3) := dk_182 0 101 (dk_at dksX1_read_3 17 rfl rfl)
theorem dX1_read_90 : decode cX1_read 90 = .ok (.aload_n 1, 1) := dk_43 (dk_at dksX1_read_3 20 rfl rfl)
theorem dX1_read_91 : decode cX1_read 91 = .ok (.getfield 380, 3) := dk_180 1 124 (dk_at dksX1_read_3 21 rfl rfl)
theorem dX1_read_94 : decode cX1_read 94 = .ok (.invokevirtual 85, 3) := dk_182 0 85 (dk_at dksX1_read_4 0 rfl rfl)
theorem dX1_read_97 : decode cX1_read 97 = .ok (.ireturn, 1) := dk_172 (dk_at dksX1_read_4 3 rfl rfl)
abbrev cX1_applyTo : ByteArray := prog_1_method_56_code
def yX1_applyTo : MethodName := ⟨RX1, "applyTo", "(LCueStack$Show;LCueStack$Entry;)V"⟩
def dkwX1_applyTo_1 : List UInt8 := [187, 0, 10, 89, 183, 0, 12, 191, 177]
abbrev dktX1_applyTo_1 : List UInt8 := dkwX1_applyTo_1 ++ []
def dkwX1_applyTo_0 : List UInt8 := [44, 43, 182, 1, 133, 167, 0, 26, 78, 42, 45, 181, 0, 66, 187, 0, 10, 89, 183, 0, 12, 191, 78]
abbrev dktX1_applyTo_0 : List UInt8 := dkwX1_applyTo_0 ++ dktX1_applyTo_1
theorem dksX1_applyTo_0 : cX1_applyTo.data.toList.drop 0 = dktX1_applyTo_0 := by decide +kernel
theorem dksX1_applyTo_1 : cX1_applyTo.data.toList.drop 23 = dktX1_applyTo_1 := dk_seg dksX1_applyTo_0 23 rfl rfl
theorem dX1_applyTo_0 : decode cX1_applyTo 0 = .ok (.aload_n 2, 1) := dk_44 (dk_at dksX1_applyTo_0 0 rfl rfl)
theorem dX1_applyTo_1 : decode cX1_applyTo 1 = .ok (.aload_n 1, 1) := dk_43 (dk_at dksX1_applyTo_0 1 rfl rfl)
theorem dX1_applyTo_2 : decode cX1_applyTo 2 = .ok (.invokevirtual 389, 3) := dk_182 1 133 (dk_at dksX1_applyTo_0 2 rfl rfl)
theorem dX1_applyTo_5 : decode cX1_applyTo 5 = .ok (.goto 26, 3) := dk_167 0 26 (dk_at dksX1_applyTo_0 5 rfl rfl)
theorem dX1_applyTo_8 : decode cX1_applyTo 8 = .ok (.astore_n 3, 1) := dk_78 (dk_at dksX1_applyTo_0 8 rfl rfl)
theorem dX1_applyTo_9 : decode cX1_applyTo 9 = .ok (.aload_n 0, 1) := dk_42 (dk_at dksX1_applyTo_0 9 rfl rfl)
theorem dX1_applyTo_10 : decode cX1_applyTo 10 = .ok (.aload_n 3, 1) := dk_45 (dk_at dksX1_applyTo_0 10 rfl rfl)
theorem dX1_applyTo_11 : decode cX1_applyTo 11 = .ok (.putfield 66, 3) := dk_181 0 66 (dk_at dksX1_applyTo_0 11 rfl rfl)
theorem dX1_applyTo_14 : decode cX1_applyTo 14 = .ok (.new 10, 3) := dk_187 0 10 (dk_at dksX1_applyTo_0 14 rfl rfl)
theorem dX1_applyTo_17 : decode cX1_applyTo 17 = .ok (.dup, 1) := dk_89 (dk_at dksX1_applyTo_0 17 rfl rfl)
theorem dX1_applyTo_18 : decode cX1_applyTo 18 = .ok (.invokespecial 12, 3) := dk_183 0 12 (dk_at dksX1_applyTo_0 18 rfl rfl)
theorem dX1_applyTo_21 : decode cX1_applyTo 21 = .ok (.athrow, 1) := dk_191 (dk_at dksX1_applyTo_0 21 rfl rfl)
theorem dX1_applyTo_22 : decode cX1_applyTo 22 = .ok (.astore_n 3, 1) := dk_78 (dk_at dksX1_applyTo_0 22 rfl rfl)
theorem dX1_applyTo_23 : decode cX1_applyTo 23 = .ok (.new 10, 3) := dk_187 0 10 (dk_at dksX1_applyTo_1 0 rfl rfl)
theorem dX1_applyTo_26 : decode cX1_applyTo 26 = .ok (.dup, 1) := dk_89 (dk_at dksX1_applyTo_1 3 rfl rfl)
theorem dX1_applyTo_27 : decode cX1_applyTo 27 = .ok (.invokespecial 12, 3) := dk_183 0 12 (dk_at dksX1_applyTo_1 4 rfl rfl)
theorem dX1_applyTo_30 : decode cX1_applyTo 30 = .ok (.athrow, 1) := dk_191 (dk_at dksX1_applyTo_1 7 rfl rfl)
theorem dX1_applyTo_31 : decode cX1_applyTo 31 = .ok (.return_, 1) := dk_177 (dk_at dksX1_applyTo_1 8 rfl rfl)
abbrev cX1_errorPosition : ByteArray := prog_1_method_57_code
def yX1_errorPosition : MethodName := ⟨RX1, "errorPosition", "()I"⟩
def dkwX1_errorPosition_0 : List UInt8 := [42, 180, 1, 120, 198, 0, 7, 4, 167, 0, 4, 3, 184, 0, 120, 42, 180, 1, 120, 180, 1, 136, 172]
abbrev dktX1_errorPosition_0 : List UInt8 := dkwX1_errorPosition_0 ++ []
theorem dksX1_errorPosition_0 : cX1_errorPosition.data.toList.drop 0 = dktX1_errorPosition_0 := by decide +kernel
theorem dX1_errorPosition_0 : decode cX1_errorPosition 0 = .ok (.aload_n 0, 1) := dk_42 (dk_at dksX1_errorPosition_0 0 rfl rfl)
theorem dX1_errorPosition_1 : decode cX1_errorPosition 1 = .ok (.getfield 376, 3) := dk_180 1 120 (dk_at dksX1_errorPosition_0 1 rfl rfl)
theorem dX1_errorPosition_4 : decode cX1_errorPosition 4 = .ok (.ifnull 7, 3) := dk_198 0 7 (dk_at dksX1_errorPosition_0 4 rfl rfl)
theorem dX1_errorPosition_7 : decode cX1_errorPosition 7 = .ok (.iconst 1, 1) := dk_4 (dk_at dksX1_errorPosition_0 7 rfl rfl)
theorem dX1_errorPosition_8 : decode cX1_errorPosition 8 = .ok (.goto 4, 3) := dk_167 0 4 (dk_at dksX1_errorPosition_0 8 rfl rfl)
theorem dX1_errorPosition_11 : decode cX1_errorPosition 11 = .ok (.iconst 0, 1) := dk_3 (dk_at dksX1_errorPosition_0 11 rfl rfl)
theorem dX1_errorPosition_12 : decode cX1_errorPosition 12 = .ok (.invokestatic 120, 3) := dk_184 0 120 (dk_at dksX1_errorPosition_0 12 rfl rfl)
theorem dX1_errorPosition_15 : decode cX1_errorPosition 15 = .ok (.aload_n 0, 1) := dk_42 (dk_at dksX1_errorPosition_0 15 rfl rfl)
theorem dX1_errorPosition_16 : decode cX1_errorPosition 16 = .ok (.getfield 376, 3) := dk_180 1 120 (dk_at dksX1_errorPosition_0 16 rfl rfl)
theorem dX1_errorPosition_19 : decode cX1_errorPosition 19 = .ok (.getfield 392, 3) := dk_180 1 136 (dk_at dksX1_errorPosition_0 19 rfl rfl)
theorem dX1_errorPosition_22 : decode cX1_errorPosition 22 = .ok (.ireturn, 1) := dk_172 (dk_at dksX1_errorPosition_0 22 rfl rfl)
abbrev cX1_undo : ByteArray := prog_1_method_58_code
def yX1_undo : MethodName := ⟨RX1, "undo", "()I"⟩
def dkwX1_undo_0 : List UInt8 := [42, 42, 180, 0, 42, 182, 1, 139, 192, 0, 32, 181, 0, 35, 42, 180, 0, 42, 182, 1, 143, 172]
abbrev dktX1_undo_0 : List UInt8 := dkwX1_undo_0 ++ []
theorem dksX1_undo_0 : cX1_undo.data.toList.drop 0 = dktX1_undo_0 := by decide +kernel
theorem dX1_undo_0 : decode cX1_undo 0 = .ok (.aload_n 0, 1) := dk_42 (dk_at dksX1_undo_0 0 rfl rfl)
theorem dX1_undo_1 : decode cX1_undo 1 = .ok (.aload_n 0, 1) := dk_42 (dk_at dksX1_undo_0 1 rfl rfl)
theorem dX1_undo_2 : decode cX1_undo 2 = .ok (.getfield 42, 3) := dk_180 0 42 (dk_at dksX1_undo_0 2 rfl rfl)
theorem dX1_undo_5 : decode cX1_undo 5 = .ok (.invokevirtual 395, 3) := dk_182 1 139 (dk_at dksX1_undo_0 5 rfl rfl)
theorem dX1_undo_8 : decode cX1_undo 8 = .ok (.checkcast 32, 3) := dk_192 0 32 (dk_at dksX1_undo_0 8 rfl rfl)
theorem dX1_undo_11 : decode cX1_undo 11 = .ok (.putfield 35, 3) := dk_181 0 35 (dk_at dksX1_undo_0 11 rfl rfl)
theorem dX1_undo_14 : decode cX1_undo 14 = .ok (.aload_n 0, 1) := dk_42 (dk_at dksX1_undo_0 14 rfl rfl)
theorem dX1_undo_15 : decode cX1_undo 15 = .ok (.getfield 42, 3) := dk_180 0 42 (dk_at dksX1_undo_0 15 rfl rfl)
theorem dX1_undo_18 : decode cX1_undo 18 = .ok (.invokevirtual 399, 3) := dk_182 1 143 (dk_at dksX1_undo_0 18 rfl rfl)
theorem dX1_undo_21 : decode cX1_undo 21 = .ok (.ireturn, 1) := dk_172 (dk_at dksX1_undo_0 21 rfl rfl)
abbrev cX1_restore : ByteArray := prog_1_method_60_code
def yX1_restore : MethodName := ⟨RX1, "restore", "()I"⟩
def dkwX1_restore_1 : List UInt8 := [181, 0, 35, 42, 180, 0, 42, 182, 0, 91, 42, 180, 0, 35, 180, 0, 81, 182, 0, 85, 172]
abbrev dktX1_restore_1 : List UInt8 := dkwX1_restore_1 ++ []
def dkwX1_restore_0 : List UInt8 := [42, 180, 1, 144, 198, 0, 7, 4, 167, 0, 4, 3, 184, 1, 46, 42, 42, 180, 1, 144, 182, 0, 94]
abbrev dktX1_restore_0 : List UInt8 := dkwX1_restore_0 ++ dktX1_restore_1
theorem dksX1_restore_0 : cX1_restore.data.toList.drop 0 = dktX1_restore_0 := by decide +kernel
theorem dksX1_restore_1 : cX1_restore.data.toList.drop 23 = dktX1_restore_1 := dk_seg dksX1_restore_0 23 rfl rfl
theorem dX1_restore_0 : decode cX1_restore 0 = .ok (.aload_n 0, 1) := dk_42 (dk_at dksX1_restore_0 0 rfl rfl)
theorem dX1_restore_1 : decode cX1_restore 1 = .ok (.getfield 400, 3) := dk_180 1 144 (dk_at dksX1_restore_0 1 rfl rfl)
theorem dX1_restore_4 : decode cX1_restore 4 = .ok (.ifnull 7, 3) := dk_198 0 7 (dk_at dksX1_restore_0 4 rfl rfl)
theorem dX1_restore_7 : decode cX1_restore 7 = .ok (.iconst 1, 1) := dk_4 (dk_at dksX1_restore_0 7 rfl rfl)
theorem dX1_restore_8 : decode cX1_restore 8 = .ok (.goto 4, 3) := dk_167 0 4 (dk_at dksX1_restore_0 8 rfl rfl)
theorem dX1_restore_11 : decode cX1_restore 11 = .ok (.iconst 0, 1) := dk_3 (dk_at dksX1_restore_0 11 rfl rfl)
theorem dX1_restore_12 : decode cX1_restore 12 = .ok (.invokestatic 302, 3) := dk_184 1 46 (dk_at dksX1_restore_0 12 rfl rfl)
theorem dX1_restore_15 : decode cX1_restore 15 = .ok (.aload_n 0, 1) := dk_42 (dk_at dksX1_restore_0 15 rfl rfl)
theorem dX1_restore_16 : decode cX1_restore 16 = .ok (.aload_n 0, 1) := dk_42 (dk_at dksX1_restore_0 16 rfl rfl)
theorem dX1_restore_17 : decode cX1_restore 17 = .ok (.getfield 400, 3) := dk_180 1 144 (dk_at dksX1_restore_0 17 rfl rfl)
theorem dX1_restore_20 : decode cX1_restore 20 = .ok (.invokevirtual 94, 3) := dk_182 0 94 (dk_at dksX1_restore_0 20 rfl rfl)
theorem dX1_restore_23 : decode cX1_restore 23 = .ok (.putfield 35, 3) := dk_181 0 35 (dk_at dksX1_restore_1 0 rfl rfl)
theorem dX1_restore_26 : decode cX1_restore 26 = .ok (.aload_n 0, 1) := dk_42 (dk_at dksX1_restore_1 3 rfl rfl)
theorem dX1_restore_27 : decode cX1_restore 27 = .ok (.getfield 42, 3) := dk_180 0 42 (dk_at dksX1_restore_1 4 rfl rfl)
theorem dX1_restore_30 : decode cX1_restore 30 = .ok (.invokevirtual 91, 3) := dk_182 0 91 (dk_at dksX1_restore_1 7 rfl rfl)
theorem dX1_restore_33 : decode cX1_restore 33 = .ok (.aload_n 0, 1) := dk_42 (dk_at dksX1_restore_1 10 rfl rfl)
theorem dX1_restore_34 : decode cX1_restore 34 = .ok (.getfield 35, 3) := dk_180 0 35 (dk_at dksX1_restore_1 11 rfl rfl)
theorem dX1_restore_37 : decode cX1_restore 37 = .ok (.getfield 81, 3) := dk_180 0 81 (dk_at dksX1_restore_1 14 rfl rfl)
theorem dX1_restore_40 : decode cX1_restore 40 = .ok (.invokevirtual 85, 3) := dk_182 0 85 (dk_at dksX1_restore_1 17 rfl rfl)
theorem dX1_restore_43 : decode cX1_restore 43 = .ok (.ireturn, 1) := dk_172 (dk_at dksX1_restore_1 20 rfl rfl)
theorem q84 : (Jvm.Cond.initialized "CueStack") ∈ lw_all := lw_g (lw_at lw_m1 1 rfl) rfl
theorem q146 : (Jvm.Cond.instantiable "CueStack" (9 : Nat)) ∈ lw_all := lw_g (lw_at lw_m1 63 rfl) rfl
theorem q148 : (Jvm.Cond.instanceMethod ({ cls := "CueStack", name := "<init>", desc := "()V" } : Jvm.MethodName)) ∈ lw_all := lw_g (lw_at lw_m1 65 rfl) rfl
theorem q149 : (Jvm.Cond.code ({ cls := "CueStack", name := "<init>", desc := "()V" } : Jvm.MethodName) prog_1_method_8_code (1 : Nat) (Option.none : Option Jvm.ClassFile.FieldType)) ∈ lw_all := lw_g (lw_at lw_m1 66 rfl) rfl
theorem q150 : (Jvm.Cond.methodLink "CueStack" (29 : Nat) ({ cls := "java/lang/Object", name := "<init>", desc := "()V" } : Jvm.MethodName)) ∈ lw_all := lw_g (lw_at lw_m1 67 rfl) rfl
theorem q153 : (Jvm.Cond.classLink "CueStack" (32 : Nat) "CueStack$Show") ∈ lw_all := lw_g (lw_at lw_m1 70 rfl) rfl
theorem q155 : (Jvm.Cond.methodLink "CueStack" (34 : Nat) ({ cls := "CueStack$Show", name := "<init>", desc := "()V" } : Jvm.MethodName)) ∈ lw_all := lw_g (lw_at lw_m1 72 rfl) rfl
theorem q255 : (Jvm.Cond.fieldLinkNest "CueStack" (316 : Nat) "CueStack$Fade" "to" "I" "CueStack") ∈ lw_tbl := lw_at lw_m1 172 rfl
theorem q304 : (Jvm.Cond.selects "CueStack" ({ cls := "java/lang/Object", name := "getClass", desc := "()Ljava/lang/Class;" } : Jvm.MethodName) ({ cls := "java/lang/Object", name := "getClass", desc := "()Ljava/lang/Class;" } : Jvm.MethodName)) ∈ lw_all := lw_g (lw_at lw_m1 221 rfl) rfl
theorem q356 : (Jvm.Cond.fieldLinkNest "CueStack" (81 : Nat) "CueStack$Show" "cues" "Ljava/util/ArrayList;" "CueStack") ∈ lw_tbl := lw_at lw_m2 33 rfl
theorem q358 : (Jvm.Cond.fieldLinkNest "CueStack" (226 : Nat) "CueStack$Show" "instructions" "Ljava/util/LinkedHashMap;" "CueStack") ∈ lw_tbl := lw_at lw_m2 35 rfl
theorem q360 : (Jvm.Cond.fieldLinkNest "CueStack" (208 : Nat) "CueStack$Show" "homes" "[I" "CueStack") ∈ lw_tbl := lw_at lw_m2 37 rfl
theorem q362 : (Jvm.Cond.fieldLinkNest "CueStack" (308 : Nat) "CueStack$Show" "fades" "Ljava/util/ArrayList;" "CueStack") ∈ lw_tbl := lw_at lw_m2 39 rfl
theorem q364 : (Jvm.Cond.fieldLinkNest "CueStack" (322 : Nat) "CueStack$Show" "last" "I" "CueStack") ∈ lw_tbl := lw_at lw_m2 41 rfl
theorem q366 : (Jvm.Cond.fieldLinkNest "CueStack" (325 : Nat) "CueStack$Show" "since" "I" "CueStack") ∈ lw_tbl := lw_at lw_m2 43 rfl
theorem q368 : (Jvm.Cond.fieldLinkNest "CueStack" (352 : Nat) "CueStack$Show" "gone" "I" "CueStack") ∈ lw_tbl := lw_at lw_m2 45 rfl
theorem q370 : (Jvm.Cond.fieldLinkNest "CueStack" (298 : Nat) "CueStack$Show" "passed" "I" "CueStack") ∈ lw_tbl := lw_at lw_m2 47 rfl
theorem q388 : (Jvm.Cond.classLink "CueStack" (39 : Nat) "CueStack$Past") ∈ lw_all := lw_g (lw_at lw_m2 65 rfl) rfl
theorem q390 : (Jvm.Cond.methodLink "CueStack" (41 : Nat) ({ cls := "CueStack$Past", name := "<init>", desc := "(I)V" } : Jvm.MethodName)) ∈ lw_all := lw_g (lw_at lw_m2 67 rfl) rfl
theorem q403 : (Jvm.Cond.privateMethod ({ cls := "CueStack", name := "lambda$new$0", desc := "(II)I" } : Jvm.MethodName)) ∈ lw_tbl := lw_at lw_m2 80 rfl
theorem q404 : (Jvm.Cond.instanceMethod ({ cls := "CueStack", name := "lambda$new$0", desc := "(II)I" } : Jvm.MethodName)) ∈ lw_all := lw_g (lw_at lw_m2 81 rfl) rfl
theorem q405 : (Jvm.Cond.code ({ cls := "CueStack", name := "lambda$new$0", desc := "(II)I" } : Jvm.MethodName) prog_1_method_68_code (3 : Nat) (Option.some Jvm.ClassFile.FieldType.int)) ∈ lw_all := lw_g (lw_at lw_m2 82 rfl) rfl
theorem q406 : (Jvm.Cond.methodLink "CueStack" (143 : Nat) ({ cls := "CueStack$Show", name := "level", desc := "(II)I" } : Jvm.MethodName)) ∈ lw_all := lw_g (lw_at lw_m2 83 rfl) rfl
theorem q437 : (Jvm.Cond.fieldLinkNest "CueStack" (255 : Nat) "CueStack$Key" "cue" "I" "CueStack") ∈ lw_tbl := lw_at lw_m2 114 rfl
theorem q439 : (Jvm.Cond.fieldLinkNest "CueStack" (257 : Nat) "CueStack$Key" "channel" "I" "CueStack") ∈ lw_tbl := lw_at lw_m2 116 rfl
theorem q462 : (Jvm.Cond.selects "CueStack" ({ cls := "java/lang/Object", name := "hashCode", desc := "()I" } : Jvm.MethodName) ({ cls := "java/lang/Object", name := "hashCode", desc := "()I" } : Jvm.MethodName)) ∈ lw_all := lw_g (lw_at lw_m2 139 rfl) rfl
theorem q847 : (Jvm.Cond.selects "CueStack" ({ cls := "java/lang/Object", name := "equals", desc := "(Ljava/lang/Object;)Z" } : Jvm.MethodName) ({ cls := "java/lang/Object", name := "equals", desc := "(Ljava/lang/Object;)Z" } : Jvm.MethodName)) ∈ lw_all := lw_g (lw_at lw_m4 44 rfl) rfl
theorem q1104 : (Jvm.Cond.privateMethod ({ cls := "CueStack", name := "lambda$new$1", desc := "(II)I" } : Jvm.MethodName)) ∈ lw_tbl := lw_at lw_m5 61 rfl
theorem q1105 : (Jvm.Cond.instanceMethod ({ cls := "CueStack", name := "lambda$new$1", desc := "(II)I" } : Jvm.MethodName)) ∈ lw_all := lw_g (lw_at lw_m5 62 rfl) rfl
theorem q1106 : (Jvm.Cond.code ({ cls := "CueStack", name := "lambda$new$1", desc := "(II)I" } : Jvm.MethodName) prog_1_method_67_code (3 : Nat) (Option.some Jvm.ClassFile.FieldType.int)) ∈ lw_all := lw_g (lw_at lw_m5 63 rfl) rfl
theorem q1107 : (Jvm.Cond.methodLink "CueStack" (409 : Nat) ({ cls := "CueStack$Show", name := "levelAgain", desc := "(II)I" } : Jvm.MethodName)) ∈ lw_all := lw_g (lw_at lw_m5 64 rfl) rfl
theorem q1111 : (Jvm.Cond.fieldLink "CueStack" (35 : Nat) "CueStack" "show" "LCueStack$Show;") ∈ lw_all := lw_g (lw_at lw_m5 68 rfl) rfl
theorem q1112 : (Jvm.Cond.fieldLink "CueStack" (400 : Nat) "CueStack" "saved" "LCueStack$Show;") ∈ lw_all := lw_g (lw_at lw_m5 69 rfl) rfl
theorem q1113 : (Jvm.Cond.fieldLink "CueStack" (42 : Nat) "CueStack" "past" "LCueStack$Past;") ∈ lw_all := lw_g (lw_at lw_m5 70 rfl) rfl
theorem q1114 : (Jvm.Cond.fieldLink "CueStack" (50 : Nat) "CueStack" "tracking" "LCueStack$Levels;") ∈ lw_all := lw_g (lw_at lw_m5 71 rfl) rfl
theorem q1115 : (Jvm.Cond.fieldLink "CueStack" (55 : Nat) "CueStack" "playingOn" "LCueStack$Levels;") ∈ lw_all := lw_g (lw_at lw_m5 72 rfl) rfl
theorem q1116 : (Jvm.Cond.fieldLink "CueStack" (58 : Nat) "CueStack" "input" "[C") ∈ lw_all := lw_g (lw_at lw_m5 73 rfl) rfl
theorem q1117 : (Jvm.Cond.fieldLink "CueStack" (363 : Nat) "CueStack" "typed" "I") ∈ lw_all := lw_g (lw_at lw_m5 74 rfl) rfl
theorem q1118 : (Jvm.Cond.fieldLink "CueStack" (376 : Nat) "CueStack" "badText" "LCueStack$BadText;") ∈ lw_all := lw_g (lw_at lw_m5 75 rfl) rfl
theorem q1119 : (Jvm.Cond.fieldLink "CueStack" (66 : Nat) "CueStack" "refusal" "LCueStack$Refusal;") ∈ lw_all := lw_g (lw_at lw_m5 76 rfl) rfl
theorem q1120 : (Jvm.Cond.lays "CueStack" "CueStack" "show" "LCueStack$Show;") ∈ lw_all := lw_g (lw_at lw_m5 77 rfl) rfl
theorem q1121 : (Jvm.Cond.soleField "CueStack" "show") ∈ lw_all := lw_g (lw_at lw_m5 78 rfl) rfl
theorem q1122 : (Jvm.Cond.lays "CueStack" "CueStack" "saved" "LCueStack$Show;") ∈ lw_all := lw_g (lw_at lw_m5 79 rfl) rfl
theorem q1123 : (Jvm.Cond.soleField "CueStack" "saved") ∈ lw_all := lw_g (lw_at lw_m5 80 rfl) rfl
theorem q1124 : (Jvm.Cond.laysFinal "CueStack" "CueStack" "past" "LCueStack$Past;") ∈ lw_all := lw_g (lw_at lw_m5 81 rfl) rfl
theorem q1125 : (Jvm.Cond.soleField "CueStack" "past") ∈ lw_all := lw_g (lw_at lw_m5 82 rfl) rfl
theorem q1126 : (Jvm.Cond.laysFinal "CueStack" "CueStack" "tracking" "LCueStack$Levels;") ∈ lw_all := lw_g (lw_at lw_m5 83 rfl) rfl
theorem q1127 : (Jvm.Cond.soleField "CueStack" "tracking") ∈ lw_all := lw_g (lw_at lw_m5 84 rfl) rfl
theorem q1128 : (Jvm.Cond.laysFinal "CueStack" "CueStack" "playingOn" "LCueStack$Levels;") ∈ lw_all := lw_g (lw_at lw_m5 85 rfl) rfl
theorem q1129 : (Jvm.Cond.soleField "CueStack" "playingOn") ∈ lw_all := lw_g (lw_at lw_m5 86 rfl) rfl
theorem q1130 : (Jvm.Cond.laysFinal "CueStack" "CueStack" "input" "[C") ∈ lw_all := lw_g (lw_at lw_m5 87 rfl) rfl
theorem q1131 : (Jvm.Cond.soleField "CueStack" "input") ∈ lw_all := lw_g (lw_at lw_m5 88 rfl) rfl
theorem q1132 : (Jvm.Cond.lays "CueStack" "CueStack" "typed" "I") ∈ lw_all := lw_g (lw_at lw_m5 89 rfl) rfl
theorem q1133 : (Jvm.Cond.soleField "CueStack" "typed") ∈ lw_all := lw_g (lw_at lw_m5 90 rfl) rfl
theorem q1134 : (Jvm.Cond.lays "CueStack" "CueStack" "badText" "LCueStack$BadText;") ∈ lw_all := lw_g (lw_at lw_m5 91 rfl) rfl
theorem q1135 : (Jvm.Cond.soleField "CueStack" "badText") ∈ lw_all := lw_g (lw_at lw_m5 92 rfl) rfl
theorem q1136 : (Jvm.Cond.lays "CueStack" "CueStack" "refusal" "LCueStack$Refusal;") ∈ lw_all := lw_g (lw_at lw_m5 93 rfl) rfl
theorem q1137 : (Jvm.Cond.soleField "CueStack" "refusal") ∈ lw_all := lw_g (lw_at lw_m5 94 rfl) rfl
theorem q1138 : (Jvm.Cond.superclass "CueStack" "java/lang/Object") ∈ lw_all := lw_g (lw_at lw_m5 95 rfl) rfl
theorem q1141 : (Jvm.Cond.instanceMethod ({ cls := "CueStack", name := "clear", desc := "()I" } : Jvm.MethodName)) ∈ lw_all := lw_g (lw_at lw_m5 98 rfl) rfl
theorem q1142 : (Jvm.Cond.selects "CueStack" ({ cls := "CueStack", name := "clear", desc := "()I" } : Jvm.MethodName) ({ cls := "CueStack", name := "clear", desc := "()I" } : Jvm.MethodName)) ∈ lw_all := lw_g (lw_at lw_m5 99 rfl) rfl
theorem q1143 : (Jvm.Cond.code ({ cls := "CueStack", name := "clear", desc := "()I" } : Jvm.MethodName) prog_1_method_13_code (2 : Nat) (Option.some Jvm.ClassFile.FieldType.int)) ∈ lw_all := lw_g (lw_at lw_m5 100 rfl) rfl
theorem q1144 : (Jvm.Cond.methodLink "CueStack" (85 : Nat) ({ cls := "java/util/ArrayList", name := "size", desc := "()I" } : Jvm.MethodName)) ∈ lw_all := lw_g (lw_at lw_m5 101 rfl) rfl
theorem q1148 : (Jvm.Cond.methodLink "CueStack" (91 : Nat) ({ cls := "CueStack$Past", name := "forget", desc := "()V" } : Jvm.MethodName)) ∈ lw_all := lw_g (lw_at lw_m5 105 rfl) rfl
theorem q1157 : (Jvm.Cond.instanceMethod ({ cls := "CueStack", name := "meanLevel", desc := "()D" } : Jvm.MethodName)) ∈ lw_all := lw_g (lw_at lw_m5 114 rfl) rfl
theorem q1158 : (Jvm.Cond.selects "CueStack" ({ cls := "CueStack", name := "meanLevel", desc := "()D" } : Jvm.MethodName) ({ cls := "CueStack", name := "meanLevel", desc := "()D" } : Jvm.MethodName)) ∈ lw_all := lw_g (lw_at lw_m5 115 rfl) rfl
theorem q1159 : (Jvm.Cond.code ({ cls := "CueStack", name := "meanLevel", desc := "()D" } : Jvm.MethodName) prog_1_method_53_code (1 : Nat) (Option.some Jvm.ClassFile.FieldType.double)) ∈ lw_all := lw_g (lw_at lw_m5 116 rfl) rfl
theorem q1160 : (Jvm.Cond.methodLink "CueStack" (349 : Nat) ({ cls := "CueStack", name := "sumOfFades", desc := "(I)I" } : Jvm.MethodName)) ∈ lw_all := lw_g (lw_at lw_m5 117 rfl) rfl
theorem q1161 : (Jvm.Cond.privateMethod ({ cls := "CueStack", name := "sumOfFades", desc := "(I)I" } : Jvm.MethodName)) ∈ lw_tbl := lw_at lw_m5 118 rfl
theorem q1162 : (Jvm.Cond.instanceMethod ({ cls := "CueStack", name := "sumOfFades", desc := "(I)I" } : Jvm.MethodName)) ∈ lw_all := lw_g (lw_at lw_m5 119 rfl) rfl
theorem q1163 : (Jvm.Cond.code ({ cls := "CueStack", name := "sumOfFades", desc := "(I)I" } : Jvm.MethodName) prog_1_method_49_code (4 : Nat) (Option.some Jvm.ClassFile.FieldType.int)) ∈ lw_all := lw_g (lw_at lw_m5 120 rfl) rfl
theorem q1164 : (Jvm.Cond.methodLink "CueStack" (123 : Nat) ({ cls := "java/util/ArrayList", name := "get", desc := "(I)Ljava/lang/Object;" } : Jvm.MethodName)) ∈ lw_all := lw_g (lw_at lw_m5 121 rfl) rfl
theorem q1165 : (Jvm.Cond.classLink "CueStack" (311 : Nat) "CueStack$Fade") ∈ lw_all := lw_g (lw_at lw_m5 122 rfl) rfl
theorem q1166 : (Jvm.Cond.methodLink "CueStack" (313 : Nat) ({ cls := "CueStack$Fade", name := "now", desc := "()I" } : Jvm.MethodName)) ∈ lw_all := lw_g (lw_at lw_m5 123 rfl) rfl
theorem q1170 : (Jvm.Cond.constantDouble "CueStack" (361 : Nat) (4622945017495814144 : UInt64)) ∈ lw_all := lw_g (lw_at lw_m5 127 rfl) rfl
theorem q1172 : (Jvm.Cond.instanceMethod ({ cls := "CueStack", name := "save", desc := "()I" } : Jvm.MethodName)) ∈ lw_all := lw_g (lw_at lw_m5 129 rfl) rfl
theorem q1173 : (Jvm.Cond.selects "CueStack" ({ cls := "CueStack", name := "save", desc := "()I" } : Jvm.MethodName) ({ cls := "CueStack", name := "save", desc := "()I" } : Jvm.MethodName)) ∈ lw_all := lw_g (lw_at lw_m5 130 rfl) rfl
theorem q1174 : (Jvm.Cond.code ({ cls := "CueStack", name := "save", desc := "()I" } : Jvm.MethodName) prog_1_method_59_code (1 : Nat) (Option.some Jvm.ClassFile.FieldType.int)) ∈ lw_all := lw_g (lw_at lw_m5 131 rfl) rfl
theorem q1175 : (Jvm.Cond.methodLink "CueStack" (94 : Nat) ({ cls := "CueStack$Show", name := "copy", desc := "()LCueStack$Show;" } : Jvm.MethodName)) ∈ lw_all := lw_g (lw_at lw_m5 132 rfl) rfl
theorem q1194 : (Jvm.Cond.fieldLinkNest "CueStack" (129 : Nat) "CueStack$Cue" "number" "I" "CueStack") ∈ lw_tbl := lw_at lw_m5 151 rfl
theorem q1197 : (Jvm.Cond.fieldLinkNest "CueStack" (151 : Nat) "CueStack$Cue" "isBlock" "Z" "CueStack") ∈ lw_tbl := lw_at lw_m5 154 rfl
theorem q1200 : (Jvm.Cond.fieldLinkNest "CueStack" (167 : Nat) "CueStack$Cue" "isProtected" "Z" "CueStack") ∈ lw_tbl := lw_at lw_m5 157 rfl
theorem q1202 : (Jvm.Cond.fieldLinkNest "CueStack" (137 : Nat) "CueStack$Cue" "follow" "I" "CueStack") ∈ lw_tbl := lw_at lw_m5 159 rfl
theorem q1205 : (Jvm.Cond.fieldLinkNest "CueStack" (174 : Nat) "CueStack$Cue" "delays" "[I" "CueStack") ∈ lw_tbl := lw_at lw_m5 162 rfl
theorem q1208 : (Jvm.Cond.fieldLinkNest "CueStack" (178 : Nat) "CueStack$Cue" "times" "[I" "CueStack") ∈ lw_tbl := lw_at lw_m5 165 rfl
theorem q1684 : (Jvm.Cond.instanceMethod ({ cls := "CueStack", name := "addCue", desc := "(I)I" } : Jvm.MethodName)) ∈ lw_all := lw_g (lw_at lw_m7 161 rfl) rfl
theorem q1685 : (Jvm.Cond.selects "CueStack" ({ cls := "CueStack", name := "addCue", desc := "(I)I" } : Jvm.MethodName) ({ cls := "CueStack", name := "addCue", desc := "(I)I" } : Jvm.MethodName)) ∈ lw_all := lw_g (lw_at lw_m7 162 rfl) rfl
theorem q1686 : (Jvm.Cond.code ({ cls := "CueStack", name := "addCue", desc := "(I)I" } : Jvm.MethodName) prog_1_method_14_code (3 : Nat) (Option.some Jvm.ClassFile.FieldType.int)) ∈ lw_all := lw_g (lw_at lw_m7 163 rfl) rfl
theorem q1687 : (Jvm.Cond.methodLink "CueStack" (98 : Nat) ({ cls := "CueStack$Show", name := "addCue", desc := "(I)V" } : Jvm.MethodName)) ∈ lw_all := lw_g (lw_at lw_m7 164 rfl) rfl
theorem q1692 : (Jvm.Cond.static ({ cls := "CueStack", name := "isIn", desc := "(III)Z" } : Jvm.MethodName)) ∈ lw_all := lw_g (lw_at lw_m7 169 rfl) rfl
theorem q1693 : (Jvm.Cond.code ({ cls := "CueStack", name := "isIn", desc := "(III)Z" } : Jvm.MethodName) prog_1_method_1_code (3 : Nat) (Option.some Jvm.ClassFile.FieldType.boolean)) ∈ lw_all := lw_g (lw_at lw_m7 170 rfl) rfl
theorem q1699 : (Jvm.Cond.static ({ cls := "CueStack", name := "checkArgument", desc := "(Z)V" } : Jvm.MethodName)) ∈ lw_all := lw_g (lw_at lw_m7 176 rfl) rfl
theorem q1700 : (Jvm.Cond.code ({ cls := "CueStack", name := "checkArgument", desc := "(Z)V" } : Jvm.MethodName) prog_1_method_2_code (1 : Nat) (Option.none : Option Jvm.ClassFile.FieldType)) ∈ lw_all := lw_g (lw_at lw_m7 177 rfl) rfl
theorem q1701 : (Jvm.Cond.classLink "CueStack" (1 : Nat) "java/lang/IllegalArgumentException") ∈ lw_all := lw_g (lw_at lw_m7 178 rfl) rfl
theorem q1702 : (Jvm.Cond.methodLink "CueStack" (3 : Nat) ({ cls := "java/lang/IllegalArgumentException", name := "<init>", desc := "()V" } : Jvm.MethodName)) ∈ lw_all := lw_g (lw_at lw_m7 179 rfl) rfl
theorem q1707 : (Jvm.Cond.static ({ cls := "CueStack", name := "checkState", desc := "(Z)V" } : Jvm.MethodName)) ∈ lw_all := lw_g (lw_at lw_m7 184 rfl) rfl
theorem q1708 : (Jvm.Cond.code ({ cls := "CueStack", name := "checkState", desc := "(Z)V" } : Jvm.MethodName) prog_1_method_4_code (1 : Nat) (Option.none : Option Jvm.ClassFile.FieldType)) ∈ lw_all := lw_g (lw_at lw_m7 185 rfl) rfl
theorem q1709 : (Jvm.Cond.classLink "CueStack" (10 : Nat) "java/lang/IllegalStateException") ∈ lw_all := lw_g (lw_at lw_m7 186 rfl) rfl
theorem q1718 : (Jvm.Cond.methodLink "CueStack" (12 : Nat) ({ cls := "java/lang/IllegalStateException", name := "<init>", desc := "()V" } : Jvm.MethodName)) ∈ lw_all := lw_g (lw_at lw_m7 195 rfl) rfl
theorem q1760 : (Jvm.Cond.methodLink "CueStack" (101 : Nat) ({ cls := "CueStack", name := "become", desc := "(LCueStack$Show;)V" } : Jvm.MethodName)) ∈ lw_all := lw_g (lw_at lw_m7 237 rfl) rfl
theorem q1761 : (Jvm.Cond.privateMethod ({ cls := "CueStack", name := "become", desc := "(LCueStack$Show;)V" } : Jvm.MethodName)) ∈ lw_tbl := lw_at lw_m7 238 rfl
theorem q1762 : (Jvm.Cond.instanceMethod ({ cls := "CueStack", name := "become", desc := "(LCueStack$Show;)V" } : Jvm.MethodName)) ∈ lw_all := lw_g (lw_at lw_m7 239 rfl) rfl
theorem q1763 : (Jvm.Cond.code ({ cls := "CueStack", name := "become", desc := "(LCueStack$Show;)V" } : Jvm.MethodName) prog_1_method_9_code (2 : Nat) (Option.none : Option Jvm.ClassFile.FieldType)) ∈ lw_all := lw_g (lw_at lw_m8 0 rfl) rfl
theorem q1764 : (Jvm.Cond.methodLink "CueStack" (62 : Nat) ({ cls := "CueStack$Past", name := "keep", desc := "(LCueStack$Copied;)V" } : Jvm.MethodName)) ∈ lw_all := lw_g (lw_at lw_m8 1 rfl) rfl
theorem q1825 : (Jvm.Cond.instanceMethod ({ cls := "CueStack", name := "removeCue", desc := "(IZ)I" } : Jvm.MethodName)) ∈ lw_all := lw_g (lw_at lw_m8 62 rfl) rfl
theorem q1826 : (Jvm.Cond.selects "CueStack" ({ cls := "CueStack", name := "removeCue", desc := "(IZ)I" } : Jvm.MethodName) ({ cls := "CueStack", name := "removeCue", desc := "(IZ)I" } : Jvm.MethodName)) ∈ lw_all := lw_g (lw_at lw_m8 63 rfl) rfl
theorem q1827 : (Jvm.Cond.codeWith ({ cls := "CueStack", name := "removeCue", desc := "(IZ)I" } : Jvm.MethodName) prog_1_method_15_code (7 : Nat) (Option.some Jvm.ClassFile.FieldType.int) [((28 : Nat), (35 : Nat), (38 : Nat), (16 : Nat))]) ∈ lw_all := lw_g (lw_at lw_m8 64 rfl) rfl
theorem q1828 : (Jvm.Cond.classLink "CueStack" (16 : Nat) "CueStack$Refusal") ∈ lw_all := lw_g (lw_at lw_m8 65 rfl) rfl
theorem q1829 : (Jvm.Cond.methodLink "CueStack" (105 : Nat) ({ cls := "CueStack$Show", name := "index", desc := "(I)I" } : Jvm.MethodName)) ∈ lw_all := lw_g (lw_at lw_m8 66 rfl) rfl
theorem q1834 : (Jvm.Cond.static ({ cls := "CueStack", name := "checkIndex", desc := "(Z)V" } : Jvm.MethodName)) ∈ lw_all := lw_g (lw_at lw_m8 71 rfl) rfl
theorem q1835 : (Jvm.Cond.code ({ cls := "CueStack", name := "checkIndex", desc := "(Z)V" } : Jvm.MethodName) prog_1_method_3_code (1 : Nat) (Option.none : Option Jvm.ClassFile.FieldType)) ∈ lw_all := lw_g (lw_at lw_m8 72 rfl) rfl
theorem q1836 : (Jvm.Cond.classLink "CueStack" (7 : Nat) "java/lang/IndexOutOfBoundsException") ∈ lw_all := lw_g (lw_at lw_m8 73 rfl) rfl
theorem q1837 : (Jvm.Cond.methodLink "CueStack" (9 : Nat) ({ cls := "java/lang/IndexOutOfBoundsException", name := "<init>", desc := "()V" } : Jvm.MethodName)) ∈ lw_all := lw_g (lw_at lw_m8 74 rfl) rfl
theorem q1841 : (Jvm.Cond.methodLink "CueStack" (109 : Nat) ({ cls := "CueStack$Show", name := "instructionsOf", desc := "(I)I" } : Jvm.MethodName)) ∈ lw_all := lw_g (lw_at lw_m8 78 rfl) rfl
theorem q1872 : (Jvm.Cond.methodLink "CueStack" (112 : Nat) ({ cls := "CueStack$Show", name := "removeCue", desc := "(IZ)V" } : Jvm.MethodName)) ∈ lw_all := lw_g (lw_at lw_m8 109 rfl) rfl
theorem q1956 : (Jvm.Cond.fieldLinkNest "CueStack" (268 : Nat) "CueStack$Instruction" "part" "I" "CueStack") ∈ lw_tbl := lw_at lw_m8 193 rfl
theorem q1969 : (Jvm.Cond.static ({ cls := "CueStack", name := "refuse", desc := "(ZI)V" } : Jvm.MethodName)) ∈ lw_all := lw_g (lw_at lw_m8 206 rfl) rfl
theorem q1970 : (Jvm.Cond.code ({ cls := "CueStack", name := "refuse", desc := "(ZI)V" } : Jvm.MethodName) prog_1_method_6_code (2 : Nat) (Option.none : Option Jvm.ClassFile.FieldType)) ∈ lw_all := lw_g (lw_at lw_m8 207 rfl) rfl
theorem q1979 : (Jvm.Cond.methodLink "CueStack" (18 : Nat) ({ cls := "CueStack$Refusal", name := "<init>", desc := "(I)V" } : Jvm.MethodName)) ∈ lw_all := lw_g (lw_at lw_m8 216 rfl) rfl
theorem q1984 : (Jvm.Cond.fieldLinkNest "CueStack" (282 : Nat) "CueStack$Refusal" "reason" "I" "CueStack") ∈ lw_tbl := lw_at lw_m8 221 rfl
theorem q1993 : (Jvm.Cond.methodLink "CueStack" (116 : Nat) ({ cls := "CueStack", name := "kept", desc := "(LCueStack$Refusal;)Ljava/lang/UnsupportedOperationException;" } : Jvm.MethodName)) ∈ lw_all := lw_g (lw_at lw_m8 230 rfl) rfl
theorem q1994 : (Jvm.Cond.privateMethod ({ cls := "CueStack", name := "kept", desc := "(LCueStack$Refusal;)Ljava/lang/UnsupportedOperationException;" } : Jvm.MethodName)) ∈ lw_tbl := lw_at lw_m8 231 rfl
theorem q1995 : (Jvm.Cond.instanceMethod ({ cls := "CueStack", name := "kept", desc := "(LCueStack$Refusal;)Ljava/lang/UnsupportedOperationException;" } : Jvm.MethodName)) ∈ lw_all := lw_g (lw_at lw_m8 232 rfl) rfl
theorem q1996 : (Jvm.Cond.code ({ cls := "CueStack", name := "kept", desc := "(LCueStack$Refusal;)Ljava/lang/UnsupportedOperationException;" } : Jvm.MethodName) prog_1_method_10_code (2 : Nat) (Option.some (Jvm.ClassFile.FieldType.object "java/lang/UnsupportedOperationException"))) ∈ lw_all := lw_g (lw_at lw_m8 233 rfl) rfl
theorem q1997 : (Jvm.Cond.classLink "CueStack" (70 : Nat) "java/lang/UnsupportedOperationException") ∈ lw_all := lw_g (lw_at lw_m8 234 rfl) rfl
theorem q2006 : (Jvm.Cond.methodLink "CueStack" (72 : Nat) ({ cls := "java/lang/UnsupportedOperationException", name := "<init>", desc := "()V" } : Jvm.MethodName)) ∈ lw_all := lw_g (lw_at lw_m9 3 rfl) rfl
theorem q2017 : (Jvm.Cond.instanceMethod ({ cls := "CueStack", name := "cueAt", desc := "(I)I" } : Jvm.MethodName)) ∈ lw_all := lw_g (lw_at lw_m9 14 rfl) rfl
theorem q2018 : (Jvm.Cond.selects "CueStack" ({ cls := "CueStack", name := "cueAt", desc := "(I)I" } : Jvm.MethodName) ({ cls := "CueStack", name := "cueAt", desc := "(I)I" } : Jvm.MethodName)) ∈ lw_all := lw_g (lw_at lw_m9 15 rfl) rfl
theorem q2019 : (Jvm.Cond.code ({ cls := "CueStack", name := "cueAt", desc := "(I)I" } : Jvm.MethodName) prog_1_method_16_code (2 : Nat) (Option.some Jvm.ClassFile.FieldType.int)) ∈ lw_all := lw_g (lw_at lw_m9 16 rfl) rfl
theorem q2020 : (Jvm.Cond.methodLink "CueStack" (73 : Nat) ({ cls := "CueStack", name := "isIn", desc := "(III)Z" } : Jvm.MethodName)) ∈ lw_all := lw_g (lw_at lw_m9 17 rfl) rfl
theorem q2021 : (Jvm.Cond.methodLink "CueStack" (120 : Nat) ({ cls := "CueStack", name := "checkElement", desc := "(Z)V" } : Jvm.MethodName)) ∈ lw_all := lw_g (lw_at lw_m9 18 rfl) rfl
theorem q2022 : (Jvm.Cond.static ({ cls := "CueStack", name := "checkElement", desc := "(Z)V" } : Jvm.MethodName)) ∈ lw_all := lw_g (lw_at lw_m9 19 rfl) rfl
theorem q2023 : (Jvm.Cond.code ({ cls := "CueStack", name := "checkElement", desc := "(Z)V" } : Jvm.MethodName) prog_1_method_5_code (1 : Nat) (Option.none : Option Jvm.ClassFile.FieldType)) ∈ lw_all := lw_g (lw_at lw_m9 20 rfl) rfl
theorem q2024 : (Jvm.Cond.classLink "CueStack" (13 : Nat) "java/util/NoSuchElementException") ∈ lw_all := lw_g (lw_at lw_m9 21 rfl) rfl
theorem q2025 : (Jvm.Cond.methodLink "CueStack" (15 : Nat) ({ cls := "java/util/NoSuchElementException", name := "<init>", desc := "()V" } : Jvm.MethodName)) ∈ lw_all := lw_g (lw_at lw_m9 22 rfl) rfl
theorem q2026 : (Jvm.Cond.classLink "CueStack" (127 : Nat) "CueStack$Cue") ∈ lw_all := lw_g (lw_at lw_m9 23 rfl) rfl
theorem q2031 : (Jvm.Cond.instanceMethod ({ cls := "CueStack", name := "setFollow", desc := "(II)I" } : Jvm.MethodName)) ∈ lw_all := lw_g (lw_at lw_m9 28 rfl) rfl
theorem q2032 : (Jvm.Cond.selects "CueStack" ({ cls := "CueStack", name := "setFollow", desc := "(II)I" } : Jvm.MethodName) ({ cls := "CueStack", name := "setFollow", desc := "(II)I" } : Jvm.MethodName)) ∈ lw_all := lw_g (lw_at lw_m9 29 rfl) rfl
theorem q2033 : (Jvm.Cond.code ({ cls := "CueStack", name := "setFollow", desc := "(II)I" } : Jvm.MethodName) prog_1_method_17_code (4 : Nat) (Option.some Jvm.ClassFile.FieldType.int)) ∈ lw_all := lw_g (lw_at lw_m9 30 rfl) rfl
theorem q2034 : (Jvm.Cond.methodLink "CueStack" (133 : Nat) ({ cls := "CueStack$Show", name := "cue", desc := "(I)LCueStack$Cue;" } : Jvm.MethodName)) ∈ lw_all := lw_g (lw_at lw_m9 31 rfl) rfl
theorem q2038 : (Jvm.Cond.methodLink "CueStack" (140 : Nat) ({ cls := "CueStack", name := "checkArgument", desc := "(Z)V" } : Jvm.MethodName)) ∈ lw_all := lw_g (lw_at lw_m9 35 rfl) rfl
theorem q2043 : (Jvm.Cond.instanceMethod ({ cls := "CueStack", name := "setBlock", desc := "(IZ)I" } : Jvm.MethodName)) ∈ lw_all := lw_g (lw_at lw_m9 40 rfl) rfl
theorem q2044 : (Jvm.Cond.selects "CueStack" ({ cls := "CueStack", name := "setBlock", desc := "(IZ)I" } : Jvm.MethodName) ({ cls := "CueStack", name := "setBlock", desc := "(IZ)I" } : Jvm.MethodName)) ∈ lw_all := lw_g (lw_at lw_m9 41 rfl) rfl
theorem q2045 : (Jvm.Cond.code ({ cls := "CueStack", name := "setBlock", desc := "(IZ)I" } : Jvm.MethodName) prog_1_method_19_code (5 : Nat) (Option.some Jvm.ClassFile.FieldType.int)) ∈ lw_all := lw_g (lw_at lw_m9 42 rfl) rfl
theorem q2046 : (Jvm.Cond.methodLink "CueStack" (147 : Nat) ({ cls := "CueStack", name := "levelsIn", desc := "(I)[I" } : Jvm.MethodName)) ∈ lw_all := lw_g (lw_at lw_m9 43 rfl) rfl
theorem q2047 : (Jvm.Cond.privateMethod ({ cls := "CueStack", name := "levelsIn", desc := "(I)[I" } : Jvm.MethodName)) ∈ lw_tbl := lw_at lw_m9 44 rfl
theorem q2048 : (Jvm.Cond.instanceMethod ({ cls := "CueStack", name := "levelsIn", desc := "(I)[I" } : Jvm.MethodName)) ∈ lw_all := lw_g (lw_at lw_m9 45 rfl) rfl
theorem q2049 : (Jvm.Cond.code ({ cls := "CueStack", name := "levelsIn", desc := "(I)[I" } : Jvm.MethodName) prog_1_method_18_code (4 : Nat) (Option.some (Jvm.ClassFile.FieldType.array Jvm.ClassFile.FieldType.int))) ∈ lw_all := lw_g (lw_at lw_m9 46 rfl) rfl
theorem q2050 : (Jvm.Cond.privateMethod ({ cls := "CueStack", name := "lambda$setBlock$2", desc := "(I[II)Z" } : Jvm.MethodName)) ∈ lw_tbl := lw_at lw_m9 47 rfl
theorem q2051 : (Jvm.Cond.instanceMethod ({ cls := "CueStack", name := "lambda$setBlock$2", desc := "(I[II)Z" } : Jvm.MethodName)) ∈ lw_all := lw_g (lw_at lw_m9 48 rfl) rfl
theorem q2052 : (Jvm.Cond.code ({ cls := "CueStack", name := "lambda$setBlock$2", desc := "(I[II)Z" } : Jvm.MethodName) prog_1_method_66_code (4 : Nat) (Option.some Jvm.ClassFile.FieldType.boolean)) ∈ lw_all := lw_g (lw_at lw_m9 49 rfl) rfl
theorem q2053 : (Jvm.Cond.methodLink "CueStack" (158 : Nat) ({ cls := "CueStack", name := "setOf", desc := "(LCueStack$Test;)I" } : Jvm.MethodName)) ∈ lw_all := lw_g (lw_at lw_m9 50 rfl) rfl
theorem q2054 : (Jvm.Cond.static ({ cls := "CueStack", name := "setOf", desc := "(LCueStack$Test;)I" } : Jvm.MethodName)) ∈ lw_all := lw_g (lw_at lw_m9 51 rfl) rfl
theorem q2055 : (Jvm.Cond.code ({ cls := "CueStack", name := "setOf", desc := "(LCueStack$Test;)I" } : Jvm.MethodName) prog_1_method_7_code (3 : Nat) (Option.some Jvm.ClassFile.FieldType.int)) ∈ lw_all := lw_g (lw_at lw_m9 52 rfl) rfl
theorem q2056 : (Jvm.Cond.interfaceEntry "CueStack" (23 : Nat)) ∈ lw_tbl := lw_at lw_m9 53 rfl
theorem q2057 : (Jvm.Cond.methodLink "CueStack" (23 : Nat) ({ cls := "CueStack$Test", name := "holds", desc := "(I)Z" } : Jvm.MethodName)) ∈ lw_all := lw_g (lw_at lw_m9 54 rfl) rfl
theorem q2060 : (Jvm.Cond.methodLink "CueStack" (162 : Nat) ({ cls := "java/lang/Integer", name := "bitCount", desc := "(I)I" } : Jvm.MethodName)) ∈ lw_all := lw_g (lw_at lw_m9 57 rfl) rfl
theorem q2070 : (Jvm.Cond.instanceMethod ({ cls := "CueStack", name := "setProtected", desc := "(IZ)Z" } : Jvm.MethodName)) ∈ lw_all := lw_g (lw_at lw_m9 67 rfl) rfl
theorem q2071 : (Jvm.Cond.selects "CueStack" ({ cls := "CueStack", name := "setProtected", desc := "(IZ)Z" } : Jvm.MethodName) ({ cls := "CueStack", name := "setProtected", desc := "(IZ)Z" } : Jvm.MethodName)) ∈ lw_all := lw_g (lw_at lw_m9 68 rfl) rfl
theorem q2072 : (Jvm.Cond.code ({ cls := "CueStack", name := "setProtected", desc := "(IZ)Z" } : Jvm.MethodName) prog_1_method_20_code (4 : Nat) (Option.some Jvm.ClassFile.FieldType.boolean)) ∈ lw_all := lw_g (lw_at lw_m9 69 rfl) rfl
theorem q2077 : (Jvm.Cond.instanceMethod ({ cls := "CueStack", name := "setPart", desc := "(IIZI)I" } : Jvm.MethodName)) ∈ lw_all := lw_g (lw_at lw_m9 74 rfl) rfl
theorem q2078 : (Jvm.Cond.selects "CueStack" ({ cls := "CueStack", name := "setPart", desc := "(IIZI)I" } : Jvm.MethodName) ({ cls := "CueStack", name := "setPart", desc := "(IIZI)I" } : Jvm.MethodName)) ∈ lw_all := lw_g (lw_at lw_m9 75 rfl) rfl
theorem q2079 : (Jvm.Cond.code ({ cls := "CueStack", name := "setPart", desc := "(IIZI)I" } : Jvm.MethodName) prog_1_method_21_code (7 : Nat) (Option.some Jvm.ClassFile.FieldType.int)) ∈ lw_all := lw_g (lw_at lw_m9 76 rfl) rfl
theorem q2080 : (Jvm.Cond.methodLink "CueStack" (170 : Nat) ({ cls := "CueStack", name := "part", desc := "(IIZ)I" } : Jvm.MethodName)) ∈ lw_all := lw_g (lw_at lw_m9 77 rfl) rfl
theorem q2081 : (Jvm.Cond.instanceMethod ({ cls := "CueStack", name := "part", desc := "(IIZ)I" } : Jvm.MethodName)) ∈ lw_all := lw_g (lw_at lw_m9 78 rfl) rfl
theorem q2082 : (Jvm.Cond.selects "CueStack" ({ cls := "CueStack", name := "part", desc := "(IIZ)I" } : Jvm.MethodName) ({ cls := "CueStack", name := "part", desc := "(IIZ)I" } : Jvm.MethodName)) ∈ lw_all := lw_g (lw_at lw_m9 79 rfl) rfl
theorem q2083 : (Jvm.Cond.code ({ cls := "CueStack", name := "part", desc := "(IIZ)I" } : Jvm.MethodName) prog_1_method_24_code (5 : Nat) (Option.some Jvm.ClassFile.FieldType.int)) ∈ lw_all := lw_g (lw_at lw_m9 80 rfl) rfl
theorem q2084 : (Jvm.Cond.methodLink "CueStack" (202 : Nat) ({ cls := "CueStack", name := "checkPart", desc := "(I)V" } : Jvm.MethodName)) ∈ lw_all := lw_g (lw_at lw_m9 81 rfl) rfl
theorem q2085 : (Jvm.Cond.static ({ cls := "CueStack", name := "checkPart", desc := "(I)V" } : Jvm.MethodName)) ∈ lw_all := lw_g (lw_at lw_m9 82 rfl) rfl
theorem q2086 : (Jvm.Cond.code ({ cls := "CueStack", name := "checkPart", desc := "(I)V" } : Jvm.MethodName) prog_1_method_12_code (1 : Nat) (Option.none : Option Jvm.ClassFile.FieldType)) ∈ lw_all := lw_g (lw_at lw_m9 83 rfl) rfl
theorem q2087 : (Jvm.Cond.methodLink "CueStack" (77 : Nat) ({ cls := "CueStack", name := "checkIndex", desc := "(Z)V" } : Jvm.MethodName)) ∈ lw_all := lw_g (lw_at lw_m9 84 rfl) rfl
theorem q2092 : (Jvm.Cond.instanceMethod ({ cls := "CueStack", name := "cue", desc := "(II)I" } : Jvm.MethodName)) ∈ lw_all := lw_g (lw_at lw_m9 89 rfl) rfl
theorem q2093 : (Jvm.Cond.selects "CueStack" ({ cls := "CueStack", name := "cue", desc := "(II)I" } : Jvm.MethodName) ({ cls := "CueStack", name := "cue", desc := "(II)I" } : Jvm.MethodName)) ∈ lw_all := lw_g (lw_at lw_m9 90 rfl) rfl
theorem q2094 : (Jvm.Cond.code ({ cls := "CueStack", name := "cue", desc := "(II)I" } : Jvm.MethodName) prog_1_method_23_code (4 : Nat) (Option.some Jvm.ClassFile.FieldType.int)) ∈ lw_all := lw_g (lw_at lw_m9 91 rfl) rfl
theorem q2095 : (Jvm.Cond.privateMethod ({ cls := "CueStack", name := "lambda$cue$3", desc := "(II)Z" } : Jvm.MethodName)) ∈ lw_tbl := lw_at lw_m9 92 rfl
theorem q2096 : (Jvm.Cond.instanceMethod ({ cls := "CueStack", name := "lambda$cue$3", desc := "(II)Z" } : Jvm.MethodName)) ∈ lw_all := lw_g (lw_at lw_m9 93 rfl) rfl
theorem q2097 : (Jvm.Cond.code ({ cls := "CueStack", name := "lambda$cue$3", desc := "(II)Z" } : Jvm.MethodName) prog_1_method_65_code (3 : Nat) (Option.some Jvm.ClassFile.FieldType.boolean)) ∈ lw_all := lw_g (lw_at lw_m9 94 rfl) rfl
theorem q2098 : (Jvm.Cond.methodLink "CueStack" (187 : Nat) ({ cls := "CueStack$Show", name := "moves", desc := "(II)Z" } : Jvm.MethodName)) ∈ lw_all := lw_g (lw_at lw_m9 95 rfl) rfl
theorem q2102 : (Jvm.Cond.methodLink "CueStack" (199 : Nat) ({ cls := "CueStack", name := "lengthOf", desc := "(I)I" } : Jvm.MethodName)) ∈ lw_all := lw_g (lw_at lw_m9 99 rfl) rfl
theorem q2103 : (Jvm.Cond.privateMethod ({ cls := "CueStack", name := "lengthOf", desc := "(I)I" } : Jvm.MethodName)) ∈ lw_tbl := lw_at lw_m9 100 rfl
theorem q2104 : (Jvm.Cond.instanceMethod ({ cls := "CueStack", name := "lengthOf", desc := "(I)I" } : Jvm.MethodName)) ∈ lw_all := lw_g (lw_at lw_m9 101 rfl) rfl
theorem q2105 : (Jvm.Cond.code ({ cls := "CueStack", name := "lengthOf", desc := "(I)I" } : Jvm.MethodName) prog_1_method_22_code (5 : Nat) (Option.some Jvm.ClassFile.FieldType.int)) ∈ lw_all := lw_g (lw_at lw_m9 102 rfl) rfl
theorem q2106 : (Jvm.Cond.methodLink "CueStack" (181 : Nat) ({ cls := "CueStack$Show", name := "partOf", desc := "(II)I" } : Jvm.MethodName)) ∈ lw_all := lw_g (lw_at lw_m9 103 rfl) rfl
theorem q2110 : (Jvm.Cond.methodLink "CueStack" (184 : Nat) ({ cls := "CueStack$Cue", name := "length", desc := "(I)I" } : Jvm.MethodName)) ∈ lw_all := lw_g (lw_at lw_m9 107 rfl) rfl
theorem q2114 : (Jvm.Cond.methodLink "CueStack" (191 : Nat) ({ cls := "java/lang/Math", name := "max", desc := "(II)I" } : Jvm.MethodName)) ∈ lw_all := lw_g (lw_at lw_m9 111 rfl) rfl
theorem q2123 : (Jvm.Cond.instanceMethod ({ cls := "CueStack", name := "setHome", desc := "(II)I" } : Jvm.MethodName)) ∈ lw_all := lw_g (lw_at lw_m9 120 rfl) rfl
theorem q2124 : (Jvm.Cond.selects "CueStack" ({ cls := "CueStack", name := "setHome", desc := "(II)I" } : Jvm.MethodName) ({ cls := "CueStack", name := "setHome", desc := "(II)I" } : Jvm.MethodName)) ∈ lw_all := lw_g (lw_at lw_m9 121 rfl) rfl
theorem q2125 : (Jvm.Cond.code ({ cls := "CueStack", name := "setHome", desc := "(II)I" } : Jvm.MethodName) prog_1_method_25_code (4 : Nat) (Option.some Jvm.ClassFile.FieldType.int)) ∈ lw_all := lw_g (lw_at lw_m9 122 rfl) rfl
theorem q2126 : (Jvm.Cond.methodLink "CueStack" (205 : Nat) ({ cls := "CueStack", name := "checkChannel", desc := "(I)V" } : Jvm.MethodName)) ∈ lw_all := lw_g (lw_at lw_m9 123 rfl) rfl
theorem q2127 : (Jvm.Cond.static ({ cls := "CueStack", name := "checkChannel", desc := "(I)V" } : Jvm.MethodName)) ∈ lw_all := lw_g (lw_at lw_m9 124 rfl) rfl
theorem q2128 : (Jvm.Cond.code ({ cls := "CueStack", name := "checkChannel", desc := "(I)V" } : Jvm.MethodName) prog_1_method_11_code (1 : Nat) (Option.none : Option Jvm.ClassFile.FieldType)) ∈ lw_all := lw_g (lw_at lw_m9 125 rfl) rfl
theorem q2133 : (Jvm.Cond.instanceMethod ({ cls := "CueStack", name := "set", desc := "(IIIIZ)I" } : Jvm.MethodName)) ∈ lw_all := lw_g (lw_at lw_m9 130 rfl) rfl
theorem q2134 : (Jvm.Cond.selects "CueStack" ({ cls := "CueStack", name := "set", desc := "(IIIIZ)I" } : Jvm.MethodName) ({ cls := "CueStack", name := "set", desc := "(IIIIZ)I" } : Jvm.MethodName)) ∈ lw_all := lw_g (lw_at lw_m9 131 rfl) rfl
theorem q2135 : (Jvm.Cond.code ({ cls := "CueStack", name := "set", desc := "(IIIIZ)I" } : Jvm.MethodName) prog_1_method_27_code (7 : Nat) (Option.some Jvm.ClassFile.FieldType.int)) ∈ lw_all := lw_g (lw_at lw_m9 132 rfl) rfl
theorem q2136 : (Jvm.Cond.classLink "CueStack" (215 : Nat) "CueStack$Fixed") ∈ lw_all := lw_g (lw_at lw_m9 133 rfl) rfl
theorem q2137 : (Jvm.Cond.methodLink "CueStack" (217 : Nat) ({ cls := "CueStack$Fixed", name := "<init>", desc := "(II)V" } : Jvm.MethodName)) ∈ lw_all := lw_g (lw_at lw_m9 134 rfl) rfl
theorem q2138 : (Jvm.Cond.methodLink "CueStack" (220 : Nat) ({ cls := "CueStack", name := "edit", desc := "(IILCueStack$Instruction;Z)I" } : Jvm.MethodName)) ∈ lw_all := lw_g (lw_at lw_m9 135 rfl) rfl
theorem q2139 : (Jvm.Cond.privateMethod ({ cls := "CueStack", name := "edit", desc := "(IILCueStack$Instruction;Z)I" } : Jvm.MethodName)) ∈ lw_tbl := lw_at lw_m9 136 rfl
theorem q2140 : (Jvm.Cond.instanceMethod ({ cls := "CueStack", name := "edit", desc := "(IILCueStack$Instruction;Z)I" } : Jvm.MethodName)) ∈ lw_all := lw_g (lw_at lw_m9 137 rfl) rfl
theorem q2141 : (Jvm.Cond.codeWith ({ cls := "CueStack", name := "edit", desc := "(IILCueStack$Instruction;Z)I" } : Jvm.MethodName) prog_1_method_26_code (8 : Nat) (Option.some Jvm.ClassFile.FieldType.int) [((9 : Nat), (19 : Nat), (22 : Nat), (16 : Nat))]) ∈ lw_all := lw_g (lw_at lw_m9 138 rfl) rfl
theorem q2142 : (Jvm.Cond.methodLink "CueStack" (211 : Nat) ({ cls := "CueStack$Show", name := "edit", desc := "(IILCueStack$Instruction;Z)V" } : Jvm.MethodName)) ∈ lw_all := lw_g (lw_at lw_m9 139 rfl) rfl
theorem q2169 : (Jvm.Cond.instanceMethod ({ cls := "CueStack", name := "release", desc := "(IIIZ)I" } : Jvm.MethodName)) ∈ lw_all := lw_g (lw_at lw_m9 166 rfl) rfl
theorem q2170 : (Jvm.Cond.selects "CueStack" ({ cls := "CueStack", name := "release", desc := "(IIIZ)I" } : Jvm.MethodName) ({ cls := "CueStack", name := "release", desc := "(IIIZ)I" } : Jvm.MethodName)) ∈ lw_all := lw_g (lw_at lw_m9 167 rfl) rfl
theorem q2171 : (Jvm.Cond.code ({ cls := "CueStack", name := "release", desc := "(IIIZ)I" } : Jvm.MethodName) prog_1_method_28_code (6 : Nat) (Option.some Jvm.ClassFile.FieldType.int)) ∈ lw_all := lw_g (lw_at lw_m9 168 rfl) rfl
theorem q2172 : (Jvm.Cond.classLink "CueStack" (223 : Nat) "CueStack$Released") ∈ lw_all := lw_g (lw_at lw_m9 169 rfl) rfl
theorem q2174 : (Jvm.Cond.methodLink "CueStack" (225 : Nat) ({ cls := "CueStack$Released", name := "<init>", desc := "(I)V" } : Jvm.MethodName)) ∈ lw_all := lw_g (lw_at lw_m9 171 rfl) rfl
theorem q2184 : (Jvm.Cond.instanceMethod ({ cls := "CueStack", name := "unset", desc := "(IIZ)I" } : Jvm.MethodName)) ∈ lw_all := lw_g (lw_at lw_m9 181 rfl) rfl
theorem q2185 : (Jvm.Cond.selects "CueStack" ({ cls := "CueStack", name := "unset", desc := "(IIZ)I" } : Jvm.MethodName) ({ cls := "CueStack", name := "unset", desc := "(IIZ)I" } : Jvm.MethodName)) ∈ lw_all := lw_g (lw_at lw_m9 182 rfl) rfl
theorem q2186 : (Jvm.Cond.code ({ cls := "CueStack", name := "unset", desc := "(IIZ)I" } : Jvm.MethodName) prog_1_method_29_code (5 : Nat) (Option.some Jvm.ClassFile.FieldType.int)) ∈ lw_all := lw_g (lw_at lw_m9 183 rfl) rfl
theorem q2191 : (Jvm.Cond.instanceMethod ({ cls := "CueStack", name := "instruction", desc := "(II)I" } : Jvm.MethodName)) ∈ lw_all := lw_g (lw_at lw_m9 188 rfl) rfl
theorem q2192 : (Jvm.Cond.selects "CueStack" ({ cls := "CueStack", name := "instruction", desc := "(II)I" } : Jvm.MethodName) ({ cls := "CueStack", name := "instruction", desc := "(II)I" } : Jvm.MethodName)) ∈ lw_all := lw_g (lw_at lw_m9 189 rfl) rfl
theorem q2193 : (Jvm.Cond.code ({ cls := "CueStack", name := "instruction", desc := "(II)I" } : Jvm.MethodName) prog_1_method_31_code (4 : Nat) (Option.some Jvm.ClassFile.FieldType.int)) ∈ lw_all := lw_g (lw_at lw_m9 190 rfl) rfl
theorem q2194 : (Jvm.Cond.methodLink "CueStack" (250 : Nat) ({ cls := "java/util/LinkedHashMap", name := "size", desc := "()I" } : Jvm.MethodName)) ∈ lw_all := lw_g (lw_at lw_m9 191 rfl) rfl
theorem q2195 : (Jvm.Cond.methodLink "CueStack" (251 : Nat) ({ cls := "CueStack", name := "keyAt", desc := "(I)LCueStack$Key;" } : Jvm.MethodName)) ∈ lw_all := lw_g (lw_at lw_m9 192 rfl) rfl
theorem q2196 : (Jvm.Cond.privateMethod ({ cls := "CueStack", name := "keyAt", desc := "(I)LCueStack$Key;" } : Jvm.MethodName)) ∈ lw_tbl := lw_at lw_m9 193 rfl
theorem q2197 : (Jvm.Cond.instanceMethod ({ cls := "CueStack", name := "keyAt", desc := "(I)LCueStack$Key;" } : Jvm.MethodName)) ∈ lw_all := lw_g (lw_at lw_m9 194 rfl) rfl
theorem q2198 : (Jvm.Cond.code ({ cls := "CueStack", name := "keyAt", desc := "(I)LCueStack$Key;" } : Jvm.MethodName) prog_1_method_30_code (5 : Nat) (Option.some (Jvm.ClassFile.FieldType.object "CueStack$Key"))) ∈ lw_all := lw_g (lw_at lw_m9 195 rfl) rfl
theorem q2199 : (Jvm.Cond.methodLink "CueStack" (230 : Nat) ({ cls := "java/util/LinkedHashMap", name := "keySet", desc := "()Ljava/util/Set;" } : Jvm.MethodName)) ∈ lw_all := lw_g (lw_at lw_m9 196 rfl) rfl
theorem q2200 : (Jvm.Cond.interfaceEntry "CueStack" (236 : Nat)) ∈ lw_tbl := lw_at lw_m9 197 rfl
theorem q2201 : (Jvm.Cond.methodLink "CueStack" (236 : Nat) ({ cls := "java/util/Set", name := "iterator", desc := "()Ljava/util/Iterator;" } : Jvm.MethodName)) ∈ lw_all := lw_g (lw_at lw_m9 198 rfl) rfl
theorem q2202 : (Jvm.Cond.interfaceEntry "CueStack" (242 : Nat)) ∈ lw_tbl := lw_at lw_m9 199 rfl
theorem q2203 : (Jvm.Cond.methodLink "CueStack" (242 : Nat) ({ cls := "java/util/Iterator", name := "next", desc := "()Ljava/lang/Object;" } : Jvm.MethodName)) ∈ lw_all := lw_g (lw_at lw_m9 200 rfl) rfl
theorem q2204 : (Jvm.Cond.classLink "CueStack" (248 : Nat) "CueStack$Key") ∈ lw_all := lw_g (lw_at lw_m9 201 rfl) rfl
theorem q2205 : (Jvm.Cond.methodLink "CueStack" (260 : Nat) ({ cls := "java/util/LinkedHashMap", name := "get", desc := "(Ljava/lang/Object;)Ljava/lang/Object;" } : Jvm.MethodName)) ∈ lw_all := lw_g (lw_at lw_m9 202 rfl) rfl
theorem q2206 : (Jvm.Cond.classLink "CueStack" (263 : Nat) "CueStack$Instruction") ∈ lw_all := lw_g (lw_at lw_m9 203 rfl) rfl
theorem q2207 : (Jvm.Cond.methodLink "CueStack" (265 : Nat) ({ cls := "CueStack$Instruction", name := "told", desc := "()I" } : Jvm.MethodName)) ∈ lw_all := lw_g (lw_at lw_m9 204 rfl) rfl
theorem q2219 : (Jvm.Cond.instanceMethod ({ cls := "CueStack", name := "level", desc := "(II)I" } : Jvm.MethodName)) ∈ lw_all := lw_g (lw_at lw_m9 216 rfl) rfl
theorem q2220 : (Jvm.Cond.selects "CueStack" ({ cls := "CueStack", name := "level", desc := "(II)I" } : Jvm.MethodName) ({ cls := "CueStack", name := "level", desc := "(II)I" } : Jvm.MethodName)) ∈ lw_all := lw_g (lw_at lw_m9 217 rfl) rfl
theorem q2221 : (Jvm.Cond.code ({ cls := "CueStack", name := "level", desc := "(II)I" } : Jvm.MethodName) prog_1_method_33_code (3 : Nat) (Option.some Jvm.ClassFile.FieldType.int)) ∈ lw_all := lw_g (lw_at lw_m9 218 rfl) rfl
theorem q2222 : (Jvm.Cond.methodLink "CueStack" (274 : Nat) ({ cls := "CueStack", name := "by", desc := "(LCueStack$Levels;II)I" } : Jvm.MethodName)) ∈ lw_all := lw_g (lw_at lw_m9 219 rfl) rfl
theorem q2223 : (Jvm.Cond.privateMethod ({ cls := "CueStack", name := "by", desc := "(LCueStack$Levels;II)I" } : Jvm.MethodName)) ∈ lw_tbl := lw_at lw_m9 220 rfl
theorem q2224 : (Jvm.Cond.instanceMethod ({ cls := "CueStack", name := "by", desc := "(LCueStack$Levels;II)I" } : Jvm.MethodName)) ∈ lw_all := lw_g (lw_at lw_m9 221 rfl) rfl
theorem q2225 : (Jvm.Cond.code ({ cls := "CueStack", name := "by", desc := "(LCueStack$Levels;II)I" } : Jvm.MethodName) prog_1_method_32_code (5 : Nat) (Option.some Jvm.ClassFile.FieldType.int)) ∈ lw_all := lw_g (lw_at lw_m9 222 rfl) rfl
theorem q2226 : (Jvm.Cond.interfaceEntry "CueStack" (270 : Nat)) ∈ lw_tbl := lw_at lw_m9 223 rfl
theorem q2227 : (Jvm.Cond.methodLink "CueStack" (270 : Nat) ({ cls := "CueStack$Levels", name := "of", desc := "(II)I" } : Jvm.MethodName)) ∈ lw_all := lw_g (lw_at lw_m9 224 rfl) rfl
theorem q2234 : (Jvm.Cond.instanceMethod ({ cls := "CueStack", name := "levelAgain", desc := "(II)I" } : Jvm.MethodName)) ∈ lw_all := lw_g (lw_at lw_m9 231 rfl) rfl
theorem q2235 : (Jvm.Cond.selects "CueStack" ({ cls := "CueStack", name := "levelAgain", desc := "(II)I" } : Jvm.MethodName) ({ cls := "CueStack", name := "levelAgain", desc := "(II)I" } : Jvm.MethodName)) ∈ lw_all := lw_g (lw_at lw_m9 232 rfl) rfl
theorem q2236 : (Jvm.Cond.code ({ cls := "CueStack", name := "levelAgain", desc := "(II)I" } : Jvm.MethodName) prog_1_method_34_code (3 : Nat) (Option.some Jvm.ClassFile.FieldType.int)) ∈ lw_all := lw_g (lw_at lw_m9 233 rfl) rfl
theorem q2241 : (Jvm.Cond.instanceMethod ({ cls := "CueStack", name := "source", desc := "(II)I" } : Jvm.MethodName)) ∈ lw_all := lw_g (lw_at lw_m9 238 rfl) rfl
theorem q2242 : (Jvm.Cond.selects "CueStack" ({ cls := "CueStack", name := "source", desc := "(II)I" } : Jvm.MethodName) ({ cls := "CueStack", name := "source", desc := "(II)I" } : Jvm.MethodName)) ∈ lw_all := lw_g (lw_at lw_m9 239 rfl) rfl
theorem q2243 : (Jvm.Cond.code ({ cls := "CueStack", name := "source", desc := "(II)I" } : Jvm.MethodName) prog_1_method_35_code (3 : Nat) (Option.some Jvm.ClassFile.FieldType.int)) ∈ lw_all := lw_g (lw_at lw_m10 0 rfl) rfl
theorem q2244 : (Jvm.Cond.privateMethod ({ cls := "CueStack", name := "lambda$source$4", desc := "(II)I" } : Jvm.MethodName)) ∈ lw_tbl := lw_at lw_m10 1 rfl
theorem q2245 : (Jvm.Cond.instanceMethod ({ cls := "CueStack", name := "lambda$source$4", desc := "(II)I" } : Jvm.MethodName)) ∈ lw_all := lw_g (lw_at lw_m10 2 rfl) rfl
theorem q2246 : (Jvm.Cond.code ({ cls := "CueStack", name := "lambda$source$4", desc := "(II)I" } : Jvm.MethodName) prog_1_method_64_code (3 : Nat) (Option.some Jvm.ClassFile.FieldType.int)) ∈ lw_all := lw_g (lw_at lw_m10 3 rfl) rfl
theorem q2247 : (Jvm.Cond.methodLink "CueStack" (406 : Nat) ({ cls := "CueStack$Show", name := "source", desc := "(II)I" } : Jvm.MethodName)) ∈ lw_all := lw_g (lw_at lw_m10 4 rfl) rfl
theorem q2255 : (Jvm.Cond.instanceMethod ({ cls := "CueStack", name := "sum", desc := "(I)I" } : Jvm.MethodName)) ∈ lw_all := lw_g (lw_at lw_m10 12 rfl) rfl
theorem q2256 : (Jvm.Cond.selects "CueStack" ({ cls := "CueStack", name := "sum", desc := "(I)I" } : Jvm.MethodName) ({ cls := "CueStack", name := "sum", desc := "(I)I" } : Jvm.MethodName)) ∈ lw_all := lw_g (lw_at lw_m10 13 rfl) rfl
theorem q2257 : (Jvm.Cond.code ({ cls := "CueStack", name := "sum", desc := "(I)I" } : Jvm.MethodName) prog_1_method_36_code (5 : Nat) (Option.some Jvm.ClassFile.FieldType.int)) ∈ lw_all := lw_g (lw_at lw_m10 14 rfl) rfl
theorem q2262 : (Jvm.Cond.instanceMethod ({ cls := "CueStack", name := "apart", desc := "(II)I" } : Jvm.MethodName)) ∈ lw_all := lw_g (lw_at lw_m10 19 rfl) rfl
theorem q2263 : (Jvm.Cond.selects "CueStack" ({ cls := "CueStack", name := "apart", desc := "(II)I" } : Jvm.MethodName) ({ cls := "CueStack", name := "apart", desc := "(II)I" } : Jvm.MethodName)) ∈ lw_all := lw_g (lw_at lw_m10 20 rfl) rfl
theorem q2264 : (Jvm.Cond.code ({ cls := "CueStack", name := "apart", desc := "(II)I" } : Jvm.MethodName) prog_1_method_37_code (5 : Nat) (Option.some Jvm.ClassFile.FieldType.int)) ∈ lw_all := lw_g (lw_at lw_m10 21 rfl) rfl
theorem q2265 : (Jvm.Cond.privateMethod ({ cls := "CueStack", name := "lambda$apart$5", desc := "(III)Z" } : Jvm.MethodName)) ∈ lw_tbl := lw_at lw_m10 22 rfl
theorem q2266 : (Jvm.Cond.instanceMethod ({ cls := "CueStack", name := "lambda$apart$5", desc := "(III)Z" } : Jvm.MethodName)) ∈ lw_all := lw_g (lw_at lw_m10 23 rfl) rfl
theorem q2267 : (Jvm.Cond.code ({ cls := "CueStack", name := "lambda$apart$5", desc := "(III)Z" } : Jvm.MethodName) prog_1_method_63_code (4 : Nat) (Option.some Jvm.ClassFile.FieldType.boolean)) ∈ lw_all := lw_g (lw_at lw_m10 24 rfl) rfl
theorem q2272 : (Jvm.Cond.instanceMethod ({ cls := "CueStack", name := "reason", desc := "()I" } : Jvm.MethodName)) ∈ lw_all := lw_g (lw_at lw_m10 29 rfl) rfl
theorem q2273 : (Jvm.Cond.selects "CueStack" ({ cls := "CueStack", name := "reason", desc := "()I" } : Jvm.MethodName) ({ cls := "CueStack", name := "reason", desc := "()I" } : Jvm.MethodName)) ∈ lw_all := lw_g (lw_at lw_m10 30 rfl) rfl
theorem q2274 : (Jvm.Cond.code ({ cls := "CueStack", name := "reason", desc := "()I" } : Jvm.MethodName) prog_1_method_38_code (1 : Nat) (Option.some Jvm.ClassFile.FieldType.int)) ∈ lw_all := lw_g (lw_at lw_m10 31 rfl) rfl
theorem q2279 : (Jvm.Cond.instanceMethod ({ cls := "CueStack", name := "go", desc := "()I" } : Jvm.MethodName)) ∈ lw_all := lw_g (lw_at lw_m10 36 rfl) rfl
theorem q2280 : (Jvm.Cond.selects "CueStack" ({ cls := "CueStack", name := "go", desc := "()I" } : Jvm.MethodName) ({ cls := "CueStack", name := "go", desc := "()I" } : Jvm.MethodName)) ∈ lw_all := lw_g (lw_at lw_m10 37 rfl) rfl
theorem q2281 : (Jvm.Cond.code ({ cls := "CueStack", name := "go", desc := "()I" } : Jvm.MethodName) prog_1_method_40_code (1 : Nat) (Option.some Jvm.ClassFile.FieldType.int)) ∈ lw_all := lw_g (lw_at lw_m10 38 rfl) rfl
theorem q2282 : (Jvm.Cond.methodLink "CueStack" (291 : Nat) ({ cls := "CueStack", name := "steps", desc := "(Z)I" } : Jvm.MethodName)) ∈ lw_all := lw_g (lw_at lw_m10 39 rfl) rfl
theorem q2283 : (Jvm.Cond.privateMethod ({ cls := "CueStack", name := "steps", desc := "(Z)I" } : Jvm.MethodName)) ∈ lw_tbl := lw_at lw_m10 40 rfl
theorem q2284 : (Jvm.Cond.instanceMethod ({ cls := "CueStack", name := "steps", desc := "(Z)I" } : Jvm.MethodName)) ∈ lw_all := lw_g (lw_at lw_m10 41 rfl) rfl
theorem q2285 : (Jvm.Cond.codeWith ({ cls := "CueStack", name := "steps", desc := "(Z)I" } : Jvm.MethodName) prog_1_method_39_code (4 : Nat) (Option.some Jvm.ClassFile.FieldType.int) [((8 : Nat), (30 : Nat), (31 : Nat), (16 : Nat))]) ∈ lw_all := lw_g (lw_at lw_m10 42 rfl) rfl
theorem q2286 : (Jvm.Cond.methodLink "CueStack" (285 : Nat) ({ cls := "CueStack$Show", name := "back", desc := "()I" } : Jvm.MethodName)) ∈ lw_all := lw_g (lw_at lw_m10 43 rfl) rfl
theorem q2300 : (Jvm.Cond.methodLink "CueStack" (288 : Nat) ({ cls := "CueStack$Show", name := "go", desc := "()I" } : Jvm.MethodName)) ∈ lw_all := lw_g (lw_at lw_m10 57 rfl) rfl
theorem q2312 : (Jvm.Cond.instanceMethod ({ cls := "CueStack", name := "back", desc := "()I" } : Jvm.MethodName)) ∈ lw_all := lw_g (lw_at lw_m10 69 rfl) rfl
theorem q2313 : (Jvm.Cond.selects "CueStack" ({ cls := "CueStack", name := "back", desc := "()I" } : Jvm.MethodName) ({ cls := "CueStack", name := "back", desc := "()I" } : Jvm.MethodName)) ∈ lw_all := lw_g (lw_at lw_m10 70 rfl) rfl
theorem q2314 : (Jvm.Cond.code ({ cls := "CueStack", name := "back", desc := "()I" } : Jvm.MethodName) prog_1_method_41_code (1 : Nat) (Option.some Jvm.ClassFile.FieldType.int)) ∈ lw_all := lw_g (lw_at lw_m10 71 rfl) rfl
theorem q2319 : (Jvm.Cond.instanceMethod ({ cls := "CueStack", name := "jump", desc := "(I)I" } : Jvm.MethodName)) ∈ lw_all := lw_g (lw_at lw_m10 76 rfl) rfl
theorem q2320 : (Jvm.Cond.selects "CueStack" ({ cls := "CueStack", name := "jump", desc := "(I)I" } : Jvm.MethodName) ({ cls := "CueStack", name := "jump", desc := "(I)I" } : Jvm.MethodName)) ∈ lw_all := lw_g (lw_at lw_m10 77 rfl) rfl
theorem q2321 : (Jvm.Cond.code ({ cls := "CueStack", name := "jump", desc := "(I)I" } : Jvm.MethodName) prog_1_method_42_code (3 : Nat) (Option.some Jvm.ClassFile.FieldType.int)) ∈ lw_all := lw_g (lw_at lw_m10 78 rfl) rfl
theorem q2322 : (Jvm.Cond.methodLink "CueStack" (295 : Nat) ({ cls := "CueStack$Show", name := "goes", desc := "(I)I" } : Jvm.MethodName)) ∈ lw_all := lw_g (lw_at lw_m10 79 rfl) rfl
theorem q2327 : (Jvm.Cond.instanceMethod ({ cls := "CueStack", name := "pass", desc := "(I)I" } : Jvm.MethodName)) ∈ lw_all := lw_g (lw_at lw_m10 84 rfl) rfl
theorem q2328 : (Jvm.Cond.selects "CueStack" ({ cls := "CueStack", name := "pass", desc := "(I)I" } : Jvm.MethodName) ({ cls := "CueStack", name := "pass", desc := "(I)I" } : Jvm.MethodName)) ∈ lw_all := lw_g (lw_at lw_m10 85 rfl) rfl
theorem q2329 : (Jvm.Cond.code ({ cls := "CueStack", name := "pass", desc := "(I)I" } : Jvm.MethodName) prog_1_method_43_code (2 : Nat) (Option.some Jvm.ClassFile.FieldType.int)) ∈ lw_all := lw_g (lw_at lw_m10 86 rfl) rfl
theorem q2330 : (Jvm.Cond.constant "CueStack" (301 : Nat) (100000 : Int32)) ∈ lw_all := lw_g (lw_at lw_m10 87 rfl) rfl
theorem q2331 : (Jvm.Cond.methodLink "CueStack" (302 : Nat) ({ cls := "CueStack", name := "checkState", desc := "(Z)V" } : Jvm.MethodName)) ∈ lw_all := lw_g (lw_at lw_m10 88 rfl) rfl
theorem q2332 : (Jvm.Cond.methodLink "CueStack" (305 : Nat) ({ cls := "CueStack$Show", name := "pass", desc := "(I)I" } : Jvm.MethodName)) ∈ lw_all := lw_g (lw_at lw_m10 89 rfl) rfl
theorem q2349 : (Jvm.Cond.instanceMethod ({ cls := "CueStack", name := "now", desc := "(I)I" } : Jvm.MethodName)) ∈ lw_all := lw_g (lw_at lw_m10 106 rfl) rfl
theorem q2350 : (Jvm.Cond.selects "CueStack" ({ cls := "CueStack", name := "now", desc := "(I)I" } : Jvm.MethodName) ({ cls := "CueStack", name := "now", desc := "(I)I" } : Jvm.MethodName)) ∈ lw_all := lw_g (lw_at lw_m10 107 rfl) rfl
theorem q2351 : (Jvm.Cond.code ({ cls := "CueStack", name := "now", desc := "(I)I" } : Jvm.MethodName) prog_1_method_44_code (2 : Nat) (Option.some Jvm.ClassFile.FieldType.int)) ∈ lw_all := lw_g (lw_at lw_m10 108 rfl) rfl
theorem q2356 : (Jvm.Cond.instanceMethod ({ cls := "CueStack", name := "target", desc := "(I)I" } : Jvm.MethodName)) ∈ lw_all := lw_g (lw_at lw_m10 113 rfl) rfl
theorem q2357 : (Jvm.Cond.selects "CueStack" ({ cls := "CueStack", name := "target", desc := "(I)I" } : Jvm.MethodName) ({ cls := "CueStack", name := "target", desc := "(I)I" } : Jvm.MethodName)) ∈ lw_all := lw_g (lw_at lw_m10 114 rfl) rfl
theorem q2358 : (Jvm.Cond.code ({ cls := "CueStack", name := "target", desc := "(I)I" } : Jvm.MethodName) prog_1_method_45_code (2 : Nat) (Option.some Jvm.ClassFile.FieldType.int)) ∈ lw_all := lw_g (lw_at lw_m10 115 rfl) rfl
theorem q2363 : (Jvm.Cond.instanceMethod ({ cls := "CueStack", name := "playing", desc := "(I)I" } : Jvm.MethodName)) ∈ lw_all := lw_g (lw_at lw_m10 120 rfl) rfl
theorem q2364 : (Jvm.Cond.selects "CueStack" ({ cls := "CueStack", name := "playing", desc := "(I)I" } : Jvm.MethodName) ({ cls := "CueStack", name := "playing", desc := "(I)I" } : Jvm.MethodName)) ∈ lw_all := lw_g (lw_at lw_m10 121 rfl) rfl
theorem q2365 : (Jvm.Cond.code ({ cls := "CueStack", name := "playing", desc := "(I)I" } : Jvm.MethodName) prog_1_method_47_code (3 : Nat) (Option.some Jvm.ClassFile.FieldType.int)) ∈ lw_all := lw_g (lw_at lw_m10 122 rfl) rfl
theorem q2366 : (Jvm.Cond.methodLink "CueStack" (328 : Nat) ({ cls := "CueStack$Show", name := "nextOf", desc := "(I)I" } : Jvm.MethodName)) ∈ lw_all := lw_g (lw_at lw_m10 123 rfl) rfl
theorem q2367 : (Jvm.Cond.methodLink "CueStack" (331 : Nat) ({ cls := "CueStack", name := "fading", desc := "()I" } : Jvm.MethodName)) ∈ lw_all := lw_g (lw_at lw_m10 124 rfl) rfl
theorem q2368 : (Jvm.Cond.privateMethod ({ cls := "CueStack", name := "fading", desc := "()I" } : Jvm.MethodName)) ∈ lw_tbl := lw_at lw_m10 125 rfl
theorem q2369 : (Jvm.Cond.instanceMethod ({ cls := "CueStack", name := "fading", desc := "()I" } : Jvm.MethodName)) ∈ lw_all := lw_g (lw_at lw_m10 126 rfl) rfl
theorem q2370 : (Jvm.Cond.code ({ cls := "CueStack", name := "fading", desc := "()I" } : Jvm.MethodName) prog_1_method_46_code (1 : Nat) (Option.some Jvm.ClassFile.FieldType.int)) ∈ lw_all := lw_g (lw_at lw_m10 127 rfl) rfl
theorem q2371 : (Jvm.Cond.privateMethod ({ cls := "CueStack", name := "lambda$fading$6", desc := "(I)Z" } : Jvm.MethodName)) ∈ lw_tbl := lw_at lw_m10 128 rfl
theorem q2372 : (Jvm.Cond.instanceMethod ({ cls := "CueStack", name := "lambda$fading$6", desc := "(I)Z" } : Jvm.MethodName)) ∈ lw_all := lw_g (lw_at lw_m10 129 rfl) rfl
theorem q2373 : (Jvm.Cond.code ({ cls := "CueStack", name := "lambda$fading$6", desc := "(I)Z" } : Jvm.MethodName) prog_1_method_62_code (2 : Nat) (Option.some Jvm.ClassFile.FieldType.boolean)) ∈ lw_all := lw_g (lw_at lw_m10 130 rfl) rfl
theorem q2374 : (Jvm.Cond.methodLink "CueStack" (403 : Nat) ({ cls := "CueStack$Fade", name := "isGoing", desc := "()Z" } : Jvm.MethodName)) ∈ lw_all := lw_g (lw_at lw_m10 131 rfl) rfl
theorem q2378 : (Jvm.Cond.methodLink "CueStack" (334 : Nat) ({ cls := "CueStack$Show", name := "following", desc := "()I" } : Jvm.MethodName)) ∈ lw_all := lw_g (lw_at lw_m10 135 rfl) rfl
theorem q2383 : (Jvm.Cond.instanceMethod ({ cls := "CueStack", name := "chain", desc := "(I)I" } : Jvm.MethodName)) ∈ lw_all := lw_g (lw_at lw_m10 140 rfl) rfl
theorem q2384 : (Jvm.Cond.selects "CueStack" ({ cls := "CueStack", name := "chain", desc := "(I)I" } : Jvm.MethodName) ({ cls := "CueStack", name := "chain", desc := "(I)I" } : Jvm.MethodName)) ∈ lw_all := lw_g (lw_at lw_m10 141 rfl) rfl
theorem q2385 : (Jvm.Cond.code ({ cls := "CueStack", name := "chain", desc := "(I)I" } : Jvm.MethodName) prog_1_method_48_code (4 : Nat) (Option.some Jvm.ClassFile.FieldType.int)) ∈ lw_all := lw_g (lw_at lw_m10 142 rfl) rfl
theorem q2390 : (Jvm.Cond.instanceMethod ({ cls := "CueStack", name := "account", desc := "(I)I" } : Jvm.MethodName)) ∈ lw_all := lw_g (lw_at lw_m10 147 rfl) rfl
theorem q2391 : (Jvm.Cond.selects "CueStack" ({ cls := "CueStack", name := "account", desc := "(I)I" } : Jvm.MethodName) ({ cls := "CueStack", name := "account", desc := "(I)I" } : Jvm.MethodName)) ∈ lw_all := lw_g (lw_at lw_m10 148 rfl) rfl
theorem q2392 : (Jvm.Cond.code ({ cls := "CueStack", name := "account", desc := "(I)I" } : Jvm.MethodName) prog_1_method_52_code (2 : Nat) (Option.some Jvm.ClassFile.FieldType.int)) ∈ lw_all := lw_g (lw_at lw_m10 149 rfl) rfl
theorem q2393 : (Jvm.Cond.methodLink "CueStack" (355 : Nat) ({ cls := "CueStack", name := "releases", desc := "()I" } : Jvm.MethodName)) ∈ lw_all := lw_g (lw_at lw_m10 150 rfl) rfl
theorem q2394 : (Jvm.Cond.privateMethod ({ cls := "CueStack", name := "releases", desc := "()I" } : Jvm.MethodName)) ∈ lw_tbl := lw_at lw_m10 151 rfl
theorem q2395 : (Jvm.Cond.instanceMethod ({ cls := "CueStack", name := "releases", desc := "()I" } : Jvm.MethodName)) ∈ lw_all := lw_g (lw_at lw_m10 152 rfl) rfl
theorem q2396 : (Jvm.Cond.code ({ cls := "CueStack", name := "releases", desc := "()I" } : Jvm.MethodName) prog_1_method_51_code (4 : Nat) (Option.some Jvm.ClassFile.FieldType.int)) ∈ lw_all := lw_g (lw_at lw_m10 153 rfl) rfl
theorem q2397 : (Jvm.Cond.methodLink "CueStack" (338 : Nat) ({ cls := "java/util/LinkedHashMap", name := "values", desc := "()Ljava/util/Collection;" } : Jvm.MethodName)) ∈ lw_all := lw_g (lw_at lw_m10 154 rfl) rfl
theorem q2419 : (Jvm.Cond.interfaceEntry "CueStack" (342 : Nat)) ∈ lw_tbl := lw_at lw_m10 176 rfl
theorem q2420 : (Jvm.Cond.methodLink "CueStack" (342 : Nat) ({ cls := "java/util/Collection", name := "iterator", desc := "()Ljava/util/Iterator;" } : Jvm.MethodName)) ∈ lw_all := lw_g (lw_at lw_m10 177 rfl) rfl
theorem q2470 : (Jvm.Cond.interfaceEntry "CueStack" (345 : Nat)) ∈ lw_tbl := lw_at lw_m10 227 rfl
theorem q2471 : (Jvm.Cond.methodLink "CueStack" (345 : Nat) ({ cls := "java/util/Iterator", name := "hasNext", desc := "()Z" } : Jvm.MethodName)) ∈ lw_all := lw_g (lw_at lw_m10 228 rfl) rfl
theorem q2472 : (Jvm.Cond.methodLink "CueStack" (358 : Nat) ({ cls := "CueStack", name := "sumOfCues", desc := "(I)I" } : Jvm.MethodName)) ∈ lw_all := lw_g (lw_at lw_m10 229 rfl) rfl
theorem q2473 : (Jvm.Cond.privateMethod ({ cls := "CueStack", name := "sumOfCues", desc := "(I)I" } : Jvm.MethodName)) ∈ lw_tbl := lw_at lw_m10 230 rfl
theorem q2474 : (Jvm.Cond.instanceMethod ({ cls := "CueStack", name := "sumOfCues", desc := "(I)I" } : Jvm.MethodName)) ∈ lw_all := lw_g (lw_at lw_m10 231 rfl) rfl
theorem q2475 : (Jvm.Cond.code ({ cls := "CueStack", name := "sumOfCues", desc := "(I)I" } : Jvm.MethodName) prog_1_method_50_code (6 : Nat) (Option.some Jvm.ClassFile.FieldType.int)) ∈ lw_all := lw_g (lw_at lw_m10 232 rfl) rfl
theorem q2476 : (Jvm.Cond.privateMethod ({ cls := "CueStack", name := "lambda$sumOfCues$7", desc := "(II)Z" } : Jvm.MethodName)) ∈ lw_tbl := lw_at lw_m10 233 rfl
theorem q2477 : (Jvm.Cond.instanceMethod ({ cls := "CueStack", name := "lambda$sumOfCues$7", desc := "(II)Z" } : Jvm.MethodName)) ∈ lw_all := lw_g (lw_at lw_m10 234 rfl) rfl
theorem q2478 : (Jvm.Cond.code ({ cls := "CueStack", name := "lambda$sumOfCues$7", desc := "(II)Z" } : Jvm.MethodName) prog_1_method_61_code (3 : Nat) (Option.some Jvm.ClassFile.FieldType.boolean)) ∈ lw_all := lw_g (lw_at lw_m10 235 rfl) rfl
theorem q2483 : (Jvm.Cond.instanceMethod ({ cls := "CueStack", name := "append", desc := "(C)I" } : Jvm.MethodName)) ∈ lw_all := lw_g (lw_at lw_m11 0 rfl) rfl
theorem q2484 : (Jvm.Cond.selects "CueStack" ({ cls := "CueStack", name := "append", desc := "(C)I" } : Jvm.MethodName) ({ cls := "CueStack", name := "append", desc := "(C)I" } : Jvm.MethodName)) ∈ lw_all := lw_g (lw_at lw_m11 1 rfl) rfl
theorem q2485 : (Jvm.Cond.code ({ cls := "CueStack", name := "append", desc := "(C)I" } : Jvm.MethodName) prog_1_method_54_code (2 : Nat) (Option.some Jvm.ClassFile.FieldType.int)) ∈ lw_all := lw_g (lw_at lw_m11 2 rfl) rfl
theorem q2490 : (Jvm.Cond.instanceMethod ({ cls := "CueStack", name := "read", desc := "()I" } : Jvm.MethodName)) ∈ lw_all := lw_g (lw_at lw_m11 7 rfl) rfl
theorem q2491 : (Jvm.Cond.selects "CueStack" ({ cls := "CueStack", name := "read", desc := "()I" } : Jvm.MethodName) ({ cls := "CueStack", name := "read", desc := "()I" } : Jvm.MethodName)) ∈ lw_all := lw_g (lw_at lw_m11 8 rfl) rfl
theorem q2492 : (Jvm.Cond.codeWith ({ cls := "CueStack", name := "read", desc := "()I" } : Jvm.MethodName) prog_1_method_55_code (4 : Nat) (Option.some Jvm.ClassFile.FieldType.int) [((21 : Nat), (25 : Nat), (28 : Nat), (374 : Nat))]) ∈ lw_all := lw_g (lw_at lw_m11 9 rfl) rfl
theorem q2493 : (Jvm.Cond.classLink "CueStack" (374 : Nat) "CueStack$BadText") ∈ lw_all := lw_g (lw_at lw_m11 10 rfl) rfl
theorem q2494 : (Jvm.Cond.classLink "CueStack" (366 : Nat) "CueStack$Parser") ∈ lw_all := lw_g (lw_at lw_m11 11 rfl) rfl
theorem q2496 : (Jvm.Cond.methodLink "CueStack" (368 : Nat) ({ cls := "CueStack$Parser", name := "<init>", desc := "([CI)V" } : Jvm.MethodName)) ∈ lw_all := lw_g (lw_at lw_m11 13 rfl) rfl
theorem q2505 : (Jvm.Cond.fieldLinkNest "CueStack" (380 : Nat) "CueStack$Parser" "entries" "Ljava/util/ArrayList;" "CueStack") ∈ lw_tbl := lw_at lw_m11 22 rfl
theorem q2516 : (Jvm.Cond.methodLink "CueStack" (371 : Nat) ({ cls := "CueStack$Parser", name := "all", desc := "()V" } : Jvm.MethodName)) ∈ lw_all := lw_g (lw_at lw_m11 33 rfl) rfl
theorem q2571 : (Jvm.Cond.fieldLinkNest "CueStack" (392 : Nat) "CueStack$BadText" "position" "I" "CueStack") ∈ lw_tbl := lw_at lw_m11 88 rfl
theorem q2581 : (Jvm.Cond.classLink "CueStack" (383 : Nat) "CueStack$Entry") ∈ lw_all := lw_g (lw_at lw_m11 98 rfl) rfl
theorem q2582 : (Jvm.Cond.methodLink "CueStack" (385 : Nat) ({ cls := "CueStack", name := "applyTo", desc := "(LCueStack$Show;LCueStack$Entry;)V" } : Jvm.MethodName)) ∈ lw_all := lw_g (lw_at lw_m11 99 rfl) rfl
theorem q2583 : (Jvm.Cond.privateMethod ({ cls := "CueStack", name := "applyTo", desc := "(LCueStack$Show;LCueStack$Entry;)V" } : Jvm.MethodName)) ∈ lw_tbl := lw_at lw_m11 100 rfl
theorem q2584 : (Jvm.Cond.instanceMethod ({ cls := "CueStack", name := "applyTo", desc := "(LCueStack$Show;LCueStack$Entry;)V" } : Jvm.MethodName)) ∈ lw_all := lw_g (lw_at lw_m11 101 rfl) rfl
theorem q2585 : (Jvm.Cond.codeWith ({ cls := "CueStack", name := "applyTo", desc := "(LCueStack$Show;LCueStack$Entry;)V" } : Jvm.MethodName) prog_1_method_56_code (4 : Nat) (Option.none : Option Jvm.ClassFile.FieldType) [((0 : Nat), (5 : Nat), (8 : Nat), (16 : Nat)), ((0 : Nat), (5 : Nat), (22 : Nat), (7 : Nat)), ((0 : Nat), (5 : Nat), (22 : Nat), (1 : Nat))]) ∈ lw_all := lw_g (lw_at lw_m11 102 rfl) rfl
theorem q2586 : (Jvm.Cond.methodLink "CueStack" (389 : Nat) ({ cls := "CueStack$Entry", name := "apply", desc := "(LCueStack$Show;)V" } : Jvm.MethodName)) ∈ lw_all := lw_g (lw_at lw_m11 103 rfl) rfl
theorem q2607 : (Jvm.Cond.instanceMethod ({ cls := "CueStack", name := "errorPosition", desc := "()I" } : Jvm.MethodName)) ∈ lw_all := lw_g (lw_at lw_m11 124 rfl) rfl
theorem q2608 : (Jvm.Cond.selects "CueStack" ({ cls := "CueStack", name := "errorPosition", desc := "()I" } : Jvm.MethodName) ({ cls := "CueStack", name := "errorPosition", desc := "()I" } : Jvm.MethodName)) ∈ lw_all := lw_g (lw_at lw_m11 125 rfl) rfl
theorem q2609 : (Jvm.Cond.code ({ cls := "CueStack", name := "errorPosition", desc := "()I" } : Jvm.MethodName) prog_1_method_57_code (1 : Nat) (Option.some Jvm.ClassFile.FieldType.int)) ∈ lw_all := lw_g (lw_at lw_m11 126 rfl) rfl
theorem q2614 : (Jvm.Cond.instanceMethod ({ cls := "CueStack", name := "undo", desc := "()I" } : Jvm.MethodName)) ∈ lw_all := lw_g (lw_at lw_m11 131 rfl) rfl
theorem q2615 : (Jvm.Cond.selects "CueStack" ({ cls := "CueStack", name := "undo", desc := "()I" } : Jvm.MethodName) ({ cls := "CueStack", name := "undo", desc := "()I" } : Jvm.MethodName)) ∈ lw_all := lw_g (lw_at lw_m11 132 rfl) rfl
theorem q2616 : (Jvm.Cond.code ({ cls := "CueStack", name := "undo", desc := "()I" } : Jvm.MethodName) prog_1_method_58_code (1 : Nat) (Option.some Jvm.ClassFile.FieldType.int)) ∈ lw_all := lw_g (lw_at lw_m11 133 rfl) rfl
theorem q2617 : (Jvm.Cond.methodLink "CueStack" (395 : Nat) ({ cls := "CueStack$Past", name := "takeLatest", desc := "()LCueStack$Copied;" } : Jvm.MethodName)) ∈ lw_all := lw_g (lw_at lw_m11 134 rfl) rfl
theorem q2622 : (Jvm.Cond.methodLink "CueStack" (399 : Nat) ({ cls := "CueStack$Past", name := "size", desc := "()I" } : Jvm.MethodName)) ∈ lw_all := lw_g (lw_at lw_m11 139 rfl) rfl
theorem q2630 : (Jvm.Cond.instanceMethod ({ cls := "CueStack", name := "restore", desc := "()I" } : Jvm.MethodName)) ∈ lw_all := lw_g (lw_at lw_m11 147 rfl) rfl
theorem q2631 : (Jvm.Cond.selects "CueStack" ({ cls := "CueStack", name := "restore", desc := "()I" } : Jvm.MethodName) ({ cls := "CueStack", name := "restore", desc := "()I" } : Jvm.MethodName)) ∈ lw_all := lw_g (lw_at lw_m11 148 rfl) rfl
theorem q2632 : (Jvm.Cond.code ({ cls := "CueStack", name := "restore", desc := "()I" } : Jvm.MethodName) prog_1_method_60_code (1 : Nat) (Option.some Jvm.ClassFile.FieldType.int)) ∈ lw_all := lw_g (lw_at lw_m11 149 rfl) rfl
theorem q3115 : (Jvm.Cond.castable "CueStack" "java/lang/Object") ∈ lw_tbl := lw_at lw_m13 152 rfl
theorem in_X1 : ∀ w ∈ wsX10, w ∈ lw_all := lw_in wsX10 [1120, 1122, 1124, 1126, 1128, 1130, 1132, 1134, 1136] (by decide +kernel) (by decide +kernel)

