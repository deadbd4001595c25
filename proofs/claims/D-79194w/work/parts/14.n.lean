/-! CueStack$Fade -/
set_option maxRecDepth 100000
def RX3 : String := "CueStack$Fade"
def TX3 : u_T := fun k => match k with
  | 0 => ("CueStack$Fade", "from", "I", false)
  | 1 => ("CueStack$Fade", "to", "I", false)
  | 2 => ("CueStack$Fade", "delay", "I", false)
  | 3 => ("CueStack$Fade", "time", "I", false)
  | _ => ("CueStack$Fade", "since", "I", false)
def tyX3 : Nat → FieldType := fun k => match k with
  | 0 => .int
  | 1 => .int
  | 2 => .int
  | 3 => .int
  | _ => .int
abbrev wsX30 : List Cond := u_ws RX3 TX3 5
theorem nmX3 : ∀ a, a < 5 → ∀ b, b < 5 → a ≠ b → (TX3 a).2.1 ≠ (TX3 b).2.1 := by decide +kernel
theorem tyX3_ok : ∀ k, k < 5 → parseFieldDescriptor (TX3 k).2.2.1 = some (tyX3 k) := by decide +kernel
abbrev cX3_init : ByteArray := prog_6_method_1_code
def yX3_init : MethodName := ⟨RX3, "<init>", "()V"⟩
theorem dX3_init_0 : decode cX3_init 0 = .ok (.aload_n 0, 1) := by decide +kernel
theorem dX3_init_1 : decode cX3_init 1 = .ok (.invokespecial 1, 3) := by decide +kernel
theorem dX3_init_4 : decode cX3_init 4 = .ok (.return_, 1) := by decide +kernel
abbrev cX3_now : ByteArray := prog_6_method_3_code
def yX3_now : MethodName := ⟨RX3, "now", "()I"⟩
def dkwX3_now_3 : List UInt8 := [172]
abbrev dktX3_now_3 : List UInt8 := dkwX3_now_3 ++ []
def dkwX3_now_2 : List UInt8 := [180, 0, 14, 42, 180, 0, 10, 100, 42, 180, 0, 23, 42, 180, 0, 17, 100, 104, 42, 180, 0, 20, 108, 96]
abbrev dktX3_now_2 : List UInt8 := dkwX3_now_2 ++ dktX3_now_3
def dkwX3_now_1 : List UInt8 := [180, 0, 23, 42, 180, 0, 17, 163, 0, 10, 42, 180, 0, 10, 167, 0, 32, 42, 180, 0, 10, 42]
abbrev dktX3_now_1 : List UInt8 := dkwX3_now_1 ++ dktX3_now_2
def dkwX3_now_0 : List UInt8 := [42, 180, 0, 23, 42, 180, 0, 17, 42, 180, 0, 20, 96, 161, 0, 8, 42, 180, 0, 14, 172, 42]
abbrev dktX3_now_0 : List UInt8 := dkwX3_now_0 ++ dktX3_now_1
theorem dksX3_now_0 : cX3_now.data.toList.drop 0 = dktX3_now_0 := by decide +kernel
theorem dksX3_now_1 : cX3_now.data.toList.drop 22 = dktX3_now_1 := dk_seg dksX3_now_0 22 rfl rfl
theorem dksX3_now_2 : cX3_now.data.toList.drop 44 = dktX3_now_2 := dk_seg dksX3_now_1 22 rfl rfl
theorem dksX3_now_3 : cX3_now.data.toList.drop 68 = dktX3_now_3 := dk_seg dksX3_now_2 24 rfl rfl
theorem dX3_now_0 : decode cX3_now 0 = .ok (.aload_n 0, 1) := dk_42 (dk_at dksX3_now_0 0 rfl rfl)
theorem dX3_now_1 : decode cX3_now 1 = .ok (.getfield 23, 3) := dk_180 0 23 (dk_at dksX3_now_0 1 rfl rfl)
theorem dX3_now_4 : decode cX3_now 4 = .ok (.aload_n 0, 1) := dk_42 (dk_at dksX3_now_0 4 rfl rfl)
theorem dX3_now_5 : decode cX3_now 5 = .ok (.getfield 17, 3) := dk_180 0 17 (dk_at dksX3_now_0 5 rfl rfl)
theorem dX3_now_8 : decode cX3_now 8 = .ok (.aload_n 0, 1) := dk_42 (dk_at dksX3_now_0 8 rfl rfl)
theorem dX3_now_9 : decode cX3_now 9 = .ok (.getfield 20, 3) := dk_180 0 20 (dk_at dksX3_now_0 9 rfl rfl)
theorem dX3_now_12 : decode cX3_now 12 = .ok (.iadd, 1) := dk_96 (dk_at dksX3_now_0 12 rfl rfl)
theorem dX3_now_13 : decode cX3_now 13 = .ok (.if_icmp .lt 8, 3) := dk_161 0 8 (dk_at dksX3_now_0 13 rfl rfl)
theorem dX3_now_16 : decode cX3_now 16 = .ok (.aload_n 0, 1) := dk_42 (dk_at dksX3_now_0 16 rfl rfl)
theorem dX3_now_17 : decode cX3_now 17 = .ok (.getfield 14, 3) := dk_180 0 14 (dk_at dksX3_now_0 17 rfl rfl)
theorem dX3_now_20 : decode cX3_now 20 = .ok (.ireturn, 1) := dk_172 (dk_at dksX3_now_0 20 rfl rfl)
theorem dX3_now_21 : decode cX3_now 21 = .ok (.aload_n 0, 1) := dk_42 (dk_at dksX3_now_0 21 rfl rfl)
theorem dX3_now_22 : decode cX3_now 22 = .ok (.getfield 23, 3) := dk_180 0 23 (dk_at dksX3_now_1 0 rfl rfl)
theorem dX3_now_25 : decode cX3_now 25 = .ok (.aload_n 0, 1) := dk_42 (dk_at dksX3_now_1 3 rfl rfl)
theorem dX3_now_26 : decode cX3_now 26 = .ok (.getfield 17, 3) := dk_180 0 17 (dk_at dksX3_now_1 4 rfl rfl)
theorem dX3_now_29 : decode cX3_now 29 = .ok (.if_icmp .gt 10, 3) := dk_163 0 10 (dk_at dksX3_now_1 7 rfl rfl)
theorem dX3_now_32 : decode cX3_now 32 = .ok (.aload_n 0, 1) := dk_42 (dk_at dksX3_now_1 10 rfl rfl)
theorem dX3_now_33 : decode cX3_now 33 = .ok (.getfield 10, 3) := dk_180 0 10 (dk_at dksX3_now_1 11 rfl rfl)
theorem dX3_now_36 : decode cX3_now 36 = .ok (.goto 32, 3) := dk_167 0 32 (dk_at dksX3_now_1 14 rfl rfl)
theorem dX3_now_39 : decode cX3_now 39 = .ok (.aload_n 0, 1) := dk_42 (dk_at dksX3_now_1 17 rfl rfl)
theorem dX3_now_40 : decode cX3_now 40 = .ok (.getfield 10, 3) := dk_180 0 10 (dk_at dksX3_now_1 18 rfl rfl)
theorem dX3_now_43 : decode cX3_now 43 = .ok (.aload_n 0, 1) := dk_42 (dk_at dksX3_now_1 21 rfl rfl)
theorem dX3_now_44 : decode cX3_now 44 = .ok (.getfield 14, 3) := dk_180 0 14 (dk_at dksX3_now_2 0 rfl rfl)
theorem dX3_now_47 : decode cX3_now 47 = .ok (.aload_n 0, 1) := dk_42 (dk_at dksX3_now_2 3 rfl rfl)
theorem dX3_now_48 : decode cX3_now 48 = .ok (.getfield 10, 3) := dk_180 0 10 (dk_at dksX3_now_2 4 rfl rfl)
theorem dX3_now_51 : decode cX3_now 51 = .ok (.isub, 1) := dk_100 (dk_at dksX3_now_2 7 rfl rfl)
theorem dX3_now_52 : decode cX3_now 52 = .ok (.aload_n 0, 1) := dk_42 (dk_at dksX3_now_2 8 rfl rfl)
theorem dX3_now_53 : decode cX3_now 53 = .ok (.getfield 23, 3) := dk_180 0 23 (dk_at dksX3_now_2 9 rfl rfl)
theorem dX3_now_56 : decode cX3_now 56 = .ok (.aload_n 0, 1) := dk_42 (dk_at dksX3_now_2 12 rfl rfl)
theorem dX3_now_57 : decode cX3_now 57 = .ok (.getfield 17, 3) := dk_180 0 17 (dk_at dksX3_now_2 13 rfl rfl)
theorem dX3_now_60 : decode cX3_now 60 = .ok (.isub, 1) := dk_100 (dk_at dksX3_now_2 16 rfl rfl)
theorem dX3_now_61 : decode cX3_now 61 = .ok (.imul, 1) := dk_104 (dk_at dksX3_now_2 17 rfl rfl)
theorem dX3_now_62 : decode cX3_now 62 = .ok (.aload_n 0, 1) := dk_42 (dk_at dksX3_now_2 18 rfl rfl)
theorem dX3_now_63 : decode cX3_now 63 = .ok (.getfield 20, 3) := dk_180 0 20 (dk_at dksX3_now_2 19 rfl rfl)
theorem dX3_now_66 : decode cX3_now 66 = .ok (.idiv, 1) := dk_108 (dk_at dksX3_now_2 22 rfl rfl)
theorem dX3_now_67 : decode cX3_now 67 = .ok (.iadd, 1) := dk_96 (dk_at dksX3_now_2 23 rfl rfl)
theorem dX3_now_68 : decode cX3_now 68 = .ok (.ireturn, 1) := dk_172 (dk_at dksX3_now_3 0 rfl rfl)
abbrev cX3_copy : ByteArray := prog_6_method_2_code
def yX3_copy : MethodName := ⟨RX3, "copy", "()LCueStack$Fade;"⟩
def dkwX3_copy_2 : List UInt8 := [43, 176]
abbrev dktX3_copy_2 : List UInt8 := dkwX3_copy_2 ++ []
def dkwX3_copy_1 : List UInt8 := [43, 42, 180, 0, 17, 181, 0, 17, 43, 42, 180, 0, 20, 181, 0, 20, 43, 42, 180, 0, 23, 181, 0, 23]
abbrev dktX3_copy_1 : List UInt8 := dkwX3_copy_1 ++ dktX3_copy_2
def dkwX3_copy_0 : List UInt8 := [187, 0, 7, 89, 183, 0, 9, 76, 43, 42, 180, 0, 10, 181, 0, 10, 43, 42, 180, 0, 14, 181, 0, 14]
abbrev dktX3_copy_0 : List UInt8 := dkwX3_copy_0 ++ dktX3_copy_1
theorem dksX3_copy_0 : cX3_copy.data.toList.drop 0 = dktX3_copy_0 := by decide +kernel
theorem dksX3_copy_1 : cX3_copy.data.toList.drop 24 = dktX3_copy_1 := dk_seg dksX3_copy_0 24 rfl rfl
theorem dksX3_copy_2 : cX3_copy.data.toList.drop 48 = dktX3_copy_2 := dk_seg dksX3_copy_1 24 rfl rfl
theorem dX3_copy_0 : decode cX3_copy 0 = .ok (.new 7, 3) := dk_187 0 7 (dk_at dksX3_copy_0 0 rfl rfl)
theorem dX3_copy_3 : decode cX3_copy 3 = .ok (.dup, 1) := dk_89 (dk_at dksX3_copy_0 3 rfl rfl)
theorem dX3_copy_4 : decode cX3_copy 4 = .ok (.invokespecial 9, 3) := dk_183 0 9 (dk_at dksX3_copy_0 4 rfl rfl)
theorem dX3_copy_7 : decode cX3_copy 7 = .ok (.astore_n 1, 1) := dk_76 (dk_at dksX3_copy_0 7 rfl rfl)
theorem dX3_copy_8 : decode cX3_copy 8 = .ok (.aload_n 1, 1) := dk_43 (dk_at dksX3_copy_0 8 rfl rfl)
theorem dX3_copy_9 : decode cX3_copy 9 = .ok (.aload_n 0, 1) := dk_42 (dk_at dksX3_copy_0 9 rfl rfl)
theorem dX3_copy_10 : decode cX3_copy 10 = .ok (.getfield 10, 3) := dk_180 0 10 (dk_at dksX3_copy_0 10 rfl rfl)
theorem dX3_copy_13 : decode cX3_copy 13 = .ok (.putfield 10, 3) := dk_181 0 10 (dk_at dksX3_copy_0 13 rfl rfl)
theorem dX3_copy_16 : decode cX3_copy 16 = .ok (.aload_n 1, 1) := dk_43 (dk_at dksX3_copy_0 16 rfl rfl)
theorem dX3_copy_17 : decode cX3_copy 17 = .ok (.aload_n 0, 1) := dk_42 (dk_at dksX3_copy_0 17 rfl rfl)
theorem dX3_copy_18 : decode cX3_copy 18 = .ok (.getfield 14, 3) := dk_180 0 14 (dk_at dksX3_copy_0 18 rfl rfl)
theorem dX3_copy_21 : decode cX3_copy 21 = .ok (.putfield 14, 3) := dk_181 0 14 (dk_at dksX3_copy_0 21 rfl rfl)
theorem dX3_copy_24 : decode cX3_copy 24 = .ok (.aload_n 1, 1) := dk_43 (dk_at dksX3_copy_1 0 rfl rfl)
theorem dX3_copy_25 : decode cX3_copy 25 = .ok (.aload_n 0, 1) := dk_42 (dk_at dksX3_copy_1 1 rfl rfl)
theorem dX3_copy_26 : decode cX3_copy 26 = .ok (.getfield 17, 3) := dk_180 0 17 (dk_at dksX3_copy_1 2 rfl rfl)
theorem dX3_copy_29 : decode cX3_copy 29 = .ok (.putfield 17, 3) := dk_181 0 17 (dk_at dksX3_copy_1 5 rfl rfl)
theorem dX3_copy_32 : decode cX3_copy 32 = .ok (.aload_n 1, 1) := dk_43 (dk_at dksX3_copy_1 8 rfl rfl)
theorem dX3_copy_33 : decode cX3_copy 33 = .ok (.aload_n 0, 1) := dk_42 (dk_at dksX3_copy_1 9 rfl rfl)
theorem dX3_copy_34 : decode cX3_copy 34 = .ok (.getfield 20, 3) := dk_180 0 20 (dk_at dksX3_copy_1 10 rfl rfl)
theorem dX3_copy_37 : decode cX3_copy 37 = .ok (.putfield 20, 3) := dk_181 0 20 (dk_at dksX3_copy_1 13 rfl rfl)
theorem dX3_copy_40 : decode cX3_copy 40 = .ok (.aload_n 1, 1) := dk_43 (dk_at dksX3_copy_1 16 rfl rfl)
theorem dX3_copy_41 : decode cX3_copy 41 = .ok (.aload_n 0, 1) := dk_42 (dk_at dksX3_copy_1 17 rfl rfl)
theorem dX3_copy_42 : decode cX3_copy 42 = .ok (.getfield 23, 3) := dk_180 0 23 (dk_at dksX3_copy_1 18 rfl rfl)
theorem dX3_copy_45 : decode cX3_copy 45 = .ok (.putfield 23, 3) := dk_181 0 23 (dk_at dksX3_copy_1 21 rfl rfl)
theorem dX3_copy_48 : decode cX3_copy 48 = .ok (.aload_n 1, 1) := dk_43 (dk_at dksX3_copy_2 0 rfl rfl)
theorem dX3_copy_49 : decode cX3_copy 49 = .ok (.areturn, 1) := dk_176 (dk_at dksX3_copy_2 1 rfl rfl)
abbrev cX3_copy_2 : ByteArray := prog_6_method_6_code
def yX3_copy_2 : MethodName := ⟨RX3, "copy", "()Ljava/lang/Object;"⟩
theorem dX3_copy_2_0 : decode cX3_copy_2 0 = .ok (.aload_n 0, 1) := by decide +kernel
theorem dX3_copy_2_1 : decode cX3_copy_2 1 = .ok (.invokevirtual 30, 3) := by decide +kernel
theorem dX3_copy_2_4 : decode cX3_copy_2 4 = .ok (.areturn, 1) := by decide +kernel
abbrev cX3_begin : ByteArray := prog_6_method_5_code
def yX3_begin : MethodName := ⟨RX3, "begin", "(III)V"⟩
def dkwX3_begin_1 : List UInt8 := [3, 181, 0, 23, 177]
abbrev dktX3_begin_1 : List UInt8 := dkwX3_begin_1 ++ []
def dkwX3_begin_0 : List UInt8 := [42, 42, 182, 0, 26, 181, 0, 10, 42, 27, 181, 0, 14, 42, 28, 181, 0, 17, 42, 29, 181, 0, 20, 42]
abbrev dktX3_begin_0 : List UInt8 := dkwX3_begin_0 ++ dktX3_begin_1
theorem dksX3_begin_0 : cX3_begin.data.toList.drop 0 = dktX3_begin_0 := by decide +kernel
theorem dksX3_begin_1 : cX3_begin.data.toList.drop 24 = dktX3_begin_1 := dk_seg dksX3_begin_0 24 rfl rfl
theorem dX3_begin_0 : decode cX3_begin 0 = .ok (.aload_n 0, 1) := dk_42 (dk_at dksX3_begin_0 0 rfl rfl)
theorem dX3_begin_1 : decode cX3_begin 1 = .ok (.aload_n 0, 1) := dk_42 (dk_at dksX3_begin_0 1 rfl rfl)
theorem dX3_begin_2 : decode cX3_begin 2 = .ok (.invokevirtual 26, 3) := dk_182 0 26 (dk_at dksX3_begin_0 2 rfl rfl)
theorem dX3_begin_5 : decode cX3_begin 5 = .ok (.putfield 10, 3) := dk_181 0 10 (dk_at dksX3_begin_0 5 rfl rfl)
theorem dX3_begin_8 : decode cX3_begin 8 = .ok (.aload_n 0, 1) := dk_42 (dk_at dksX3_begin_0 8 rfl rfl)
theorem dX3_begin_9 : decode cX3_begin 9 = .ok (.iload_n 1, 1) := dk_27 (dk_at dksX3_begin_0 9 rfl rfl)
theorem dX3_begin_10 : decode cX3_begin 10 = .ok (.putfield 14, 3) := dk_181 0 14 (dk_at dksX3_begin_0 10 rfl rfl)
theorem dX3_begin_13 : decode cX3_begin 13 = .ok (.aload_n 0, 1) := dk_42 (dk_at dksX3_begin_0 13 rfl rfl)
theorem dX3_begin_14 : decode cX3_begin 14 = .ok (.iload_n 2, 1) := dk_28 (dk_at dksX3_begin_0 14 rfl rfl)
theorem dX3_begin_15 : decode cX3_begin 15 = .ok (.putfield 17, 3) := dk_181 0 17 (dk_at dksX3_begin_0 15 rfl rfl)
theorem dX3_begin_18 : decode cX3_begin 18 = .ok (.aload_n 0, 1) := dk_42 (dk_at dksX3_begin_0 18 rfl rfl)
theorem dX3_begin_19 : decode cX3_begin 19 = .ok (.iload_n 3, 1) := dk_29 (dk_at dksX3_begin_0 19 rfl rfl)
theorem dX3_begin_20 : decode cX3_begin 20 = .ok (.putfield 20, 3) := dk_181 0 20 (dk_at dksX3_begin_0 20 rfl rfl)
theorem dX3_begin_23 : decode cX3_begin 23 = .ok (.aload_n 0, 1) := dk_42 (dk_at dksX3_begin_0 23 rfl rfl)
theorem dX3_begin_24 : decode cX3_begin 24 = .ok (.iconst 0, 1) := dk_3 (dk_at dksX3_begin_1 0 rfl rfl)
theorem dX3_begin_25 : decode cX3_begin 25 = .ok (.putfield 23, 3) := dk_181 0 23 (dk_at dksX3_begin_1 1 rfl rfl)
theorem dX3_begin_28 : decode cX3_begin 28 = .ok (.return_, 1) := dk_177 (dk_at dksX3_begin_1 4 rfl rfl)
abbrev cX3_isGoing : ByteArray := prog_6_method_4_code
def yX3_isGoing : MethodName := ⟨RX3, "isGoing", "()Z"⟩
def dkwX3_isGoing_0 : List UInt8 := [42, 180, 0, 23, 42, 180, 0, 17, 42, 180, 0, 20, 96, 162, 0, 7, 4, 167, 0, 4, 3, 172]
abbrev dktX3_isGoing_0 : List UInt8 := dkwX3_isGoing_0 ++ []
theorem dksX3_isGoing_0 : cX3_isGoing.data.toList.drop 0 = dktX3_isGoing_0 := by decide +kernel
theorem dX3_isGoing_0 : decode cX3_isGoing 0 = .ok (.aload_n 0, 1) := dk_42 (dk_at dksX3_isGoing_0 0 rfl rfl)
theorem dX3_isGoing_1 : decode cX3_isGoing 1 = .ok (.getfield 23, 3) := dk_180 0 23 (dk_at dksX3_isGoing_0 1 rfl rfl)
theorem dX3_isGoing_4 : decode cX3_isGoing 4 = .ok (.aload_n 0, 1) := dk_42 (dk_at dksX3_isGoing_0 4 rfl rfl)
theorem dX3_isGoing_5 : decode cX3_isGoing 5 = .ok (.getfield 17, 3) := dk_180 0 17 (dk_at dksX3_isGoing_0 5 rfl rfl)
theorem dX3_isGoing_8 : decode cX3_isGoing 8 = .ok (.aload_n 0, 1) := dk_42 (dk_at dksX3_isGoing_0 8 rfl rfl)
theorem dX3_isGoing_9 : decode cX3_isGoing 9 = .ok (.getfield 20, 3) := dk_180 0 20 (dk_at dksX3_isGoing_0 9 rfl rfl)
theorem dX3_isGoing_12 : decode cX3_isGoing 12 = .ok (.iadd, 1) := dk_96 (dk_at dksX3_isGoing_0 12 rfl rfl)
theorem dX3_isGoing_13 : decode cX3_isGoing 13 = .ok (.if_icmp .ge 7, 3) := dk_162 0 7 (dk_at dksX3_isGoing_0 13 rfl rfl)
theorem dX3_isGoing_16 : decode cX3_isGoing 16 = .ok (.iconst 1, 1) := dk_4 (dk_at dksX3_isGoing_0 16 rfl rfl)
theorem dX3_isGoing_17 : decode cX3_isGoing 17 = .ok (.goto 4, 3) := dk_167 0 4 (dk_at dksX3_isGoing_0 17 rfl rfl)
theorem dX3_isGoing_20 : decode cX3_isGoing 20 = .ok (.iconst 0, 1) := dk_3 (dk_at dksX3_isGoing_0 20 rfl rfl)
theorem dX3_isGoing_21 : decode cX3_isGoing 21 = .ok (.ireturn, 1) := dk_172 (dk_at dksX3_isGoing_0 21 rfl rfl)
theorem q92 : (Jvm.Cond.initialized "CueStack$Fade") ∈ lw_all := lw_g (lw_at lw_m1 9 rfl) rfl
theorem q247 : (Jvm.Cond.instantiable "CueStack$Fade" (5 : Nat)) ∈ lw_all := lw_g (lw_at lw_m1 164 rfl) rfl
theorem q249 : (Jvm.Cond.instanceMethod ({ cls := "CueStack$Fade", name := "<init>", desc := "()V" } : Jvm.MethodName)) ∈ lw_all := lw_g (lw_at lw_m1 166 rfl) rfl
theorem q250 : (Jvm.Cond.code ({ cls := "CueStack$Fade", name := "<init>", desc := "()V" } : Jvm.MethodName) prog_6_method_1_code (1 : Nat) (Option.none : Option Jvm.ClassFile.FieldType)) ∈ lw_all := lw_g (lw_at lw_m1 167 rfl) rfl
theorem q251 : (Jvm.Cond.methodLink "CueStack$Fade" (1 : Nat) ({ cls := "java/lang/Object", name := "<init>", desc := "()V" } : Jvm.MethodName)) ∈ lw_all := lw_g (lw_at lw_m1 168 rfl) rfl
theorem q252 : (Jvm.Cond.fieldLink "CueStack$Fade" (10 : Nat) "CueStack$Fade" "from" "I") ∈ lw_all := lw_g (lw_at lw_m1 169 rfl) rfl
theorem q253 : (Jvm.Cond.fieldLink "CueStack$Fade" (14 : Nat) "CueStack$Fade" "to" "I") ∈ lw_all := lw_g (lw_at lw_m1 170 rfl) rfl
theorem q256 : (Jvm.Cond.fieldLink "CueStack$Fade" (17 : Nat) "CueStack$Fade" "delay" "I") ∈ lw_all := lw_g (lw_at lw_m1 173 rfl) rfl
theorem q257 : (Jvm.Cond.fieldLink "CueStack$Fade" (20 : Nat) "CueStack$Fade" "time" "I") ∈ lw_all := lw_g (lw_at lw_m1 174 rfl) rfl
theorem q258 : (Jvm.Cond.fieldLink "CueStack$Fade" (23 : Nat) "CueStack$Fade" "since" "I") ∈ lw_all := lw_g (lw_at lw_m1 175 rfl) rfl
theorem q260 : (Jvm.Cond.lays "CueStack$Fade" "CueStack$Fade" "from" "I") ∈ lw_all := lw_g (lw_at lw_m1 177 rfl) rfl
theorem q261 : (Jvm.Cond.soleField "CueStack$Fade" "from") ∈ lw_all := lw_g (lw_at lw_m1 178 rfl) rfl
theorem q262 : (Jvm.Cond.lays "CueStack$Fade" "CueStack$Fade" "to" "I") ∈ lw_all := lw_g (lw_at lw_m1 179 rfl) rfl
theorem q263 : (Jvm.Cond.soleField "CueStack$Fade" "to") ∈ lw_all := lw_g (lw_at lw_m1 180 rfl) rfl
theorem q264 : (Jvm.Cond.lays "CueStack$Fade" "CueStack$Fade" "delay" "I") ∈ lw_all := lw_g (lw_at lw_m1 181 rfl) rfl
theorem q265 : (Jvm.Cond.soleField "CueStack$Fade" "delay") ∈ lw_all := lw_g (lw_at lw_m1 182 rfl) rfl
theorem q266 : (Jvm.Cond.lays "CueStack$Fade" "CueStack$Fade" "time" "I") ∈ lw_all := lw_g (lw_at lw_m1 183 rfl) rfl
theorem q267 : (Jvm.Cond.soleField "CueStack$Fade" "time") ∈ lw_all := lw_g (lw_at lw_m1 184 rfl) rfl
theorem q268 : (Jvm.Cond.lays "CueStack$Fade" "CueStack$Fade" "since" "I") ∈ lw_all := lw_g (lw_at lw_m1 185 rfl) rfl
theorem q269 : (Jvm.Cond.soleField "CueStack$Fade" "since") ∈ lw_all := lw_g (lw_at lw_m1 186 rfl) rfl
theorem q270 : (Jvm.Cond.superclass "CueStack$Fade" "java/lang/Object") ∈ lw_all := lw_g (lw_at lw_m1 187 rfl) rfl
theorem q308 : (Jvm.Cond.selects "CueStack$Fade" ({ cls := "java/lang/Object", name := "getClass", desc := "()Ljava/lang/Class;" } : Jvm.MethodName) ({ cls := "java/lang/Object", name := "getClass", desc := "()Ljava/lang/Class;" } : Jvm.MethodName)) ∈ lw_all := lw_g (lw_at lw_m1 225 rfl) rfl
theorem q466 : (Jvm.Cond.selects "CueStack$Fade" ({ cls := "java/lang/Object", name := "hashCode", desc := "()I" } : Jvm.MethodName) ({ cls := "java/lang/Object", name := "hashCode", desc := "()I" } : Jvm.MethodName)) ∈ lw_all := lw_g (lw_at lw_m2 143 rfl) rfl
theorem q851 : (Jvm.Cond.selects "CueStack$Fade" ({ cls := "java/lang/Object", name := "equals", desc := "(Ljava/lang/Object;)Z" } : Jvm.MethodName) ({ cls := "java/lang/Object", name := "equals", desc := "(Ljava/lang/Object;)Z" } : Jvm.MethodName)) ∈ lw_all := lw_g (lw_at lw_m4 48 rfl) rfl
theorem q1167 : (Jvm.Cond.instanceMethod ({ cls := "CueStack$Fade", name := "now", desc := "()I" } : Jvm.MethodName)) ∈ lw_all := lw_g (lw_at lw_m5 124 rfl) rfl
theorem q1168 : (Jvm.Cond.selects "CueStack$Fade" ({ cls := "CueStack$Fade", name := "now", desc := "()I" } : Jvm.MethodName) ({ cls := "CueStack$Fade", name := "now", desc := "()I" } : Jvm.MethodName)) ∈ lw_all := lw_g (lw_at lw_m5 125 rfl) rfl
theorem q1169 : (Jvm.Cond.code ({ cls := "CueStack$Fade", name := "now", desc := "()I" } : Jvm.MethodName) prog_6_method_3_code (1 : Nat) (Option.some Jvm.ClassFile.FieldType.int)) ∈ lw_all := lw_g (lw_at lw_m5 126 rfl) rfl
theorem q1669 : (Jvm.Cond.instanceMethod ({ cls := "CueStack$Fade", name := "copy", desc := "()LCueStack$Fade;" } : Jvm.MethodName)) ∈ lw_all := lw_g (lw_at lw_m7 146 rfl) rfl
theorem q1670 : (Jvm.Cond.selects "CueStack$Fade" ({ cls := "CueStack$Fade", name := "copy", desc := "()LCueStack$Fade;" } : Jvm.MethodName) ({ cls := "CueStack$Fade", name := "copy", desc := "()LCueStack$Fade;" } : Jvm.MethodName)) ∈ lw_all := lw_g (lw_at lw_m7 147 rfl) rfl
theorem q1671 : (Jvm.Cond.code ({ cls := "CueStack$Fade", name := "copy", desc := "()LCueStack$Fade;" } : Jvm.MethodName) prog_6_method_2_code (2 : Nat) (Option.some (Jvm.ClassFile.FieldType.object "CueStack$Fade"))) ∈ lw_all := lw_g (lw_at lw_m7 148 rfl) rfl
theorem q1672 : (Jvm.Cond.classLink "CueStack$Fade" (7 : Nat) "CueStack$Fade") ∈ lw_all := lw_g (lw_at lw_m7 149 rfl) rfl
theorem q1673 : (Jvm.Cond.methodLink "CueStack$Fade" (9 : Nat) ({ cls := "CueStack$Fade", name := "<init>", desc := "()V" } : Jvm.MethodName)) ∈ lw_all := lw_g (lw_at lw_m7 150 rfl) rfl
theorem q1788 : (Jvm.Cond.castable "CueStack$Fade" "CueStack$Copied") ∈ lw_tbl := lw_at lw_m8 25 rfl
theorem q1789 : (Jvm.Cond.selects "CueStack$Fade" ({ cls := "CueStack$Copied", name := "copy", desc := "()Ljava/lang/Object;" } : Jvm.MethodName) ({ cls := "CueStack$Fade", name := "copy", desc := "()Ljava/lang/Object;" } : Jvm.MethodName)) ∈ lw_all := lw_g (lw_at lw_m8 26 rfl) rfl
theorem q1790 : (Jvm.Cond.unhidden "CueStack$Fade" "copy" "()Ljava/lang/Object;") ∈ lw_tbl := lw_at lw_m8 27 rfl
theorem q1791 : (Jvm.Cond.instanceMethod ({ cls := "CueStack$Fade", name := "copy", desc := "()Ljava/lang/Object;" } : Jvm.MethodName)) ∈ lw_all := lw_g (lw_at lw_m8 28 rfl) rfl
theorem q1792 : (Jvm.Cond.publicMethod ({ cls := "CueStack$Fade", name := "copy", desc := "()Ljava/lang/Object;" } : Jvm.MethodName)) ∈ lw_tbl := lw_at lw_m8 29 rfl
theorem q1793 : (Jvm.Cond.code ({ cls := "CueStack$Fade", name := "copy", desc := "()Ljava/lang/Object;" } : Jvm.MethodName) prog_6_method_6_code (1 : Nat) (Option.some (Jvm.ClassFile.FieldType.object "java/lang/Object"))) ∈ lw_all := lw_g (lw_at lw_m8 30 rfl) rfl
theorem q1794 : (Jvm.Cond.methodLink "CueStack$Fade" (30 : Nat) ({ cls := "CueStack$Fade", name := "copy", desc := "()LCueStack$Fade;" } : Jvm.MethodName)) ∈ lw_all := lw_g (lw_at lw_m8 31 rfl) rfl
theorem q2296 : (Jvm.Cond.instanceMethod ({ cls := "CueStack$Fade", name := "begin", desc := "(III)V" } : Jvm.MethodName)) ∈ lw_all := lw_g (lw_at lw_m10 53 rfl) rfl
theorem q2297 : (Jvm.Cond.selects "CueStack$Fade" ({ cls := "CueStack$Fade", name := "begin", desc := "(III)V" } : Jvm.MethodName) ({ cls := "CueStack$Fade", name := "begin", desc := "(III)V" } : Jvm.MethodName)) ∈ lw_all := lw_g (lw_at lw_m10 54 rfl) rfl
theorem q2298 : (Jvm.Cond.code ({ cls := "CueStack$Fade", name := "begin", desc := "(III)V" } : Jvm.MethodName) prog_6_method_5_code (4 : Nat) (Option.none : Option Jvm.ClassFile.FieldType)) ∈ lw_all := lw_g (lw_at lw_m10 55 rfl) rfl
theorem q2299 : (Jvm.Cond.methodLink "CueStack$Fade" (26 : Nat) ({ cls := "CueStack$Fade", name := "now", desc := "()I" } : Jvm.MethodName)) ∈ lw_all := lw_g (lw_at lw_m10 56 rfl) rfl
theorem q2375 : (Jvm.Cond.instanceMethod ({ cls := "CueStack$Fade", name := "isGoing", desc := "()Z" } : Jvm.MethodName)) ∈ lw_all := lw_g (lw_at lw_m10 132 rfl) rfl
theorem q2376 : (Jvm.Cond.selects "CueStack$Fade" ({ cls := "CueStack$Fade", name := "isGoing", desc := "()Z" } : Jvm.MethodName) ({ cls := "CueStack$Fade", name := "isGoing", desc := "()Z" } : Jvm.MethodName)) ∈ lw_all := lw_g (lw_at lw_m10 133 rfl) rfl
theorem q2377 : (Jvm.Cond.code ({ cls := "CueStack$Fade", name := "isGoing", desc := "()Z" } : Jvm.MethodName) prog_6_method_4_code (1 : Nat) (Option.some Jvm.ClassFile.FieldType.boolean)) ∈ lw_all := lw_g (lw_at lw_m10 134 rfl) rfl
theorem q3119 : (Jvm.Cond.castable "CueStack$Fade" "java/lang/Object") ∈ lw_tbl := lw_at lw_m13 156 rfl
theorem in_X3 : ∀ w ∈ wsX30, w ∈ lw_all := lw_in wsX30 [260, 262, 264, 266, 268] (by decide +kernel) (by decide +kernel)

/-! CueStack$Past -/
set_option maxRecDepth 100000
def RX4 : String := "CueStack$Past"
def TX4 : u_T := fun k => match k with
  | 0 => ("CueStack$Past", "kept", "Ljava/util/ArrayList;", true)
  | _ => ("CueStack$Past", "most", "I", true)
def tyX4 : Nat → FieldType := fun k => match k with
  | 0 => .object "java/util/ArrayList"
  | _ => .int
abbrev wsX40 : List Cond := u_ws RX4 TX4 2
theorem nmX4 : ∀ a, a < 2 → ∀ b, b < 2 → a ≠ b → (TX4 a).2.1 ≠ (TX4 b).2.1 := by decide +kernel
theorem tyX4_ok : ∀ k, k < 2 → parseFieldDescriptor (TX4 k).2.2.1 = some (tyX4 k) := by decide +kernel
abbrev cX4_init : ByteArray := prog_12_method_1_code
def yX4_init : MethodName := ⟨RX4, "<init>", "(I)V"⟩
def dkwX4_init_0 : List UInt8 := [42, 183, 0, 1, 42, 187, 0, 7, 89, 183, 0, 9, 181, 0, 10, 42, 27, 181, 0, 16, 177]
abbrev dktX4_init_0 : List UInt8 := dkwX4_init_0 ++ []
theorem dksX4_init_0 : cX4_init.data.toList.drop 0 = dktX4_init_0 := by decide +kernel
theorem dX4_init_0 : decode cX4_init 0 = .ok (.aload_n 0, 1) := dk_42 (dk_at dksX4_init_0 0 rfl rfl)
theorem dX4_init_1 : decode cX4_init 1 = .ok (.invokespecial 1, 3) := dk_183 0 1 (dk_at dksX4_init_0 1 rfl rfl)
theorem dX4_init_4 : decode cX4_init 4 = .ok (.aload_n 0, 1) := dk_42 (dk_at dksX4_init_0 4 rfl rfl)
theorem dX4_init_5 : decode cX4_init 5 = .ok (.new 7, 3) := dk_187 0 7 (dk_at dksX4_init_0 5 rfl rfl)
theorem dX4_init_8 : decode cX4_init 8 = .ok (.dup, 1) := dk_89 (dk_at dksX4_init_0 8 rfl rfl)
theorem dX4_init_9 : decode cX4_init 9 = .ok (.invokespecial 9, 3) := dk_183 0 9 (dk_at dksX4_init_0 9 rfl rfl)
theorem dX4_init_12 : decode cX4_init 12 = .ok (.putfield 10, 3) := dk_181 0 10 (dk_at dksX4_init_0 12 rfl rfl)
theorem dX4_init_15 : decode cX4_init 15 = .ok (.aload_n 0, 1) := dk_42 (dk_at dksX4_init_0 15 rfl rfl)
theorem dX4_init_16 : decode cX4_init 16 = .ok (.iload_n 1, 1) := dk_27 (dk_at dksX4_init_0 16 rfl rfl)
theorem dX4_init_17 : decode cX4_init 17 = .ok (.putfield 16, 3) := dk_181 0 16 (dk_at dksX4_init_0 17 rfl rfl)
theorem dX4_init_20 : decode cX4_init 20 = .ok (.return_, 1) := dk_177 (dk_at dksX4_init_0 20 rfl rfl)
abbrev cX4_forget : ByteArray := prog_12_method_5_code
def yX4_forget : MethodName := ⟨RX4, "forget", "()V"⟩
def dkwX4_forget_0 : List UInt8 := [42, 180, 0, 10, 182, 0, 44, 177]
abbrev dktX4_forget_0 : List UInt8 := dkwX4_forget_0 ++ []
theorem dksX4_forget_0 : cX4_forget.data.toList.drop 0 = dktX4_forget_0 := by decide +kernel
theorem dX4_forget_0 : decode cX4_forget 0 = .ok (.aload_n 0, 1) := dk_42 (dk_at dksX4_forget_0 0 rfl rfl)
theorem dX4_forget_1 : decode cX4_forget 1 = .ok (.getfield 10, 3) := dk_180 0 10 (dk_at dksX4_forget_0 1 rfl rfl)
theorem dX4_forget_4 : decode cX4_forget 4 = .ok (.invokevirtual 44, 3) := dk_182 0 44 (dk_at dksX4_forget_0 4 rfl rfl)
theorem dX4_forget_7 : decode cX4_forget 7 = .ok (.return_, 1) := dk_177 (dk_at dksX4_forget_0 7 rfl rfl)
abbrev cX4_keep : ByteArray := prog_12_method_2_code
def yX4_keep : MethodName := ⟨RX4, "keep", "(LCueStack$Copied;)V"⟩
def dkwX4_keep_1 : List UInt8 := [180, 0, 10, 43, 185, 0, 28, 1, 0, 192, 0, 29, 182, 0, 34, 87, 177]
abbrev dktX4_keep_1 : List UInt8 := dkwX4_keep_1 ++ []
def dkwX4_keep_0 : List UInt8 := [42, 180, 0, 10, 182, 0, 20, 42, 180, 0, 16, 160, 0, 12, 42, 180, 0, 10, 3, 182, 0, 24, 87, 42]
abbrev dktX4_keep_0 : List UInt8 := dkwX4_keep_0 ++ dktX4_keep_1
theorem dksX4_keep_0 : cX4_keep.data.toList.drop 0 = dktX4_keep_0 := by decide +kernel
theorem dksX4_keep_1 : cX4_keep.data.toList.drop 24 = dktX4_keep_1 := dk_seg dksX4_keep_0 24 rfl rfl
theorem dX4_keep_0 : decode cX4_keep 0 = .ok (.aload_n 0, 1) := dk_42 (dk_at dksX4_keep_0 0 rfl rfl)
theorem dX4_keep_1 : decode cX4_keep 1 = .ok (.getfield 10, 3) := dk_180 0 10 (dk_at dksX4_keep_0 1 rfl rfl)
theorem dX4_keep_4 : decode cX4_keep 4 = .ok (.invokevirtual 20, 3) := dk_182 0 20 (dk_at dksX4_keep_0 4 rfl rfl)
theorem dX4_keep_7 : decode cX4_keep 7 = .ok (.aload_n 0, 1) := dk_42 (dk_at dksX4_keep_0 7 rfl rfl)
theorem dX4_keep_8 : decode cX4_keep 8 = .ok (.getfield 16, 3) := dk_180 0 16 (dk_at dksX4_keep_0 8 rfl rfl)
theorem dX4_keep_11 : decode cX4_keep 11 = .ok (.if_icmp .ne 12, 3) := dk_160 0 12 (dk_at dksX4_keep_0 11 rfl rfl)
theorem dX4_keep_14 : decode cX4_keep 14 = .ok (.aload_n 0, 1) := dk_42 (dk_at dksX4_keep_0 14 rfl rfl)
theorem dX4_keep_15 : decode cX4_keep 15 = .ok (.getfield 10, 3) := dk_180 0 10 (dk_at dksX4_keep_0 15 rfl rfl)
theorem dX4_keep_18 : decode cX4_keep 18 = .ok (.iconst 0, 1) := dk_3 (dk_at dksX4_keep_0 18 rfl rfl)
theorem dX4_keep_19 : decode cX4_keep 19 = .ok (.invokevirtual 24, 3) := dk_182 0 24 (dk_at dksX4_keep_0 19 rfl rfl)
theorem dX4_keep_22 : decode cX4_keep 22 = .ok (.pop, 1) := dk_87 (dk_at dksX4_keep_0 22 rfl rfl)
theorem dX4_keep_23 : decode cX4_keep 23 = .ok (.aload_n 0, 1) := dk_42 (dk_at dksX4_keep_0 23 rfl rfl)
theorem dX4_keep_24 : decode cX4_keep 24 = .ok (.getfield 10, 3) := dk_180 0 10 (dk_at dksX4_keep_1 0 rfl rfl)
theorem dX4_keep_27 : decode cX4_keep 27 = .ok (.aload_n 1, 1) := dk_43 (dk_at dksX4_keep_1 3 rfl rfl)
theorem dX4_keep_28 : decode cX4_keep 28 = .ok (.invokeinterface 28 1, 5) := by decide +kernel
theorem dX4_keep_33 : decode cX4_keep 33 = .ok (.checkcast 29, 3) := dk_192 0 29 (dk_at dksX4_keep_1 9 rfl rfl)
theorem dX4_keep_36 : decode cX4_keep 36 = .ok (.invokevirtual 34, 3) := dk_182 0 34 (dk_at dksX4_keep_1 12 rfl rfl)
theorem dX4_keep_39 : decode cX4_keep 39 = .ok (.pop, 1) := dk_87 (dk_at dksX4_keep_1 15 rfl rfl)
theorem dX4_keep_40 : decode cX4_keep 40 = .ok (.return_, 1) := dk_177 (dk_at dksX4_keep_1 16 rfl rfl)
abbrev cX4_takeLatest : ByteArray := prog_12_method_3_code
def yX4_takeLatest : MethodName := ⟨RX4, "takeLatest", "()LCueStack$Copied;"⟩
def dkwX4_takeLatest_1 : List UInt8 := [180, 0, 10, 182, 0, 20, 4, 100, 182, 0, 24, 192, 0, 29, 176]
abbrev dktX4_takeLatest_1 : List UInt8 := dkwX4_takeLatest_1 ++ []
def dkwX4_takeLatest_0 : List UInt8 := [42, 180, 0, 10, 182, 0, 20, 158, 0, 7, 4, 167, 0, 4, 3, 184, 0, 38, 42, 180, 0, 10, 42]
abbrev dktX4_takeLatest_0 : List UInt8 := dkwX4_takeLatest_0 ++ dktX4_takeLatest_1
theorem dksX4_takeLatest_0 : cX4_takeLatest.data.toList.drop 0 = dktX4_takeLatest_0 := by decide +kernel
theorem dksX4_takeLatest_1 : cX4_takeLatest.data.toList.drop 23 = dktX4_takeLatest_1 := dk_seg dksX4_takeLatest_0 23 rfl rfl
theorem dX4_takeLatest_0 : decode cX4_takeLatest 0 = .ok (.aload_n 0, 1) := dk_42 (dk_at dksX4_takeLatest_0 0 rfl rfl)
theorem dX4_takeLatest_1 : decode cX4_takeLatest 1 = .ok (.getfield 10, 3) := dk_180 0 10 (dk_at dksX4_takeLatest_0 1 rfl rfl)
theorem dX4_takeLatest_4 : decode cX4_takeLatest 4 = .ok (.invokevirtual 20, 3) := dk_182 0 20 (dk_at dksX4_takeLatest_0 4 rfl rfl)
theorem dX4_takeLatest_7 : decode cX4_takeLatest 7 = .ok (.ifCond .le 7, 3) := dk_158 0 7 (dk_at dksX4_takeLatest_0 7 rfl rfl)
theorem dX4_takeLatest_10 : decode cX4_takeLatest 10 = .ok (.iconst 1, 1) := dk_4 (dk_at dksX4_takeLatest_0 10 rfl rfl)
theorem dX4_takeLatest_11 : decode cX4_takeLatest 11 = .ok (.goto 4, 3) := dk_167 0 4 (dk_at dksX4_takeLatest_0 11 rfl rfl)
theorem dX4_takeLatest_14 : decode cX4_takeLatest 14 = .ok (.iconst 0, 1) := dk_3 (dk_at dksX4_takeLatest_0 14 rfl rfl)
theorem dX4_takeLatest_15 : decode cX4_takeLatest 15 = .ok (.invokestatic 38, 3) := dk_184 0 38 (dk_at dksX4_takeLatest_0 15 rfl rfl)
theorem dX4_takeLatest_18 : decode cX4_takeLatest 18 = .ok (.aload_n 0, 1) := dk_42 (dk_at dksX4_takeLatest_0 18 rfl rfl)
theorem dX4_takeLatest_19 : decode cX4_takeLatest 19 = .ok (.getfield 10, 3) := dk_180 0 10 (dk_at dksX4_takeLatest_0 19 rfl rfl)
theorem dX4_takeLatest_22 : decode cX4_takeLatest 22 = .ok (.aload_n 0, 1) := dk_42 (dk_at dksX4_takeLatest_0 22 rfl rfl)
theorem dX4_takeLatest_23 : decode cX4_takeLatest 23 = .ok (.getfield 10, 3) := dk_180 0 10 (dk_at dksX4_takeLatest_1 0 rfl rfl)
theorem dX4_takeLatest_26 : decode cX4_takeLatest 26 = .ok (.invokevirtual 20, 3) := dk_182 0 20 (dk_at dksX4_takeLatest_1 3 rfl rfl)
theorem dX4_takeLatest_29 : decode cX4_takeLatest 29 = .ok (.iconst 1, 1) := dk_4 (dk_at dksX4_takeLatest_1 6 rfl rfl)
theorem dX4_takeLatest_30 : decode cX4_takeLatest 30 = .ok (.isub, 1) := dk_100 (dk_at dksX4_takeLatest_1 7 rfl rfl)
theorem dX4_takeLatest_31 : decode cX4_takeLatest 31 = .ok (.invokevirtual 24, 3) := dk_182 0 24 (dk_at dksX4_takeLatest_1 8 rfl rfl)
theorem dX4_takeLatest_34 : decode cX4_takeLatest 34 = .ok (.checkcast 29, 3) := dk_192 0 29 (dk_at dksX4_takeLatest_1 11 rfl rfl)
theorem dX4_takeLatest_37 : decode cX4_takeLatest 37 = .ok (.areturn, 1) := dk_176 (dk_at dksX4_takeLatest_1 14 rfl rfl)
abbrev cX4_size : ByteArray := prog_12_method_4_code
def yX4_size : MethodName := ⟨RX4, "size", "()I"⟩
def dkwX4_size_0 : List UInt8 := [42, 180, 0, 10, 182, 0, 20, 172]
abbrev dktX4_size_0 : List UInt8 := dkwX4_size_0 ++ []
theorem dksX4_size_0 : cX4_size.data.toList.drop 0 = dktX4_size_0 := by decide +kernel
theorem dX4_size_0 : decode cX4_size 0 = .ok (.aload_n 0, 1) := dk_42 (dk_at dksX4_size_0 0 rfl rfl)
theorem dX4_size_1 : decode cX4_size 1 = .ok (.getfield 10, 3) := dk_180 0 10 (dk_at dksX4_size_0 1 rfl rfl)
theorem dX4_size_4 : decode cX4_size 4 = .ok (.invokevirtual 20, 3) := dk_182 0 20 (dk_at dksX4_size_0 4 rfl rfl)
theorem dX4_size_7 : decode cX4_size 7 = .ok (.ireturn, 1) := dk_172 (dk_at dksX4_size_0 7 rfl rfl)
theorem q97 : (Jvm.Cond.initialized "CueStack$Past") ∈ lw_all := lw_g (lw_at lw_m1 14 rfl) rfl
theorem q312 : (Jvm.Cond.selects "CueStack$Past" ({ cls := "java/lang/Object", name := "getClass", desc := "()Ljava/lang/Class;" } : Jvm.MethodName) ({ cls := "java/lang/Object", name := "getClass", desc := "()Ljava/lang/Class;" } : Jvm.MethodName)) ∈ lw_all := lw_g (lw_at lw_m1 229 rfl) rfl
theorem q389 : (Jvm.Cond.instantiable "CueStack$Past" (2 : Nat)) ∈ lw_all := lw_g (lw_at lw_m2 66 rfl) rfl
theorem q391 : (Jvm.Cond.instanceMethod ({ cls := "CueStack$Past", name := "<init>", desc := "(I)V" } : Jvm.MethodName)) ∈ lw_all := lw_g (lw_at lw_m2 68 rfl) rfl
theorem q392 : (Jvm.Cond.code ({ cls := "CueStack$Past", name := "<init>", desc := "(I)V" } : Jvm.MethodName) prog_12_method_1_code (2 : Nat) (Option.none : Option Jvm.ClassFile.FieldType)) ∈ lw_all := lw_g (lw_at lw_m2 69 rfl) rfl
theorem q393 : (Jvm.Cond.methodLink "CueStack$Past" (1 : Nat) ({ cls := "java/lang/Object", name := "<init>", desc := "()V" } : Jvm.MethodName)) ∈ lw_all := lw_g (lw_at lw_m2 70 rfl) rfl
theorem q394 : (Jvm.Cond.classLink "CueStack$Past" (7 : Nat) "java/util/ArrayList") ∈ lw_all := lw_g (lw_at lw_m2 71 rfl) rfl
theorem q395 : (Jvm.Cond.methodLink "CueStack$Past" (9 : Nat) ({ cls := "java/util/ArrayList", name := "<init>", desc := "()V" } : Jvm.MethodName)) ∈ lw_all := lw_g (lw_at lw_m2 72 rfl) rfl
theorem q396 : (Jvm.Cond.fieldLink "CueStack$Past" (10 : Nat) "CueStack$Past" "kept" "Ljava/util/ArrayList;") ∈ lw_all := lw_g (lw_at lw_m2 73 rfl) rfl
theorem q397 : (Jvm.Cond.fieldLink "CueStack$Past" (16 : Nat) "CueStack$Past" "most" "I") ∈ lw_all := lw_g (lw_at lw_m2 74 rfl) rfl
theorem q398 : (Jvm.Cond.laysFinal "CueStack$Past" "CueStack$Past" "kept" "Ljava/util/ArrayList;") ∈ lw_all := lw_g (lw_at lw_m2 75 rfl) rfl
theorem q399 : (Jvm.Cond.soleField "CueStack$Past" "kept") ∈ lw_all := lw_g (lw_at lw_m2 76 rfl) rfl
theorem q400 : (Jvm.Cond.laysFinal "CueStack$Past" "CueStack$Past" "most" "I") ∈ lw_all := lw_g (lw_at lw_m2 77 rfl) rfl
theorem q401 : (Jvm.Cond.soleField "CueStack$Past" "most") ∈ lw_all := lw_g (lw_at lw_m2 78 rfl) rfl
theorem q402 : (Jvm.Cond.superclass "CueStack$Past" "java/lang/Object") ∈ lw_all := lw_g (lw_at lw_m2 79 rfl) rfl
theorem q472 : (Jvm.Cond.selects "CueStack$Past" ({ cls := "java/lang/Object", name := "hashCode", desc := "()I" } : Jvm.MethodName) ({ cls := "java/lang/Object", name := "hashCode", desc := "()I" } : Jvm.MethodName)) ∈ lw_all := lw_g (lw_at lw_m2 149 rfl) rfl
theorem q858 : (Jvm.Cond.selects "CueStack$Past" ({ cls := "java/lang/Object", name := "equals", desc := "(Ljava/lang/Object;)Z" } : Jvm.MethodName) ({ cls := "java/lang/Object", name := "equals", desc := "(Ljava/lang/Object;)Z" } : Jvm.MethodName)) ∈ lw_all := lw_g (lw_at lw_m4 55 rfl) rfl
theorem q1149 : (Jvm.Cond.instanceMethod ({ cls := "CueStack$Past", name := "forget", desc := "()V" } : Jvm.MethodName)) ∈ lw_all := lw_g (lw_at lw_m5 106 rfl) rfl
theorem q1150 : (Jvm.Cond.selects "CueStack$Past" ({ cls := "CueStack$Past", name := "forget", desc := "()V" } : Jvm.MethodName) ({ cls := "CueStack$Past", name := "forget", desc := "()V" } : Jvm.MethodName)) ∈ lw_all := lw_g (lw_at lw_m5 107 rfl) rfl
theorem q1151 : (Jvm.Cond.code ({ cls := "CueStack$Past", name := "forget", desc := "()V" } : Jvm.MethodName) prog_12_method_5_code (1 : Nat) (Option.none : Option Jvm.ClassFile.FieldType)) ∈ lw_all := lw_g (lw_at lw_m5 108 rfl) rfl
theorem q1152 : (Jvm.Cond.methodLink "CueStack$Past" (44 : Nat) ({ cls := "java/util/ArrayList", name := "clear", desc := "()V" } : Jvm.MethodName)) ∈ lw_all := lw_g (lw_at lw_m5 109 rfl) rfl
theorem q1765 : (Jvm.Cond.instanceMethod ({ cls := "CueStack$Past", name := "keep", desc := "(LCueStack$Copied;)V" } : Jvm.MethodName)) ∈ lw_all := lw_g (lw_at lw_m8 2 rfl) rfl
theorem q1766 : (Jvm.Cond.selects "CueStack$Past" ({ cls := "CueStack$Past", name := "keep", desc := "(LCueStack$Copied;)V" } : Jvm.MethodName) ({ cls := "CueStack$Past", name := "keep", desc := "(LCueStack$Copied;)V" } : Jvm.MethodName)) ∈ lw_all := lw_g (lw_at lw_m8 3 rfl) rfl
theorem q1767 : (Jvm.Cond.code ({ cls := "CueStack$Past", name := "keep", desc := "(LCueStack$Copied;)V" } : Jvm.MethodName) prog_12_method_2_code (2 : Nat) (Option.none : Option Jvm.ClassFile.FieldType)) ∈ lw_all := lw_g (lw_at lw_m8 4 rfl) rfl
theorem q1768 : (Jvm.Cond.methodLink "CueStack$Past" (20 : Nat) ({ cls := "java/util/ArrayList", name := "size", desc := "()I" } : Jvm.MethodName)) ∈ lw_all := lw_g (lw_at lw_m8 5 rfl) rfl
theorem q1769 : (Jvm.Cond.methodLink "CueStack$Past" (24 : Nat) ({ cls := "java/util/ArrayList", name := "remove", desc := "(I)Ljava/lang/Object;" } : Jvm.MethodName)) ∈ lw_all := lw_g (lw_at lw_m8 6 rfl) rfl
theorem q1777 : (Jvm.Cond.interfaceEntry "CueStack$Past" (28 : Nat)) ∈ lw_tbl := lw_at lw_m8 14 rfl
theorem q1778 : (Jvm.Cond.methodLink "CueStack$Past" (28 : Nat) ({ cls := "CueStack$Copied", name := "copy", desc := "()Ljava/lang/Object;" } : Jvm.MethodName)) ∈ lw_all := lw_g (lw_at lw_m8 15 rfl) rfl
theorem q1802 : (Jvm.Cond.classLink "CueStack$Past" (29 : Nat) "CueStack$Copied") ∈ lw_all := lw_g (lw_at lw_m8 39 rfl) rfl
theorem q1803 : (Jvm.Cond.methodLink "CueStack$Past" (34 : Nat) ({ cls := "java/util/ArrayList", name := "add", desc := "(Ljava/lang/Object;)Z" } : Jvm.MethodName)) ∈ lw_all := lw_g (lw_at lw_m8 40 rfl) rfl
theorem q2618 : (Jvm.Cond.instanceMethod ({ cls := "CueStack$Past", name := "takeLatest", desc := "()LCueStack$Copied;" } : Jvm.MethodName)) ∈ lw_all := lw_g (lw_at lw_m11 135 rfl) rfl
theorem q2619 : (Jvm.Cond.selects "CueStack$Past" ({ cls := "CueStack$Past", name := "takeLatest", desc := "()LCueStack$Copied;" } : Jvm.MethodName) ({ cls := "CueStack$Past", name := "takeLatest", desc := "()LCueStack$Copied;" } : Jvm.MethodName)) ∈ lw_all := lw_g (lw_at lw_m11 136 rfl) rfl
theorem q2620 : (Jvm.Cond.code ({ cls := "CueStack$Past", name := "takeLatest", desc := "()LCueStack$Copied;" } : Jvm.MethodName) prog_12_method_3_code (1 : Nat) (Option.some (Jvm.ClassFile.FieldType.object "CueStack$Copied"))) ∈ lw_all := lw_g (lw_at lw_m11 137 rfl) rfl
theorem q2621 : (Jvm.Cond.methodLinkNest "CueStack$Past" (38 : Nat) ({ cls := "CueStack", name := "checkElement", desc := "(Z)V" } : Jvm.MethodName) "CueStack") ∈ lw_tbl := lw_at lw_m11 138 rfl
theorem q2623 : (Jvm.Cond.instanceMethod ({ cls := "CueStack$Past", name := "size", desc := "()I" } : Jvm.MethodName)) ∈ lw_all := lw_g (lw_at lw_m11 140 rfl) rfl
theorem q2624 : (Jvm.Cond.selects "CueStack$Past" ({ cls := "CueStack$Past", name := "size", desc := "()I" } : Jvm.MethodName) ({ cls := "CueStack$Past", name := "size", desc := "()I" } : Jvm.MethodName)) ∈ lw_all := lw_g (lw_at lw_m11 141 rfl) rfl
theorem q2625 : (Jvm.Cond.code ({ cls := "CueStack$Past", name := "size", desc := "()I" } : Jvm.MethodName) prog_12_method_4_code (1 : Nat) (Option.some Jvm.ClassFile.FieldType.int)) ∈ lw_all := lw_g (lw_at lw_m11 142 rfl) rfl
theorem q3120 : (Jvm.Cond.castable "CueStack$Past" "java/lang/Object") ∈ lw_tbl := lw_at lw_m13 157 rfl
theorem in_X4 : ∀ w ∈ wsX40, w ∈ lw_all := lw_in wsX40 [398, 400] (by decide +kernel) (by decide +kernel)

/-! CueStack$Key -/
set_option maxRecDepth 100000
def RX5 : String := "CueStack$Key"
def TX5 : u_T := fun k => match k with
  | 0 => ("CueStack$Key", "cue", "I", true)
  | _ => ("CueStack$Key", "channel", "I", true)
def tyX5 : Nat → FieldType := fun k => match k with
  | 0 => .int
  | _ => .int
abbrev wsX50 : List Cond := u_ws RX5 TX5 2
theorem nmX5 : ∀ a, a < 2 → ∀ b, b < 2 → a ≠ b → (TX5 a).2.1 ≠ (TX5 b).2.1 := by decide +kernel
theorem tyX5_ok : ∀ k, k < 2 → parseFieldDescriptor (TX5 k).2.2.1 = some (tyX5 k) := by decide +kernel
abbrev cX5_init : ByteArray := prog_9_method_1_code
def yX5_init : MethodName := ⟨RX5, "<init>", "(II)V"⟩
def dkwX5_init_0 : List UInt8 := [42, 183, 0, 3, 42, 27, 181, 0, 9, 42, 28, 181, 0, 15, 177]
abbrev dktX5_init_0 : List UInt8 := dkwX5_init_0 ++ []
theorem dksX5_init_0 : cX5_init.data.toList.drop 0 = dktX5_init_0 := by decide +kernel
theorem dX5_init_0 : decode cX5_init 0 = .ok (.aload_n 0, 1) := dk_42 (dk_at dksX5_init_0 0 rfl rfl)
theorem dX5_init_1 : decode cX5_init 1 = .ok (.invokespecial 3, 3) := dk_183 0 3 (dk_at dksX5_init_0 1 rfl rfl)
theorem dX5_init_4 : decode cX5_init 4 = .ok (.aload_n 0, 1) := dk_42 (dk_at dksX5_init_0 4 rfl rfl)
theorem dX5_init_5 : decode cX5_init 5 = .ok (.iload_n 1, 1) := dk_27 (dk_at dksX5_init_0 5 rfl rfl)
theorem dX5_init_6 : decode cX5_init 6 = .ok (.putfield 9, 3) := dk_181 0 9 (dk_at dksX5_init_0 6 rfl rfl)
theorem dX5_init_9 : decode cX5_init 9 = .ok (.aload_n 0, 1) := dk_42 (dk_at dksX5_init_0 9 rfl rfl)
theorem dX5_init_10 : decode cX5_init 10 = .ok (.iload_n 2, 1) := dk_28 (dk_at dksX5_init_0 10 rfl rfl)
theorem dX5_init_11 : decode cX5_init 11 = .ok (.putfield 15, 3) := dk_181 0 15 (dk_at dksX5_init_0 11 rfl rfl)
theorem dX5_init_14 : decode cX5_init 14 = .ok (.return_, 1) := dk_177 (dk_at dksX5_init_0 14 rfl rfl)
abbrev cX5_hashCode : ByteArray := prog_9_method_3_code
def yX5_hashCode : MethodName := ⟨RX5, "hashCode", "()I"⟩
def dkwX5_hashCode_0 : List UInt8 := [16, 12, 42, 180, 0, 9, 104, 42, 180, 0, 15, 96, 172]
abbrev dktX5_hashCode_0 : List UInt8 := dkwX5_hashCode_0 ++ []
theorem dksX5_hashCode_0 : cX5_hashCode.data.toList.drop 0 = dktX5_hashCode_0 := by decide +kernel
theorem dX5_hashCode_0 : decode cX5_hashCode 0 = .ok (.bipush 12, 2) := dk_16 12 (dk_at dksX5_hashCode_0 0 rfl rfl)
theorem dX5_hashCode_2 : decode cX5_hashCode 2 = .ok (.aload_n 0, 1) := dk_42 (dk_at dksX5_hashCode_0 2 rfl rfl)
theorem dX5_hashCode_3 : decode cX5_hashCode 3 = .ok (.getfield 9, 3) := dk_180 0 9 (dk_at dksX5_hashCode_0 3 rfl rfl)
theorem dX5_hashCode_6 : decode cX5_hashCode 6 = .ok (.imul, 1) := dk_104 (dk_at dksX5_hashCode_0 6 rfl rfl)
theorem dX5_hashCode_7 : decode cX5_hashCode 7 = .ok (.aload_n 0, 1) := dk_42 (dk_at dksX5_hashCode_0 7 rfl rfl)
theorem dX5_hashCode_8 : decode cX5_hashCode 8 = .ok (.getfield 15, 3) := dk_180 0 15 (dk_at dksX5_hashCode_0 8 rfl rfl)
theorem dX5_hashCode_11 : decode cX5_hashCode 11 = .ok (.iadd, 1) := dk_96 (dk_at dksX5_hashCode_0 11 rfl rfl)
theorem dX5_hashCode_12 : decode cX5_hashCode 12 = .ok (.ireturn, 1) := dk_172 (dk_at dksX5_hashCode_0 12 rfl rfl)
abbrev cX5_equals : ByteArray := prog_9_method_2_code
def yX5_equals : MethodName := ⟨RX5, "equals", "(Ljava/lang/Object;)Z"⟩
def dkwX5_equals_1 : List UInt8 := [192, 0, 10, 180, 0, 15, 42, 180, 0, 15, 160, 0, 7, 4, 167, 0, 4, 3, 172]
abbrev dktX5_equals_1 : List UInt8 := dkwX5_equals_1 ++ []
def dkwX5_equals_0 : List UInt8 := [43, 193, 0, 10, 153, 0, 35, 43, 192, 0, 10, 180, 0, 9, 42, 180, 0, 9, 160, 0, 21, 43]
abbrev dktX5_equals_0 : List UInt8 := dkwX5_equals_0 ++ dktX5_equals_1
theorem dksX5_equals_0 : cX5_equals.data.toList.drop 0 = dktX5_equals_0 := by decide +kernel
theorem dksX5_equals_1 : cX5_equals.data.toList.drop 22 = dktX5_equals_1 := dk_seg dksX5_equals_0 22 rfl rfl
theorem dX5_equals_0 : decode cX5_equals 0 = .ok (.aload_n 1, 1) := dk_43 (dk_at dksX5_equals_0 0 rfl rfl)
theorem dX5_equals_1 : decode cX5_equals 1 = .ok (.instanceof 10, 3) := dk_193 0 10 (dk_at dksX5_equals_0 1 rfl rfl)
theorem dX5_equals_4 : decode cX5_equals 4 = .ok (.ifCond .eq 35, 3) := dk_153 0 35 (dk_at dksX5_equals_0 4 rfl rfl)
theorem dX5_equals_7 : decode cX5_equals 7 = .ok (.aload_n 1, 1) := dk_43 (dk_at dksX5_equals_0 7 rfl rfl)
theorem dX5_equals_8 : decode cX5_equals 8 = .ok (.checkcast 10, 3) := dk_192 0 10 (dk_at dksX5_equals_0 8 rfl rfl)
theorem dX5_equals_11 : decode cX5_equals 11 = .ok (.getfield 9, 3) := dk_180 0 9 (dk_at dksX5_equals_0 11 rfl rfl)
theorem dX5_equals_14 : decode cX5_equals 14 = .ok (.aload_n 0, 1) := dk_42 (dk_at dksX5_equals_0 14 rfl rfl)
theorem dX5_equals_15 : decode cX5_equals 15 = .ok (.getfield 9, 3) := dk_180 0 9 (dk_at dksX5_equals_0 15 rfl rfl)
theorem dX5_equals_18 : decode cX5_equals 18 = .ok (.if_icmp .ne 21, 3) := dk_160 0 21 (dk_at dksX5_equals_0 18 rfl rfl)
theorem dX5_equals_21 : decode cX5_equals 21 = .ok (.aload_n 1, 1) := dk_43 (dk_at dksX5_equals_0 21 rfl rfl)
theorem dX5_equals_22 : decode cX5_equals 22 = .ok (.checkcast 10, 3) := dk_192 0 10 (dk_at dksX5_equals_1 0 rfl rfl)
theorem dX5_equals_25 : decode cX5_equals 25 = .ok (.getfield 15, 3) := dk_180 0 15 (dk_at dksX5_equals_1 3 rfl rfl)
theorem dX5_equals_28 : decode cX5_equals 28 = .ok (.aload_n 0, 1) := dk_42 (dk_at dksX5_equals_1 6 rfl rfl)
theorem dX5_equals_29 : decode cX5_equals 29 = .ok (.getfield 15, 3) := dk_180 0 15 (dk_at dksX5_equals_1 7 rfl rfl)
theorem dX5_equals_32 : decode cX5_equals 32 = .ok (.if_icmp .ne 7, 3) := dk_160 0 7 (dk_at dksX5_equals_1 10 rfl rfl)
theorem dX5_equals_35 : decode cX5_equals 35 = .ok (.iconst 1, 1) := dk_4 (dk_at dksX5_equals_1 13 rfl rfl)
theorem dX5_equals_36 : decode cX5_equals 36 = .ok (.goto 4, 3) := dk_167 0 4 (dk_at dksX5_equals_1 14 rfl rfl)
theorem dX5_equals_39 : decode cX5_equals 39 = .ok (.iconst 0, 1) := dk_3 (dk_at dksX5_equals_1 17 rfl rfl)
theorem dX5_equals_40 : decode cX5_equals 40 = .ok (.ireturn, 1) := dk_172 (dk_at dksX5_equals_1 18 rfl rfl)
theorem q98 : (Jvm.Cond.initialized "CueStack$Key") ∈ lw_all := lw_g (lw_at lw_m1 15 rfl) rfl
theorem q310 : (Jvm.Cond.selects "CueStack$Key" ({ cls := "java/lang/Object", name := "getClass", desc := "()Ljava/lang/Class;" } : Jvm.MethodName) ({ cls := "java/lang/Object", name := "getClass", desc := "()Ljava/lang/Class;" } : Jvm.MethodName)) ∈ lw_all := lw_g (lw_at lw_m1 227 rfl) rfl
theorem q415 : (Jvm.Cond.instantiable "CueStack$Key" (2 : Nat)) ∈ lw_all := lw_g (lw_at lw_m2 92 rfl) rfl
theorem q432 : (Jvm.Cond.instanceMethod ({ cls := "CueStack$Key", name := "<init>", desc := "(II)V" } : Jvm.MethodName)) ∈ lw_all := lw_g (lw_at lw_m2 109 rfl) rfl
theorem q433 : (Jvm.Cond.code ({ cls := "CueStack$Key", name := "<init>", desc := "(II)V" } : Jvm.MethodName) prog_9_method_1_code (3 : Nat) (Option.none : Option Jvm.ClassFile.FieldType)) ∈ lw_all := lw_g (lw_at lw_m2 110 rfl) rfl
theorem q434 : (Jvm.Cond.methodLink "CueStack$Key" (3 : Nat) ({ cls := "java/lang/Object", name := "<init>", desc := "()V" } : Jvm.MethodName)) ∈ lw_all := lw_g (lw_at lw_m2 111 rfl) rfl
theorem q435 : (Jvm.Cond.fieldLink "CueStack$Key" (9 : Nat) "CueStack$Key" "cue" "I") ∈ lw_all := lw_g (lw_at lw_m2 112 rfl) rfl
theorem q438 : (Jvm.Cond.fieldLink "CueStack$Key" (15 : Nat) "CueStack$Key" "channel" "I") ∈ lw_all := lw_g (lw_at lw_m2 115 rfl) rfl
theorem q440 : (Jvm.Cond.laysFinal "CueStack$Key" "CueStack$Key" "cue" "I") ∈ lw_all := lw_g (lw_at lw_m2 117 rfl) rfl
theorem q441 : (Jvm.Cond.soleField "CueStack$Key" "cue") ∈ lw_all := lw_g (lw_at lw_m2 118 rfl) rfl
theorem q442 : (Jvm.Cond.laysFinal "CueStack$Key" "CueStack$Key" "channel" "I") ∈ lw_all := lw_g (lw_at lw_m2 119 rfl) rfl
theorem q443 : (Jvm.Cond.soleField "CueStack$Key" "channel") ∈ lw_all := lw_g (lw_at lw_m2 120 rfl) rfl
theorem q444 : (Jvm.Cond.superclass "CueStack$Key" "java/lang/Object") ∈ lw_all := lw_g (lw_at lw_m2 121 rfl) rfl
theorem q468 : (Jvm.Cond.selects "CueStack$Key" ({ cls := "java/lang/Object", name := "hashCode", desc := "()I" } : Jvm.MethodName) ({ cls := "CueStack$Key", name := "hashCode", desc := "()I" } : Jvm.MethodName)) ∈ lw_all := lw_g (lw_at lw_m2 145 rfl) rfl
theorem q469 : (Jvm.Cond.instanceMethod ({ cls := "CueStack$Key", name := "hashCode", desc := "()I" } : Jvm.MethodName)) ∈ lw_all := lw_g (lw_at lw_m2 146 rfl) rfl
theorem q470 : (Jvm.Cond.code ({ cls := "CueStack$Key", name := "hashCode", desc := "()I" } : Jvm.MethodName) prog_9_method_3_code (1 : Nat) (Option.some Jvm.ClassFile.FieldType.int)) ∈ lw_all := lw_g (lw_at lw_m2 147 rfl) rfl
theorem q853 : (Jvm.Cond.selects "CueStack$Key" ({ cls := "java/lang/Object", name := "equals", desc := "(Ljava/lang/Object;)Z" } : Jvm.MethodName) ({ cls := "CueStack$Key", name := "equals", desc := "(Ljava/lang/Object;)Z" } : Jvm.MethodName)) ∈ lw_all := lw_g (lw_at lw_m4 50 rfl) rfl
theorem q854 : (Jvm.Cond.instanceMethod ({ cls := "CueStack$Key", name := "equals", desc := "(Ljava/lang/Object;)Z" } : Jvm.MethodName)) ∈ lw_all := lw_g (lw_at lw_m4 51 rfl) rfl
theorem q855 : (Jvm.Cond.code ({ cls := "CueStack$Key", name := "equals", desc := "(Ljava/lang/Object;)Z" } : Jvm.MethodName) prog_9_method_2_code (2 : Nat) (Option.some Jvm.ClassFile.FieldType.boolean)) ∈ lw_all := lw_g (lw_at lw_m4 52 rfl) rfl
theorem q856 : (Jvm.Cond.classLink "CueStack$Key" (10 : Nat) "CueStack$Key") ∈ lw_all := lw_g (lw_at lw_m4 53 rfl) rfl
theorem q3121 : (Jvm.Cond.castable "CueStack$Key" "java/lang/Object") ∈ lw_tbl := lw_at lw_m13 158 rfl
theorem in_X5 : ∀ w ∈ wsX50, w ∈ lw_all := lw_in wsX50 [440, 442] (by decide +kernel) (by decide +kernel)

/-! CueStack$Cue -/
set_option maxRecDepth 100000
def RX7 : String := "CueStack$Cue"
def TX7 : u_T := fun k => match k with
  | 0 => ("CueStack$Cue", "number", "I", true)
  | 1 => ("CueStack$Cue", "isBlock", "Z", false)
  | 2 => ("CueStack$Cue", "isProtected", "Z", false)
  | 3 => ("CueStack$Cue", "follow", "I", false)
  | 4 => ("CueStack$Cue", "delays", "[I", true)
  | _ => ("CueStack$Cue", "times", "[I", true)
def tyX7 : Nat → FieldType := fun k => match k with
  | 0 => .int
  | 1 => .boolean
  | 2 => .boolean
  | 3 => .int
  | 4 => .array .int
  | _ => .array .int
abbrev wsX70 : List Cond := u_ws RX7 TX7 6
theorem nmX7 : ∀ a, a < 6 → ∀ b, b < 6 → a ≠ b → (TX7 a).2.1 ≠ (TX7 b).2.1 := by decide +kernel
theorem tyX7_ok : ∀ k, k < 6 → parseFieldDescriptor (TX7 k).2.2.1 = some (tyX7 k) := by decide +kernel
abbrev cX7_copy : ByteArray := prog_4_method_2_code
def yX7_copy : MethodName := ⟨RX7, "copy", "()LCueStack$Cue;"⟩
def dkwX7_copy_2 : List UInt8 := [7, 184, 0, 35, 42, 180, 0, 19, 3, 43, 180, 0, 19, 3, 7, 184, 0, 35, 43, 176]
abbrev dktX7_copy_2 : List UInt8 := dkwX7_copy_2 ++ []
def dkwX7_copy_1 : List UInt8 := [180, 0, 32, 181, 0, 32, 43, 42, 180, 0, 9, 181, 0, 9, 42, 180, 0, 15, 3, 43, 180, 0, 15, 3]
abbrev dktX7_copy_1 : List UInt8 := dkwX7_copy_1 ++ dktX7_copy_2
def dkwX7_copy_0 : List UInt8 := [187, 0, 10, 89, 42, 180, 0, 22, 183, 0, 25, 76, 43, 42, 180, 0, 28, 181, 0, 28, 43, 42]
abbrev dktX7_copy_0 : List UInt8 := dkwX7_copy_0 ++ dktX7_copy_1
theorem dksX7_copy_0 : cX7_copy.data.toList.drop 0 = dktX7_copy_0 := by decide +kernel
theorem dksX7_copy_1 : cX7_copy.data.toList.drop 22 = dktX7_copy_1 := dk_seg dksX7_copy_0 22 rfl rfl
theorem dksX7_copy_2 : cX7_copy.data.toList.drop 46 = dktX7_copy_2 := dk_seg dksX7_copy_1 24 rfl rfl
theorem dX7_copy_0 : decode cX7_copy 0 = .ok (.new 10, 3) := dk_187 0 10 (dk_at dksX7_copy_0 0 rfl rfl)
theorem dX7_copy_3 : decode cX7_copy 3 = .ok (.dup, 1) := dk_89 (dk_at dksX7_copy_0 3 rfl rfl)
theorem dX7_copy_4 : decode cX7_copy 4 = .ok (.aload_n 0, 1) := dk_42 (dk_at dksX7_copy_0 4 rfl rfl)
theorem dX7_copy_5 : decode cX7_copy 5 = .ok (.getfield 22, 3) := dk_180 0 22 (dk_at dksX7_copy_0 5 rfl rfl)
theorem dX7_copy_8 : decode cX7_copy 8 = .ok (.invokespecial 25, 3) := dk_183 0 25 (dk_at dksX7_copy_0 8 rfl rfl)
theorem dX7_copy_11 : decode cX7_copy 11 = .ok (.astore_n 1, 1) := dk_76 (dk_at dksX7_copy_0 11 rfl rfl)
theorem dX7_copy_12 : decode cX7_copy 12 = .ok (.aload_n 1, 1) := dk_43 (dk_at dksX7_copy_0 12 rfl rfl)
theorem dX7_copy_13 : decode cX7_copy 13 = .ok (.aload_n 0, 1) := dk_42 (dk_at dksX7_copy_0 13 rfl rfl)
theorem dX7_copy_14 : decode cX7_copy 14 = .ok (.getfield 28, 3) := dk_180 0 28 (dk_at dksX7_copy_0 14 rfl rfl)
theorem dX7_copy_17 : decode cX7_copy 17 = .ok (.putfield 28, 3) := dk_181 0 28 (dk_at dksX7_copy_0 17 rfl rfl)
theorem dX7_copy_20 : decode cX7_copy 20 = .ok (.aload_n 1, 1) := dk_43 (dk_at dksX7_copy_0 20 rfl rfl)
theorem dX7_copy_21 : decode cX7_copy 21 = .ok (.aload_n 0, 1) := dk_42 (dk_at dksX7_copy_0 21 rfl rfl)
theorem dX7_copy_22 : decode cX7_copy 22 = .ok (.getfield 32, 3) := dk_180 0 32 (dk_at dksX7_copy_1 0 rfl rfl)
theorem dX7_copy_25 : decode cX7_copy 25 = .ok (.putfield 32, 3) := dk_181 0 32 (dk_at dksX7_copy_1 3 rfl rfl)
theorem dX7_copy_28 : decode cX7_copy 28 = .ok (.aload_n 1, 1) := dk_43 (dk_at dksX7_copy_1 6 rfl rfl)
theorem dX7_copy_29 : decode cX7_copy 29 = .ok (.aload_n 0, 1) := dk_42 (dk_at dksX7_copy_1 7 rfl rfl)
theorem dX7_copy_30 : decode cX7_copy 30 = .ok (.getfield 9, 3) := dk_180 0 9 (dk_at dksX7_copy_1 8 rfl rfl)
theorem dX7_copy_33 : decode cX7_copy 33 = .ok (.putfield 9, 3) := dk_181 0 9 (dk_at dksX7_copy_1 11 rfl rfl)
theorem dX7_copy_36 : decode cX7_copy 36 = .ok (.aload_n 0, 1) := dk_42 (dk_at dksX7_copy_1 14 rfl rfl)
theorem dX7_copy_37 : decode cX7_copy 37 = .ok (.getfield 15, 3) := dk_180 0 15 (dk_at dksX7_copy_1 15 rfl rfl)
theorem dX7_copy_40 : decode cX7_copy 40 = .ok (.iconst 0, 1) := dk_3 (dk_at dksX7_copy_1 18 rfl rfl)
theorem dX7_copy_41 : decode cX7_copy 41 = .ok (.aload_n 1, 1) := dk_43 (dk_at dksX7_copy_1 19 rfl rfl)
theorem dX7_copy_42 : decode cX7_copy 42 = .ok (.getfield 15, 3) := dk_180 0 15 (dk_at dksX7_copy_1 20 rfl rfl)
theorem dX7_copy_45 : decode cX7_copy 45 = .ok (.iconst 0, 1) := dk_3 (dk_at dksX7_copy_1 23 rfl rfl)
theorem dX7_copy_46 : decode cX7_copy 46 = .ok (.iconst 4, 1) := dk_7 (dk_at dksX7_copy_2 0 rfl rfl)
theorem dX7_copy_47 : decode cX7_copy 47 = .ok (.invokestatic 35, 3) := dk_184 0 35 (dk_at dksX7_copy_2 1 rfl rfl)
theorem dX7_copy_50 : decode cX7_copy 50 = .ok (.aload_n 0, 1) := dk_42 (dk_at dksX7_copy_2 4 rfl rfl)
theorem dX7_copy_51 : decode cX7_copy 51 = .ok (.getfield 19, 3) := dk_180 0 19 (dk_at dksX7_copy_2 5 rfl rfl)
theorem dX7_copy_54 : decode cX7_copy 54 = .ok (.iconst 0, 1) := dk_3 (dk_at dksX7_copy_2 8 rfl rfl)
theorem dX7_copy_55 : decode cX7_copy 55 = .ok (.aload_n 1, 1) := dk_43 (dk_at dksX7_copy_2 9 rfl rfl)
theorem dX7_copy_56 : decode cX7_copy 56 = .ok (.getfield 19, 3) := dk_180 0 19 (dk_at dksX7_copy_2 10 rfl rfl)
theorem dX7_copy_59 : decode cX7_copy 59 = .ok (.iconst 0, 1) := dk_3 (dk_at dksX7_copy_2 13 rfl rfl)
theorem dX7_copy_60 : decode cX7_copy 60 = .ok (.iconst 4, 1) := dk_7 (dk_at dksX7_copy_2 14 rfl rfl)
theorem dX7_copy_61 : decode cX7_copy 61 = .ok (.invokestatic 35, 3) := dk_184 0 35 (dk_at dksX7_copy_2 15 rfl rfl)
theorem dX7_copy_64 : decode cX7_copy 64 = .ok (.aload_n 1, 1) := dk_43 (dk_at dksX7_copy_2 18 rfl rfl)
theorem dX7_copy_65 : decode cX7_copy 65 = .ok (.areturn, 1) := dk_176 (dk_at dksX7_copy_2 19 rfl rfl)
abbrev cX7_init : ByteArray := prog_4_method_1_code
def yX7_init : MethodName := ⟨RX7, "<init>", "(I)V"⟩
def dkwX7_init_1 : List UInt8 := [27, 181, 0, 22, 177]
abbrev dktX7_init_1 : List UInt8 := dkwX7_init_1 ++ []
def dkwX7_init_0 : List UInt8 := [42, 183, 0, 3, 42, 2, 181, 0, 9, 42, 7, 188, 10, 181, 0, 15, 42, 7, 188, 10, 181, 0, 19, 42]
abbrev dktX7_init_0 : List UInt8 := dkwX7_init_0 ++ dktX7_init_1
theorem dksX7_init_0 : cX7_init.data.toList.drop 0 = dktX7_init_0 := by decide +kernel
theorem dksX7_init_1 : cX7_init.data.toList.drop 24 = dktX7_init_1 := dk_seg dksX7_init_0 24 rfl rfl
theorem dX7_init_0 : decode cX7_init 0 = .ok (.aload_n 0, 1) := dk_42 (dk_at dksX7_init_0 0 rfl rfl)
theorem dX7_init_1 : decode cX7_init 1 = .ok (.invokespecial 3, 3) := dk_183 0 3 (dk_at dksX7_init_0 1 rfl rfl)
theorem dX7_init_4 : decode cX7_init 4 = .ok (.aload_n 0, 1) := dk_42 (dk_at dksX7_init_0 4 rfl rfl)
theorem dX7_init_5 : decode cX7_init 5 = .ok (.iconst (-1), 1) := dk_2 (dk_at dksX7_init_0 5 rfl rfl)
theorem dX7_init_6 : decode cX7_init 6 = .ok (.putfield 9, 3) := dk_181 0 9 (dk_at dksX7_init_0 6 rfl rfl)
theorem dX7_init_9 : decode cX7_init 9 = .ok (.aload_n 0, 1) := dk_42 (dk_at dksX7_init_0 9 rfl rfl)
theorem dX7_init_10 : decode cX7_init 10 = .ok (.iconst 4, 1) := dk_7 (dk_at dksX7_init_0 10 rfl rfl)
theorem dX7_init_11 : decode cX7_init 11 = .ok (.newarray .int, 2) := dk_188_10 (dk_at dksX7_init_0 11 rfl rfl)
theorem dX7_init_13 : decode cX7_init 13 = .ok (.putfield 15, 3) := dk_181 0 15 (dk_at dksX7_init_0 13 rfl rfl)
theorem dX7_init_16 : decode cX7_init 16 = .ok (.aload_n 0, 1) := dk_42 (dk_at dksX7_init_0 16 rfl rfl)
theorem dX7_init_17 : decode cX7_init 17 = .ok (.iconst 4, 1) := dk_7 (dk_at dksX7_init_0 17 rfl rfl)
theorem dX7_init_18 : decode cX7_init 18 = .ok (.newarray .int, 2) := dk_188_10 (dk_at dksX7_init_0 18 rfl rfl)
theorem dX7_init_20 : decode cX7_init 20 = .ok (.putfield 19, 3) := dk_181 0 19 (dk_at dksX7_init_0 20 rfl rfl)
theorem dX7_init_23 : decode cX7_init 23 = .ok (.aload_n 0, 1) := dk_42 (dk_at dksX7_init_0 23 rfl rfl)
theorem dX7_init_24 : decode cX7_init 24 = .ok (.iload_n 1, 1) := dk_27 (dk_at dksX7_init_1 0 rfl rfl)
theorem dX7_init_25 : decode cX7_init 25 = .ok (.putfield 22, 3) := dk_181 0 22 (dk_at dksX7_init_1 1 rfl rfl)
theorem dX7_init_28 : decode cX7_init 28 = .ok (.return_, 1) := dk_177 (dk_at dksX7_init_1 4 rfl rfl)
abbrev cX7_copy_2 : ByteArray := prog_4_method_4_code
def yX7_copy_2 : MethodName := ⟨RX7, "copy", "()Ljava/lang/Object;"⟩
theorem dX7_copy_2_0 : decode cX7_copy_2 0 = .ok (.aload_n 0, 1) := by decide +kernel
theorem dX7_copy_2_1 : decode cX7_copy_2 1 = .ok (.invokevirtual 41, 3) := by decide +kernel
theorem dX7_copy_2_4 : decode cX7_copy_2 4 = .ok (.areturn, 1) := by decide +kernel
abbrev cX7_length : ByteArray := prog_4_method_3_code
def yX7_length : MethodName := ⟨RX7, "length", "(I)I"⟩
def dkwX7_length_0 : List UInt8 := [42, 180, 0, 15, 27, 46, 42, 180, 0, 19, 27, 46, 96, 172]
abbrev dktX7_length_0 : List UInt8 := dkwX7_length_0 ++ []
theorem dksX7_length_0 : cX7_length.data.toList.drop 0 = dktX7_length_0 := by decide +kernel
theorem dX7_length_0 : decode cX7_length 0 = .ok (.aload_n 0, 1) := dk_42 (dk_at dksX7_length_0 0 rfl rfl)
theorem dX7_length_1 : decode cX7_length 1 = .ok (.getfield 15, 3) := dk_180 0 15 (dk_at dksX7_length_0 1 rfl rfl)
theorem dX7_length_4 : decode cX7_length 4 = .ok (.iload_n 1, 1) := dk_27 (dk_at dksX7_length_0 4 rfl rfl)
theorem dX7_length_5 : decode cX7_length 5 = .ok (.iaload, 1) := dk_46 (dk_at dksX7_length_0 5 rfl rfl)
theorem dX7_length_6 : decode cX7_length 6 = .ok (.aload_n 0, 1) := dk_42 (dk_at dksX7_length_0 6 rfl rfl)
theorem dX7_length_7 : decode cX7_length 7 = .ok (.getfield 19, 3) := dk_180 0 19 (dk_at dksX7_length_0 7 rfl rfl)
theorem dX7_length_10 : decode cX7_length 10 = .ok (.iload_n 1, 1) := dk_27 (dk_at dksX7_length_0 10 rfl rfl)
theorem dX7_length_11 : decode cX7_length 11 = .ok (.iaload, 1) := dk_46 (dk_at dksX7_length_0 11 rfl rfl)
theorem dX7_length_12 : decode cX7_length 12 = .ok (.iadd, 1) := dk_96 (dk_at dksX7_length_0 12 rfl rfl)
theorem dX7_length_13 : decode cX7_length 13 = .ok (.ireturn, 1) := dk_172 (dk_at dksX7_length_0 13 rfl rfl)
theorem q116 : (Jvm.Cond.initialized "CueStack$Cue") ∈ lw_all := lw_g (lw_at lw_m1 33 rfl) rfl
theorem q306 : (Jvm.Cond.selects "CueStack$Cue" ({ cls := "java/lang/Object", name := "getClass", desc := "()Ljava/lang/Class;" } : Jvm.MethodName) ({ cls := "java/lang/Object", name := "getClass", desc := "()Ljava/lang/Class;" } : Jvm.MethodName)) ∈ lw_all := lw_g (lw_at lw_m1 223 rfl) rfl
theorem q464 : (Jvm.Cond.selects "CueStack$Cue" ({ cls := "java/lang/Object", name := "hashCode", desc := "()I" } : Jvm.MethodName) ({ cls := "java/lang/Object", name := "hashCode", desc := "()I" } : Jvm.MethodName)) ∈ lw_all := lw_g (lw_at lw_m2 141 rfl) rfl
theorem q849 : (Jvm.Cond.selects "CueStack$Cue" ({ cls := "java/lang/Object", name := "equals", desc := "(Ljava/lang/Object;)Z" } : Jvm.MethodName) ({ cls := "java/lang/Object", name := "equals", desc := "(Ljava/lang/Object;)Z" } : Jvm.MethodName)) ∈ lw_all := lw_g (lw_at lw_m4 46 rfl) rfl
theorem q1183 : (Jvm.Cond.instanceMethod ({ cls := "CueStack$Cue", name := "copy", desc := "()LCueStack$Cue;" } : Jvm.MethodName)) ∈ lw_all := lw_g (lw_at lw_m5 140 rfl) rfl
theorem q1184 : (Jvm.Cond.selects "CueStack$Cue" ({ cls := "CueStack$Cue", name := "copy", desc := "()LCueStack$Cue;" } : Jvm.MethodName) ({ cls := "CueStack$Cue", name := "copy", desc := "()LCueStack$Cue;" } : Jvm.MethodName)) ∈ lw_all := lw_g (lw_at lw_m5 141 rfl) rfl
theorem q1185 : (Jvm.Cond.code ({ cls := "CueStack$Cue", name := "copy", desc := "()LCueStack$Cue;" } : Jvm.MethodName) prog_4_method_2_code (2 : Nat) (Option.some (Jvm.ClassFile.FieldType.object "CueStack$Cue"))) ∈ lw_all := lw_g (lw_at lw_m5 142 rfl) rfl
theorem q1186 : (Jvm.Cond.classLink "CueStack$Cue" (10 : Nat) "CueStack$Cue") ∈ lw_all := lw_g (lw_at lw_m5 143 rfl) rfl
theorem q1187 : (Jvm.Cond.instantiable "CueStack$Cue" (6 : Nat)) ∈ lw_all := lw_g (lw_at lw_m5 144 rfl) rfl
theorem q1188 : (Jvm.Cond.methodLink "CueStack$Cue" (25 : Nat) ({ cls := "CueStack$Cue", name := "<init>", desc := "(I)V" } : Jvm.MethodName)) ∈ lw_all := lw_g (lw_at lw_m5 145 rfl) rfl
theorem q1189 : (Jvm.Cond.instanceMethod ({ cls := "CueStack$Cue", name := "<init>", desc := "(I)V" } : Jvm.MethodName)) ∈ lw_all := lw_g (lw_at lw_m5 146 rfl) rfl
theorem q1190 : (Jvm.Cond.code ({ cls := "CueStack$Cue", name := "<init>", desc := "(I)V" } : Jvm.MethodName) prog_4_method_1_code (2 : Nat) (Option.none : Option Jvm.ClassFile.FieldType)) ∈ lw_all := lw_g (lw_at lw_m5 147 rfl) rfl
theorem q1191 : (Jvm.Cond.methodLink "CueStack$Cue" (3 : Nat) ({ cls := "java/lang/Object", name := "<init>", desc := "()V" } : Jvm.MethodName)) ∈ lw_all := lw_g (lw_at lw_m5 148 rfl) rfl
theorem q1192 : (Jvm.Cond.fieldLink "CueStack$Cue" (22 : Nat) "CueStack$Cue" "number" "I") ∈ lw_all := lw_g (lw_at lw_m5 149 rfl) rfl
theorem q1195 : (Jvm.Cond.fieldLink "CueStack$Cue" (28 : Nat) "CueStack$Cue" "isBlock" "Z") ∈ lw_all := lw_g (lw_at lw_m5 152 rfl) rfl
theorem q1198 : (Jvm.Cond.fieldLink "CueStack$Cue" (32 : Nat) "CueStack$Cue" "isProtected" "Z") ∈ lw_all := lw_g (lw_at lw_m5 155 rfl) rfl
theorem q1201 : (Jvm.Cond.fieldLink "CueStack$Cue" (9 : Nat) "CueStack$Cue" "follow" "I") ∈ lw_all := lw_g (lw_at lw_m5 158 rfl) rfl
theorem q1204 : (Jvm.Cond.fieldLink "CueStack$Cue" (15 : Nat) "CueStack$Cue" "delays" "[I") ∈ lw_all := lw_g (lw_at lw_m5 161 rfl) rfl
theorem q1207 : (Jvm.Cond.fieldLink "CueStack$Cue" (19 : Nat) "CueStack$Cue" "times" "[I") ∈ lw_all := lw_g (lw_at lw_m5 164 rfl) rfl
theorem q1210 : (Jvm.Cond.laysFinal "CueStack$Cue" "CueStack$Cue" "number" "I") ∈ lw_all := lw_g (lw_at lw_m5 167 rfl) rfl
theorem q1211 : (Jvm.Cond.soleField "CueStack$Cue" "number") ∈ lw_all := lw_g (lw_at lw_m5 168 rfl) rfl
theorem q1212 : (Jvm.Cond.lays "CueStack$Cue" "CueStack$Cue" "isBlock" "Z") ∈ lw_all := lw_g (lw_at lw_m5 169 rfl) rfl
theorem q1213 : (Jvm.Cond.soleField "CueStack$Cue" "isBlock") ∈ lw_all := lw_g (lw_at lw_m5 170 rfl) rfl
theorem q1214 : (Jvm.Cond.lays "CueStack$Cue" "CueStack$Cue" "isProtected" "Z") ∈ lw_all := lw_g (lw_at lw_m5 171 rfl) rfl
theorem q1215 : (Jvm.Cond.soleField "CueStack$Cue" "isProtected") ∈ lw_all := lw_g (lw_at lw_m5 172 rfl) rfl
theorem q1216 : (Jvm.Cond.lays "CueStack$Cue" "CueStack$Cue" "follow" "I") ∈ lw_all := lw_g (lw_at lw_m5 173 rfl) rfl
theorem q1217 : (Jvm.Cond.soleField "CueStack$Cue" "follow") ∈ lw_all := lw_g (lw_at lw_m5 174 rfl) rfl
theorem q1218 : (Jvm.Cond.laysFinal "CueStack$Cue" "CueStack$Cue" "delays" "[I") ∈ lw_all := lw_g (lw_at lw_m5 175 rfl) rfl
theorem q1219 : (Jvm.Cond.soleField "CueStack$Cue" "delays") ∈ lw_all := lw_g (lw_at lw_m5 176 rfl) rfl
theorem q1220 : (Jvm.Cond.laysFinal "CueStack$Cue" "CueStack$Cue" "times" "[I") ∈ lw_all := lw_g (lw_at lw_m5 177 rfl) rfl
theorem q1221 : (Jvm.Cond.soleField "CueStack$Cue" "times") ∈ lw_all := lw_g (lw_at lw_m5 178 rfl) rfl
theorem q1222 : (Jvm.Cond.superclass "CueStack$Cue" "java/lang/Object") ∈ lw_all := lw_g (lw_at lw_m5 179 rfl) rfl
theorem q1223 : (Jvm.Cond.methodLink "CueStack$Cue" (35 : Nat) ({ cls := "java/lang/System", name := "arraycopy", desc := "(Ljava/lang/Object;ILjava/lang/Object;II)V" } : Jvm.MethodName)) ∈ lw_all := lw_g (lw_at lw_m5 180 rfl) rfl
theorem q1781 : (Jvm.Cond.castable "CueStack$Cue" "CueStack$Copied") ∈ lw_tbl := lw_at lw_m8 18 rfl
theorem q1782 : (Jvm.Cond.selects "CueStack$Cue" ({ cls := "CueStack$Copied", name := "copy", desc := "()Ljava/lang/Object;" } : Jvm.MethodName) ({ cls := "CueStack$Cue", name := "copy", desc := "()Ljava/lang/Object;" } : Jvm.MethodName)) ∈ lw_all := lw_g (lw_at lw_m8 19 rfl) rfl
theorem q1783 : (Jvm.Cond.unhidden "CueStack$Cue" "copy" "()Ljava/lang/Object;") ∈ lw_tbl := lw_at lw_m8 20 rfl
theorem q1784 : (Jvm.Cond.instanceMethod ({ cls := "CueStack$Cue", name := "copy", desc := "()Ljava/lang/Object;" } : Jvm.MethodName)) ∈ lw_all := lw_g (lw_at lw_m8 21 rfl) rfl
theorem q1785 : (Jvm.Cond.publicMethod ({ cls := "CueStack$Cue", name := "copy", desc := "()Ljava/lang/Object;" } : Jvm.MethodName)) ∈ lw_tbl := lw_at lw_m8 22 rfl
theorem q1786 : (Jvm.Cond.code ({ cls := "CueStack$Cue", name := "copy", desc := "()Ljava/lang/Object;" } : Jvm.MethodName) prog_4_method_4_code (1 : Nat) (Option.some (Jvm.ClassFile.FieldType.object "java/lang/Object"))) ∈ lw_all := lw_g (lw_at lw_m8 23 rfl) rfl
theorem q1787 : (Jvm.Cond.methodLink "CueStack$Cue" (41 : Nat) ({ cls := "CueStack$Cue", name := "copy", desc := "()LCueStack$Cue;" } : Jvm.MethodName)) ∈ lw_all := lw_g (lw_at lw_m8 24 rfl) rfl
theorem q2111 : (Jvm.Cond.instanceMethod ({ cls := "CueStack$Cue", name := "length", desc := "(I)I" } : Jvm.MethodName)) ∈ lw_all := lw_g (lw_at lw_m9 108 rfl) rfl
theorem q2112 : (Jvm.Cond.selects "CueStack$Cue" ({ cls := "CueStack$Cue", name := "length", desc := "(I)I" } : Jvm.MethodName) ({ cls := "CueStack$Cue", name := "length", desc := "(I)I" } : Jvm.MethodName)) ∈ lw_all := lw_g (lw_at lw_m9 109 rfl) rfl
theorem q2113 : (Jvm.Cond.code ({ cls := "CueStack$Cue", name := "length", desc := "(I)I" } : Jvm.MethodName) prog_4_method_3_code (2 : Nat) (Option.some Jvm.ClassFile.FieldType.int)) ∈ lw_all := lw_g (lw_at lw_m9 110 rfl) rfl
theorem q3123 : (Jvm.Cond.castable "CueStack$Cue" "java/lang/Object") ∈ lw_tbl := lw_at lw_m13 160 rfl
theorem in_X7 : ∀ w ∈ wsX70, w ∈ lw_all := lw_in wsX70 [1210, 1212, 1214, 1216, 1218, 1220] (by decide +kernel) (by decide +kernel)

/-! CueStack$Instruction -/
set_option maxRecDepth 100000
def RX8 : String := "CueStack$Instruction"
abbrev cX8_init : ByteArray := prog_8_method_1_code
def yX8_init : MethodName := ⟨RX8, "<init>", "(I)V"⟩
def dkwX8_init_0 : List UInt8 := [42, 183, 0, 3, 42, 27, 181, 0, 9, 177]
abbrev dktX8_init_0 : List UInt8 := dkwX8_init_0 ++ []
theorem dksX8_init_0 : cX8_init.data.toList.drop 0 = dktX8_init_0 := by decide +kernel
theorem dX8_init_0 : decode cX8_init 0 = .ok (.aload_n 0, 1) := dk_42 (dk_at dksX8_init_0 0 rfl rfl)
theorem dX8_init_1 : decode cX8_init 1 = .ok (.invokespecial 3, 3) := dk_183 0 3 (dk_at dksX8_init_0 1 rfl rfl)
theorem dX8_init_4 : decode cX8_init 4 = .ok (.aload_n 0, 1) := dk_42 (dk_at dksX8_init_0 4 rfl rfl)
theorem dX8_init_5 : decode cX8_init 5 = .ok (.iload_n 1, 1) := dk_27 (dk_at dksX8_init_0 5 rfl rfl)
theorem dX8_init_6 : decode cX8_init 6 = .ok (.putfield 9, 3) := dk_181 0 9 (dk_at dksX8_init_0 6 rfl rfl)
theorem dX8_init_9 : decode cX8_init 9 = .ok (.return_, 1) := dk_177 (dk_at dksX8_init_0 9 rfl rfl)
abbrev cX8_told : ByteArray := prog_8_method_3_code
def yX8_told : MethodName := ⟨RX8, "told", "()I"⟩
theorem dX8_told_0 : decode cX8_told 0 = .ok (.iconst (-1), 1) := by decide +kernel
theorem dX8_told_1 : decode cX8_told 1 = .ok (.ireturn, 1) := by decide +kernel
theorem q134 : (Jvm.Cond.initialized "CueStack$Instruction") ∈ lw_all := lw_g (lw_at lw_m1 51 rfl) rfl
theorem q1091 : (Jvm.Cond.declares ({ cls := "CueStack$Instruction", name := "level", desc := "(I)I" } : Jvm.MethodName)) ∈ lw_tbl := lw_at lw_m5 48 rfl
theorem q1092 : (Jvm.Cond.sameMethod "CueStack$Instruction" "CueStack$Instruction" "level" "(I)I") ∈ lw_all := lw_g (lw_at lw_m5 49 rfl) rfl
theorem q1950 : (Jvm.Cond.instanceMethod ({ cls := "CueStack$Instruction", name := "<init>", desc := "(I)V" } : Jvm.MethodName)) ∈ lw_all := lw_g (lw_at lw_m8 187 rfl) rfl
theorem q1951 : (Jvm.Cond.code ({ cls := "CueStack$Instruction", name := "<init>", desc := "(I)V" } : Jvm.MethodName) prog_8_method_1_code (2 : Nat) (Option.none : Option Jvm.ClassFile.FieldType)) ∈ lw_all := lw_g (lw_at lw_m8 188 rfl) rfl
theorem q1952 : (Jvm.Cond.methodLink "CueStack$Instruction" (3 : Nat) ({ cls := "java/lang/Object", name := "<init>", desc := "()V" } : Jvm.MethodName)) ∈ lw_all := lw_g (lw_at lw_m8 189 rfl) rfl
theorem q1954 : (Jvm.Cond.fieldLink "CueStack$Instruction" (9 : Nat) "CueStack$Instruction" "part" "I") ∈ lw_all := lw_g (lw_at lw_m8 191 rfl) rfl
theorem q1960 : (Jvm.Cond.soleField "CueStack$Instruction" "part") ∈ lw_all := lw_g (lw_at lw_m8 197 rfl) rfl
theorem q2208 : (Jvm.Cond.instanceMethod ({ cls := "CueStack$Instruction", name := "told", desc := "()I" } : Jvm.MethodName)) ∈ lw_all := lw_g (lw_at lw_m9 205 rfl) rfl
theorem q2209 : (Jvm.Cond.sameMethod "CueStack$Instruction" "CueStack$Instruction" "told" "()I") ∈ lw_all := lw_g (lw_at lw_m9 206 rfl) rfl
theorem q2214 : (Jvm.Cond.code ({ cls := "CueStack$Instruction", name := "told", desc := "()I" } : Jvm.MethodName) prog_8_method_3_code (1 : Nat) (Option.some Jvm.ClassFile.FieldType.int)) ∈ lw_all := lw_g (lw_at lw_m9 211 rfl) rfl

/-! CueStack$Fixed -/
set_option maxRecDepth 100000
def RX9 : String := "CueStack$Fixed"
def TX9 : u_T := fun k => match k with
  | 0 => ("CueStack$Instruction", "part", "I", true)
  | _ => ("CueStack$Fixed", "level", "I", true)
def tyX9 : Nat → FieldType := fun k => match k with
  | 0 => .int
  | _ => .int
abbrev wsX90 : List Cond := u_ws RX9 TX9 2
theorem nmX9 : ∀ a, a < 2 → ∀ b, b < 2 → a ≠ b → (TX9 a).2.1 ≠ (TX9 b).2.1 := by decide +kernel
theorem tyX9_ok : ∀ k, k < 2 → parseFieldDescriptor (TX9 k).2.2.1 = some (tyX9 k) := by decide +kernel
abbrev cX9_level : ByteArray := prog_7_method_2_code
def yX9_level : MethodName := ⟨RX9, "level", "(I)I"⟩
theorem dX9_level_0 : decode cX9_level 0 = .ok (.aload_n 0, 1) := by decide +kernel
theorem dX9_level_1 : decode cX9_level 1 = .ok (.getfield 7, 3) := by decide +kernel
theorem dX9_level_4 : decode cX9_level 4 = .ok (.ireturn, 1) := by decide +kernel
abbrev cX9_init : ByteArray := prog_7_method_1_code
def yX9_init : MethodName := ⟨RX9, "<init>", "(II)V"⟩
def dkwX9_init_0 : List UInt8 := [42, 27, 183, 0, 1, 42, 28, 181, 0, 7, 177]
abbrev dktX9_init_0 : List UInt8 := dkwX9_init_0 ++ []
theorem dksX9_init_0 : cX9_init.data.toList.drop 0 = dktX9_init_0 := by decide +kernel
theorem dX9_init_0 : decode cX9_init 0 = .ok (.aload_n 0, 1) := dk_42 (dk_at dksX9_init_0 0 rfl rfl)
theorem dX9_init_1 : decode cX9_init 1 = .ok (.iload_n 1, 1) := dk_27 (dk_at dksX9_init_0 1 rfl rfl)
theorem dX9_init_2 : decode cX9_init 2 = .ok (.invokespecial 1, 3) := dk_183 0 1 (dk_at dksX9_init_0 2 rfl rfl)
theorem dX9_init_5 : decode cX9_init 5 = .ok (.aload_n 0, 1) := dk_42 (dk_at dksX9_init_0 5 rfl rfl)
theorem dX9_init_6 : decode cX9_init 6 = .ok (.iload_n 2, 1) := dk_28 (dk_at dksX9_init_0 6 rfl rfl)
theorem dX9_init_7 : decode cX9_init 7 = .ok (.putfield 7, 3) := dk_181 0 7 (dk_at dksX9_init_0 7 rfl rfl)
theorem dX9_init_10 : decode cX9_init 10 = .ok (.return_, 1) := dk_177 (dk_at dksX9_init_0 10 rfl rfl)
abbrev cX9_told : ByteArray := prog_7_method_3_code
def yX9_told : MethodName := ⟨RX9, "told", "()I"⟩
theorem dX9_told_0 : decode cX9_told 0 = .ok (.aload_n 0, 1) := by decide +kernel
theorem dX9_told_1 : decode cX9_told 1 = .ok (.getfield 7, 3) := by decide +kernel
theorem dX9_told_4 : decode cX9_told 4 = .ok (.ireturn, 1) := by decide +kernel
theorem q135 : (Jvm.Cond.initialized "CueStack$Fixed") ∈ lw_all := lw_g (lw_at lw_m1 52 rfl) rfl
theorem q309 : (Jvm.Cond.selects "CueStack$Fixed" ({ cls := "java/lang/Object", name := "getClass", desc := "()Ljava/lang/Class;" } : Jvm.MethodName) ({ cls := "java/lang/Object", name := "getClass", desc := "()Ljava/lang/Class;" } : Jvm.MethodName)) ∈ lw_all := lw_g (lw_at lw_m1 226 rfl) rfl
theorem q467 : (Jvm.Cond.selects "CueStack$Fixed" ({ cls := "java/lang/Object", name := "hashCode", desc := "()I" } : Jvm.MethodName) ({ cls := "java/lang/Object", name := "hashCode", desc := "()I" } : Jvm.MethodName)) ∈ lw_all := lw_g (lw_at lw_m2 144 rfl) rfl
theorem q852 : (Jvm.Cond.selects "CueStack$Fixed" ({ cls := "java/lang/Object", name := "equals", desc := "(Ljava/lang/Object;)Z" } : Jvm.MethodName) ({ cls := "java/lang/Object", name := "equals", desc := "(Ljava/lang/Object;)Z" } : Jvm.MethodName)) ∈ lw_all := lw_g (lw_at lw_m4 49 rfl) rfl
theorem q1093 : (Jvm.Cond.selects "CueStack$Fixed" ({ cls := "CueStack$Instruction", name := "level", desc := "(I)I" } : Jvm.MethodName) ({ cls := "CueStack$Fixed", name := "level", desc := "(I)I" } : Jvm.MethodName)) ∈ lw_all := lw_g (lw_at lw_m5 50 rfl) rfl
theorem q1094 : (Jvm.Cond.instanceMethod ({ cls := "CueStack$Fixed", name := "level", desc := "(I)I" } : Jvm.MethodName)) ∈ lw_all := lw_g (lw_at lw_m5 51 rfl) rfl
theorem q1095 : (Jvm.Cond.code ({ cls := "CueStack$Fixed", name := "level", desc := "(I)I" } : Jvm.MethodName) prog_7_method_2_code (2 : Nat) (Option.some Jvm.ClassFile.FieldType.int)) ∈ lw_all := lw_g (lw_at lw_m5 52 rfl) rfl
theorem q1945 : (Jvm.Cond.instantiable "CueStack$Fixed" (2 : Nat)) ∈ lw_all := lw_g (lw_at lw_m8 182 rfl) rfl
theorem q1947 : (Jvm.Cond.instanceMethod ({ cls := "CueStack$Fixed", name := "<init>", desc := "(II)V" } : Jvm.MethodName)) ∈ lw_all := lw_g (lw_at lw_m8 184 rfl) rfl
theorem q1948 : (Jvm.Cond.code ({ cls := "CueStack$Fixed", name := "<init>", desc := "(II)V" } : Jvm.MethodName) prog_7_method_1_code (3 : Nat) (Option.none : Option Jvm.ClassFile.FieldType)) ∈ lw_all := lw_g (lw_at lw_m8 185 rfl) rfl
theorem q1949 : (Jvm.Cond.methodLink "CueStack$Fixed" (1 : Nat) ({ cls := "CueStack$Instruction", name := "<init>", desc := "(I)V" } : Jvm.MethodName)) ∈ lw_all := lw_g (lw_at lw_m8 186 rfl) rfl
theorem q1953 : (Jvm.Cond.fieldLink "CueStack$Fixed" (7 : Nat) "CueStack$Fixed" "level" "I") ∈ lw_all := lw_g (lw_at lw_m8 190 rfl) rfl
theorem q1957 : (Jvm.Cond.laysFinal "CueStack$Fixed" "CueStack$Fixed" "level" "I") ∈ lw_all := lw_g (lw_at lw_m8 194 rfl) rfl
theorem q1958 : (Jvm.Cond.soleField "CueStack$Fixed" "level") ∈ lw_all := lw_g (lw_at lw_m8 195 rfl) rfl
theorem q1959 : (Jvm.Cond.laysFinal "CueStack$Fixed" "CueStack$Instruction" "part" "I") ∈ lw_all := lw_g (lw_at lw_m8 196 rfl) rfl
theorem q1961 : (Jvm.Cond.superclass "CueStack$Fixed" "CueStack$Instruction") ∈ lw_all := lw_g (lw_at lw_m8 198 rfl) rfl
theorem q2210 : (Jvm.Cond.selects "CueStack$Fixed" ({ cls := "CueStack$Instruction", name := "told", desc := "()I" } : Jvm.MethodName) ({ cls := "CueStack$Fixed", name := "told", desc := "()I" } : Jvm.MethodName)) ∈ lw_all := lw_g (lw_at lw_m9 207 rfl) rfl
theorem q2211 : (Jvm.Cond.instanceMethod ({ cls := "CueStack$Fixed", name := "told", desc := "()I" } : Jvm.MethodName)) ∈ lw_all := lw_g (lw_at lw_m9 208 rfl) rfl
theorem q2212 : (Jvm.Cond.code ({ cls := "CueStack$Fixed", name := "told", desc := "()I" } : Jvm.MethodName) prog_7_method_3_code (1 : Nat) (Option.some Jvm.ClassFile.FieldType.int)) ∈ lw_all := lw_g (lw_at lw_m9 209 rfl) rfl
theorem q3108 : (Jvm.Cond.castable "CueStack$Fixed" "CueStack$Instruction") ∈ lw_tbl := lw_at lw_m13 145 rfl
theorem q3140 : (Jvm.Cond.castable "CueStack$Fixed" "java/lang/Object") ∈ lw_tbl := lw_at lw_m13 177 rfl
theorem in_X9 : ∀ w ∈ wsX90, w ∈ lw_all := lw_in wsX90 [1959, 1957] (by decide +kernel) (by decide +kernel)

/-! CueStack$Refusal -/
set_option maxRecDepth 100000
def RX10 : String := "CueStack$Refusal"
def TX10 : u_T := fun k => match k with
  | 0 => ("java/lang/Throwable", "cause", "Ljava/lang/Throwable;", false)
  | 1 => ("java/lang/Throwable", "stackTrace", "[Ljava/lang/StackTraceElement;", false)
  | 2 => ("java/lang/Throwable", "suppressedExceptions", "Ljava/util/List;", false)
  | 3 => ("java/lang/Throwable", "detailMessage", "Ljava/lang/String;", false)
  | 4 => ("java/lang/Throwable", "backtrace", "Ljava/lang/Object;", false)
  | 5 => ("java/lang/Throwable", "depth", "I", false)
  | _ => ("CueStack$Refusal", "reason", "I", true)
def tyX10 : Nat → FieldType := fun k => match k with
  | 0 => .object "java/lang/Throwable"
  | 1 => .array (.object "java/lang/StackTraceElement")
  | 2 => .object "java/util/List"
  | 3 => .object "java/lang/String"
  | 4 => .object "java/lang/Object"
  | 5 => .int
  | _ => .int
abbrev wsX100 : List Cond := u_ws RX10 TX10 7
theorem nmX10 : ∀ a, a < 7 → ∀ b, b < 7 → a ≠ b → (TX10 a).2.1 ≠ (TX10 b).2.1 := by decide +kernel
theorem tyX10_ok : ∀ k, k < 7 → parseFieldDescriptor (TX10 k).2.2.1 = some (tyX10 k) := by decide +kernel
abbrev cX10_init : ByteArray := prog_13_method_1_code
def yX10_init : MethodName := ⟨RX10, "<init>", "(I)V"⟩
def dkwX10_init_0 : List UInt8 := [42, 183, 0, 1, 42, 27, 181, 0, 7, 177]
abbrev dktX10_init_0 : List UInt8 := dkwX10_init_0 ++ []
theorem dksX10_init_0 : cX10_init.data.toList.drop 0 = dktX10_init_0 := by decide +kernel
theorem dX10_init_0 : decode cX10_init 0 = .ok (.aload_n 0, 1) := dk_42 (dk_at dksX10_init_0 0 rfl rfl)
theorem dX10_init_1 : decode cX10_init 1 = .ok (.invokespecial 1, 3) := dk_183 0 1 (dk_at dksX10_init_0 1 rfl rfl)
theorem dX10_init_4 : decode cX10_init 4 = .ok (.aload_n 0, 1) := dk_42 (dk_at dksX10_init_0 4 rfl rfl)
theorem dX10_init_5 : decode cX10_init 5 = .ok (.iload_n 1, 1) := dk_27 (dk_at dksX10_init_0 5 rfl rfl)
theorem dX10_init_6 : decode cX10_init 6 = .ok (.putfield 7, 3) := dk_181 0 7 (dk_at dksX10_init_0 6 rfl rfl)
theorem dX10_init_9 : decode cX10_init 9 = .ok (.return_, 1) := dk_177 (dk_at dksX10_init_0 9 rfl rfl)
theorem q136 : (Jvm.Cond.initialized "CueStack$Refusal") ∈ lw_all := lw_g (lw_at lw_m1 53 rfl) rfl
theorem q313 : (Jvm.Cond.selects "CueStack$Refusal" ({ cls := "java/lang/Object", name := "getClass", desc := "()Ljava/lang/Class;" } : Jvm.MethodName) ({ cls := "java/lang/Object", name := "getClass", desc := "()Ljava/lang/Class;" } : Jvm.MethodName)) ∈ lw_all := lw_g (lw_at lw_m1 230 rfl) rfl
theorem q473 : (Jvm.Cond.selects "CueStack$Refusal" ({ cls := "java/lang/Object", name := "hashCode", desc := "()I" } : Jvm.MethodName) ({ cls := "java/lang/Object", name := "hashCode", desc := "()I" } : Jvm.MethodName)) ∈ lw_all := lw_g (lw_at lw_m2 150 rfl) rfl
theorem q576 : (Jvm.Cond.selects "CueStack$Refusal" ({ cls := "java/lang/Throwable", name := "fillInStackTrace", desc := "()Ljava/lang/Throwable;" } : Jvm.MethodName) ({ cls := "java/lang/Throwable", name := "fillInStackTrace", desc := "()Ljava/lang/Throwable;" } : Jvm.MethodName)) ∈ lw_all := lw_g (lw_at lw_m3 13 rfl) rfl
theorem q859 : (Jvm.Cond.selects "CueStack$Refusal" ({ cls := "java/lang/Object", name := "equals", desc := "(Ljava/lang/Object;)Z" } : Jvm.MethodName) ({ cls := "java/lang/Object", name := "equals", desc := "(Ljava/lang/Object;)Z" } : Jvm.MethodName)) ∈ lw_all := lw_g (lw_at lw_m4 56 rfl) rfl
theorem q1971 : (Jvm.Cond.instantiable "CueStack$Refusal" (7 : Nat)) ∈ lw_all := lw_g (lw_at lw_m8 208 rfl) rfl
theorem q1972 : (Jvm.Cond.castable "CueStack$Refusal" "CueStack$Refusal") ∈ lw_tbl := lw_at lw_m8 209 rfl
theorem q1973 : (Jvm.Cond.selects "CueStack$Refusal" ({ cls := "java/lang/Throwable", name := "fillInStackTrace", desc := "(I)Ljava/lang/Throwable;" } : Jvm.MethodName) ({ cls := "java/lang/Throwable", name := "fillInStackTrace", desc := "(I)Ljava/lang/Throwable;" } : Jvm.MethodName)) ∈ lw_all := lw_g (lw_at lw_m8 210 rfl) rfl
theorem q1974 : (Jvm.Cond.lays "CueStack$Refusal" "java/lang/Throwable" "cause" "Ljava/lang/Throwable;") ∈ lw_all := lw_g (lw_at lw_m8 211 rfl) rfl
theorem q1975 : (Jvm.Cond.lays "CueStack$Refusal" "java/lang/Throwable" "stackTrace" "[Ljava/lang/StackTraceElement;") ∈ lw_all := lw_g (lw_at lw_m8 212 rfl) rfl
theorem q1976 : (Jvm.Cond.lays "CueStack$Refusal" "java/lang/Throwable" "suppressedExceptions" "Ljava/util/List;") ∈ lw_all := lw_g (lw_at lw_m8 213 rfl) rfl
theorem q1977 : (Jvm.Cond.lays "CueStack$Refusal" "java/lang/Throwable" "detailMessage" "Ljava/lang/String;") ∈ lw_all := lw_g (lw_at lw_m8 214 rfl) rfl
theorem q1978 : (Jvm.Cond.lays "CueStack$Refusal" "java/lang/Throwable" "backtrace" "Ljava/lang/Object;") ∈ lw_all := lw_g (lw_at lw_m8 215 rfl) rfl
theorem q1980 : (Jvm.Cond.instanceMethod ({ cls := "CueStack$Refusal", name := "<init>", desc := "(I)V" } : Jvm.MethodName)) ∈ lw_all := lw_g (lw_at lw_m8 217 rfl) rfl
theorem q1981 : (Jvm.Cond.code ({ cls := "CueStack$Refusal", name := "<init>", desc := "(I)V" } : Jvm.MethodName) prog_13_method_1_code (2 : Nat) (Option.none : Option Jvm.ClassFile.FieldType)) ∈ lw_all := lw_g (lw_at lw_m8 218 rfl) rfl
theorem q1982 : (Jvm.Cond.methodLink "CueStack$Refusal" (1 : Nat) ({ cls := "java/lang/Exception", name := "<init>", desc := "()V" } : Jvm.MethodName)) ∈ lw_all := lw_g (lw_at lw_m8 219 rfl) rfl
theorem q1983 : (Jvm.Cond.fieldLink "CueStack$Refusal" (7 : Nat) "CueStack$Refusal" "reason" "I") ∈ lw_all := lw_g (lw_at lw_m8 220 rfl) rfl
theorem q1985 : (Jvm.Cond.laysFinal "CueStack$Refusal" "CueStack$Refusal" "reason" "I") ∈ lw_all := lw_g (lw_at lw_m8 222 rfl) rfl
theorem q1986 : (Jvm.Cond.soleField "CueStack$Refusal" "reason") ∈ lw_all := lw_g (lw_at lw_m8 223 rfl) rfl
theorem q1987 : (Jvm.Cond.lays "CueStack$Refusal" "java/lang/Throwable" "depth" "I") ∈ lw_all := lw_g (lw_at lw_m8 224 rfl) rfl
theorem q1988 : (Jvm.Cond.superclass "CueStack$Refusal" "java/lang/Exception") ∈ lw_all := lw_g (lw_at lw_m8 225 rfl) rfl
theorem q3141 : (Jvm.Cond.castable "CueStack$Refusal" "java/lang/Object") ∈ lw_tbl := lw_at lw_m13 178 rfl
theorem in_X10 : ∀ w ∈ wsX100, w ∈ lw_all := lw_in wsX100 [1974, 1975, 1976, 1977, 1978, 1987, 1985] (by decide +kernel) (by decide +kernel)

/-! CueStack$Released -/
set_option maxRecDepth 100000
def RX11 : String := "CueStack$Released"
def TX11 : u_T := fun k => match k with
  | _ => ("CueStack$Instruction", "part", "I", true)
def tyX11 : Nat → FieldType := fun k => match k with
  | _ => .int
abbrev wsX110 : List Cond := u_ws RX11 TX11 1
theorem nmX11 : ∀ a, a < 1 → ∀ b, b < 1 → a ≠ b → (TX11 a).2.1 ≠ (TX11 b).2.1 := by decide +kernel
theorem tyX11_ok : ∀ k, k < 1 → parseFieldDescriptor (TX11 k).2.2.1 = some (tyX11 k) := by decide +kernel
abbrev cX11_level : ByteArray := prog_14_method_2_code
def yX11_level : MethodName := ⟨RX11, "level", "(I)I"⟩
theorem dX11_level_0 : decode cX11_level 0 = .ok (.iload_n 1, 1) := by decide +kernel
theorem dX11_level_1 : decode cX11_level 1 = .ok (.ireturn, 1) := by decide +kernel
abbrev cX11_init : ByteArray := prog_14_method_1_code
def yX11_init : MethodName := ⟨RX11, "<init>", "(I)V"⟩
def dkwX11_init_0 : List UInt8 := [42, 27, 183, 0, 1, 177]
abbrev dktX11_init_0 : List UInt8 := dkwX11_init_0 ++ []
theorem dksX11_init_0 : cX11_init.data.toList.drop 0 = dktX11_init_0 := by decide +kernel
theorem dX11_init_0 : decode cX11_init 0 = .ok (.aload_n 0, 1) := dk_42 (dk_at dksX11_init_0 0 rfl rfl)
theorem dX11_init_1 : decode cX11_init 1 = .ok (.iload_n 1, 1) := dk_27 (dk_at dksX11_init_0 1 rfl rfl)
theorem dX11_init_2 : decode cX11_init 2 = .ok (.invokespecial 1, 3) := dk_183 0 1 (dk_at dksX11_init_0 2 rfl rfl)
theorem dX11_init_5 : decode cX11_init 5 = .ok (.return_, 1) := dk_177 (dk_at dksX11_init_0 5 rfl rfl)
theorem q137 : (Jvm.Cond.initialized "CueStack$Released") ∈ lw_all := lw_g (lw_at lw_m1 54 rfl) rfl
theorem q314 : (Jvm.Cond.selects "CueStack$Released" ({ cls := "java/lang/Object", name := "getClass", desc := "()Ljava/lang/Class;" } : Jvm.MethodName) ({ cls := "java/lang/Object", name := "getClass", desc := "()Ljava/lang/Class;" } : Jvm.MethodName)) ∈ lw_all := lw_g (lw_at lw_m1 231 rfl) rfl
theorem q474 : (Jvm.Cond.selects "CueStack$Released" ({ cls := "java/lang/Object", name := "hashCode", desc := "()I" } : Jvm.MethodName) ({ cls := "java/lang/Object", name := "hashCode", desc := "()I" } : Jvm.MethodName)) ∈ lw_all := lw_g (lw_at lw_m2 151 rfl) rfl
theorem q860 : (Jvm.Cond.selects "CueStack$Released" ({ cls := "java/lang/Object", name := "equals", desc := "(Ljava/lang/Object;)Z" } : Jvm.MethodName) ({ cls := "java/lang/Object", name := "equals", desc := "(Ljava/lang/Object;)Z" } : Jvm.MethodName)) ∈ lw_all := lw_g (lw_at lw_m4 57 rfl) rfl
theorem q1096 : (Jvm.Cond.selects "CueStack$Released" ({ cls := "CueStack$Instruction", name := "level", desc := "(I)I" } : Jvm.MethodName) ({ cls := "CueStack$Released", name := "level", desc := "(I)I" } : Jvm.MethodName)) ∈ lw_all := lw_g (lw_at lw_m5 53 rfl) rfl
theorem q1097 : (Jvm.Cond.instanceMethod ({ cls := "CueStack$Released", name := "level", desc := "(I)I" } : Jvm.MethodName)) ∈ lw_all := lw_g (lw_at lw_m5 54 rfl) rfl
theorem q1098 : (Jvm.Cond.code ({ cls := "CueStack$Released", name := "level", desc := "(I)I" } : Jvm.MethodName) prog_14_method_2_code (2 : Nat) (Option.some Jvm.ClassFile.FieldType.int)) ∈ lw_all := lw_g (lw_at lw_m5 55 rfl) rfl
theorem q2173 : (Jvm.Cond.instantiable "CueStack$Released" (1 : Nat)) ∈ lw_all := lw_g (lw_at lw_m9 170 rfl) rfl
theorem q2175 : (Jvm.Cond.instanceMethod ({ cls := "CueStack$Released", name := "<init>", desc := "(I)V" } : Jvm.MethodName)) ∈ lw_all := lw_g (lw_at lw_m9 172 rfl) rfl
theorem q2176 : (Jvm.Cond.code ({ cls := "CueStack$Released", name := "<init>", desc := "(I)V" } : Jvm.MethodName) prog_14_method_1_code (2 : Nat) (Option.none : Option Jvm.ClassFile.FieldType)) ∈ lw_all := lw_g (lw_at lw_m9 173 rfl) rfl
theorem q2177 : (Jvm.Cond.methodLink "CueStack$Released" (1 : Nat) ({ cls := "CueStack$Instruction", name := "<init>", desc := "(I)V" } : Jvm.MethodName)) ∈ lw_all := lw_g (lw_at lw_m9 174 rfl) rfl
theorem q2178 : (Jvm.Cond.laysFinal "CueStack$Released" "CueStack$Instruction" "part" "I") ∈ lw_all := lw_g (lw_at lw_m9 175 rfl) rfl
theorem q2179 : (Jvm.Cond.superclass "CueStack$Released" "CueStack$Instruction") ∈ lw_all := lw_g (lw_at lw_m9 176 rfl) rfl
theorem q2213 : (Jvm.Cond.selects "CueStack$Released" ({ cls := "CueStack$Instruction", name := "told", desc := "()I" } : Jvm.MethodName) ({ cls := "CueStack$Instruction", name := "told", desc := "()I" } : Jvm.MethodName)) ∈ lw_all := lw_g (lw_at lw_m9 210 rfl) rfl
theorem q3109 : (Jvm.Cond.castable "CueStack$Released" "CueStack$Instruction") ∈ lw_tbl := lw_at lw_m13 146 rfl
theorem q3142 : (Jvm.Cond.castable "CueStack$Released" "java/lang/Object") ∈ lw_tbl := lw_at lw_m13 179 rfl
theorem in_X11 : ∀ w ∈ wsX110, w ∈ lw_all := lw_in wsX110 [2178] (by decide +kernel) (by decide +kernel)

/-! CueStack$Parser -/
set_option maxRecDepth 100000
def RX12 : String := "CueStack$Parser"
def TX12 : u_T := fun k => match k with
  | 0 => ("CueStack$Parser", "text", "[C", true)
  | 1 => ("CueStack$Parser", "length", "I", true)
  | 2 => ("CueStack$Parser", "entries", "Ljava/util/ArrayList;", true)
  | _ => ("CueStack$Parser", "at", "I", false)
def tyX12 : Nat → FieldType := fun k => match k with
  | 0 => .array .char
  | 1 => .int
  | 2 => .object "java/util/ArrayList"
  | _ => .int
abbrev wsX120 : List Cond := u_ws RX12 TX12 4
theorem nmX12 : ∀ a, a < 4 → ∀ b, b < 4 → a ≠ b → (TX12 a).2.1 ≠ (TX12 b).2.1 := by decide +kernel
theorem tyX12_ok : ∀ k, k < 4 → parseFieldDescriptor (TX12 k).2.2.1 = some (tyX12 k) := by decide +kernel
abbrev cX12_init : ByteArray := prog_11_method_1_code
def yX12_init : MethodName := ⟨RX12, "<init>", "([CI)V"⟩
def dkwX12_init_1 : List UInt8 := [181, 0, 20, 177]
abbrev dktX12_init_1 : List UInt8 := dkwX12_init_1 ++ []
def dkwX12_init_0 : List UInt8 := [42, 183, 0, 1, 42, 187, 0, 7, 89, 183, 0, 9, 181, 0, 10, 42, 43, 181, 0, 16, 42, 28]
abbrev dktX12_init_0 : List UInt8 := dkwX12_init_0 ++ dktX12_init_1
theorem dksX12_init_0 : cX12_init.data.toList.drop 0 = dktX12_init_0 := by decide +kernel
theorem dksX12_init_1 : cX12_init.data.toList.drop 22 = dktX12_init_1 := dk_seg dksX12_init_0 22 rfl rfl
theorem dX12_init_0 : decode cX12_init 0 = .ok (.aload_n 0, 1) := dk_42 (dk_at dksX12_init_0 0 rfl rfl)
theorem dX12_init_1 : decode cX12_init 1 = .ok (.invokespecial 1, 3) := dk_183 0 1 (dk_at dksX12_init_0 1 rfl rfl)
theorem dX12_init_4 : decode cX12_init 4 = .ok (.aload_n 0, 1) := dk_42 (dk_at dksX12_init_0 4 rfl rfl)
theorem dX12_init_5 : decode cX12_init 5 = .ok (.new 7, 3) := dk_187 0 7 (dk_at dksX12_init_0 5 rfl rfl)
theorem dX12_init_8 : decode cX12_init 8 = .ok (.dup, 1) := dk_89 (dk_at dksX12_init_0 8 rfl rfl)
theorem dX12_init_9 : decode cX12_init 9 = .ok (.invokespecial 9, 3) := dk_183 0 9 (dk_at dksX12_init_0 9 rfl rfl)
theorem dX12_init_12 : decode cX12_init 12 = .ok (.putfield 10, 3) := dk_181 0 10 (dk_at dksX12_init_0 12 rfl rfl)
theorem dX12_init_15 : decode cX12_init 15 = .ok (.aload_n 0, 1) := dk_42 (dk_at dksX12_init_0 15 rfl rfl)
theorem dX12_init_16 : decode cX12_init 16 = .ok (.aload_n 1, 1) := dk_43 (dk_at dksX12_init_0 16 rfl rfl)
theorem dX12_init_17 : decode cX12_init 17 = .ok (.putfield 16, 3) := dk_181 0 16 (dk_at dksX12_init_0 17 rfl rfl)
theorem dX12_init_20 : decode cX12_init 20 = .ok (.aload_n 0, 1) := dk_42 (dk_at dksX12_init_0 20 rfl rfl)
theorem dX12_init_21 : decode cX12_init 21 = .ok (.iload_n 2, 1) := dk_28 (dk_at dksX12_init_0 21 rfl rfl)
theorem dX12_init_22 : decode cX12_init 22 = .ok (.putfield 20, 3) := dk_181 0 20 (dk_at dksX12_init_1 0 rfl rfl)
theorem dX12_init_25 : decode cX12_init 25 = .ok (.return_, 1) := dk_177 (dk_at dksX12_init_1 3 rfl rfl)
abbrev cX12_all : ByteArray := prog_11_method_6_code
def yX12_all : MethodName := ⟨RX12, "all", "()V"⟩
def dkwX12_all_1 : List UInt8 := [182, 0, 75, 167, 255, 231, 177]
abbrev dktX12_all_1 : List UInt8 := dkwX12_all_1 ++ []
def dkwX12_all_0 : List UInt8 := [42, 180, 0, 24, 42, 180, 0, 20, 161, 0, 13, 42, 180, 0, 10, 182, 0, 71, 154, 0, 10, 42]
abbrev dktX12_all_0 : List UInt8 := dkwX12_all_0 ++ dktX12_all_1
theorem dksX12_all_0 : cX12_all.data.toList.drop 0 = dktX12_all_0 := by decide +kernel
theorem dksX12_all_1 : cX12_all.data.toList.drop 22 = dktX12_all_1 := dk_seg dksX12_all_0 22 rfl rfl
theorem dX12_all_0 : decode cX12_all 0 = .ok (.aload_n 0, 1) := dk_42 (dk_at dksX12_all_0 0 rfl rfl)
theorem dX12_all_1 : decode cX12_all 1 = .ok (.getfield 24, 3) := dk_180 0 24 (dk_at dksX12_all_0 1 rfl rfl)
theorem dX12_all_4 : decode cX12_all 4 = .ok (.aload_n 0, 1) := dk_42 (dk_at dksX12_all_0 4 rfl rfl)
theorem dX12_all_5 : decode cX12_all 5 = .ok (.getfield 20, 3) := dk_180 0 20 (dk_at dksX12_all_0 5 rfl rfl)
theorem dX12_all_8 : decode cX12_all 8 = .ok (.if_icmp .lt 13, 3) := dk_161 0 13 (dk_at dksX12_all_0 8 rfl rfl)
theorem dX12_all_11 : decode cX12_all 11 = .ok (.aload_n 0, 1) := dk_42 (dk_at dksX12_all_0 11 rfl rfl)
theorem dX12_all_12 : decode cX12_all 12 = .ok (.getfield 10, 3) := dk_180 0 10 (dk_at dksX12_all_0 12 rfl rfl)
theorem dX12_all_15 : decode cX12_all 15 = .ok (.invokevirtual 71, 3) := dk_182 0 71 (dk_at dksX12_all_0 15 rfl rfl)
theorem dX12_all_18 : decode cX12_all 18 = .ok (.ifCond .ne 10, 3) := dk_154 0 10 (dk_at dksX12_all_0 18 rfl rfl)
theorem dX12_all_21 : decode cX12_all 21 = .ok (.aload_n 0, 1) := dk_42 (dk_at dksX12_all_0 21 rfl rfl)
theorem dX12_all_22 : decode cX12_all 22 = .ok (.invokevirtual 75, 3) := dk_182 0 75 (dk_at dksX12_all_1 0 rfl rfl)
theorem dX12_all_25 : decode cX12_all 25 = .ok (.goto (-25), 3) := dk_167 255 231 (dk_at dksX12_all_1 3 rfl rfl)
theorem dX12_all_28 : decode cX12_all 28 = .ok (.return_, 1) := dk_177 (dk_at dksX12_all_1 6 rfl rfl)
abbrev cX12_entry : ByteArray := prog_11_method_5_code
def yX12_entry : MethodName := ⟨RX12, "entry", "()V"⟩
def dkwX12_entry_7 : List UInt8 := [180, 0, 10, 43, 182, 0, 67, 87, 177]
abbrev dktX12_entry_7 : List UInt8 := dkwX12_entry_7 ++ []
def dkwX12_entry_6 : List UInt8 := [182, 0, 51, 181, 0, 55, 167, 0, 9, 42, 16, 103, 182, 0, 58, 42, 16, 59, 182, 0, 58, 42]
abbrev dktX12_entry_6 : List UInt8 := dkwX12_entry_6 ++ dktX12_entry_7
def dkwX12_entry_5 : List UInt8 := [42, 6, 182, 0, 51, 181, 0, 64, 167, 0, 31, 42, 89, 180, 0, 24, 4, 96, 181, 0, 24, 43, 42, 7]
abbrev dktX12_entry_5 : List UInt8 := dkwX12_entry_5 ++ dktX12_entry_6
def dkwX12_entry_4 : List UInt8 := [42, 5, 182, 0, 51, 181, 0, 61, 43, 180, 0, 47, 16, 115, 160, 0, 49, 42, 16, 64, 182, 0, 58, 43]
abbrev dktX12_entry_4 : List UInt8 := dkwX12_entry_4 ++ dktX12_entry_5
def dkwX12_entry_3 : List UInt8 := [180, 0, 24, 4, 96, 181, 0, 24, 43, 42, 5, 182, 0, 51, 181, 0, 55, 42, 16, 47, 182, 0, 58, 43]
abbrev dktX12_entry_3 : List UInt8 := dkwX12_entry_3 ++ dktX12_entry_4
def dkwX12_entry_2 : List UInt8 := [42, 89, 180, 0, 24, 4, 96, 181, 0, 24, 43, 42, 5, 182, 0, 51, 181, 0, 55, 167, 0, 92, 42, 89]
abbrev dktX12_entry_2 : List UInt8 := dkwX12_entry_2 ++ dktX12_entry_3
def dkwX12_entry_1 : List UInt8 := [171, 0, 0, 0, 0, 0, 0, 165, 0, 0, 0, 6, 0, 0, 0, 99, 0, 0, 0, 60, 0, 0, 0, 106, 0, 0, 0, 60, 0, 0, 0, 114, 0, 0, 0, 82, 0, 0, 0, 115, 0, 0, 0, 82, 0, 0, 0, 116, 0, 0, 0, 143, 0, 0, 0, 120, 0, 0, 0, 60]
abbrev dktX12_entry_1 : List UInt8 := dkwX12_entry_1 ++ dktX12_entry_2
def dkwX12_entry_0 : List UInt8 := [187, 0, 42, 89, 42, 182, 0, 27, 183, 0, 44, 76, 43, 180, 0, 47]
abbrev dktX12_entry_0 : List UInt8 := dkwX12_entry_0 ++ dktX12_entry_1
theorem dksX12_entry_0 : cX12_entry.data.toList.drop 0 = dktX12_entry_0 := by decide +kernel
theorem dksX12_entry_1 : cX12_entry.data.toList.drop 16 = dktX12_entry_1 := dk_seg dksX12_entry_0 16 rfl rfl
theorem dksX12_entry_2 : cX12_entry.data.toList.drop 76 = dktX12_entry_2 := dk_seg dksX12_entry_1 60 rfl rfl
theorem dksX12_entry_3 : cX12_entry.data.toList.drop 100 = dktX12_entry_3 := dk_seg dksX12_entry_2 24 rfl rfl
theorem dksX12_entry_4 : cX12_entry.data.toList.drop 124 = dktX12_entry_4 := dk_seg dksX12_entry_3 24 rfl rfl
theorem dksX12_entry_5 : cX12_entry.data.toList.drop 148 = dktX12_entry_5 := dk_seg dksX12_entry_4 24 rfl rfl
theorem dksX12_entry_6 : cX12_entry.data.toList.drop 172 = dktX12_entry_6 := dk_seg dksX12_entry_5 24 rfl rfl
theorem dksX12_entry_7 : cX12_entry.data.toList.drop 194 = dktX12_entry_7 := dk_seg dksX12_entry_6 22 rfl rfl
theorem dX12_entry_0 : decode cX12_entry 0 = .ok (.new 42, 3) := dk_187 0 42 (dk_at dksX12_entry_0 0 rfl rfl)
theorem dX12_entry_3 : decode cX12_entry 3 = .ok (.dup, 1) := dk_89 (dk_at dksX12_entry_0 3 rfl rfl)
theorem dX12_entry_4 : decode cX12_entry 4 = .ok (.aload_n 0, 1) := dk_42 (dk_at dksX12_entry_0 4 rfl rfl)
theorem dX12_entry_5 : decode cX12_entry 5 = .ok (.invokevirtual 27, 3) := dk_182 0 27 (dk_at dksX12_entry_0 5 rfl rfl)
theorem dX12_entry_8 : decode cX12_entry 8 = .ok (.invokespecial 44, 3) := dk_183 0 44 (dk_at dksX12_entry_0 8 rfl rfl)
theorem dX12_entry_11 : decode cX12_entry 11 = .ok (.astore_n 1, 1) := dk_76 (dk_at dksX12_entry_0 11 rfl rfl)
theorem dX12_entry_12 : decode cX12_entry 12 = .ok (.aload_n 1, 1) := dk_43 (dk_at dksX12_entry_0 12 rfl rfl)
theorem dX12_entry_13 : decode cX12_entry 13 = .ok (.getfield 47, 3) := dk_180 0 47 (dk_at dksX12_entry_0 13 rfl rfl)
theorem dX12_entry_16 : decode cX12_entry 16 = .ok (.lookupswitch 165 #[(99, 60), (106, 60), (114, 82), (115, 82), (116, 143), (120, 60)], 60) := by decide +kernel
theorem dX12_entry_76 : decode cX12_entry 76 = .ok (.aload_n 0, 1) := dk_42 (dk_at dksX12_entry_2 0 rfl rfl)
theorem dX12_entry_77 : decode cX12_entry 77 = .ok (.dup, 1) := dk_89 (dk_at dksX12_entry_2 1 rfl rfl)
theorem dX12_entry_78 : decode cX12_entry 78 = .ok (.getfield 24, 3) := dk_180 0 24 (dk_at dksX12_entry_2 2 rfl rfl)
theorem dX12_entry_81 : decode cX12_entry 81 = .ok (.iconst 1, 1) := dk_4 (dk_at dksX12_entry_2 5 rfl rfl)
theorem dX12_entry_82 : decode cX12_entry 82 = .ok (.iadd, 1) := dk_96 (dk_at dksX12_entry_2 6 rfl rfl)
theorem dX12_entry_83 : decode cX12_entry 83 = .ok (.putfield 24, 3) := dk_181 0 24 (dk_at dksX12_entry_2 7 rfl rfl)
theorem dX12_entry_86 : decode cX12_entry 86 = .ok (.aload_n 1, 1) := dk_43 (dk_at dksX12_entry_2 10 rfl rfl)
theorem dX12_entry_87 : decode cX12_entry 87 = .ok (.aload_n 0, 1) := dk_42 (dk_at dksX12_entry_2 11 rfl rfl)
theorem dX12_entry_88 : decode cX12_entry 88 = .ok (.iconst 2, 1) := dk_5 (dk_at dksX12_entry_2 12 rfl rfl)
theorem dX12_entry_89 : decode cX12_entry 89 = .ok (.invokevirtual 51, 3) := dk_182 0 51 (dk_at dksX12_entry_2 13 rfl rfl)
theorem dX12_entry_92 : decode cX12_entry 92 = .ok (.putfield 55, 3) := dk_181 0 55 (dk_at dksX12_entry_2 16 rfl rfl)
theorem dX12_entry_95 : decode cX12_entry 95 = .ok (.goto 92, 3) := dk_167 0 92 (dk_at dksX12_entry_2 19 rfl rfl)
theorem dX12_entry_98 : decode cX12_entry 98 = .ok (.aload_n 0, 1) := dk_42 (dk_at dksX12_entry_2 22 rfl rfl)
theorem dX12_entry_99 : decode cX12_entry 99 = .ok (.dup, 1) := dk_89 (dk_at dksX12_entry_2 23 rfl rfl)
theorem dX12_entry_100 : decode cX12_entry 100 = .ok (.getfield 24, 3) := dk_180 0 24 (dk_at dksX12_entry_3 0 rfl rfl)
theorem dX12_entry_103 : decode cX12_entry 103 = .ok (.iconst 1, 1) := dk_4 (dk_at dksX12_entry_3 3 rfl rfl)
theorem dX12_entry_104 : decode cX12_entry 104 = .ok (.iadd, 1) := dk_96 (dk_at dksX12_entry_3 4 rfl rfl)
theorem dX12_entry_105 : decode cX12_entry 105 = .ok (.putfield 24, 3) := dk_181 0 24 (dk_at dksX12_entry_3 5 rfl rfl)
theorem dX12_entry_108 : decode cX12_entry 108 = .ok (.aload_n 1, 1) := dk_43 (dk_at dksX12_entry_3 8 rfl rfl)
theorem dX12_entry_109 : decode cX12_entry 109 = .ok (.aload_n 0, 1) := dk_42 (dk_at dksX12_entry_3 9 rfl rfl)
theorem dX12_entry_110 : decode cX12_entry 110 = .ok (.iconst 2, 1) := dk_5 (dk_at dksX12_entry_3 10 rfl rfl)
theorem dX12_entry_111 : decode cX12_entry 111 = .ok (.invokevirtual 51, 3) := dk_182 0 51 (dk_at dksX12_entry_3 11 rfl rfl)
theorem dX12_entry_114 : decode cX12_entry 114 = .ok (.putfield 55, 3) := dk_181 0 55 (dk_at dksX12_entry_3 14 rfl rfl)
theorem dX12_entry_117 : decode cX12_entry 117 = .ok (.aload_n 0, 1) := dk_42 (dk_at dksX12_entry_3 17 rfl rfl)
theorem dX12_entry_118 : decode cX12_entry 118 = .ok (.bipush 47, 2) := dk_16 47 (dk_at dksX12_entry_3 18 rfl rfl)
theorem dX12_entry_120 : decode cX12_entry 120 = .ok (.invokevirtual 58, 3) := dk_182 0 58 (dk_at dksX12_entry_3 20 rfl rfl)
theorem dX12_entry_123 : decode cX12_entry 123 = .ok (.aload_n 1, 1) := dk_43 (dk_at dksX12_entry_3 23 rfl rfl)
theorem dX12_entry_124 : decode cX12_entry 124 = .ok (.aload_n 0, 1) := dk_42 (dk_at dksX12_entry_4 0 rfl rfl)
theorem dX12_entry_125 : decode cX12_entry 125 = .ok (.iconst 2, 1) := dk_5 (dk_at dksX12_entry_4 1 rfl rfl)
theorem dX12_entry_126 : decode cX12_entry 126 = .ok (.invokevirtual 51, 3) := dk_182 0 51 (dk_at dksX12_entry_4 2 rfl rfl)
theorem dX12_entry_129 : decode cX12_entry 129 = .ok (.putfield 61, 3) := dk_181 0 61 (dk_at dksX12_entry_4 5 rfl rfl)
theorem dX12_entry_132 : decode cX12_entry 132 = .ok (.aload_n 1, 1) := dk_43 (dk_at dksX12_entry_4 8 rfl rfl)
theorem dX12_entry_133 : decode cX12_entry 133 = .ok (.getfield 47, 3) := dk_180 0 47 (dk_at dksX12_entry_4 9 rfl rfl)
theorem dX12_entry_136 : decode cX12_entry 136 = .ok (.bipush 115, 2) := dk_16 115 (dk_at dksX12_entry_4 12 rfl rfl)
theorem dX12_entry_138 : decode cX12_entry 138 = .ok (.if_icmp .ne 49, 3) := dk_160 0 49 (dk_at dksX12_entry_4 14 rfl rfl)
theorem dX12_entry_141 : decode cX12_entry 141 = .ok (.aload_n 0, 1) := dk_42 (dk_at dksX12_entry_4 17 rfl rfl)
theorem dX12_entry_142 : decode cX12_entry 142 = .ok (.bipush 64, 2) := dk_16 64 (dk_at dksX12_entry_4 18 rfl rfl)
theorem dX12_entry_144 : decode cX12_entry 144 = .ok (.invokevirtual 58, 3) := dk_182 0 58 (dk_at dksX12_entry_4 20 rfl rfl)
theorem dX12_entry_147 : decode cX12_entry 147 = .ok (.aload_n 1, 1) := dk_43 (dk_at dksX12_entry_4 23 rfl rfl)
theorem dX12_entry_148 : decode cX12_entry 148 = .ok (.aload_n 0, 1) := dk_42 (dk_at dksX12_entry_5 0 rfl rfl)
theorem dX12_entry_149 : decode cX12_entry 149 = .ok (.iconst 3, 1) := dk_6 (dk_at dksX12_entry_5 1 rfl rfl)
theorem dX12_entry_150 : decode cX12_entry 150 = .ok (.invokevirtual 51, 3) := dk_182 0 51 (dk_at dksX12_entry_5 2 rfl rfl)
theorem dX12_entry_153 : decode cX12_entry 153 = .ok (.putfield 64, 3) := dk_181 0 64 (dk_at dksX12_entry_5 5 rfl rfl)
theorem dX12_entry_156 : decode cX12_entry 156 = .ok (.goto 31, 3) := dk_167 0 31 (dk_at dksX12_entry_5 8 rfl rfl)
theorem dX12_entry_159 : decode cX12_entry 159 = .ok (.aload_n 0, 1) := dk_42 (dk_at dksX12_entry_5 11 rfl rfl)
theorem dX12_entry_160 : decode cX12_entry 160 = .ok (.dup, 1) := dk_89 (dk_at dksX12_entry_5 12 rfl rfl)
theorem dX12_entry_161 : decode cX12_entry 161 = .ok (.getfield 24, 3) := dk_180 0 24 (dk_at dksX12_entry_5 13 rfl rfl)
theorem dX12_entry_164 : decode cX12_entry 164 = .ok (.iconst 1, 1) := dk_4 (dk_at dksX12_entry_5 16 rfl rfl)
theorem dX12_entry_165 : decode cX12_entry 165 = .ok (.iadd, 1) := dk_96 (dk_at dksX12_entry_5 17 rfl rfl)
theorem dX12_entry_166 : decode cX12_entry 166 = .ok (.putfield 24, 3) := dk_181 0 24 (dk_at dksX12_entry_5 18 rfl rfl)
theorem dX12_entry_169 : decode cX12_entry 169 = .ok (.aload_n 1, 1) := dk_43 (dk_at dksX12_entry_5 21 rfl rfl)
theorem dX12_entry_170 : decode cX12_entry 170 = .ok (.aload_n 0, 1) := dk_42 (dk_at dksX12_entry_5 22 rfl rfl)
theorem dX12_entry_171 : decode cX12_entry 171 = .ok (.iconst 4, 1) := dk_7 (dk_at dksX12_entry_5 23 rfl rfl)
theorem dX12_entry_172 : decode cX12_entry 172 = .ok (.invokevirtual 51, 3) := dk_182 0 51 (dk_at dksX12_entry_6 0 rfl rfl)
theorem dX12_entry_175 : decode cX12_entry 175 = .ok (.putfield 55, 3) := dk_181 0 55 (dk_at dksX12_entry_6 3 rfl rfl)
theorem dX12_entry_178 : decode cX12_entry 178 = .ok (.goto 9, 3) := dk_167 0 9 (dk_at dksX12_entry_6 6 rfl rfl)
theorem dX12_entry_181 : decode cX12_entry 181 = .ok (.aload_n 0, 1) := dk_42 (dk_at dksX12_entry_6 9 rfl rfl)
theorem dX12_entry_182 : decode cX12_entry 182 = .ok (.bipush 103, 2) := dk_16 103 (dk_at dksX12_entry_6 10 rfl rfl)
theorem dX12_entry_184 : decode cX12_entry 184 = .ok (.invokevirtual 58, 3) := dk_182 0 58 (dk_at dksX12_entry_6 12 rfl rfl)
theorem dX12_entry_187 : decode cX12_entry 187 = .ok (.aload_n 0, 1) := dk_42 (dk_at dksX12_entry_6 15 rfl rfl)
theorem dX12_entry_188 : decode cX12_entry 188 = .ok (.bipush 59, 2) := dk_16 59 (dk_at dksX12_entry_6 16 rfl rfl)
theorem dX12_entry_190 : decode cX12_entry 190 = .ok (.invokevirtual 58, 3) := dk_182 0 58 (dk_at dksX12_entry_6 18 rfl rfl)
theorem dX12_entry_193 : decode cX12_entry 193 = .ok (.aload_n 0, 1) := dk_42 (dk_at dksX12_entry_6 21 rfl rfl)
theorem dX12_entry_194 : decode cX12_entry 194 = .ok (.getfield 10, 3) := dk_180 0 10 (dk_at dksX12_entry_7 0 rfl rfl)
theorem dX12_entry_197 : decode cX12_entry 197 = .ok (.aload_n 1, 1) := dk_43 (dk_at dksX12_entry_7 3 rfl rfl)
theorem dX12_entry_198 : decode cX12_entry 198 = .ok (.invokevirtual 67, 3) := dk_182 0 67 (dk_at dksX12_entry_7 4 rfl rfl)
theorem dX12_entry_201 : decode cX12_entry 201 = .ok (.pop, 1) := dk_87 (dk_at dksX12_entry_7 7 rfl rfl)
theorem dX12_entry_202 : decode cX12_entry 202 = .ok (.return_, 1) := dk_177 (dk_at dksX12_entry_7 8 rfl rfl)
abbrev cX12_peek : ByteArray := prog_11_method_2_code
def yX12_peek : MethodName := ⟨RX12, "peek", "()C"⟩
def dkwX12_peek_1 : List UInt8 := [172]
abbrev dktX12_peek_1 : List UInt8 := dkwX12_peek_1 ++ []
def dkwX12_peek_0 : List UInt8 := [42, 180, 0, 24, 42, 180, 0, 20, 162, 0, 15, 42, 180, 0, 16, 42, 180, 0, 24, 52, 167, 0, 4, 3]
abbrev dktX12_peek_0 : List UInt8 := dkwX12_peek_0 ++ dktX12_peek_1
theorem dksX12_peek_0 : cX12_peek.data.toList.drop 0 = dktX12_peek_0 := by decide +kernel
theorem dksX12_peek_1 : cX12_peek.data.toList.drop 24 = dktX12_peek_1 := dk_seg dksX12_peek_0 24 rfl rfl
theorem dX12_peek_0 : decode cX12_peek 0 = .ok (.aload_n 0, 1) := dk_42 (dk_at dksX12_peek_0 0 rfl rfl)
theorem dX12_peek_1 : decode cX12_peek 1 = .ok (.getfield 24, 3) := dk_180 0 24 (dk_at dksX12_peek_0 1 rfl rfl)
theorem dX12_peek_4 : decode cX12_peek 4 = .ok (.aload_n 0, 1) := dk_42 (dk_at dksX12_peek_0 4 rfl rfl)
theorem dX12_peek_5 : decode cX12_peek 5 = .ok (.getfield 20, 3) := dk_180 0 20 (dk_at dksX12_peek_0 5 rfl rfl)
theorem dX12_peek_8 : decode cX12_peek 8 = .ok (.if_icmp .ge 15, 3) := dk_162 0 15 (dk_at dksX12_peek_0 8 rfl rfl)
theorem dX12_peek_11 : decode cX12_peek 11 = .ok (.aload_n 0, 1) := dk_42 (dk_at dksX12_peek_0 11 rfl rfl)
theorem dX12_peek_12 : decode cX12_peek 12 = .ok (.getfield 16, 3) := dk_180 0 16 (dk_at dksX12_peek_0 12 rfl rfl)
theorem dX12_peek_15 : decode cX12_peek 15 = .ok (.aload_n 0, 1) := dk_42 (dk_at dksX12_peek_0 15 rfl rfl)
theorem dX12_peek_16 : decode cX12_peek 16 = .ok (.getfield 24, 3) := dk_180 0 24 (dk_at dksX12_peek_0 16 rfl rfl)
theorem dX12_peek_19 : decode cX12_peek 19 = .ok (.caload, 1) := dk_52 (dk_at dksX12_peek_0 19 rfl rfl)
theorem dX12_peek_20 : decode cX12_peek 20 = .ok (.goto 4, 3) := dk_167 0 4 (dk_at dksX12_peek_0 20 rfl rfl)
theorem dX12_peek_23 : decode cX12_peek 23 = .ok (.iconst 0, 1) := dk_3 (dk_at dksX12_peek_0 23 rfl rfl)
theorem dX12_peek_24 : decode cX12_peek 24 = .ok (.ireturn, 1) := dk_172 (dk_at dksX12_peek_1 0 rfl rfl)
abbrev cX12_number : ByteArray := prog_11_method_3_code
def yX12_number : MethodName := ⟨RX12, "number", "(I)I"⟩
def dkwX12_number_3 : List UInt8 := [181, 0, 24, 132, 3, 1, 167, 255, 211, 28, 172]
abbrev dktX12_number_3 : List UInt8 := dkwX12_number_3 ++ []
def dkwX12_number_2 : List UInt8 := [153, 0, 32, 16, 10, 28, 104, 42, 182, 0, 27, 96, 16, 48, 100, 61, 42, 89, 180, 0, 24, 4, 96]
abbrev dktX12_number_2 : List UInt8 := dkwX12_number_2 ++ dktX12_number_3
def dkwX12_number_1 : List UInt8 := [183, 0, 39, 191, 3, 61, 3, 62, 29, 27, 162, 0, 46, 42, 182, 0, 27, 16, 48, 16, 57, 184, 0, 31]
abbrev dktX12_number_1 : List UInt8 := dkwX12_number_1 ++ dktX12_number_2
def dkwX12_number_0 : List UInt8 := [42, 182, 0, 27, 16, 48, 16, 57, 184, 0, 31, 154, 0, 15, 187, 0, 37, 89, 42, 180, 0, 24]
abbrev dktX12_number_0 : List UInt8 := dkwX12_number_0 ++ dktX12_number_1
theorem dksX12_number_0 : cX12_number.data.toList.drop 0 = dktX12_number_0 := by decide +kernel
theorem dksX12_number_1 : cX12_number.data.toList.drop 22 = dktX12_number_1 := dk_seg dksX12_number_0 22 rfl rfl
theorem dksX12_number_2 : cX12_number.data.toList.drop 46 = dktX12_number_2 := dk_seg dksX12_number_1 24 rfl rfl
theorem dksX12_number_3 : cX12_number.data.toList.drop 69 = dktX12_number_3 := dk_seg dksX12_number_2 23 rfl rfl
theorem dX12_number_0 : decode cX12_number 0 = .ok (.aload_n 0, 1) := dk_42 (dk_at dksX12_number_0 0 rfl rfl)
theorem dX12_number_1 : decode cX12_number 1 = .ok (.invokevirtual 27, 3) := dk_182 0 27 (dk_at dksX12_number_0 1 rfl rfl)
theorem dX12_number_4 : decode cX12_number 4 = .ok (.bipush 48, 2) := dk_16 48 (dk_at dksX12_number_0 4 rfl rfl)
theorem dX12_number_6 : decode cX12_number 6 = .ok (.bipush 57, 2) := dk_16 57 (dk_at dksX12_number_0 6 rfl rfl)
theorem dX12_number_8 : decode cX12_number 8 = .ok (.invokestatic 31, 3) := dk_184 0 31 (dk_at dksX12_number_0 8 rfl rfl)
theorem dX12_number_11 : decode cX12_number 11 = .ok (.ifCond .ne 15, 3) := dk_154 0 15 (dk_at dksX12_number_0 11 rfl rfl)
theorem dX12_number_14 : decode cX12_number 14 = .ok (.new 37, 3) := dk_187 0 37 (dk_at dksX12_number_0 14 rfl rfl)
theorem dX12_number_17 : decode cX12_number 17 = .ok (.dup, 1) := dk_89 (dk_at dksX12_number_0 17 rfl rfl)
theorem dX12_number_18 : decode cX12_number 18 = .ok (.aload_n 0, 1) := dk_42 (dk_at dksX12_number_0 18 rfl rfl)
theorem dX12_number_19 : decode cX12_number 19 = .ok (.getfield 24, 3) := dk_180 0 24 (dk_at dksX12_number_0 19 rfl rfl)
theorem dX12_number_22 : decode cX12_number 22 = .ok (.invokespecial 39, 3) := dk_183 0 39 (dk_at dksX12_number_1 0 rfl rfl)
theorem dX12_number_25 : decode cX12_number 25 = .ok (.athrow, 1) := dk_191 (dk_at dksX12_number_1 3 rfl rfl)
theorem dX12_number_26 : decode cX12_number 26 = .ok (.iconst 0, 1) := dk_3 (dk_at dksX12_number_1 4 rfl rfl)
theorem dX12_number_27 : decode cX12_number 27 = .ok (.istore_n 2, 1) := dk_61 (dk_at dksX12_number_1 5 rfl rfl)
theorem dX12_number_28 : decode cX12_number 28 = .ok (.iconst 0, 1) := dk_3 (dk_at dksX12_number_1 6 rfl rfl)
theorem dX12_number_29 : decode cX12_number 29 = .ok (.istore_n 3, 1) := dk_62 (dk_at dksX12_number_1 7 rfl rfl)
theorem dX12_number_30 : decode cX12_number 30 = .ok (.iload_n 3, 1) := dk_29 (dk_at dksX12_number_1 8 rfl rfl)
theorem dX12_number_31 : decode cX12_number 31 = .ok (.iload_n 1, 1) := dk_27 (dk_at dksX12_number_1 9 rfl rfl)
theorem dX12_number_32 : decode cX12_number 32 = .ok (.if_icmp .ge 46, 3) := dk_162 0 46 (dk_at dksX12_number_1 10 rfl rfl)
theorem dX12_number_35 : decode cX12_number 35 = .ok (.aload_n 0, 1) := dk_42 (dk_at dksX12_number_1 13 rfl rfl)
theorem dX12_number_36 : decode cX12_number 36 = .ok (.invokevirtual 27, 3) := dk_182 0 27 (dk_at dksX12_number_1 14 rfl rfl)
theorem dX12_number_39 : decode cX12_number 39 = .ok (.bipush 48, 2) := dk_16 48 (dk_at dksX12_number_1 17 rfl rfl)
theorem dX12_number_41 : decode cX12_number 41 = .ok (.bipush 57, 2) := dk_16 57 (dk_at dksX12_number_1 19 rfl rfl)
theorem dX12_number_43 : decode cX12_number 43 = .ok (.invokestatic 31, 3) := dk_184 0 31 (dk_at dksX12_number_1 21 rfl rfl)
theorem dX12_number_46 : decode cX12_number 46 = .ok (.ifCond .eq 32, 3) := dk_153 0 32 (dk_at dksX12_number_2 0 rfl rfl)
theorem dX12_number_49 : decode cX12_number 49 = .ok (.bipush 10, 2) := dk_16 10 (dk_at dksX12_number_2 3 rfl rfl)
theorem dX12_number_51 : decode cX12_number 51 = .ok (.iload_n 2, 1) := dk_28 (dk_at dksX12_number_2 5 rfl rfl)
theorem dX12_number_52 : decode cX12_number 52 = .ok (.imul, 1) := dk_104 (dk_at dksX12_number_2 6 rfl rfl)
theorem dX12_number_53 : decode cX12_number 53 = .ok (.aload_n 0, 1) := dk_42 (dk_at dksX12_number_2 7 rfl rfl)
theorem dX12_number_54 : decode cX12_number 54 = .ok (.invokevirtual 27, 3) := dk_182 0 27 (dk_at dksX12_number_2 8 rfl rfl)
theorem dX12_number_57 : decode cX12_number 57 = .ok (.iadd, 1) := dk_96 (dk_at dksX12_number_2 11 rfl rfl)
theorem dX12_number_58 : decode cX12_number 58 = .ok (.bipush 48, 2) := dk_16 48 (dk_at dksX12_number_2 12 rfl rfl)
theorem dX12_number_60 : decode cX12_number 60 = .ok (.isub, 1) := dk_100 (dk_at dksX12_number_2 14 rfl rfl)
theorem dX12_number_61 : decode cX12_number 61 = .ok (.istore_n 2, 1) := dk_61 (dk_at dksX12_number_2 15 rfl rfl)
theorem dX12_number_62 : decode cX12_number 62 = .ok (.aload_n 0, 1) := dk_42 (dk_at dksX12_number_2 16 rfl rfl)
theorem dX12_number_63 : decode cX12_number 63 = .ok (.dup, 1) := dk_89 (dk_at dksX12_number_2 17 rfl rfl)
theorem dX12_number_64 : decode cX12_number 64 = .ok (.getfield 24, 3) := dk_180 0 24 (dk_at dksX12_number_2 18 rfl rfl)
theorem dX12_number_67 : decode cX12_number 67 = .ok (.iconst 1, 1) := dk_4 (dk_at dksX12_number_2 21 rfl rfl)
theorem dX12_number_68 : decode cX12_number 68 = .ok (.iadd, 1) := dk_96 (dk_at dksX12_number_2 22 rfl rfl)
theorem dX12_number_69 : decode cX12_number 69 = .ok (.putfield 24, 3) := dk_181 0 24 (dk_at dksX12_number_3 0 rfl rfl)
theorem dX12_number_72 : decode cX12_number 72 = .ok (.iinc 3 1, 3) := dk_132 3 1 (dk_at dksX12_number_3 3 rfl rfl)
theorem dX12_number_75 : decode cX12_number 75 = .ok (.goto (-45), 3) := dk_167 255 211 (dk_at dksX12_number_3 6 rfl rfl)
theorem dX12_number_78 : decode cX12_number 78 = .ok (.iload_n 2, 1) := dk_28 (dk_at dksX12_number_3 9 rfl rfl)
theorem dX12_number_79 : decode cX12_number 79 = .ok (.ireturn, 1) := dk_172 (dk_at dksX12_number_3 10 rfl rfl)
abbrev cX12_expect : ByteArray := prog_11_method_4_code
def yX12_expect : MethodName := ⟨RX12, "expect", "(C)V"⟩
def dkwX12_expect_1 : List UInt8 := [180, 0, 24, 4, 96, 181, 0, 24, 177]
abbrev dktX12_expect_1 : List UInt8 := dkwX12_expect_1 ++ []
def dkwX12_expect_0 : List UInt8 := [42, 182, 0, 27, 27, 159, 0, 15, 187, 0, 37, 89, 42, 180, 0, 24, 183, 0, 39, 191, 42, 89]
abbrev dktX12_expect_0 : List UInt8 := dkwX12_expect_0 ++ dktX12_expect_1
theorem dksX12_expect_0 : cX12_expect.data.toList.drop 0 = dktX12_expect_0 := by decide +kernel
theorem dksX12_expect_1 : cX12_expect.data.toList.drop 22 = dktX12_expect_1 := dk_seg dksX12_expect_0 22 rfl rfl
theorem dX12_expect_0 : decode cX12_expect 0 = .ok (.aload_n 0, 1) := dk_42 (dk_at dksX12_expect_0 0 rfl rfl)
theorem dX12_expect_1 : decode cX12_expect 1 = .ok (.invokevirtual 27, 3) := dk_182 0 27 (dk_at dksX12_expect_0 1 rfl rfl)
theorem dX12_expect_4 : decode cX12_expect 4 = .ok (.iload_n 1, 1) := dk_27 (dk_at dksX12_expect_0 4 rfl rfl)
theorem dX12_expect_5 : decode cX12_expect 5 = .ok (.if_icmp .eq 15, 3) := dk_159 0 15 (dk_at dksX12_expect_0 5 rfl rfl)
theorem dX12_expect_8 : decode cX12_expect 8 = .ok (.new 37, 3) := dk_187 0 37 (dk_at dksX12_expect_0 8 rfl rfl)
theorem dX12_expect_11 : decode cX12_expect 11 = .ok (.dup, 1) := dk_89 (dk_at dksX12_expect_0 11 rfl rfl)
theorem dX12_expect_12 : decode cX12_expect 12 = .ok (.aload_n 0, 1) := dk_42 (dk_at dksX12_expect_0 12 rfl rfl)
theorem dX12_expect_13 : decode cX12_expect 13 = .ok (.getfield 24, 3) := dk_180 0 24 (dk_at dksX12_expect_0 13 rfl rfl)
theorem dX12_expect_16 : decode cX12_expect 16 = .ok (.invokespecial 39, 3) := dk_183 0 39 (dk_at dksX12_expect_0 16 rfl rfl)
theorem dX12_expect_19 : decode cX12_expect 19 = .ok (.athrow, 1) := dk_191 (dk_at dksX12_expect_0 19 rfl rfl)
theorem dX12_expect_20 : decode cX12_expect 20 = .ok (.aload_n 0, 1) := dk_42 (dk_at dksX12_expect_0 20 rfl rfl)
theorem dX12_expect_21 : decode cX12_expect 21 = .ok (.dup, 1) := dk_89 (dk_at dksX12_expect_0 21 rfl rfl)
theorem dX12_expect_22 : decode cX12_expect 22 = .ok (.getfield 24, 3) := dk_180 0 24 (dk_at dksX12_expect_1 0 rfl rfl)
theorem dX12_expect_25 : decode cX12_expect 25 = .ok (.iconst 1, 1) := dk_4 (dk_at dksX12_expect_1 3 rfl rfl)
theorem dX12_expect_26 : decode cX12_expect 26 = .ok (.iadd, 1) := dk_96 (dk_at dksX12_expect_1 4 rfl rfl)
theorem dX12_expect_27 : decode cX12_expect 27 = .ok (.putfield 24, 3) := dk_181 0 24 (dk_at dksX12_expect_1 5 rfl rfl)
theorem dX12_expect_30 : decode cX12_expect 30 = .ok (.return_, 1) := dk_177 (dk_at dksX12_expect_1 8 rfl rfl)
theorem q141 : (Jvm.Cond.initialized "CueStack$Parser") ∈ lw_all := lw_g (lw_at lw_m1 58 rfl) rfl
theorem q311 : (Jvm.Cond.selects "CueStack$Parser" ({ cls := "java/lang/Object", name := "getClass", desc := "()Ljava/lang/Class;" } : Jvm.MethodName) ({ cls := "java/lang/Object", name := "getClass", desc := "()Ljava/lang/Class;" } : Jvm.MethodName)) ∈ lw_all := lw_g (lw_at lw_m1 228 rfl) rfl
theorem q471 : (Jvm.Cond.selects "CueStack$Parser" ({ cls := "java/lang/Object", name := "hashCode", desc := "()I" } : Jvm.MethodName) ({ cls := "java/lang/Object", name := "hashCode", desc := "()I" } : Jvm.MethodName)) ∈ lw_all := lw_g (lw_at lw_m2 148 rfl) rfl
theorem q857 : (Jvm.Cond.selects "CueStack$Parser" ({ cls := "java/lang/Object", name := "equals", desc := "(Ljava/lang/Object;)Z" } : Jvm.MethodName) ({ cls := "java/lang/Object", name := "equals", desc := "(Ljava/lang/Object;)Z" } : Jvm.MethodName)) ∈ lw_all := lw_g (lw_at lw_m4 54 rfl) rfl
theorem q2495 : (Jvm.Cond.instantiable "CueStack$Parser" (4 : Nat)) ∈ lw_all := lw_g (lw_at lw_m11 12 rfl) rfl
theorem q2497 : (Jvm.Cond.instanceMethod ({ cls := "CueStack$Parser", name := "<init>", desc := "([CI)V" } : Jvm.MethodName)) ∈ lw_all := lw_g (lw_at lw_m11 14 rfl) rfl
theorem q2498 : (Jvm.Cond.code ({ cls := "CueStack$Parser", name := "<init>", desc := "([CI)V" } : Jvm.MethodName) prog_11_method_1_code (3 : Nat) (Option.none : Option Jvm.ClassFile.FieldType)) ∈ lw_all := lw_g (lw_at lw_m11 15 rfl) rfl
theorem q2499 : (Jvm.Cond.methodLink "CueStack$Parser" (1 : Nat) ({ cls := "java/lang/Object", name := "<init>", desc := "()V" } : Jvm.MethodName)) ∈ lw_all := lw_g (lw_at lw_m11 16 rfl) rfl
theorem q2500 : (Jvm.Cond.classLink "CueStack$Parser" (7 : Nat) "java/util/ArrayList") ∈ lw_all := lw_g (lw_at lw_m11 17 rfl) rfl
theorem q2501 : (Jvm.Cond.methodLink "CueStack$Parser" (9 : Nat) ({ cls := "java/util/ArrayList", name := "<init>", desc := "()V" } : Jvm.MethodName)) ∈ lw_all := lw_g (lw_at lw_m11 18 rfl) rfl
theorem q2502 : (Jvm.Cond.fieldLink "CueStack$Parser" (16 : Nat) "CueStack$Parser" "text" "[C") ∈ lw_all := lw_g (lw_at lw_m11 19 rfl) rfl
theorem q2503 : (Jvm.Cond.fieldLink "CueStack$Parser" (20 : Nat) "CueStack$Parser" "length" "I") ∈ lw_all := lw_g (lw_at lw_m11 20 rfl) rfl
theorem q2504 : (Jvm.Cond.fieldLink "CueStack$Parser" (10 : Nat) "CueStack$Parser" "entries" "Ljava/util/ArrayList;") ∈ lw_all := lw_g (lw_at lw_m11 21 rfl) rfl
theorem q2506 : (Jvm.Cond.fieldLink "CueStack$Parser" (24 : Nat) "CueStack$Parser" "at" "I") ∈ lw_all := lw_g (lw_at lw_m11 23 rfl) rfl
theorem q2507 : (Jvm.Cond.laysFinal "CueStack$Parser" "CueStack$Parser" "text" "[C") ∈ lw_all := lw_g (lw_at lw_m11 24 rfl) rfl
theorem q2508 : (Jvm.Cond.soleField "CueStack$Parser" "text") ∈ lw_all := lw_g (lw_at lw_m11 25 rfl) rfl
theorem q2509 : (Jvm.Cond.laysFinal "CueStack$Parser" "CueStack$Parser" "length" "I") ∈ lw_all := lw_g (lw_at lw_m11 26 rfl) rfl
theorem q2510 : (Jvm.Cond.soleField "CueStack$Parser" "length") ∈ lw_all := lw_g (lw_at lw_m11 27 rfl) rfl
theorem q2511 : (Jvm.Cond.laysFinal "CueStack$Parser" "CueStack$Parser" "entries" "Ljava/util/ArrayList;") ∈ lw_all := lw_g (lw_at lw_m11 28 rfl) rfl
theorem q2512 : (Jvm.Cond.soleField "CueStack$Parser" "entries") ∈ lw_all := lw_g (lw_at lw_m11 29 rfl) rfl
theorem q2513 : (Jvm.Cond.lays "CueStack$Parser" "CueStack$Parser" "at" "I") ∈ lw_all := lw_g (lw_at lw_m11 30 rfl) rfl
theorem q2514 : (Jvm.Cond.soleField "CueStack$Parser" "at") ∈ lw_all := lw_g (lw_at lw_m11 31 rfl) rfl
theorem q2515 : (Jvm.Cond.superclass "CueStack$Parser" "java/lang/Object") ∈ lw_all := lw_g (lw_at lw_m11 32 rfl) rfl
theorem q2517 : (Jvm.Cond.instanceMethod ({ cls := "CueStack$Parser", name := "all", desc := "()V" } : Jvm.MethodName)) ∈ lw_all := lw_g (lw_at lw_m11 34 rfl) rfl
theorem q2518 : (Jvm.Cond.selects "CueStack$Parser" ({ cls := "CueStack$Parser", name := "all", desc := "()V" } : Jvm.MethodName) ({ cls := "CueStack$Parser", name := "all", desc := "()V" } : Jvm.MethodName)) ∈ lw_all := lw_g (lw_at lw_m11 35 rfl) rfl
theorem q2519 : (Jvm.Cond.code ({ cls := "CueStack$Parser", name := "all", desc := "()V" } : Jvm.MethodName) prog_11_method_6_code (1 : Nat) (Option.none : Option Jvm.ClassFile.FieldType)) ∈ lw_all := lw_g (lw_at lw_m11 36 rfl) rfl
theorem q2520 : (Jvm.Cond.methodLink "CueStack$Parser" (71 : Nat) ({ cls := "java/util/ArrayList", name := "size", desc := "()I" } : Jvm.MethodName)) ∈ lw_all := lw_g (lw_at lw_m11 37 rfl) rfl
theorem q2521 : (Jvm.Cond.methodLink "CueStack$Parser" (75 : Nat) ({ cls := "CueStack$Parser", name := "entry", desc := "()V" } : Jvm.MethodName)) ∈ lw_all := lw_g (lw_at lw_m11 38 rfl) rfl
theorem q2522 : (Jvm.Cond.privateMethod ({ cls := "CueStack$Parser", name := "entry", desc := "()V" } : Jvm.MethodName)) ∈ lw_tbl := lw_at lw_m11 39 rfl
theorem q2523 : (Jvm.Cond.instanceMethod ({ cls := "CueStack$Parser", name := "entry", desc := "()V" } : Jvm.MethodName)) ∈ lw_all := lw_g (lw_at lw_m11 40 rfl) rfl
theorem q2524 : (Jvm.Cond.code ({ cls := "CueStack$Parser", name := "entry", desc := "()V" } : Jvm.MethodName) prog_11_method_5_code (2 : Nat) (Option.none : Option Jvm.ClassFile.FieldType)) ∈ lw_all := lw_g (lw_at lw_m11 41 rfl) rfl
theorem q2525 : (Jvm.Cond.classLink "CueStack$Parser" (42 : Nat) "CueStack$Entry") ∈ lw_all := lw_g (lw_at lw_m11 42 rfl) rfl
theorem q2527 : (Jvm.Cond.methodLink "CueStack$Parser" (27 : Nat) ({ cls := "CueStack$Parser", name := "peek", desc := "()C" } : Jvm.MethodName)) ∈ lw_all := lw_g (lw_at lw_m11 44 rfl) rfl
theorem q2528 : (Jvm.Cond.privateMethod ({ cls := "CueStack$Parser", name := "peek", desc := "()C" } : Jvm.MethodName)) ∈ lw_tbl := lw_at lw_m11 45 rfl
theorem q2529 : (Jvm.Cond.instanceMethod ({ cls := "CueStack$Parser", name := "peek", desc := "()C" } : Jvm.MethodName)) ∈ lw_all := lw_g (lw_at lw_m11 46 rfl) rfl
theorem q2530 : (Jvm.Cond.code ({ cls := "CueStack$Parser", name := "peek", desc := "()C" } : Jvm.MethodName) prog_11_method_2_code (1 : Nat) (Option.some Jvm.ClassFile.FieldType.char)) ∈ lw_all := lw_g (lw_at lw_m11 47 rfl) rfl
theorem q2531 : (Jvm.Cond.methodLink "CueStack$Parser" (44 : Nat) ({ cls := "CueStack$Entry", name := "<init>", desc := "(C)V" } : Jvm.MethodName)) ∈ lw_all := lw_g (lw_at lw_m11 48 rfl) rfl
theorem q2536 : (Jvm.Cond.fieldLinkNest "CueStack$Parser" (47 : Nat) "CueStack$Entry" "sign" "C" "CueStack") ∈ lw_tbl := lw_at lw_m11 53 rfl
theorem q2538 : (Jvm.Cond.fieldLinkNest "CueStack$Parser" (55 : Nat) "CueStack$Entry" "first" "I" "CueStack") ∈ lw_tbl := lw_at lw_m11 55 rfl
theorem q2540 : (Jvm.Cond.fieldLinkNest "CueStack$Parser" (61 : Nat) "CueStack$Entry" "channel" "I" "CueStack") ∈ lw_tbl := lw_at lw_m11 57 rfl
theorem q2542 : (Jvm.Cond.fieldLinkNest "CueStack$Parser" (64 : Nat) "CueStack$Entry" "level" "I" "CueStack") ∈ lw_tbl := lw_at lw_m11 59 rfl
theorem q2552 : (Jvm.Cond.methodLink "CueStack$Parser" (51 : Nat) ({ cls := "CueStack$Parser", name := "number", desc := "(I)I" } : Jvm.MethodName)) ∈ lw_all := lw_g (lw_at lw_m11 69 rfl) rfl
theorem q2553 : (Jvm.Cond.privateMethod ({ cls := "CueStack$Parser", name := "number", desc := "(I)I" } : Jvm.MethodName)) ∈ lw_tbl := lw_at lw_m11 70 rfl
theorem q2554 : (Jvm.Cond.instanceMethod ({ cls := "CueStack$Parser", name := "number", desc := "(I)I" } : Jvm.MethodName)) ∈ lw_all := lw_g (lw_at lw_m11 71 rfl) rfl
theorem q2555 : (Jvm.Cond.code ({ cls := "CueStack$Parser", name := "number", desc := "(I)I" } : Jvm.MethodName) prog_11_method_3_code (4 : Nat) (Option.some Jvm.ClassFile.FieldType.int)) ∈ lw_all := lw_g (lw_at lw_m11 72 rfl) rfl
theorem q2556 : (Jvm.Cond.methodLinkNest "CueStack$Parser" (31 : Nat) ({ cls := "CueStack", name := "isIn", desc := "(III)Z" } : Jvm.MethodName) "CueStack") ∈ lw_tbl := lw_at lw_m11 73 rfl
theorem q2557 : (Jvm.Cond.classLink "CueStack$Parser" (37 : Nat) "CueStack$BadText") ∈ lw_all := lw_g (lw_at lw_m11 74 rfl) rfl
theorem q2566 : (Jvm.Cond.methodLink "CueStack$Parser" (39 : Nat) ({ cls := "CueStack$BadText", name := "<init>", desc := "(I)V" } : Jvm.MethodName)) ∈ lw_all := lw_g (lw_at lw_m11 83 rfl) rfl
theorem q2576 : (Jvm.Cond.methodLink "CueStack$Parser" (58 : Nat) ({ cls := "CueStack$Parser", name := "expect", desc := "(C)V" } : Jvm.MethodName)) ∈ lw_all := lw_g (lw_at lw_m11 93 rfl) rfl
theorem q2577 : (Jvm.Cond.privateMethod ({ cls := "CueStack$Parser", name := "expect", desc := "(C)V" } : Jvm.MethodName)) ∈ lw_tbl := lw_at lw_m11 94 rfl
theorem q2578 : (Jvm.Cond.instanceMethod ({ cls := "CueStack$Parser", name := "expect", desc := "(C)V" } : Jvm.MethodName)) ∈ lw_all := lw_g (lw_at lw_m11 95 rfl) rfl
theorem q2579 : (Jvm.Cond.code ({ cls := "CueStack$Parser", name := "expect", desc := "(C)V" } : Jvm.MethodName) prog_11_method_4_code (2 : Nat) (Option.none : Option Jvm.ClassFile.FieldType)) ∈ lw_all := lw_g (lw_at lw_m11 96 rfl) rfl
theorem q2580 : (Jvm.Cond.methodLink "CueStack$Parser" (67 : Nat) ({ cls := "java/util/ArrayList", name := "add", desc := "(Ljava/lang/Object;)Z" } : Jvm.MethodName)) ∈ lw_all := lw_g (lw_at lw_m11 97 rfl) rfl
theorem q3146 : (Jvm.Cond.castable "CueStack$Parser" "java/lang/Object") ∈ lw_tbl := lw_at lw_m13 183 rfl
theorem in_X12 : ∀ w ∈ wsX120, w ∈ lw_all := lw_in wsX120 [2507, 2509, 2511, 2513] (by decide +kernel) (by decide +kernel)

/-! CueStack$Entry -/
set_option maxRecDepth 100000
def RX13 : String := "CueStack$Entry"
def TX13 : u_T := fun k => match k with
  | 0 => ("CueStack$Entry", "sign", "C", true)
  | 1 => ("CueStack$Entry", "first", "I", false)
  | 2 => ("CueStack$Entry", "channel", "I", false)
  | _ => ("CueStack$Entry", "level", "I", false)
def tyX13 : Nat → FieldType := fun k => match k with
  | 0 => .char
  | 1 => .int
  | 2 => .int
  | _ => .int
abbrev wsX130 : List Cond := u_ws RX13 TX13 4
theorem nmX13 : ∀ a, a < 4 → ∀ b, b < 4 → a ≠ b → (TX13 a).2.1 ≠ (TX13 b).2.1 := by decide +kernel
theorem tyX13_ok : ∀ k, k < 4 → parseFieldDescriptor (TX13 k).2.2.1 = some (tyX13 k) := by decide +kernel
abbrev cX13_init : ByteArray := prog_5_method_1_code
def yX13_init : MethodName := ⟨RX13, "<init>", "(C)V"⟩
def dkwX13_init_0 : List UInt8 := [42, 183, 0, 3, 42, 27, 181, 0, 9, 177]
abbrev dktX13_init_0 : List UInt8 := dkwX13_init_0 ++ []
theorem dksX13_init_0 : cX13_init.data.toList.drop 0 = dktX13_init_0 := by decide +kernel
theorem dX13_init_0 : decode cX13_init 0 = .ok (.aload_n 0, 1) := dk_42 (dk_at dksX13_init_0 0 rfl rfl)
theorem dX13_init_1 : decode cX13_init 1 = .ok (.invokespecial 3, 3) := dk_183 0 3 (dk_at dksX13_init_0 1 rfl rfl)
theorem dX13_init_4 : decode cX13_init 4 = .ok (.aload_n 0, 1) := dk_42 (dk_at dksX13_init_0 4 rfl rfl)
theorem dX13_init_5 : decode cX13_init 5 = .ok (.iload_n 1, 1) := dk_27 (dk_at dksX13_init_0 5 rfl rfl)
theorem dX13_init_6 : decode cX13_init 6 = .ok (.putfield 9, 3) := dk_181 0 9 (dk_at dksX13_init_0 6 rfl rfl)
theorem dX13_init_9 : decode cX13_init 9 = .ok (.return_, 1) := dk_177 (dk_at dksX13_init_0 9 rfl rfl)
abbrev cX13_apply : ByteArray := prog_5_method_2_code
def yX13_apply : MethodName := ⟨RX13, "apply", "(LCueStack$Show;)V"⟩
def dkwX13_apply_10 : List UInt8 := [184, 0, 43, 43, 42, 180, 0, 15, 182, 0, 66, 87, 177]
abbrev dktX13_apply_10 : List UInt8 := dkwX13_apply_10 ++ []
def dkwX13_apply_9 : List UInt8 := [182, 0, 63, 87, 167, 0, 30, 42, 180, 0, 15, 17, 23, 112, 163, 0, 7, 4, 167, 0, 4, 3]
abbrev dktX13_apply_9 : List UInt8 := dkwX13_apply_9 ++ dktX13_apply_10
def dkwX13_apply_8 : List UInt8 := [3, 182, 0, 51, 167, 0, 54, 43, 182, 0, 59, 87, 167, 0, 46, 43, 43, 42, 180, 0, 15, 182, 0, 29]
abbrev dktX13_apply_8 : List UInt8 := dkwX13_apply_8 ++ dktX13_apply_9
def dkwX13_apply_7 : List UInt8 := [167, 0, 4, 3, 184, 0, 36, 43, 42, 180, 0, 15, 42, 180, 0, 33, 187, 0, 55, 89, 3, 183, 0, 57]
abbrev dktX13_apply_7 : List UInt8 := dkwX13_apply_7 ++ dktX13_apply_8
def dkwX13_apply_6 : List UInt8 := [167, 0, 104, 43, 42, 180, 0, 15, 182, 0, 29, 62, 42, 180, 0, 33, 16, 12, 162, 0, 7, 4]
abbrev dktX13_apply_6 : List UInt8 := dkwX13_apply_6 ++ dktX13_apply_7
def dkwX13_apply_5 : List UInt8 := [180, 0, 15, 42, 180, 0, 33, 187, 0, 46, 89, 3, 42, 180, 0, 40, 183, 0, 48, 3, 182, 0, 51]
abbrev dktX13_apply_5 : List UInt8 := dkwX13_apply_5 ++ dktX13_apply_6
def dkwX13_apply_4 : List UInt8 := [184, 0, 36, 42, 180, 0, 40, 16, 100, 163, 0, 7, 4, 167, 0, 4, 3, 184, 0, 43, 43, 42]
abbrev dktX13_apply_4 : List UInt8 := dkwX13_apply_4 ++ dktX13_apply_5
def dkwX13_apply_3 : List UInt8 := [42, 180, 0, 15, 182, 0, 29, 61, 42, 180, 0, 33, 16, 12, 162, 0, 7, 4, 167, 0, 4, 3]
abbrev dktX13_apply_3 : List UInt8 := dkwX13_apply_3 ++ dktX13_apply_4
def dkwX13_apply_2 : List UInt8 := [43, 42, 180, 0, 15, 182, 0, 19, 167, 0, 187, 43, 42, 180, 0, 15, 3, 182, 0, 25, 167, 0, 175, 43]
abbrev dktX13_apply_2 : List UInt8 := dkwX13_apply_2 ++ dktX13_apply_3
def dkwX13_apply_1 : List UInt8 := [171, 0, 0, 0, 0, 0, 0, 228, 0, 0, 0, 6, 0, 0, 0, 99, 0, 0, 0, 60, 0, 0, 0, 103, 0, 0, 0, 204, 0, 0, 0, 106, 0, 0, 0, 212, 0, 0, 0, 114, 0, 0, 0, 154, 0, 0, 0, 115, 0, 0, 0, 83, 0, 0, 0, 120, 0, 0, 0, 71]
abbrev dktX13_apply_1 : List UInt8 := dkwX13_apply_1 ++ dktX13_apply_2
def dkwX13_apply_0 : List UInt8 := [42, 180, 0, 9]
abbrev dktX13_apply_0 : List UInt8 := dkwX13_apply_0 ++ dktX13_apply_1
theorem dksX13_apply_0 : cX13_apply.data.toList.drop 0 = dktX13_apply_0 := by decide +kernel
theorem dksX13_apply_1 : cX13_apply.data.toList.drop 4 = dktX13_apply_1 := dk_seg dksX13_apply_0 4 rfl rfl
theorem dksX13_apply_2 : cX13_apply.data.toList.drop 64 = dktX13_apply_2 := dk_seg dksX13_apply_1 60 rfl rfl
theorem dksX13_apply_3 : cX13_apply.data.toList.drop 88 = dktX13_apply_3 := dk_seg dksX13_apply_2 24 rfl rfl
theorem dksX13_apply_4 : cX13_apply.data.toList.drop 110 = dktX13_apply_4 := dk_seg dksX13_apply_3 22 rfl rfl
theorem dksX13_apply_5 : cX13_apply.data.toList.drop 132 = dktX13_apply_5 := dk_seg dksX13_apply_4 22 rfl rfl
theorem dksX13_apply_6 : cX13_apply.data.toList.drop 155 = dktX13_apply_6 := dk_seg dksX13_apply_5 23 rfl rfl
theorem dksX13_apply_7 : cX13_apply.data.toList.drop 177 = dktX13_apply_7 := dk_seg dksX13_apply_6 22 rfl rfl
theorem dksX13_apply_8 : cX13_apply.data.toList.drop 201 = dktX13_apply_8 := dk_seg dksX13_apply_7 24 rfl rfl
theorem dksX13_apply_9 : cX13_apply.data.toList.drop 225 = dktX13_apply_9 := dk_seg dksX13_apply_8 24 rfl rfl
theorem dksX13_apply_10 : cX13_apply.data.toList.drop 247 = dktX13_apply_10 := dk_seg dksX13_apply_9 22 rfl rfl
theorem dX13_apply_0 : decode cX13_apply 0 = .ok (.aload_n 0, 1) := dk_42 (dk_at dksX13_apply_0 0 rfl rfl)
theorem dX13_apply_1 : decode cX13_apply 1 = .ok (.getfield 9, 3) := dk_180 0 9 (dk_at dksX13_apply_0 1 rfl rfl)
theorem dX13_apply_4 : decode cX13_apply 4 = .ok (.lookupswitch 228 #[(99, 60), (103, 204), (106, 212), (114, 154), (115, 83), (120, 71)], 60) := by decide +kernel
theorem dX13_apply_64 : decode cX13_apply 64 = .ok (.aload_n 1, 1) := dk_43 (dk_at dksX13_apply_2 0 rfl rfl)
theorem dX13_apply_65 : decode cX13_apply 65 = .ok (.aload_n 0, 1) := dk_42 (dk_at dksX13_apply_2 1 rfl rfl)
theorem dX13_apply_66 : decode cX13_apply 66 = .ok (.getfield 15, 3) := dk_180 0 15 (dk_at dksX13_apply_2 2 rfl rfl)
theorem dX13_apply_69 : decode cX13_apply 69 = .ok (.invokevirtual 19, 3) := dk_182 0 19 (dk_at dksX13_apply_2 5 rfl rfl)
theorem dX13_apply_72 : decode cX13_apply 72 = .ok (.goto 187, 3) := dk_167 0 187 (dk_at dksX13_apply_2 8 rfl rfl)
theorem dX13_apply_75 : decode cX13_apply 75 = .ok (.aload_n 1, 1) := dk_43 (dk_at dksX13_apply_2 11 rfl rfl)
theorem dX13_apply_76 : decode cX13_apply 76 = .ok (.aload_n 0, 1) := dk_42 (dk_at dksX13_apply_2 12 rfl rfl)
theorem dX13_apply_77 : decode cX13_apply 77 = .ok (.getfield 15, 3) := dk_180 0 15 (dk_at dksX13_apply_2 13 rfl rfl)
theorem dX13_apply_80 : decode cX13_apply 80 = .ok (.iconst 0, 1) := dk_3 (dk_at dksX13_apply_2 16 rfl rfl)
theorem dX13_apply_81 : decode cX13_apply 81 = .ok (.invokevirtual 25, 3) := dk_182 0 25 (dk_at dksX13_apply_2 17 rfl rfl)
theorem dX13_apply_84 : decode cX13_apply 84 = .ok (.goto 175, 3) := dk_167 0 175 (dk_at dksX13_apply_2 20 rfl rfl)
theorem dX13_apply_87 : decode cX13_apply 87 = .ok (.aload_n 1, 1) := dk_43 (dk_at dksX13_apply_2 23 rfl rfl)
theorem dX13_apply_88 : decode cX13_apply 88 = .ok (.aload_n 0, 1) := dk_42 (dk_at dksX13_apply_3 0 rfl rfl)
theorem dX13_apply_89 : decode cX13_apply 89 = .ok (.getfield 15, 3) := dk_180 0 15 (dk_at dksX13_apply_3 1 rfl rfl)
theorem dX13_apply_92 : decode cX13_apply 92 = .ok (.invokevirtual 29, 3) := dk_182 0 29 (dk_at dksX13_apply_3 4 rfl rfl)
theorem dX13_apply_95 : decode cX13_apply 95 = .ok (.istore_n 2, 1) := dk_61 (dk_at dksX13_apply_3 7 rfl rfl)
theorem dX13_apply_96 : decode cX13_apply 96 = .ok (.aload_n 0, 1) := dk_42 (dk_at dksX13_apply_3 8 rfl rfl)
theorem dX13_apply_97 : decode cX13_apply 97 = .ok (.getfield 33, 3) := dk_180 0 33 (dk_at dksX13_apply_3 9 rfl rfl)
theorem dX13_apply_100 : decode cX13_apply 100 = .ok (.bipush 12, 2) := dk_16 12 (dk_at dksX13_apply_3 12 rfl rfl)
theorem dX13_apply_102 : decode cX13_apply 102 = .ok (.if_icmp .ge 7, 3) := dk_162 0 7 (dk_at dksX13_apply_3 14 rfl rfl)
theorem dX13_apply_105 : decode cX13_apply 105 = .ok (.iconst 1, 1) := dk_4 (dk_at dksX13_apply_3 17 rfl rfl)
theorem dX13_apply_106 : decode cX13_apply 106 = .ok (.goto 4, 3) := dk_167 0 4 (dk_at dksX13_apply_3 18 rfl rfl)
theorem dX13_apply_109 : decode cX13_apply 109 = .ok (.iconst 0, 1) := dk_3 (dk_at dksX13_apply_3 21 rfl rfl)
theorem dX13_apply_110 : decode cX13_apply 110 = .ok (.invokestatic 36, 3) := dk_184 0 36 (dk_at dksX13_apply_4 0 rfl rfl)
theorem dX13_apply_113 : decode cX13_apply 113 = .ok (.aload_n 0, 1) := dk_42 (dk_at dksX13_apply_4 3 rfl rfl)
theorem dX13_apply_114 : decode cX13_apply 114 = .ok (.getfield 40, 3) := dk_180 0 40 (dk_at dksX13_apply_4 4 rfl rfl)
theorem dX13_apply_117 : decode cX13_apply 117 = .ok (.bipush 100, 2) := dk_16 100 (dk_at dksX13_apply_4 7 rfl rfl)
theorem dX13_apply_119 : decode cX13_apply 119 = .ok (.if_icmp .gt 7, 3) := dk_163 0 7 (dk_at dksX13_apply_4 9 rfl rfl)
theorem dX13_apply_122 : decode cX13_apply 122 = .ok (.iconst 1, 1) := dk_4 (dk_at dksX13_apply_4 12 rfl rfl)
theorem dX13_apply_123 : decode cX13_apply 123 = .ok (.goto 4, 3) := dk_167 0 4 (dk_at dksX13_apply_4 13 rfl rfl)
theorem dX13_apply_126 : decode cX13_apply 126 = .ok (.iconst 0, 1) := dk_3 (dk_at dksX13_apply_4 16 rfl rfl)
theorem dX13_apply_127 : decode cX13_apply 127 = .ok (.invokestatic 43, 3) := dk_184 0 43 (dk_at dksX13_apply_4 17 rfl rfl)
theorem dX13_apply_130 : decode cX13_apply 130 = .ok (.aload_n 1, 1) := dk_43 (dk_at dksX13_apply_4 20 rfl rfl)
theorem dX13_apply_131 : decode cX13_apply 131 = .ok (.aload_n 0, 1) := dk_42 (dk_at dksX13_apply_4 21 rfl rfl)
theorem dX13_apply_132 : decode cX13_apply 132 = .ok (.getfield 15, 3) := dk_180 0 15 (dk_at dksX13_apply_5 0 rfl rfl)
theorem dX13_apply_135 : decode cX13_apply 135 = .ok (.aload_n 0, 1) := dk_42 (dk_at dksX13_apply_5 3 rfl rfl)
theorem dX13_apply_136 : decode cX13_apply 136 = .ok (.getfield 33, 3) := dk_180 0 33 (dk_at dksX13_apply_5 4 rfl rfl)
theorem dX13_apply_139 : decode cX13_apply 139 = .ok (.new 46, 3) := dk_187 0 46 (dk_at dksX13_apply_5 7 rfl rfl)
theorem dX13_apply_142 : decode cX13_apply 142 = .ok (.dup, 1) := dk_89 (dk_at dksX13_apply_5 10 rfl rfl)
theorem dX13_apply_143 : decode cX13_apply 143 = .ok (.iconst 0, 1) := dk_3 (dk_at dksX13_apply_5 11 rfl rfl)
theorem dX13_apply_144 : decode cX13_apply 144 = .ok (.aload_n 0, 1) := dk_42 (dk_at dksX13_apply_5 12 rfl rfl)
theorem dX13_apply_145 : decode cX13_apply 145 = .ok (.getfield 40, 3) := dk_180 0 40 (dk_at dksX13_apply_5 13 rfl rfl)
theorem dX13_apply_148 : decode cX13_apply 148 = .ok (.invokespecial 48, 3) := dk_183 0 48 (dk_at dksX13_apply_5 16 rfl rfl)
theorem dX13_apply_151 : decode cX13_apply 151 = .ok (.iconst 0, 1) := dk_3 (dk_at dksX13_apply_5 19 rfl rfl)
theorem dX13_apply_152 : decode cX13_apply 152 = .ok (.invokevirtual 51, 3) := dk_182 0 51 (dk_at dksX13_apply_5 20 rfl rfl)
theorem dX13_apply_155 : decode cX13_apply 155 = .ok (.goto 104, 3) := dk_167 0 104 (dk_at dksX13_apply_6 0 rfl rfl)
theorem dX13_apply_158 : decode cX13_apply 158 = .ok (.aload_n 1, 1) := dk_43 (dk_at dksX13_apply_6 3 rfl rfl)
theorem dX13_apply_159 : decode cX13_apply 159 = .ok (.aload_n 0, 1) := dk_42 (dk_at dksX13_apply_6 4 rfl rfl)
theorem dX13_apply_160 : decode cX13_apply 160 = .ok (.getfield 15, 3) := dk_180 0 15 (dk_at dksX13_apply_6 5 rfl rfl)
theorem dX13_apply_163 : decode cX13_apply 163 = .ok (.invokevirtual 29, 3) := dk_182 0 29 (dk_at dksX13_apply_6 8 rfl rfl)
theorem dX13_apply_166 : decode cX13_apply 166 = .ok (.istore_n 3, 1) := dk_62 (dk_at dksX13_apply_6 11 rfl rfl)
theorem dX13_apply_167 : decode cX13_apply 167 = .ok (.aload_n 0, 1) := dk_42 (dk_at dksX13_apply_6 12 rfl rfl)
theorem dX13_apply_168 : decode cX13_apply 168 = .ok (.getfield 33, 3) := dk_180 0 33 (dk_at dksX13_apply_6 13 rfl rfl)
theorem dX13_apply_171 : decode cX13_apply 171 = .ok (.bipush 12, 2) := dk_16 12 (dk_at dksX13_apply_6 16 rfl rfl)
theorem dX13_apply_173 : decode cX13_apply 173 = .ok (.if_icmp .ge 7, 3) := dk_162 0 7 (dk_at dksX13_apply_6 18 rfl rfl)
theorem dX13_apply_176 : decode cX13_apply 176 = .ok (.iconst 1, 1) := dk_4 (dk_at dksX13_apply_6 21 rfl rfl)
theorem dX13_apply_177 : decode cX13_apply 177 = .ok (.goto 4, 3) := dk_167 0 4 (dk_at dksX13_apply_7 0 rfl rfl)
theorem dX13_apply_180 : decode cX13_apply 180 = .ok (.iconst 0, 1) := dk_3 (dk_at dksX13_apply_7 3 rfl rfl)
theorem dX13_apply_181 : decode cX13_apply 181 = .ok (.invokestatic 36, 3) := dk_184 0 36 (dk_at dksX13_apply_7 4 rfl rfl)
theorem dX13_apply_184 : decode cX13_apply 184 = .ok (.aload_n 1, 1) := dk_43 (dk_at dksX13_apply_7 7 rfl rfl)
theorem dX13_apply_185 : decode cX13_apply 185 = .ok (.aload_n 0, 1) := dk_42 (dk_at dksX13_apply_7 8 rfl rfl)
theorem dX13_apply_186 : decode cX13_apply 186 = .ok (.getfield 15, 3) := dk_180 0 15 (dk_at dksX13_apply_7 9 rfl rfl)
theorem dX13_apply_189 : decode cX13_apply 189 = .ok (.aload_n 0, 1) := dk_42 (dk_at dksX13_apply_7 12 rfl rfl)
theorem dX13_apply_190 : decode cX13_apply 190 = .ok (.getfield 33, 3) := dk_180 0 33 (dk_at dksX13_apply_7 13 rfl rfl)
theorem dX13_apply_193 : decode cX13_apply 193 = .ok (.new 55, 3) := dk_187 0 55 (dk_at dksX13_apply_7 16 rfl rfl)
theorem dX13_apply_196 : decode cX13_apply 196 = .ok (.dup, 1) := dk_89 (dk_at dksX13_apply_7 19 rfl rfl)
theorem dX13_apply_197 : decode cX13_apply 197 = .ok (.iconst 0, 1) := dk_3 (dk_at dksX13_apply_7 20 rfl rfl)
theorem dX13_apply_198 : decode cX13_apply 198 = .ok (.invokespecial 57, 3) := dk_183 0 57 (dk_at dksX13_apply_7 21 rfl rfl)
theorem dX13_apply_201 : decode cX13_apply 201 = .ok (.iconst 0, 1) := dk_3 (dk_at dksX13_apply_8 0 rfl rfl)
theorem dX13_apply_202 : decode cX13_apply 202 = .ok (.invokevirtual 51, 3) := dk_182 0 51 (dk_at dksX13_apply_8 1 rfl rfl)
theorem dX13_apply_205 : decode cX13_apply 205 = .ok (.goto 54, 3) := dk_167 0 54 (dk_at dksX13_apply_8 4 rfl rfl)
theorem dX13_apply_208 : decode cX13_apply 208 = .ok (.aload_n 1, 1) := dk_43 (dk_at dksX13_apply_8 7 rfl rfl)
theorem dX13_apply_209 : decode cX13_apply 209 = .ok (.invokevirtual 59, 3) := dk_182 0 59 (dk_at dksX13_apply_8 8 rfl rfl)
theorem dX13_apply_212 : decode cX13_apply 212 = .ok (.pop, 1) := dk_87 (dk_at dksX13_apply_8 11 rfl rfl)
theorem dX13_apply_213 : decode cX13_apply 213 = .ok (.goto 46, 3) := dk_167 0 46 (dk_at dksX13_apply_8 12 rfl rfl)
theorem dX13_apply_216 : decode cX13_apply 216 = .ok (.aload_n 1, 1) := dk_43 (dk_at dksX13_apply_8 15 rfl rfl)
theorem dX13_apply_217 : decode cX13_apply 217 = .ok (.aload_n 1, 1) := dk_43 (dk_at dksX13_apply_8 16 rfl rfl)
theorem dX13_apply_218 : decode cX13_apply 218 = .ok (.aload_n 0, 1) := dk_42 (dk_at dksX13_apply_8 17 rfl rfl)
theorem dX13_apply_219 : decode cX13_apply 219 = .ok (.getfield 15, 3) := dk_180 0 15 (dk_at dksX13_apply_8 18 rfl rfl)
theorem dX13_apply_222 : decode cX13_apply 222 = .ok (.invokevirtual 29, 3) := dk_182 0 29 (dk_at dksX13_apply_8 21 rfl rfl)
theorem dX13_apply_225 : decode cX13_apply 225 = .ok (.invokevirtual 63, 3) := dk_182 0 63 (dk_at dksX13_apply_9 0 rfl rfl)
theorem dX13_apply_228 : decode cX13_apply 228 = .ok (.pop, 1) := dk_87 (dk_at dksX13_apply_9 3 rfl rfl)
theorem dX13_apply_229 : decode cX13_apply 229 = .ok (.goto 30, 3) := dk_167 0 30 (dk_at dksX13_apply_9 4 rfl rfl)
theorem dX13_apply_232 : decode cX13_apply 232 = .ok (.aload_n 0, 1) := dk_42 (dk_at dksX13_apply_9 7 rfl rfl)
theorem dX13_apply_233 : decode cX13_apply 233 = .ok (.getfield 15, 3) := dk_180 0 15 (dk_at dksX13_apply_9 8 rfl rfl)
theorem dX13_apply_236 : decode cX13_apply 236 = .ok (.sipush 6000, 3) := dk_17 23 112 (dk_at dksX13_apply_9 11 rfl rfl)
theorem dX13_apply_239 : decode cX13_apply 239 = .ok (.if_icmp .gt 7, 3) := dk_163 0 7 (dk_at dksX13_apply_9 14 rfl rfl)
theorem dX13_apply_242 : decode cX13_apply 242 = .ok (.iconst 1, 1) := dk_4 (dk_at dksX13_apply_9 17 rfl rfl)
theorem dX13_apply_243 : decode cX13_apply 243 = .ok (.goto 4, 3) := dk_167 0 4 (dk_at dksX13_apply_9 18 rfl rfl)
theorem dX13_apply_246 : decode cX13_apply 246 = .ok (.iconst 0, 1) := dk_3 (dk_at dksX13_apply_9 21 rfl rfl)
theorem dX13_apply_247 : decode cX13_apply 247 = .ok (.invokestatic 43, 3) := dk_184 0 43 (dk_at dksX13_apply_10 0 rfl rfl)
theorem dX13_apply_250 : decode cX13_apply 250 = .ok (.aload_n 1, 1) := dk_43 (dk_at dksX13_apply_10 3 rfl rfl)
theorem dX13_apply_251 : decode cX13_apply 251 = .ok (.aload_n 0, 1) := dk_42 (dk_at dksX13_apply_10 4 rfl rfl)
theorem dX13_apply_252 : decode cX13_apply 252 = .ok (.getfield 15, 3) := dk_180 0 15 (dk_at dksX13_apply_10 5 rfl rfl)
theorem dX13_apply_255 : decode cX13_apply 255 = .ok (.invokevirtual 66, 3) := dk_182 0 66 (dk_at dksX13_apply_10 8 rfl rfl)
theorem dX13_apply_258 : decode cX13_apply 258 = .ok (.pop, 1) := dk_87 (dk_at dksX13_apply_10 11 rfl rfl)
theorem dX13_apply_259 : decode cX13_apply 259 = .ok (.return_, 1) := dk_177 (dk_at dksX13_apply_10 12 rfl rfl)
theorem q142 : (Jvm.Cond.initialized "CueStack$Entry") ∈ lw_all := lw_g (lw_at lw_m1 59 rfl) rfl
theorem q307 : (Jvm.Cond.selects "CueStack$Entry" ({ cls := "java/lang/Object", name := "getClass", desc := "()Ljava/lang/Class;" } : Jvm.MethodName) ({ cls := "java/lang/Object", name := "getClass", desc := "()Ljava/lang/Class;" } : Jvm.MethodName)) ∈ lw_all := lw_g (lw_at lw_m1 224 rfl) rfl
theorem q465 : (Jvm.Cond.selects "CueStack$Entry" ({ cls := "java/lang/Object", name := "hashCode", desc := "()I" } : Jvm.MethodName) ({ cls := "java/lang/Object", name := "hashCode", desc := "()I" } : Jvm.MethodName)) ∈ lw_all := lw_g (lw_at lw_m2 142 rfl) rfl
theorem q850 : (Jvm.Cond.selects "CueStack$Entry" ({ cls := "java/lang/Object", name := "equals", desc := "(Ljava/lang/Object;)Z" } : Jvm.MethodName) ({ cls := "java/lang/Object", name := "equals", desc := "(Ljava/lang/Object;)Z" } : Jvm.MethodName)) ∈ lw_all := lw_g (lw_at lw_m4 47 rfl) rfl
theorem q2526 : (Jvm.Cond.instantiable "CueStack$Entry" (4 : Nat)) ∈ lw_all := lw_g (lw_at lw_m11 43 rfl) rfl
theorem q2532 : (Jvm.Cond.instanceMethod ({ cls := "CueStack$Entry", name := "<init>", desc := "(C)V" } : Jvm.MethodName)) ∈ lw_all := lw_g (lw_at lw_m11 49 rfl) rfl
theorem q2533 : (Jvm.Cond.code ({ cls := "CueStack$Entry", name := "<init>", desc := "(C)V" } : Jvm.MethodName) prog_5_method_1_code (2 : Nat) (Option.none : Option Jvm.ClassFile.FieldType)) ∈ lw_all := lw_g (lw_at lw_m11 50 rfl) rfl
theorem q2534 : (Jvm.Cond.methodLink "CueStack$Entry" (3 : Nat) ({ cls := "java/lang/Object", name := "<init>", desc := "()V" } : Jvm.MethodName)) ∈ lw_all := lw_g (lw_at lw_m11 51 rfl) rfl
theorem q2535 : (Jvm.Cond.fieldLink "CueStack$Entry" (9 : Nat) "CueStack$Entry" "sign" "C") ∈ lw_all := lw_g (lw_at lw_m11 52 rfl) rfl
theorem q2537 : (Jvm.Cond.fieldLink "CueStack$Entry" (15 : Nat) "CueStack$Entry" "first" "I") ∈ lw_all := lw_g (lw_at lw_m11 54 rfl) rfl
theorem q2539 : (Jvm.Cond.fieldLink "CueStack$Entry" (33 : Nat) "CueStack$Entry" "channel" "I") ∈ lw_all := lw_g (lw_at lw_m11 56 rfl) rfl
theorem q2541 : (Jvm.Cond.fieldLink "CueStack$Entry" (40 : Nat) "CueStack$Entry" "level" "I") ∈ lw_all := lw_g (lw_at lw_m11 58 rfl) rfl
theorem q2543 : (Jvm.Cond.laysFinal "CueStack$Entry" "CueStack$Entry" "sign" "C") ∈ lw_all := lw_g (lw_at lw_m11 60 rfl) rfl
theorem q2544 : (Jvm.Cond.soleField "CueStack$Entry" "sign") ∈ lw_all := lw_g (lw_at lw_m11 61 rfl) rfl
theorem q2545 : (Jvm.Cond.lays "CueStack$Entry" "CueStack$Entry" "first" "I") ∈ lw_all := lw_g (lw_at lw_m11 62 rfl) rfl
theorem q2546 : (Jvm.Cond.soleField "CueStack$Entry" "first") ∈ lw_all := lw_g (lw_at lw_m11 63 rfl) rfl
theorem q2547 : (Jvm.Cond.lays "CueStack$Entry" "CueStack$Entry" "channel" "I") ∈ lw_all := lw_g (lw_at lw_m11 64 rfl) rfl
theorem q2548 : (Jvm.Cond.soleField "CueStack$Entry" "channel") ∈ lw_all := lw_g (lw_at lw_m11 65 rfl) rfl
theorem q2549 : (Jvm.Cond.lays "CueStack$Entry" "CueStack$Entry" "level" "I") ∈ lw_all := lw_g (lw_at lw_m11 66 rfl) rfl
theorem q2550 : (Jvm.Cond.soleField "CueStack$Entry" "level") ∈ lw_all := lw_g (lw_at lw_m11 67 rfl) rfl
theorem q2551 : (Jvm.Cond.superclass "CueStack$Entry" "java/lang/Object") ∈ lw_all := lw_g (lw_at lw_m11 68 rfl) rfl
theorem q2587 : (Jvm.Cond.instanceMethod ({ cls := "CueStack$Entry", name := "apply", desc := "(LCueStack$Show;)V" } : Jvm.MethodName)) ∈ lw_all := lw_g (lw_at lw_m11 104 rfl) rfl
theorem q2588 : (Jvm.Cond.selects "CueStack$Entry" ({ cls := "CueStack$Entry", name := "apply", desc := "(LCueStack$Show;)V" } : Jvm.MethodName) ({ cls := "CueStack$Entry", name := "apply", desc := "(LCueStack$Show;)V" } : Jvm.MethodName)) ∈ lw_all := lw_g (lw_at lw_m11 105 rfl) rfl
theorem q2589 : (Jvm.Cond.code ({ cls := "CueStack$Entry", name := "apply", desc := "(LCueStack$Show;)V" } : Jvm.MethodName) prog_5_method_2_code (4 : Nat) (Option.none : Option Jvm.ClassFile.FieldType)) ∈ lw_all := lw_g (lw_at lw_m11 106 rfl) rfl
theorem q2590 : (Jvm.Cond.methodLink "CueStack$Entry" (19 : Nat) ({ cls := "CueStack$Show", name := "addCue", desc := "(I)V" } : Jvm.MethodName)) ∈ lw_all := lw_g (lw_at lw_m11 107 rfl) rfl
theorem q2591 : (Jvm.Cond.methodLink "CueStack$Entry" (25 : Nat) ({ cls := "CueStack$Show", name := "removeCue", desc := "(IZ)V" } : Jvm.MethodName)) ∈ lw_all := lw_g (lw_at lw_m11 108 rfl) rfl
theorem q2592 : (Jvm.Cond.methodLink "CueStack$Entry" (29 : Nat) ({ cls := "CueStack$Show", name := "index", desc := "(I)I" } : Jvm.MethodName)) ∈ lw_all := lw_g (lw_at lw_m11 109 rfl) rfl
theorem q2593 : (Jvm.Cond.methodLinkNest "CueStack$Entry" (36 : Nat) ({ cls := "CueStack", name := "checkIndex", desc := "(Z)V" } : Jvm.MethodName) "CueStack") ∈ lw_tbl := lw_at lw_m11 110 rfl
theorem q2594 : (Jvm.Cond.methodLinkNest "CueStack$Entry" (43 : Nat) ({ cls := "CueStack", name := "checkArgument", desc := "(Z)V" } : Jvm.MethodName) "CueStack") ∈ lw_tbl := lw_at lw_m11 111 rfl
theorem q2595 : (Jvm.Cond.classLink "CueStack$Entry" (46 : Nat) "CueStack$Fixed") ∈ lw_all := lw_g (lw_at lw_m11 112 rfl) rfl
theorem q2596 : (Jvm.Cond.methodLink "CueStack$Entry" (48 : Nat) ({ cls := "CueStack$Fixed", name := "<init>", desc := "(II)V" } : Jvm.MethodName)) ∈ lw_all := lw_g (lw_at lw_m11 113 rfl) rfl
theorem q2597 : (Jvm.Cond.methodLink "CueStack$Entry" (51 : Nat) ({ cls := "CueStack$Show", name := "edit", desc := "(IILCueStack$Instruction;Z)V" } : Jvm.MethodName)) ∈ lw_all := lw_g (lw_at lw_m11 114 rfl) rfl
theorem q2598 : (Jvm.Cond.classLink "CueStack$Entry" (55 : Nat) "CueStack$Released") ∈ lw_all := lw_g (lw_at lw_m11 115 rfl) rfl
theorem q2599 : (Jvm.Cond.methodLink "CueStack$Entry" (57 : Nat) ({ cls := "CueStack$Released", name := "<init>", desc := "(I)V" } : Jvm.MethodName)) ∈ lw_all := lw_g (lw_at lw_m11 116 rfl) rfl
theorem q2600 : (Jvm.Cond.methodLink "CueStack$Entry" (59 : Nat) ({ cls := "CueStack$Show", name := "go", desc := "()I" } : Jvm.MethodName)) ∈ lw_all := lw_g (lw_at lw_m11 117 rfl) rfl
theorem q2601 : (Jvm.Cond.methodLink "CueStack$Entry" (63 : Nat) ({ cls := "CueStack$Show", name := "goes", desc := "(I)I" } : Jvm.MethodName)) ∈ lw_all := lw_g (lw_at lw_m11 118 rfl) rfl
theorem q2602 : (Jvm.Cond.methodLink "CueStack$Entry" (66 : Nat) ({ cls := "CueStack$Show", name := "pass", desc := "(I)I" } : Jvm.MethodName)) ∈ lw_all := lw_g (lw_at lw_m11 119 rfl) rfl
theorem q3147 : (Jvm.Cond.castable "CueStack$Entry" "java/lang/Object") ∈ lw_tbl := lw_at lw_m13 184 rfl
theorem in_X13 : ∀ w ∈ wsX130, w ∈ lw_all := lw_in wsX130 [2543, 2545, 2547, 2549] (by decide +kernel) (by decide +kernel)

/-! CueStack$BadText -/
set_option maxRecDepth 100000
def RX14 : String := "CueStack$BadText"
def TX14 : u_T := fun k => match k with
  | 0 => ("java/lang/Throwable", "cause", "Ljava/lang/Throwable;", false)
  | 1 => ("java/lang/Throwable", "stackTrace", "[Ljava/lang/StackTraceElement;", false)
  | 2 => ("java/lang/Throwable", "suppressedExceptions", "Ljava/util/List;", false)
  | 3 => ("java/lang/Throwable", "detailMessage", "Ljava/lang/String;", false)
  | 4 => ("java/lang/Throwable", "backtrace", "Ljava/lang/Object;", false)
  | 5 => ("java/lang/Throwable", "depth", "I", false)
  | _ => ("CueStack$BadText", "position", "I", true)
def tyX14 : Nat → FieldType := fun k => match k with
  | 0 => .object "java/lang/Throwable"
  | 1 => .array (.object "java/lang/StackTraceElement")
  | 2 => .object "java/util/List"
  | 3 => .object "java/lang/String"
  | 4 => .object "java/lang/Object"
  | 5 => .int
  | _ => .int
abbrev wsX140 : List Cond := u_ws RX14 TX14 7
theorem nmX14 : ∀ a, a < 7 → ∀ b, b < 7 → a ≠ b → (TX14 a).2.1 ≠ (TX14 b).2.1 := by decide +kernel
theorem tyX14_ok : ∀ k, k < 7 → parseFieldDescriptor (TX14 k).2.2.1 = some (tyX14 k) := by decide +kernel
abbrev cX14_init : ByteArray := prog_2_method_1_code
def yX14_init : MethodName := ⟨RX14, "<init>", "(I)V"⟩
def dkwX14_init_0 : List UInt8 := [42, 183, 0, 1, 42, 27, 181, 0, 7, 177]
abbrev dktX14_init_0 : List UInt8 := dkwX14_init_0 ++ []
theorem dksX14_init_0 : cX14_init.data.toList.drop 0 = dktX14_init_0 := by decide +kernel
theorem dX14_init_0 : decode cX14_init 0 = .ok (.aload_n 0, 1) := dk_42 (dk_at dksX14_init_0 0 rfl rfl)
theorem dX14_init_1 : decode cX14_init 1 = .ok (.invokespecial 1, 3) := dk_183 0 1 (dk_at dksX14_init_0 1 rfl rfl)
theorem dX14_init_4 : decode cX14_init 4 = .ok (.aload_n 0, 1) := dk_42 (dk_at dksX14_init_0 4 rfl rfl)
theorem dX14_init_5 : decode cX14_init 5 = .ok (.iload_n 1, 1) := dk_27 (dk_at dksX14_init_0 5 rfl rfl)
theorem dX14_init_6 : decode cX14_init 6 = .ok (.putfield 7, 3) := dk_181 0 7 (dk_at dksX14_init_0 6 rfl rfl)
theorem dX14_init_9 : decode cX14_init 9 = .ok (.return_, 1) := dk_177 (dk_at dksX14_init_0 9 rfl rfl)
theorem q143 : (Jvm.Cond.initialized "CueStack$BadText") ∈ lw_all := lw_g (lw_at lw_m1 60 rfl) rfl
theorem q305 : (Jvm.Cond.selects "CueStack$BadText" ({ cls := "java/lang/Object", name := "getClass", desc := "()Ljava/lang/Class;" } : Jvm.MethodName) ({ cls := "java/lang/Object", name := "getClass", desc := "()Ljava/lang/Class;" } : Jvm.MethodName)) ∈ lw_all := lw_g (lw_at lw_m1 222 rfl) rfl
theorem q463 : (Jvm.Cond.selects "CueStack$BadText" ({ cls := "java/lang/Object", name := "hashCode", desc := "()I" } : Jvm.MethodName) ({ cls := "java/lang/Object", name := "hashCode", desc := "()I" } : Jvm.MethodName)) ∈ lw_all := lw_g (lw_at lw_m2 140 rfl) rfl
theorem q575 : (Jvm.Cond.selects "CueStack$BadText" ({ cls := "java/lang/Throwable", name := "fillInStackTrace", desc := "()Ljava/lang/Throwable;" } : Jvm.MethodName) ({ cls := "java/lang/Throwable", name := "fillInStackTrace", desc := "()Ljava/lang/Throwable;" } : Jvm.MethodName)) ∈ lw_all := lw_g (lw_at lw_m3 12 rfl) rfl
theorem q848 : (Jvm.Cond.selects "CueStack$BadText" ({ cls := "java/lang/Object", name := "equals", desc := "(Ljava/lang/Object;)Z" } : Jvm.MethodName) ({ cls := "java/lang/Object", name := "equals", desc := "(Ljava/lang/Object;)Z" } : Jvm.MethodName)) ∈ lw_all := lw_g (lw_at lw_m4 45 rfl) rfl
theorem q2558 : (Jvm.Cond.instantiable "CueStack$BadText" (7 : Nat)) ∈ lw_all := lw_g (lw_at lw_m11 75 rfl) rfl
theorem q2559 : (Jvm.Cond.castable "CueStack$BadText" "CueStack$BadText") ∈ lw_tbl := lw_at lw_m11 76 rfl
theorem q2560 : (Jvm.Cond.selects "CueStack$BadText" ({ cls := "java/lang/Throwable", name := "fillInStackTrace", desc := "(I)Ljava/lang/Throwable;" } : Jvm.MethodName) ({ cls := "java/lang/Throwable", name := "fillInStackTrace", desc := "(I)Ljava/lang/Throwable;" } : Jvm.MethodName)) ∈ lw_all := lw_g (lw_at lw_m11 77 rfl) rfl
theorem q2561 : (Jvm.Cond.lays "CueStack$BadText" "java/lang/Throwable" "cause" "Ljava/lang/Throwable;") ∈ lw_all := lw_g (lw_at lw_m11 78 rfl) rfl
theorem q2562 : (Jvm.Cond.lays "CueStack$BadText" "java/lang/Throwable" "stackTrace" "[Ljava/lang/StackTraceElement;") ∈ lw_all := lw_g (lw_at lw_m11 79 rfl) rfl
theorem q2563 : (Jvm.Cond.lays "CueStack$BadText" "java/lang/Throwable" "suppressedExceptions" "Ljava/util/List;") ∈ lw_all := lw_g (lw_at lw_m11 80 rfl) rfl
theorem q2564 : (Jvm.Cond.lays "CueStack$BadText" "java/lang/Throwable" "detailMessage" "Ljava/lang/String;") ∈ lw_all := lw_g (lw_at lw_m11 81 rfl) rfl
theorem q2565 : (Jvm.Cond.lays "CueStack$BadText" "java/lang/Throwable" "backtrace" "Ljava/lang/Object;") ∈ lw_all := lw_g (lw_at lw_m11 82 rfl) rfl
theorem q2567 : (Jvm.Cond.instanceMethod ({ cls := "CueStack$BadText", name := "<init>", desc := "(I)V" } : Jvm.MethodName)) ∈ lw_all := lw_g (lw_at lw_m11 84 rfl) rfl
theorem q2568 : (Jvm.Cond.code ({ cls := "CueStack$BadText", name := "<init>", desc := "(I)V" } : Jvm.MethodName) prog_2_method_1_code (2 : Nat) (Option.none : Option Jvm.ClassFile.FieldType)) ∈ lw_all := lw_g (lw_at lw_m11 85 rfl) rfl
theorem q2569 : (Jvm.Cond.methodLink "CueStack$BadText" (1 : Nat) ({ cls := "java/lang/Exception", name := "<init>", desc := "()V" } : Jvm.MethodName)) ∈ lw_all := lw_g (lw_at lw_m11 86 rfl) rfl
theorem q2570 : (Jvm.Cond.fieldLink "CueStack$BadText" (7 : Nat) "CueStack$BadText" "position" "I") ∈ lw_all := lw_g (lw_at lw_m11 87 rfl) rfl
theorem q2572 : (Jvm.Cond.laysFinal "CueStack$BadText" "CueStack$BadText" "position" "I") ∈ lw_all := lw_g (lw_at lw_m11 89 rfl) rfl
theorem q2573 : (Jvm.Cond.soleField "CueStack$BadText" "position") ∈ lw_all := lw_g (lw_at lw_m11 90 rfl) rfl
theorem q2574 : (Jvm.Cond.lays "CueStack$BadText" "java/lang/Throwable" "depth" "I") ∈ lw_all := lw_g (lw_at lw_m11 91 rfl) rfl
theorem q2575 : (Jvm.Cond.superclass "CueStack$BadText" "java/lang/Exception") ∈ lw_all := lw_g (lw_at lw_m11 92 rfl) rfl
theorem q3148 : (Jvm.Cond.castable "CueStack$BadText" "java/lang/Object") ∈ lw_tbl := lw_at lw_m13 185 rfl
theorem in_X14 : ∀ w ∈ wsX140, w ∈ lw_all := lw_in wsX140 [2561, 2562, 2563, 2564, 2565, 2574, 2572] (by decide +kernel) (by decide +kernel)

