/-! java/lang/String -/
set_option maxRecDepth 100000
def RJ11 : String := "java/lang/String"
def TJ11 : u_T := fun k => match k with
  | 0 => ("java/lang/String", "value", "[B", true)
  | 1 => ("java/lang/String", "coder", "B", true)
  | 2 => ("java/lang/String", "hash", "I", false)
  | _ => ("java/lang/String", "hashIsZero", "Z", false)
def tyJ11 : Nat → FieldType := fun k => match k with
  | 0 => .array .byte
  | 1 => .byte
  | 2 => .int
  | _ => .boolean
abbrev wsJ110 : List Cond := u_ws RJ11 TJ11 4
theorem nmJ11 : ∀ a, a < 4 → ∀ b, b < 4 → a ≠ b → (TJ11 a).2.1 ≠ (TJ11 b).2.1 := by decide +kernel
theorem tyJ11_ok : ∀ k, k < 4 → parseFieldDescriptor (TJ11 k).2.2.1 = some (tyJ11 k) := by decide +kernel
abbrev cJ11_isLatin1 : ByteArray := prog_39_method_154_code
def yJ11_isLatin1 : MethodName := ⟨RJ11, "isLatin1", "()Z"⟩
def dkwJ11_isLatin1_0 : List UInt8 := [178, 0, 38, 153, 0, 14, 42, 180, 0, 15, 154, 0, 7, 4, 167, 0, 4, 3, 172]
abbrev dktJ11_isLatin1_0 : List UInt8 := dkwJ11_isLatin1_0 ++ []
theorem dksJ11_isLatin1_0 : cJ11_isLatin1.data.toList.drop 0 = dktJ11_isLatin1_0 := by decide +kernel
theorem dJ11_isLatin1_0 : decode cJ11_isLatin1 0 = .ok (.getstatic 38, 3) := dk_178 0 38 (dk_at dksJ11_isLatin1_0 0 rfl rfl)
theorem dJ11_isLatin1_3 : decode cJ11_isLatin1 3 = .ok (.ifCond .eq 14, 3) := dk_153 0 14 (dk_at dksJ11_isLatin1_0 3 rfl rfl)
theorem dJ11_isLatin1_6 : decode cJ11_isLatin1 6 = .ok (.aload_n 0, 1) := dk_42 (dk_at dksJ11_isLatin1_0 6 rfl rfl)
theorem dJ11_isLatin1_7 : decode cJ11_isLatin1 7 = .ok (.getfield 15, 3) := dk_180 0 15 (dk_at dksJ11_isLatin1_0 7 rfl rfl)
theorem dJ11_isLatin1_10 : decode cJ11_isLatin1 10 = .ok (.ifCond .ne 7, 3) := dk_154 0 7 (dk_at dksJ11_isLatin1_0 10 rfl rfl)
theorem dJ11_isLatin1_13 : decode cJ11_isLatin1 13 = .ok (.iconst 1, 1) := dk_4 (dk_at dksJ11_isLatin1_0 13 rfl rfl)
theorem dJ11_isLatin1_14 : decode cJ11_isLatin1 14 = .ok (.goto 4, 3) := dk_167 0 4 (dk_at dksJ11_isLatin1_0 14 rfl rfl)
theorem dJ11_isLatin1_17 : decode cJ11_isLatin1 17 = .ok (.iconst 0, 1) := dk_3 (dk_at dksJ11_isLatin1_0 17 rfl rfl)
theorem dJ11_isLatin1_18 : decode cJ11_isLatin1 18 = .ok (.ireturn, 1) := dk_172 (dk_at dksJ11_isLatin1_0 18 rfl rfl)
abbrev cJ11_length : ByteArray := prog_39_method_54_code
def yJ11_length : MethodName := ⟨RJ11, "length", "()I"⟩
def dkwJ11_length_0 : List UInt8 := [42, 180, 0, 9, 190, 42, 182, 1, 79, 122, 172]
abbrev dktJ11_length_0 : List UInt8 := dkwJ11_length_0 ++ []
theorem dksJ11_length_0 : cJ11_length.data.toList.drop 0 = dktJ11_length_0 := by decide +kernel
theorem dJ11_length_0 : decode cJ11_length 0 = .ok (.aload_n 0, 1) := dk_42 (dk_at dksJ11_length_0 0 rfl rfl)
theorem dJ11_length_1 : decode cJ11_length 1 = .ok (.getfield 9, 3) := dk_180 0 9 (dk_at dksJ11_length_0 1 rfl rfl)
theorem dJ11_length_4 : decode cJ11_length 4 = .ok (.arraylength, 1) := dk_190 (dk_at dksJ11_length_0 4 rfl rfl)
theorem dJ11_length_5 : decode cJ11_length 5 = .ok (.aload_n 0, 1) := dk_42 (dk_at dksJ11_length_0 5 rfl rfl)
theorem dJ11_length_6 : decode cJ11_length 6 = .ok (.invokevirtual 335, 3) := dk_182 1 79 (dk_at dksJ11_length_0 6 rfl rfl)
theorem dJ11_length_9 : decode cJ11_length 9 = .ok (.ishr, 1) := dk_122 (dk_at dksJ11_length_0 9 rfl rfl)
theorem dJ11_length_10 : decode cJ11_length 10 = .ok (.ireturn, 1) := dk_172 (dk_at dksJ11_length_0 10 rfl rfl)
abbrev cJ11_coder : ByteArray := prog_39_method_152_code
def yJ11_coder : MethodName := ⟨RJ11, "coder", "()B"⟩
def dkwJ11_coder_0 : List UInt8 := [178, 0, 38, 153, 0, 10, 42, 180, 0, 15, 167, 0, 4, 4, 172]
abbrev dktJ11_coder_0 : List UInt8 := dkwJ11_coder_0 ++ []
theorem dksJ11_coder_0 : cJ11_coder.data.toList.drop 0 = dktJ11_coder_0 := by decide +kernel
theorem dJ11_coder_0 : decode cJ11_coder 0 = .ok (.getstatic 38, 3) := dk_178 0 38 (dk_at dksJ11_coder_0 0 rfl rfl)
theorem dJ11_coder_3 : decode cJ11_coder 3 = .ok (.ifCond .eq 10, 3) := dk_153 0 10 (dk_at dksJ11_coder_0 3 rfl rfl)
theorem dJ11_coder_6 : decode cJ11_coder 6 = .ok (.aload_n 0, 1) := dk_42 (dk_at dksJ11_coder_0 6 rfl rfl)
theorem dJ11_coder_7 : decode cJ11_coder 7 = .ok (.getfield 15, 3) := dk_180 0 15 (dk_at dksJ11_coder_0 7 rfl rfl)
theorem dJ11_coder_10 : decode cJ11_coder 10 = .ok (.goto 4, 3) := dk_167 0 4 (dk_at dksJ11_coder_0 10 rfl rfl)
theorem dJ11_coder_13 : decode cJ11_coder 13 = .ok (.iconst 1, 1) := dk_4 (dk_at dksJ11_coder_0 13 rfl rfl)
theorem dJ11_coder_14 : decode cJ11_coder 14 = .ok (.ireturn, 1) := dk_172 (dk_at dksJ11_coder_0 14 rfl rfl)
abbrev cJ11_indexOf : ByteArray := prog_39_method_79_code
def yJ11_indexOf : MethodName := ⟨RJ11, "indexOf", "(I)I"⟩
def dkwJ11_indexOf_0 : List UInt8 := [42, 27, 3, 182, 2, 121, 172]
abbrev dktJ11_indexOf_0 : List UInt8 := dkwJ11_indexOf_0 ++ []
theorem dksJ11_indexOf_0 : cJ11_indexOf.data.toList.drop 0 = dktJ11_indexOf_0 := by decide +kernel
theorem dJ11_indexOf_0 : decode cJ11_indexOf 0 = .ok (.aload_n 0, 1) := dk_42 (dk_at dksJ11_indexOf_0 0 rfl rfl)
theorem dJ11_indexOf_1 : decode cJ11_indexOf 1 = .ok (.iload_n 1, 1) := dk_27 (dk_at dksJ11_indexOf_0 1 rfl rfl)
theorem dJ11_indexOf_2 : decode cJ11_indexOf 2 = .ok (.iconst 0, 1) := dk_3 (dk_at dksJ11_indexOf_0 2 rfl rfl)
theorem dJ11_indexOf_3 : decode cJ11_indexOf 3 = .ok (.invokevirtual 633, 3) := dk_182 2 121 (dk_at dksJ11_indexOf_0 3 rfl rfl)
theorem dJ11_indexOf_6 : decode cJ11_indexOf 6 = .ok (.ireturn, 1) := dk_172 (dk_at dksJ11_indexOf_0 6 rfl rfl)
abbrev cJ11_indexOf_2 : ByteArray := prog_39_method_80_code
def yJ11_indexOf_2 : MethodName := ⟨RJ11, "indexOf", "(II)I"⟩
def dkwJ11_indexOf_2_1 : List UInt8 := [180, 0, 9, 27, 28, 42, 182, 1, 249, 184, 2, 128, 172]
abbrev dktJ11_indexOf_2_1 : List UInt8 := dkwJ11_indexOf_2_1 ++ []
def dkwJ11_indexOf_2_0 : List UInt8 := [42, 182, 1, 236, 153, 0, 19, 42, 180, 0, 9, 27, 28, 42, 182, 1, 249, 184, 2, 125, 167, 0, 16, 42]
abbrev dktJ11_indexOf_2_0 : List UInt8 := dkwJ11_indexOf_2_0 ++ dktJ11_indexOf_2_1
theorem dksJ11_indexOf_2_0 : cJ11_indexOf_2.data.toList.drop 0 = dktJ11_indexOf_2_0 := by decide +kernel
theorem dksJ11_indexOf_2_1 : cJ11_indexOf_2.data.toList.drop 24 = dktJ11_indexOf_2_1 := dk_seg dksJ11_indexOf_2_0 24 rfl rfl
theorem dJ11_indexOf_2_0 : decode cJ11_indexOf_2 0 = .ok (.aload_n 0, 1) := dk_42 (dk_at dksJ11_indexOf_2_0 0 rfl rfl)
theorem dJ11_indexOf_2_1 : decode cJ11_indexOf_2 1 = .ok (.invokevirtual 492, 3) := dk_182 1 236 (dk_at dksJ11_indexOf_2_0 1 rfl rfl)
theorem dJ11_indexOf_2_4 : decode cJ11_indexOf_2 4 = .ok (.ifCond .eq 19, 3) := dk_153 0 19 (dk_at dksJ11_indexOf_2_0 4 rfl rfl)
theorem dJ11_indexOf_2_7 : decode cJ11_indexOf_2 7 = .ok (.aload_n 0, 1) := dk_42 (dk_at dksJ11_indexOf_2_0 7 rfl rfl)
theorem dJ11_indexOf_2_8 : decode cJ11_indexOf_2 8 = .ok (.getfield 9, 3) := dk_180 0 9 (dk_at dksJ11_indexOf_2_0 8 rfl rfl)
theorem dJ11_indexOf_2_11 : decode cJ11_indexOf_2 11 = .ok (.iload_n 1, 1) := dk_27 (dk_at dksJ11_indexOf_2_0 11 rfl rfl)
theorem dJ11_indexOf_2_12 : decode cJ11_indexOf_2 12 = .ok (.iload_n 2, 1) := dk_28 (dk_at dksJ11_indexOf_2_0 12 rfl rfl)
theorem dJ11_indexOf_2_13 : decode cJ11_indexOf_2 13 = .ok (.aload_n 0, 1) := dk_42 (dk_at dksJ11_indexOf_2_0 13 rfl rfl)
theorem dJ11_indexOf_2_14 : decode cJ11_indexOf_2 14 = .ok (.invokevirtual 505, 3) := dk_182 1 249 (dk_at dksJ11_indexOf_2_0 14 rfl rfl)
theorem dJ11_indexOf_2_17 : decode cJ11_indexOf_2 17 = .ok (.invokestatic 637, 3) := dk_184 2 125 (dk_at dksJ11_indexOf_2_0 17 rfl rfl)
theorem dJ11_indexOf_2_20 : decode cJ11_indexOf_2 20 = .ok (.goto 16, 3) := dk_167 0 16 (dk_at dksJ11_indexOf_2_0 20 rfl rfl)
theorem dJ11_indexOf_2_23 : decode cJ11_indexOf_2 23 = .ok (.aload_n 0, 1) := dk_42 (dk_at dksJ11_indexOf_2_0 23 rfl rfl)
theorem dJ11_indexOf_2_24 : decode cJ11_indexOf_2 24 = .ok (.getfield 9, 3) := dk_180 0 9 (dk_at dksJ11_indexOf_2_1 0 rfl rfl)
theorem dJ11_indexOf_2_27 : decode cJ11_indexOf_2 27 = .ok (.iload_n 1, 1) := dk_27 (dk_at dksJ11_indexOf_2_1 3 rfl rfl)
theorem dJ11_indexOf_2_28 : decode cJ11_indexOf_2 28 = .ok (.iload_n 2, 1) := dk_28 (dk_at dksJ11_indexOf_2_1 4 rfl rfl)
theorem dJ11_indexOf_2_29 : decode cJ11_indexOf_2 29 = .ok (.aload_n 0, 1) := dk_42 (dk_at dksJ11_indexOf_2_1 5 rfl rfl)
theorem dJ11_indexOf_2_30 : decode cJ11_indexOf_2 30 = .ok (.invokevirtual 505, 3) := dk_182 1 249 (dk_at dksJ11_indexOf_2_1 6 rfl rfl)
theorem dJ11_indexOf_2_33 : decode cJ11_indexOf_2 33 = .ok (.invokestatic 640, 3) := dk_184 2 128 (dk_at dksJ11_indexOf_2_1 9 rfl rfl)
theorem dJ11_indexOf_2_36 : decode cJ11_indexOf_2 36 = .ok (.ireturn, 1) := dk_172 (dk_at dksJ11_indexOf_2_1 12 rfl rfl)
theorem q101 : (Jvm.Cond.initialized "java/lang/String") ∈ lw_all := lw_g (lw_at lw_m1 18 rfl) rfl
theorem q321 : (Jvm.Cond.selects "java/lang/String" ({ cls := "java/lang/Object", name := "getClass", desc := "()Ljava/lang/Class;" } : Jvm.MethodName) ({ cls := "java/lang/Object", name := "getClass", desc := "()Ljava/lang/Class;" } : Jvm.MethodName)) ∈ lw_all := lw_g (lw_at lw_m1 238 rfl) rfl
theorem q481 : (Jvm.Cond.selects "java/lang/String" ({ cls := "java/lang/Object", name := "hashCode", desc := "()I" } : Jvm.MethodName) ({ cls := "java/lang/String", name := "hashCode", desc := "()I" } : Jvm.MethodName)) ∈ lw_all := lw_g (lw_at lw_m2 158 rfl) rfl
theorem q482 : (Jvm.Cond.instanceMethod ({ cls := "java/lang/String", name := "hashCode", desc := "()I" } : Jvm.MethodName)) ∈ lw_all := lw_g (lw_at lw_m2 159 rfl) rfl
theorem q483 : (Jvm.Cond.code ({ cls := "java/lang/String", name := "hashCode", desc := "()I" } : Jvm.MethodName) prog_39_method_78_code (2 : Nat) (Option.some Jvm.ClassFile.FieldType.int)) ∈ lw_all := lw_g (lw_at lw_m2 160 rfl) rfl
theorem q484 : (Jvm.Cond.methodLink "java/lang/String" (492 : Nat) ({ cls := "java/lang/String", name := "isLatin1", desc := "()Z" } : Jvm.MethodName)) ∈ lw_all := lw_g (lw_at lw_m2 161 rfl) rfl
theorem q485 : (Jvm.Cond.instanceMethod ({ cls := "java/lang/String", name := "isLatin1", desc := "()Z" } : Jvm.MethodName)) ∈ lw_all := lw_g (lw_at lw_m2 162 rfl) rfl
theorem q486 : (Jvm.Cond.selects "java/lang/String" ({ cls := "java/lang/String", name := "isLatin1", desc := "()Z" } : Jvm.MethodName) ({ cls := "java/lang/String", name := "isLatin1", desc := "()Z" } : Jvm.MethodName)) ∈ lw_all := lw_g (lw_at lw_m2 163 rfl) rfl
theorem q487 : (Jvm.Cond.code ({ cls := "java/lang/String", name := "isLatin1", desc := "()Z" } : Jvm.MethodName) prog_39_method_154_code (1 : Nat) (Option.some Jvm.ClassFile.FieldType.boolean)) ∈ lw_all := lw_g (lw_at lw_m2 164 rfl) rfl
theorem q488 : (Jvm.Cond.fieldLink "java/lang/String" (38 : Nat) "java/lang/String" "COMPACT_STRINGS" "Z") ∈ lw_all := lw_g (lw_at lw_m2 165 rfl) rfl
theorem q489 : (Jvm.Cond.laysStatic "java/lang/String" "COMPACT_STRINGS" "Z") ∈ lw_tbl := lw_at lw_m2 166 rfl
theorem q490 : (Jvm.Cond.methodLink "java/lang/String" (628 : Nat) ({ cls := "java/lang/StringLatin1", name := "hashCode", desc := "([B)I" } : Jvm.MethodName)) ∈ lw_all := lw_g (lw_at lw_m2 167 rfl) rfl
theorem q608 : (Jvm.Cond.fieldLink "java/lang/String" (1048 : Nat) "java/lang/AbstractStringBuilder" "maybeLatin1" "Z") ∈ lw_all := lw_g (lw_at lw_m3 45 rfl) rfl
theorem q664 : (Jvm.Cond.static ({ cls := "java/lang/String", name := "checkBoundsBeginEnd", desc := "(III)V" } : Jvm.MethodName)) ∈ lw_all := lw_g (lw_at lw_m3 101 rfl) rfl
theorem q665 : (Jvm.Cond.code ({ cls := "java/lang/String", name := "checkBoundsBeginEnd", desc := "(III)V" } : Jvm.MethodName) prog_39_method_158_code (3 : Nat) (Option.none : Option Jvm.ClassFile.FieldType)) ∈ lw_all := lw_g (lw_at lw_m3 102 rfl) rfl
theorem q666 : (Jvm.Cond.fieldLink "java/lang/String" (1053 : Nat) "jdk/internal/util/Preconditions" "SIOOBE_FORMATTER" "Ljava/util/function/BiFunction;") ∈ lw_all := lw_g (lw_at lw_m3 103 rfl) rfl
theorem q668 : (Jvm.Cond.methodLink "java/lang/String" (1062 : Nat) ({ cls := "jdk/internal/util/Preconditions", name := "checkFromToIndex", desc := "(IIILjava/util/function/BiFunction;)I" } : Jvm.MethodName)) ∈ lw_all := lw_g (lw_at lw_m3 105 rfl) rfl
theorem q675 : (Jvm.Cond.instanceMethod ({ cls := "java/lang/String", name := "length", desc := "()I" } : Jvm.MethodName)) ∈ lw_all := lw_g (lw_at lw_m3 112 rfl) rfl
theorem q676 : (Jvm.Cond.selects "java/lang/String" ({ cls := "java/lang/String", name := "length", desc := "()I" } : Jvm.MethodName) ({ cls := "java/lang/String", name := "length", desc := "()I" } : Jvm.MethodName)) ∈ lw_all := lw_g (lw_at lw_m3 113 rfl) rfl
theorem q677 : (Jvm.Cond.code ({ cls := "java/lang/String", name := "length", desc := "()I" } : Jvm.MethodName) prog_39_method_54_code (1 : Nat) (Option.some Jvm.ClassFile.FieldType.int)) ∈ lw_all := lw_g (lw_at lw_m3 114 rfl) rfl
theorem q678 : (Jvm.Cond.methodLink "java/lang/String" (335 : Nat) ({ cls := "java/lang/String", name := "coder", desc := "()B" } : Jvm.MethodName)) ∈ lw_all := lw_g (lw_at lw_m3 115 rfl) rfl
theorem q679 : (Jvm.Cond.instanceMethod ({ cls := "java/lang/String", name := "coder", desc := "()B" } : Jvm.MethodName)) ∈ lw_all := lw_g (lw_at lw_m3 116 rfl) rfl
theorem q680 : (Jvm.Cond.selects "java/lang/String" ({ cls := "java/lang/String", name := "coder", desc := "()B" } : Jvm.MethodName) ({ cls := "java/lang/String", name := "coder", desc := "()B" } : Jvm.MethodName)) ∈ lw_all := lw_g (lw_at lw_m3 117 rfl) rfl
theorem q681 : (Jvm.Cond.code ({ cls := "java/lang/String", name := "coder", desc := "()B" } : Jvm.MethodName) prog_39_method_152_code (1 : Nat) (Option.some Jvm.ClassFile.FieldType.byte)) ∈ lw_all := lw_g (lw_at lw_m3 118 rfl) rfl
theorem q705 : (Jvm.Cond.static ({ cls := "java/lang/String", name := "checkBoundsOffCount", desc := "(III)I" } : Jvm.MethodName)) ∈ lw_all := lw_g (lw_at lw_m3 142 rfl) rfl
theorem q706 : (Jvm.Cond.code ({ cls := "java/lang/String", name := "checkBoundsOffCount", desc := "(III)I" } : Jvm.MethodName) prog_39_method_157_code (3 : Nat) (Option.some Jvm.ClassFile.FieldType.int)) ∈ lw_all := lw_g (lw_at lw_m3 143 rfl) rfl
theorem q707 : (Jvm.Cond.methodLink "java/lang/String" (1065 : Nat) ({ cls := "jdk/internal/util/Preconditions", name := "checkFromIndexSize", desc := "(IIILjava/util/function/BiFunction;)I" } : Jvm.MethodName)) ∈ lw_all := lw_g (lw_at lw_m3 144 rfl) rfl
theorem q711 : (Jvm.Cond.instanceMethod ({ cls := "java/lang/String", name := "getBytes", desc := "([BIB)V" } : Jvm.MethodName)) ∈ lw_all := lw_g (lw_at lw_m3 148 rfl) rfl
theorem q712 : (Jvm.Cond.selects "java/lang/String" ({ cls := "java/lang/String", name := "getBytes", desc := "([BIB)V" } : Jvm.MethodName) ({ cls := "java/lang/String", name := "getBytes", desc := "([BIB)V" } : Jvm.MethodName)) ∈ lw_all := lw_g (lw_at lw_m3 149 rfl) rfl
theorem q713 : (Jvm.Cond.code ({ cls := "java/lang/String", name := "getBytes", desc := "([BIB)V" } : Jvm.MethodName) prog_39_method_147_code (4 : Nat) (Option.none : Option Jvm.ClassFile.FieldType)) ∈ lw_all := lw_g (lw_at lw_m3 150 rfl) rfl
theorem q714 : (Jvm.Cond.methodLink "java/lang/String" (212 : Nat) ({ cls := "java/lang/System", name := "arraycopy", desc := "(Ljava/lang/Object;ILjava/lang/Object;II)V" } : Jvm.MethodName)) ∈ lw_all := lw_g (lw_at lw_m3 151 rfl) rfl
theorem q715 : (Jvm.Cond.methodLink "java/lang/String" (106 : Nat) ({ cls := "java/lang/StringLatin1", name := "inflate", desc := "([BI[BII)V" } : Jvm.MethodName)) ∈ lw_all := lw_g (lw_at lw_m3 152 rfl) rfl
theorem q746 : (Jvm.Cond.instantiable "java/lang/String" (4 : Nat)) ∈ lw_all := lw_g (lw_at lw_m3 183 rfl) rfl
theorem q748 : (Jvm.Cond.instanceMethod ({ cls := "java/lang/String", name := "<init>", desc := "(Ljava/lang/StringBuilder;)V" } : Jvm.MethodName)) ∈ lw_all := lw_g (lw_at lw_m3 185 rfl) rfl
theorem q749 : (Jvm.Cond.code ({ cls := "java/lang/String", name := "<init>", desc := "(Ljava/lang/StringBuilder;)V" } : Jvm.MethodName) prog_39_method_53_code (2 : Nat) (Option.none : Option Jvm.ClassFile.FieldType)) ∈ lw_all := lw_g (lw_at lw_m3 186 rfl) rfl
theorem q750 : (Jvm.Cond.methodLink "java/lang/String" (489 : Nat) ({ cls := "java/lang/String", name := "<init>", desc := "(Ljava/lang/AbstractStringBuilder;Ljava/lang/Void;)V" } : Jvm.MethodName)) ∈ lw_all := lw_g (lw_at lw_m3 187 rfl) rfl
theorem q751 : (Jvm.Cond.instanceMethod ({ cls := "java/lang/String", name := "<init>", desc := "(Ljava/lang/AbstractStringBuilder;Ljava/lang/Void;)V" } : Jvm.MethodName)) ∈ lw_all := lw_g (lw_at lw_m3 188 rfl) rfl
theorem q752 : (Jvm.Cond.code ({ cls := "java/lang/String", name := "<init>", desc := "(Ljava/lang/AbstractStringBuilder;Ljava/lang/Void;)V" } : Jvm.MethodName) prog_39_method_150_code (5 : Nat) (Option.none : Option Jvm.ClassFile.FieldType)) ∈ lw_all := lw_g (lw_at lw_m3 189 rfl) rfl
theorem q753 : (Jvm.Cond.methodLink "java/lang/String" (1 : Nat) ({ cls := "java/lang/Object", name := "<init>", desc := "()V" } : Jvm.MethodName)) ∈ lw_all := lw_g (lw_at lw_m3 190 rfl) rfl
theorem q754 : (Jvm.Cond.methodLink "java/lang/String" (552 : Nat) ({ cls := "java/lang/AbstractStringBuilder", name := "getValue", desc := "()[B" } : Jvm.MethodName)) ∈ lw_all := lw_g (lw_at lw_m3 191 rfl) rfl
theorem q759 : (Jvm.Cond.methodLink "java/lang/String" (549 : Nat) ({ cls := "java/lang/AbstractStringBuilder", name := "length", desc := "()I" } : Jvm.MethodName)) ∈ lw_all := lw_g (lw_at lw_m3 196 rfl) rfl
theorem q767 : (Jvm.Cond.methodLink "java/lang/String" (1047 : Nat) ({ cls := "java/lang/AbstractStringBuilder", name := "isLatin1", desc := "()Z" } : Jvm.MethodName)) ∈ lw_all := lw_g (lw_at lw_m3 204 rfl) rfl
theorem q768 : (Jvm.Cond.methodLink "java/lang/String" (54 : Nat) ({ cls := "java/util/Arrays", name := "copyOfRange", desc := "([BII)[B" } : Jvm.MethodName)) ∈ lw_all := lw_g (lw_at lw_m3 205 rfl) rfl
theorem q809 : (Jvm.Cond.methodLink "java/lang/String" (1051 : Nat) ({ cls := "java/lang/StringUTF16", name := "compress", desc := "([BII)[B" } : Jvm.MethodName)) ∈ lw_all := lw_g (lw_at lw_m4 6 rfl) rfl
theorem q817 : (Jvm.Cond.methodLink "java/lang/String" (47 : Nat) ({ cls := "java/lang/StringUTF16", name := "coderFromArrayLen", desc := "([BI)B" } : Jvm.MethodName)) ∈ lw_all := lw_g (lw_at lw_m4 14 rfl) rfl
theorem q820 : (Jvm.Cond.fieldLink "java/lang/String" (9 : Nat) "java/lang/String" "value" "[B") ∈ lw_all := lw_g (lw_at lw_m4 17 rfl) rfl
theorem q821 : (Jvm.Cond.fieldLink "java/lang/String" (15 : Nat) "java/lang/String" "coder" "B") ∈ lw_all := lw_g (lw_at lw_m4 18 rfl) rfl
theorem q822 : (Jvm.Cond.fieldLink "java/lang/String" (19 : Nat) "java/lang/String" "hash" "I") ∈ lw_all := lw_g (lw_at lw_m4 19 rfl) rfl
theorem q823 : (Jvm.Cond.fieldLink "java/lang/String" (23 : Nat) "java/lang/String" "hashIsZero" "Z") ∈ lw_all := lw_g (lw_at lw_m4 20 rfl) rfl
theorem q824 : (Jvm.Cond.laysFinal "java/lang/String" "java/lang/String" "value" "[B") ∈ lw_all := lw_g (lw_at lw_m4 21 rfl) rfl
theorem q825 : (Jvm.Cond.soleField "java/lang/String" "value") ∈ lw_all := lw_g (lw_at lw_m4 22 rfl) rfl
theorem q826 : (Jvm.Cond.laysFinal "java/lang/String" "java/lang/String" "coder" "B") ∈ lw_all := lw_g (lw_at lw_m4 23 rfl) rfl
theorem q827 : (Jvm.Cond.soleField "java/lang/String" "coder") ∈ lw_all := lw_g (lw_at lw_m4 24 rfl) rfl
theorem q828 : (Jvm.Cond.lays "java/lang/String" "java/lang/String" "hash" "I") ∈ lw_all := lw_g (lw_at lw_m4 25 rfl) rfl
theorem q829 : (Jvm.Cond.soleField "java/lang/String" "hash") ∈ lw_all := lw_g (lw_at lw_m4 26 rfl) rfl
theorem q830 : (Jvm.Cond.lays "java/lang/String" "java/lang/String" "hashIsZero" "Z") ∈ lw_all := lw_g (lw_at lw_m4 27 rfl) rfl
theorem q831 : (Jvm.Cond.soleField "java/lang/String" "hashIsZero") ∈ lw_all := lw_g (lw_at lw_m4 28 rfl) rfl
theorem q832 : (Jvm.Cond.superclass "java/lang/String" "java/lang/Object") ∈ lw_all := lw_g (lw_at lw_m4 29 rfl) rfl
theorem q834 : (Jvm.Cond.methodLink "java/lang/String" (632 : Nat) ({ cls := "java/lang/StringUTF16", name := "hashCode", desc := "([B)I" } : Jvm.MethodName)) ∈ lw_all := lw_g (lw_at lw_m4 31 rfl) rfl
theorem q867 : (Jvm.Cond.selects "java/lang/String" ({ cls := "java/lang/Object", name := "equals", desc := "(Ljava/lang/Object;)Z" } : Jvm.MethodName) ({ cls := "java/lang/String", name := "equals", desc := "(Ljava/lang/Object;)Z" } : Jvm.MethodName)) ∈ lw_all := lw_g (lw_at lw_m4 64 rfl) rfl
theorem q868 : (Jvm.Cond.instanceMethod ({ cls := "java/lang/String", name := "equals", desc := "(Ljava/lang/Object;)Z" } : Jvm.MethodName)) ∈ lw_all := lw_g (lw_at lw_m4 65 rfl) rfl
theorem q869 : (Jvm.Cond.code ({ cls := "java/lang/String", name := "equals", desc := "(Ljava/lang/Object;)Z" } : Jvm.MethodName) prog_39_method_66_code (3 : Nat) (Option.some Jvm.ClassFile.FieldType.boolean)) ∈ lw_all := lw_g (lw_at lw_m4 66 rfl) rfl
theorem q870 : (Jvm.Cond.classLink "java/lang/String" (10 : Nat) "java/lang/String") ∈ lw_all := lw_g (lw_at lw_m4 67 rfl) rfl
theorem q871 : (Jvm.Cond.methodLink "java/lang/String" (541 : Nat) ({ cls := "java/lang/StringLatin1", name := "equals", desc := "([B[B)Z" } : Jvm.MethodName)) ∈ lw_all := lw_g (lw_at lw_m4 68 rfl) rfl
theorem q906 : (Jvm.Cond.castable "java/lang/String" "java/lang/Comparable") ∈ lw_tbl := lw_at lw_m4 103 rfl
theorem q907 : (Jvm.Cond.selects "java/lang/String" ({ cls := "java/lang/Comparable", name := "compareTo", desc := "(Ljava/lang/Object;)I" } : Jvm.MethodName) ({ cls := "java/lang/String", name := "compareTo", desc := "(Ljava/lang/Object;)I" } : Jvm.MethodName)) ∈ lw_all := lw_g (lw_at lw_m4 104 rfl) rfl
theorem q908 : (Jvm.Cond.unhidden "java/lang/String" "compareTo" "(Ljava/lang/Object;)I") ∈ lw_tbl := lw_at lw_m4 105 rfl
theorem q909 : (Jvm.Cond.instanceMethod ({ cls := "java/lang/String", name := "compareTo", desc := "(Ljava/lang/Object;)I" } : Jvm.MethodName)) ∈ lw_all := lw_g (lw_at lw_m4 106 rfl) rfl
theorem q910 : (Jvm.Cond.publicMethod ({ cls := "java/lang/String", name := "compareTo", desc := "(Ljava/lang/Object;)I" } : Jvm.MethodName)) ∈ lw_tbl := lw_at lw_m4 107 rfl
theorem q911 : (Jvm.Cond.code ({ cls := "java/lang/String", name := "compareTo", desc := "(Ljava/lang/Object;)I" } : Jvm.MethodName) prog_39_method_162_code (2 : Nat) (Option.some Jvm.ClassFile.FieldType.int)) ∈ lw_all := lw_g (lw_at lw_m4 108 rfl) rfl
theorem q912 : (Jvm.Cond.methodLink "java/lang/String" (1084 : Nat) ({ cls := "java/lang/String", name := "compareTo", desc := "(Ljava/lang/String;)I" } : Jvm.MethodName)) ∈ lw_all := lw_g (lw_at lw_m4 109 rfl) rfl
theorem q913 : (Jvm.Cond.instanceMethod ({ cls := "java/lang/String", name := "compareTo", desc := "(Ljava/lang/String;)I" } : Jvm.MethodName)) ∈ lw_all := lw_g (lw_at lw_m4 110 rfl) rfl
theorem q914 : (Jvm.Cond.selects "java/lang/String" ({ cls := "java/lang/String", name := "compareTo", desc := "(Ljava/lang/String;)I" } : Jvm.MethodName) ({ cls := "java/lang/String", name := "compareTo", desc := "(Ljava/lang/String;)I" } : Jvm.MethodName)) ∈ lw_all := lw_g (lw_at lw_m4 111 rfl) rfl
theorem q915 : (Jvm.Cond.code ({ cls := "java/lang/String", name := "compareTo", desc := "(Ljava/lang/String;)I" } : Jvm.MethodName) prog_39_method_71_code (5 : Nat) (Option.some Jvm.ClassFile.FieldType.int)) ∈ lw_all := lw_g (lw_at lw_m4 112 rfl) rfl
theorem q916 : (Jvm.Cond.methodLink "java/lang/String" (586 : Nat) ({ cls := "java/lang/StringLatin1", name := "compareTo", desc := "([B[B)I" } : Jvm.MethodName)) ∈ lw_all := lw_g (lw_at lw_m4 113 rfl) rfl
theorem q1030 : (Jvm.Cond.methodLink "java/lang/String" (590 : Nat) ({ cls := "java/lang/StringUTF16", name := "compareTo", desc := "([B[B)I" } : Jvm.MethodName)) ∈ lw_all := lw_g (lw_at lw_m4 227 rfl) rfl
theorem q1037 : (Jvm.Cond.methodLink "java/lang/String" (591 : Nat) ({ cls := "java/lang/StringLatin1", name := "compareToUTF16", desc := "([B[B)I" } : Jvm.MethodName)) ∈ lw_all := lw_g (lw_at lw_m4 234 rfl) rfl
theorem q1048 : (Jvm.Cond.methodLink "java/lang/String" (594 : Nat) ({ cls := "java/lang/StringUTF16", name := "compareToLatin1", desc := "([B[B)I" } : Jvm.MethodName)) ∈ lw_all := lw_g (lw_at lw_m5 5 rfl) rfl
theorem q1074 : (Jvm.Cond.static ({ cls := "java/lang/String", name := "checkOffset", desc := "(II)V" } : Jvm.MethodName)) ∈ lw_all := lw_g (lw_at lw_m5 31 rfl) rfl
theorem q1075 : (Jvm.Cond.code ({ cls := "java/lang/String", name := "checkOffset", desc := "(II)V" } : Jvm.MethodName) prog_39_method_156_code (2 : Nat) (Option.none : Option Jvm.ClassFile.FieldType)) ∈ lw_all := lw_g (lw_at lw_m5 32 rfl) rfl
theorem q3005 : (Jvm.Cond.instanceMethod ({ cls := "java/lang/String", name := "indexOf", desc := "(I)I" } : Jvm.MethodName)) ∈ lw_all := lw_g (lw_at lw_m13 42 rfl) rfl
theorem q3006 : (Jvm.Cond.selects "java/lang/String" ({ cls := "java/lang/String", name := "indexOf", desc := "(I)I" } : Jvm.MethodName) ({ cls := "java/lang/String", name := "indexOf", desc := "(I)I" } : Jvm.MethodName)) ∈ lw_all := lw_g (lw_at lw_m13 43 rfl) rfl
theorem q3007 : (Jvm.Cond.code ({ cls := "java/lang/String", name := "indexOf", desc := "(I)I" } : Jvm.MethodName) prog_39_method_79_code (2 : Nat) (Option.some Jvm.ClassFile.FieldType.int)) ∈ lw_all := lw_g (lw_at lw_m13 44 rfl) rfl
theorem q3008 : (Jvm.Cond.methodLink "java/lang/String" (633 : Nat) ({ cls := "java/lang/String", name := "indexOf", desc := "(II)I" } : Jvm.MethodName)) ∈ lw_all := lw_g (lw_at lw_m13 45 rfl) rfl
theorem q3009 : (Jvm.Cond.instanceMethod ({ cls := "java/lang/String", name := "indexOf", desc := "(II)I" } : Jvm.MethodName)) ∈ lw_all := lw_g (lw_at lw_m13 46 rfl) rfl
theorem q3010 : (Jvm.Cond.selects "java/lang/String" ({ cls := "java/lang/String", name := "indexOf", desc := "(II)I" } : Jvm.MethodName) ({ cls := "java/lang/String", name := "indexOf", desc := "(II)I" } : Jvm.MethodName)) ∈ lw_all := lw_g (lw_at lw_m13 47 rfl) rfl
theorem q3011 : (Jvm.Cond.code ({ cls := "java/lang/String", name := "indexOf", desc := "(II)I" } : Jvm.MethodName) prog_39_method_80_code (3 : Nat) (Option.some Jvm.ClassFile.FieldType.int)) ∈ lw_all := lw_g (lw_at lw_m13 48 rfl) rfl
theorem q3012 : (Jvm.Cond.methodLink "java/lang/String" (505 : Nat) ({ cls := "java/lang/String", name := "length", desc := "()I" } : Jvm.MethodName)) ∈ lw_all := lw_g (lw_at lw_m13 49 rfl) rfl
theorem q3013 : (Jvm.Cond.methodLink "java/lang/String" (637 : Nat) ({ cls := "java/lang/StringLatin1", name := "indexOf", desc := "([BIII)I" } : Jvm.MethodName)) ∈ lw_all := lw_g (lw_at lw_m13 50 rfl) rfl
theorem q3023 : (Jvm.Cond.methodLink "java/lang/String" (640 : Nat) ({ cls := "java/lang/StringUTF16", name := "indexOf", desc := "([BIII)I" } : Jvm.MethodName)) ∈ lw_all := lw_g (lw_at lw_m13 60 rfl) rfl
theorem q3133 : (Jvm.Cond.castable "java/lang/String" "java/lang/Object") ∈ lw_tbl := lw_at lw_m13 170 rfl
theorem in_J11 : ∀ w ∈ wsJ110, w ∈ lw_all := lw_in wsJ110 [824, 826, 828, 830] (by decide +kernel) (by decide +kernel)

/-! java/lang/StringLatin1 -/
set_option maxRecDepth 100000
def RJ12 : String := "java/lang/StringLatin1"
abbrev cJ12_length : ByteArray := prog_41_method_5_code
def yJ12_length : MethodName := ⟨RJ12, "length", "([B)I"⟩
theorem dJ12_length_0 : decode cJ12_length 0 = .ok (.aload_n 0, 1) := by decide +kernel
theorem dJ12_length_1 : decode cJ12_length 1 = .ok (.arraylength, 1) := by decide +kernel
theorem dJ12_length_2 : decode cJ12_length 2 = .ok (.ireturn, 1) := by decide +kernel
abbrev cJ12_indexOf : ByteArray := prog_41_method_22_code
def yJ12_indexOf : MethodName := ⟨RJ12, "indexOf", "([BIII)I"⟩
def dkwJ12_indexOf_1 : List UInt8 := [161, 0, 5, 2, 172, 42, 27, 28, 29, 184, 0, 95, 172]
abbrev dktJ12_indexOf_1 : List UInt8 := dkwJ12_indexOf_1 ++ []
def dkwJ12_indexOf_0 : List UInt8 := [27, 184, 0, 88, 154, 0, 5, 2, 172, 28, 3, 184, 0, 92, 61, 29, 42, 190, 184, 0, 38, 62, 28, 29]
abbrev dktJ12_indexOf_0 : List UInt8 := dkwJ12_indexOf_0 ++ dktJ12_indexOf_1
theorem dksJ12_indexOf_0 : cJ12_indexOf.data.toList.drop 0 = dktJ12_indexOf_0 := by decide +kernel
theorem dksJ12_indexOf_1 : cJ12_indexOf.data.toList.drop 24 = dktJ12_indexOf_1 := dk_seg dksJ12_indexOf_0 24 rfl rfl
theorem dJ12_indexOf_0 : decode cJ12_indexOf 0 = .ok (.iload_n 1, 1) := dk_27 (dk_at dksJ12_indexOf_0 0 rfl rfl)
theorem dJ12_indexOf_1 : decode cJ12_indexOf 1 = .ok (.invokestatic 88, 3) := dk_184 0 88 (dk_at dksJ12_indexOf_0 1 rfl rfl)
theorem dJ12_indexOf_4 : decode cJ12_indexOf 4 = .ok (.ifCond .ne 5, 3) := dk_154 0 5 (dk_at dksJ12_indexOf_0 4 rfl rfl)
theorem dJ12_indexOf_7 : decode cJ12_indexOf 7 = .ok (.iconst (-1), 1) := dk_2 (dk_at dksJ12_indexOf_0 7 rfl rfl)
theorem dJ12_indexOf_8 : decode cJ12_indexOf 8 = .ok (.ireturn, 1) := dk_172 (dk_at dksJ12_indexOf_0 8 rfl rfl)
theorem dJ12_indexOf_9 : decode cJ12_indexOf 9 = .ok (.iload_n 2, 1) := dk_28 (dk_at dksJ12_indexOf_0 9 rfl rfl)
theorem dJ12_indexOf_10 : decode cJ12_indexOf 10 = .ok (.iconst 0, 1) := dk_3 (dk_at dksJ12_indexOf_0 10 rfl rfl)
theorem dJ12_indexOf_11 : decode cJ12_indexOf 11 = .ok (.invokestatic 92, 3) := dk_184 0 92 (dk_at dksJ12_indexOf_0 11 rfl rfl)
theorem dJ12_indexOf_14 : decode cJ12_indexOf 14 = .ok (.istore_n 2, 1) := dk_61 (dk_at dksJ12_indexOf_0 14 rfl rfl)
theorem dJ12_indexOf_15 : decode cJ12_indexOf 15 = .ok (.iload_n 3, 1) := dk_29 (dk_at dksJ12_indexOf_0 15 rfl rfl)
theorem dJ12_indexOf_16 : decode cJ12_indexOf 16 = .ok (.aload_n 0, 1) := dk_42 (dk_at dksJ12_indexOf_0 16 rfl rfl)
theorem dJ12_indexOf_17 : decode cJ12_indexOf 17 = .ok (.arraylength, 1) := dk_190 (dk_at dksJ12_indexOf_0 17 rfl rfl)
theorem dJ12_indexOf_18 : decode cJ12_indexOf 18 = .ok (.invokestatic 38, 3) := dk_184 0 38 (dk_at dksJ12_indexOf_0 18 rfl rfl)
theorem dJ12_indexOf_21 : decode cJ12_indexOf 21 = .ok (.istore_n 3, 1) := dk_62 (dk_at dksJ12_indexOf_0 21 rfl rfl)
theorem dJ12_indexOf_22 : decode cJ12_indexOf 22 = .ok (.iload_n 2, 1) := dk_28 (dk_at dksJ12_indexOf_0 22 rfl rfl)
theorem dJ12_indexOf_23 : decode cJ12_indexOf 23 = .ok (.iload_n 3, 1) := dk_29 (dk_at dksJ12_indexOf_0 23 rfl rfl)
theorem dJ12_indexOf_24 : decode cJ12_indexOf 24 = .ok (.if_icmp .lt 5, 3) := dk_161 0 5 (dk_at dksJ12_indexOf_1 0 rfl rfl)
theorem dJ12_indexOf_27 : decode cJ12_indexOf 27 = .ok (.iconst (-1), 1) := dk_2 (dk_at dksJ12_indexOf_1 3 rfl rfl)
theorem dJ12_indexOf_28 : decode cJ12_indexOf 28 = .ok (.ireturn, 1) := dk_172 (dk_at dksJ12_indexOf_1 4 rfl rfl)
theorem dJ12_indexOf_29 : decode cJ12_indexOf 29 = .ok (.aload_n 0, 1) := dk_42 (dk_at dksJ12_indexOf_1 5 rfl rfl)
theorem dJ12_indexOf_30 : decode cJ12_indexOf 30 = .ok (.iload_n 1, 1) := dk_27 (dk_at dksJ12_indexOf_1 6 rfl rfl)
theorem dJ12_indexOf_31 : decode cJ12_indexOf 31 = .ok (.iload_n 2, 1) := dk_28 (dk_at dksJ12_indexOf_1 7 rfl rfl)
theorem dJ12_indexOf_32 : decode cJ12_indexOf 32 = .ok (.iload_n 3, 1) := dk_29 (dk_at dksJ12_indexOf_1 8 rfl rfl)
theorem dJ12_indexOf_33 : decode cJ12_indexOf 33 = .ok (.invokestatic 95, 3) := dk_184 0 95 (dk_at dksJ12_indexOf_1 9 rfl rfl)
theorem dJ12_indexOf_36 : decode cJ12_indexOf 36 = .ok (.ireturn, 1) := dk_172 (dk_at dksJ12_indexOf_1 12 rfl rfl)
abbrev cJ12_canEncode : ByteArray := prog_41_method_4_code
def yJ12_canEncode : MethodName := ⟨RJ12, "canEncode", "(I)Z"⟩
def dkwJ12_canEncode_0 : List UInt8 := [26, 155, 0, 14, 26, 17, 0, 255, 163, 0, 7, 4, 167, 0, 4, 3, 172]
abbrev dktJ12_canEncode_0 : List UInt8 := dkwJ12_canEncode_0 ++ []
theorem dksJ12_canEncode_0 : cJ12_canEncode.data.toList.drop 0 = dktJ12_canEncode_0 := by decide +kernel
theorem dJ12_canEncode_0 : decode cJ12_canEncode 0 = .ok (.iload_n 0, 1) := dk_26 (dk_at dksJ12_canEncode_0 0 rfl rfl)
theorem dJ12_canEncode_1 : decode cJ12_canEncode 1 = .ok (.ifCond .lt 14, 3) := dk_155 0 14 (dk_at dksJ12_canEncode_0 1 rfl rfl)
theorem dJ12_canEncode_4 : decode cJ12_canEncode 4 = .ok (.iload_n 0, 1) := dk_26 (dk_at dksJ12_canEncode_0 4 rfl rfl)
theorem dJ12_canEncode_5 : decode cJ12_canEncode 5 = .ok (.sipush 255, 3) := dk_17 0 255 (dk_at dksJ12_canEncode_0 5 rfl rfl)
theorem dJ12_canEncode_8 : decode cJ12_canEncode 8 = .ok (.if_icmp .gt 7, 3) := dk_163 0 7 (dk_at dksJ12_canEncode_0 8 rfl rfl)
theorem dJ12_canEncode_11 : decode cJ12_canEncode 11 = .ok (.iconst 1, 1) := dk_4 (dk_at dksJ12_canEncode_0 11 rfl rfl)
theorem dJ12_canEncode_12 : decode cJ12_canEncode 12 = .ok (.goto 4, 3) := dk_167 0 4 (dk_at dksJ12_canEncode_0 12 rfl rfl)
theorem dJ12_canEncode_15 : decode cJ12_canEncode 15 = .ok (.iconst 0, 1) := dk_3 (dk_at dksJ12_canEncode_0 15 rfl rfl)
theorem dJ12_canEncode_16 : decode cJ12_canEncode 16 = .ok (.ireturn, 1) := dk_172 (dk_at dksJ12_canEncode_0 16 rfl rfl)
abbrev cJ12_indexOfChar : ByteArray := prog_41_method_23_code
def yJ12_indexOfChar : MethodName := ⟨RJ12, "indexOfChar", "([BIII)I"⟩
def dkwJ12_indexOfChar_1 : List UInt8 := [172, 132, 5, 1, 167, 255, 235, 2, 172]
abbrev dktJ12_indexOfChar_1 : List UInt8 := dkwJ12_indexOfChar_1 ++ []
def dkwJ12_indexOfChar_0 : List UInt8 := [27, 145, 54, 4, 28, 54, 5, 21, 5, 29, 162, 0, 21, 42, 21, 5, 51, 21, 4, 160, 0, 6, 21, 5]
abbrev dktJ12_indexOfChar_0 : List UInt8 := dkwJ12_indexOfChar_0 ++ dktJ12_indexOfChar_1
theorem dksJ12_indexOfChar_0 : cJ12_indexOfChar.data.toList.drop 0 = dktJ12_indexOfChar_0 := by decide +kernel
theorem dksJ12_indexOfChar_1 : cJ12_indexOfChar.data.toList.drop 24 = dktJ12_indexOfChar_1 := dk_seg dksJ12_indexOfChar_0 24 rfl rfl
theorem dJ12_indexOfChar_0 : decode cJ12_indexOfChar 0 = .ok (.iload_n 1, 1) := dk_27 (dk_at dksJ12_indexOfChar_0 0 rfl rfl)
theorem dJ12_indexOfChar_1 : decode cJ12_indexOfChar 1 = .ok (.i2b, 1) := dk_145 (dk_at dksJ12_indexOfChar_0 1 rfl rfl)
theorem dJ12_indexOfChar_2 : decode cJ12_indexOfChar 2 = .ok (.istore 4, 2) := dk_54 4 (dk_at dksJ12_indexOfChar_0 2 rfl rfl)
theorem dJ12_indexOfChar_4 : decode cJ12_indexOfChar 4 = .ok (.iload_n 2, 1) := dk_28 (dk_at dksJ12_indexOfChar_0 4 rfl rfl)
theorem dJ12_indexOfChar_5 : decode cJ12_indexOfChar 5 = .ok (.istore 5, 2) := dk_54 5 (dk_at dksJ12_indexOfChar_0 5 rfl rfl)
theorem dJ12_indexOfChar_7 : decode cJ12_indexOfChar 7 = .ok (.iload 5, 2) := dk_21 5 (dk_at dksJ12_indexOfChar_0 7 rfl rfl)
theorem dJ12_indexOfChar_9 : decode cJ12_indexOfChar 9 = .ok (.iload_n 3, 1) := dk_29 (dk_at dksJ12_indexOfChar_0 9 rfl rfl)
theorem dJ12_indexOfChar_10 : decode cJ12_indexOfChar 10 = .ok (.if_icmp .ge 21, 3) := dk_162 0 21 (dk_at dksJ12_indexOfChar_0 10 rfl rfl)
theorem dJ12_indexOfChar_13 : decode cJ12_indexOfChar 13 = .ok (.aload_n 0, 1) := dk_42 (dk_at dksJ12_indexOfChar_0 13 rfl rfl)
theorem dJ12_indexOfChar_14 : decode cJ12_indexOfChar 14 = .ok (.iload 5, 2) := dk_21 5 (dk_at dksJ12_indexOfChar_0 14 rfl rfl)
theorem dJ12_indexOfChar_16 : decode cJ12_indexOfChar 16 = .ok (.baload, 1) := dk_51 (dk_at dksJ12_indexOfChar_0 16 rfl rfl)
theorem dJ12_indexOfChar_17 : decode cJ12_indexOfChar 17 = .ok (.iload 4, 2) := dk_21 4 (dk_at dksJ12_indexOfChar_0 17 rfl rfl)
theorem dJ12_indexOfChar_19 : decode cJ12_indexOfChar 19 = .ok (.if_icmp .ne 6, 3) := dk_160 0 6 (dk_at dksJ12_indexOfChar_0 19 rfl rfl)
theorem dJ12_indexOfChar_22 : decode cJ12_indexOfChar 22 = .ok (.iload 5, 2) := dk_21 5 (dk_at dksJ12_indexOfChar_0 22 rfl rfl)
theorem dJ12_indexOfChar_24 : decode cJ12_indexOfChar 24 = .ok (.ireturn, 1) := dk_172 (dk_at dksJ12_indexOfChar_1 0 rfl rfl)
theorem dJ12_indexOfChar_25 : decode cJ12_indexOfChar 25 = .ok (.iinc 5 1, 3) := dk_132 5 1 (dk_at dksJ12_indexOfChar_1 1 rfl rfl)
theorem dJ12_indexOfChar_28 : decode cJ12_indexOfChar 28 = .ok (.goto (-21), 3) := dk_167 255 235 (dk_at dksJ12_indexOfChar_1 4 rfl rfl)
theorem dJ12_indexOfChar_31 : decode cJ12_indexOfChar 31 = .ok (.iconst (-1), 1) := dk_2 (dk_at dksJ12_indexOfChar_1 7 rfl rfl)
theorem dJ12_indexOfChar_32 : decode cJ12_indexOfChar 32 = .ok (.ireturn, 1) := dk_172 (dk_at dksJ12_indexOfChar_1 8 rfl rfl)
theorem q102 : (Jvm.Cond.initialized "java/lang/StringLatin1") ∈ lw_all := lw_g (lw_at lw_m1 19 rfl) rfl
theorem q491 : (Jvm.Cond.static ({ cls := "java/lang/StringLatin1", name := "hashCode", desc := "([B)I" } : Jvm.MethodName)) ∈ lw_all := lw_g (lw_at lw_m2 168 rfl) rfl
theorem q492 : (Jvm.Cond.code ({ cls := "java/lang/StringLatin1", name := "hashCode", desc := "([B)I" } : Jvm.MethodName) prog_41_method_21_code (1 : Nat) (Option.some Jvm.ClassFile.FieldType.int)) ∈ lw_all := lw_g (lw_at lw_m2 169 rfl) rfl
theorem q493 : (Jvm.Cond.methodLink "java/lang/StringLatin1" (84 : Nat) ({ cls := "jdk/internal/util/ArraysSupport", name := "vectorizedHashCode", desc := "(Ljava/lang/Object;IIII)I" } : Jvm.MethodName)) ∈ lw_all := lw_g (lw_at lw_m2 170 rfl) rfl
theorem q696 : (Jvm.Cond.static ({ cls := "java/lang/StringLatin1", name := "inflate", desc := "([BI[BII)V" } : Jvm.MethodName)) ∈ lw_all := lw_g (lw_at lw_m3 133 rfl) rfl
theorem q697 : (Jvm.Cond.code ({ cls := "java/lang/StringLatin1", name := "inflate", desc := "([BI[BII)V" } : Jvm.MethodName) prog_41_method_50_code (5 : Nat) (Option.none : Option Jvm.ClassFile.FieldType)) ∈ lw_all := lw_g (lw_at lw_m3 134 rfl) rfl
theorem q698 : (Jvm.Cond.methodLink "java/lang/StringLatin1" (240 : Nat) ({ cls := "java/lang/StringUTF16", name := "inflate", desc := "([BI[BII)V" } : Jvm.MethodName)) ∈ lw_all := lw_g (lw_at lw_m3 135 rfl) rfl
theorem q872 : (Jvm.Cond.static ({ cls := "java/lang/StringLatin1", name := "equals", desc := "([B[B)Z" } : Jvm.MethodName)) ∈ lw_all := lw_g (lw_at lw_m4 69 rfl) rfl
theorem q873 : (Jvm.Cond.code ({ cls := "java/lang/StringLatin1", name := "equals", desc := "([B[B)Z" } : Jvm.MethodName) prog_41_method_13_code (3 : Nat) (Option.some Jvm.ClassFile.FieldType.boolean)) ∈ lw_all := lw_g (lw_at lw_m4 70 rfl) rfl
theorem q917 : (Jvm.Cond.static ({ cls := "java/lang/StringLatin1", name := "compareTo", desc := "([B[B)I" } : Jvm.MethodName)) ∈ lw_all := lw_g (lw_at lw_m4 114 rfl) rfl
theorem q918 : (Jvm.Cond.code ({ cls := "java/lang/StringLatin1", name := "compareTo", desc := "([B[B)I" } : Jvm.MethodName) prog_41_method_14_code (4 : Nat) (Option.some Jvm.ClassFile.FieldType.int)) ∈ lw_all := lw_g (lw_at lw_m4 115 rfl) rfl
theorem q919 : (Jvm.Cond.methodLink "java/lang/StringLatin1" (34 : Nat) ({ cls := "java/lang/StringLatin1", name := "compareTo", desc := "([B[BII)I" } : Jvm.MethodName)) ∈ lw_all := lw_g (lw_at lw_m4 116 rfl) rfl
theorem q920 : (Jvm.Cond.static ({ cls := "java/lang/StringLatin1", name := "compareTo", desc := "([B[BII)I" } : Jvm.MethodName)) ∈ lw_all := lw_g (lw_at lw_m4 117 rfl) rfl
theorem q921 : (Jvm.Cond.code ({ cls := "java/lang/StringLatin1", name := "compareTo", desc := "([B[BII)I" } : Jvm.MethodName) prog_41_method_15_code (6 : Nat) (Option.some Jvm.ClassFile.FieldType.int)) ∈ lw_all := lw_g (lw_at lw_m4 118 rfl) rfl
theorem q922 : (Jvm.Cond.methodLink "java/lang/StringLatin1" (38 : Nat) ({ cls := "java/lang/Math", name := "min", desc := "(II)I" } : Jvm.MethodName)) ∈ lw_all := lw_g (lw_at lw_m4 119 rfl) rfl
theorem q923 : (Jvm.Cond.methodLink "java/lang/StringLatin1" (44 : Nat) ({ cls := "jdk/internal/util/ArraysSupport", name := "mismatch", desc := "([B[BI)I" } : Jvm.MethodName)) ∈ lw_all := lw_g (lw_at lw_m4 120 rfl) rfl
theorem q1027 : (Jvm.Cond.methodLink "java/lang/StringLatin1" (50 : Nat) ({ cls := "java/lang/StringLatin1", name := "getChar", desc := "([BI)C" } : Jvm.MethodName)) ∈ lw_all := lw_g (lw_at lw_m4 224 rfl) rfl
theorem q1028 : (Jvm.Cond.static ({ cls := "java/lang/StringLatin1", name := "getChar", desc := "([BI)C" } : Jvm.MethodName)) ∈ lw_all := lw_g (lw_at lw_m4 225 rfl) rfl
theorem q1029 : (Jvm.Cond.code ({ cls := "java/lang/StringLatin1", name := "getChar", desc := "([BI)C" } : Jvm.MethodName) prog_41_method_44_code (2 : Nat) (Option.some Jvm.ClassFile.FieldType.char)) ∈ lw_all := lw_g (lw_at lw_m4 226 rfl) rfl
theorem q1038 : (Jvm.Cond.static ({ cls := "java/lang/StringLatin1", name := "compareToUTF16", desc := "([B[B)I" } : Jvm.MethodName)) ∈ lw_all := lw_g (lw_at lw_m4 235 rfl) rfl
theorem q1039 : (Jvm.Cond.code ({ cls := "java/lang/StringLatin1", name := "compareToUTF16", desc := "([B[B)I" } : Jvm.MethodName) prog_41_method_16_code (4 : Nat) (Option.some Jvm.ClassFile.FieldType.int)) ∈ lw_all := lw_g (lw_at lw_m4 236 rfl) rfl
theorem q1040 : (Jvm.Cond.methodLink "java/lang/StringLatin1" (54 : Nat) ({ cls := "java/lang/StringLatin1", name := "length", desc := "([B)I" } : Jvm.MethodName)) ∈ lw_all := lw_g (lw_at lw_m4 237 rfl) rfl
theorem q1041 : (Jvm.Cond.static ({ cls := "java/lang/StringLatin1", name := "length", desc := "([B)I" } : Jvm.MethodName)) ∈ lw_all := lw_g (lw_at lw_m4 238 rfl) rfl
theorem q1042 : (Jvm.Cond.code ({ cls := "java/lang/StringLatin1", name := "length", desc := "([B)I" } : Jvm.MethodName) prog_41_method_5_code (1 : Nat) (Option.some Jvm.ClassFile.FieldType.int)) ∈ lw_all := lw_g (lw_at lw_m4 239 rfl) rfl
theorem q1043 : (Jvm.Cond.methodLink "java/lang/StringLatin1" (58 : Nat) ({ cls := "java/lang/StringUTF16", name := "length", desc := "([B)I" } : Jvm.MethodName)) ∈ lw_all := lw_g (lw_at lw_m5 0 rfl) rfl
theorem q1044 : (Jvm.Cond.methodLink "java/lang/StringLatin1" (59 : Nat) ({ cls := "java/lang/StringLatin1", name := "compareToUTF16Values", desc := "([B[BII)I" } : Jvm.MethodName)) ∈ lw_all := lw_g (lw_at lw_m5 1 rfl) rfl
theorem q1045 : (Jvm.Cond.static ({ cls := "java/lang/StringLatin1", name := "compareToUTF16Values", desc := "([B[BII)I" } : Jvm.MethodName)) ∈ lw_all := lw_g (lw_at lw_m5 2 rfl) rfl
theorem q1046 : (Jvm.Cond.code ({ cls := "java/lang/StringLatin1", name := "compareToUTF16Values", desc := "([B[BII)I" } : Jvm.MethodName) prog_41_method_18_code (8 : Nat) (Option.some Jvm.ClassFile.FieldType.int)) ∈ lw_all := lw_g (lw_at lw_m5 3 rfl) rfl
theorem q1047 : (Jvm.Cond.methodLink "java/lang/StringLatin1" (65 : Nat) ({ cls := "java/lang/StringUTF16", name := "getChar", desc := "([BI)C" } : Jvm.MethodName)) ∈ lw_all := lw_g (lw_at lw_m5 4 rfl) rfl
theorem q1077 : (Jvm.Cond.static ({ cls := "java/lang/StringLatin1", name := "compareToUTF16", desc := "([B[BII)I" } : Jvm.MethodName)) ∈ lw_all := lw_g (lw_at lw_m5 34 rfl) rfl
theorem q1078 : (Jvm.Cond.code ({ cls := "java/lang/StringLatin1", name := "compareToUTF16", desc := "([B[BII)I" } : Jvm.MethodName) prog_41_method_17_code (4 : Nat) (Option.some Jvm.ClassFile.FieldType.int)) ∈ lw_all := lw_g (lw_at lw_m5 35 rfl) rfl
theorem q1079 : (Jvm.Cond.methodLink "java/lang/StringLatin1" (62 : Nat) ({ cls := "java/lang/String", name := "checkOffset", desc := "(II)V" } : Jvm.MethodName)) ∈ lw_all := lw_g (lw_at lw_m5 36 rfl) rfl
theorem q3014 : (Jvm.Cond.static ({ cls := "java/lang/StringLatin1", name := "indexOf", desc := "([BIII)I" } : Jvm.MethodName)) ∈ lw_all := lw_g (lw_at lw_m13 51 rfl) rfl
theorem q3015 : (Jvm.Cond.code ({ cls := "java/lang/StringLatin1", name := "indexOf", desc := "([BIII)I" } : Jvm.MethodName) prog_41_method_22_code (4 : Nat) (Option.some Jvm.ClassFile.FieldType.int)) ∈ lw_all := lw_g (lw_at lw_m13 52 rfl) rfl
theorem q3016 : (Jvm.Cond.methodLink "java/lang/StringLatin1" (88 : Nat) ({ cls := "java/lang/StringLatin1", name := "canEncode", desc := "(I)Z" } : Jvm.MethodName)) ∈ lw_all := lw_g (lw_at lw_m13 53 rfl) rfl
theorem q3017 : (Jvm.Cond.static ({ cls := "java/lang/StringLatin1", name := "canEncode", desc := "(I)Z" } : Jvm.MethodName)) ∈ lw_all := lw_g (lw_at lw_m13 54 rfl) rfl
theorem q3018 : (Jvm.Cond.code ({ cls := "java/lang/StringLatin1", name := "canEncode", desc := "(I)Z" } : Jvm.MethodName) prog_41_method_4_code (1 : Nat) (Option.some Jvm.ClassFile.FieldType.boolean)) ∈ lw_all := lw_g (lw_at lw_m13 55 rfl) rfl
theorem q3019 : (Jvm.Cond.methodLink "java/lang/StringLatin1" (92 : Nat) ({ cls := "java/lang/Math", name := "max", desc := "(II)I" } : Jvm.MethodName)) ∈ lw_all := lw_g (lw_at lw_m13 56 rfl) rfl
theorem q3020 : (Jvm.Cond.methodLink "java/lang/StringLatin1" (95 : Nat) ({ cls := "java/lang/StringLatin1", name := "indexOfChar", desc := "([BIII)I" } : Jvm.MethodName)) ∈ lw_all := lw_g (lw_at lw_m13 57 rfl) rfl
theorem q3021 : (Jvm.Cond.static ({ cls := "java/lang/StringLatin1", name := "indexOfChar", desc := "([BIII)I" } : Jvm.MethodName)) ∈ lw_all := lw_g (lw_at lw_m13 58 rfl) rfl
theorem q3022 : (Jvm.Cond.code ({ cls := "java/lang/StringLatin1", name := "indexOfChar", desc := "([BIII)I" } : Jvm.MethodName) prog_41_method_23_code (6 : Nat) (Option.some Jvm.ClassFile.FieldType.int)) ∈ lw_all := lw_g (lw_at lw_m13 59 rfl) rfl

/-! java/lang/Throwable -/
set_option maxRecDepth 100000
def RJ14 : String := "java/lang/Throwable"
def TJ14 : u_T := fun k => match k with
  | 0 => ("java/lang/Throwable", "cause", "Ljava/lang/Throwable;", false)
  | 1 => ("java/lang/Throwable", "stackTrace", "[Ljava/lang/StackTraceElement;", false)
  | 2 => ("java/lang/Throwable", "suppressedExceptions", "Ljava/util/List;", false)
  | 3 => ("java/lang/Throwable", "detailMessage", "Ljava/lang/String;", false)
  | _ => ("java/lang/Throwable", "backtrace", "Ljava/lang/Object;", false)
def tyJ14 : Nat → FieldType := fun k => match k with
  | 0 => .object "java/lang/Throwable"
  | 1 => .array (.object "java/lang/StackTraceElement")
  | 2 => .object "java/util/List"
  | 3 => .object "java/lang/String"
  | _ => .object "java/lang/Object"
abbrev wsJ140 : List Cond := u_ws RJ14 TJ14 5
theorem nmJ14 : ∀ a, a < 5 → ∀ b, b < 5 → a ≠ b → (TJ14 a).2.1 ≠ (TJ14 b).2.1 := by decide +kernel
theorem tyJ14_ok : ∀ k, k < 5 → parseFieldDescriptor (TJ14 k).2.2.1 = some (tyJ14 k) := by decide +kernel
abbrev cJ14_init : ByteArray := prog_45_method_1_code
def yJ14_init : MethodName := ⟨RJ14, "<init>", "()V"⟩
def dkwJ14_init_1 : List UInt8 := [182, 0, 27, 87, 177]
abbrev dktJ14_init_1 : List UInt8 := dkwJ14_init_1 ++ []
def dkwJ14_init_0 : List UInt8 := [42, 183, 0, 1, 42, 42, 181, 0, 7, 42, 178, 0, 13, 181, 0, 17, 42, 178, 0, 20, 181, 0, 24, 42]
abbrev dktJ14_init_0 : List UInt8 := dkwJ14_init_0 ++ dktJ14_init_1
theorem dksJ14_init_0 : cJ14_init.data.toList.drop 0 = dktJ14_init_0 := by decide +kernel
theorem dksJ14_init_1 : cJ14_init.data.toList.drop 24 = dktJ14_init_1 := dk_seg dksJ14_init_0 24 rfl rfl
theorem dJ14_init_0 : decode cJ14_init 0 = .ok (.aload_n 0, 1) := dk_42 (dk_at dksJ14_init_0 0 rfl rfl)
theorem dJ14_init_1 : decode cJ14_init 1 = .ok (.invokespecial 1, 3) := dk_183 0 1 (dk_at dksJ14_init_0 1 rfl rfl)
theorem dJ14_init_4 : decode cJ14_init 4 = .ok (.aload_n 0, 1) := dk_42 (dk_at dksJ14_init_0 4 rfl rfl)
theorem dJ14_init_5 : decode cJ14_init 5 = .ok (.aload_n 0, 1) := dk_42 (dk_at dksJ14_init_0 5 rfl rfl)
theorem dJ14_init_6 : decode cJ14_init 6 = .ok (.putfield 7, 3) := dk_181 0 7 (dk_at dksJ14_init_0 6 rfl rfl)
theorem dJ14_init_9 : decode cJ14_init 9 = .ok (.aload_n 0, 1) := dk_42 (dk_at dksJ14_init_0 9 rfl rfl)
theorem dJ14_init_10 : decode cJ14_init 10 = .ok (.getstatic 13, 3) := dk_178 0 13 (dk_at dksJ14_init_0 10 rfl rfl)
theorem dJ14_init_13 : decode cJ14_init 13 = .ok (.putfield 17, 3) := dk_181 0 17 (dk_at dksJ14_init_0 13 rfl rfl)
theorem dJ14_init_16 : decode cJ14_init 16 = .ok (.aload_n 0, 1) := dk_42 (dk_at dksJ14_init_0 16 rfl rfl)
theorem dJ14_init_17 : decode cJ14_init 17 = .ok (.getstatic 20, 3) := dk_178 0 20 (dk_at dksJ14_init_0 17 rfl rfl)
theorem dJ14_init_20 : decode cJ14_init 20 = .ok (.putfield 24, 3) := dk_181 0 24 (dk_at dksJ14_init_0 20 rfl rfl)
theorem dJ14_init_23 : decode cJ14_init 23 = .ok (.aload_n 0, 1) := dk_42 (dk_at dksJ14_init_0 23 rfl rfl)
theorem dJ14_init_24 : decode cJ14_init 24 = .ok (.invokevirtual 27, 3) := dk_182 0 27 (dk_at dksJ14_init_1 0 rfl rfl)
theorem dJ14_init_27 : decode cJ14_init 27 = .ok (.pop, 1) := dk_87 (dk_at dksJ14_init_1 3 rfl rfl)
theorem dJ14_init_28 : decode cJ14_init 28 = .ok (.return_, 1) := dk_177 (dk_at dksJ14_init_1 4 rfl rfl)
abbrev cJ14_init_2 : ByteArray := prog_45_method_2_code
def yJ14_init_2 : MethodName := ⟨RJ14, "<init>", "(Ljava/lang/String;)V"⟩
def dkwJ14_init_2_1 : List UInt8 := [182, 0, 27, 87, 42, 43, 181, 0, 31, 177]
abbrev dktJ14_init_2_1 : List UInt8 := dkwJ14_init_2_1 ++ []
def dkwJ14_init_2_0 : List UInt8 := [42, 183, 0, 1, 42, 42, 181, 0, 7, 42, 178, 0, 13, 181, 0, 17, 42, 178, 0, 20, 181, 0, 24, 42]
abbrev dktJ14_init_2_0 : List UInt8 := dkwJ14_init_2_0 ++ dktJ14_init_2_1
theorem dksJ14_init_2_0 : cJ14_init_2.data.toList.drop 0 = dktJ14_init_2_0 := by decide +kernel
theorem dksJ14_init_2_1 : cJ14_init_2.data.toList.drop 24 = dktJ14_init_2_1 := dk_seg dksJ14_init_2_0 24 rfl rfl
theorem dJ14_init_2_0 : decode cJ14_init_2 0 = .ok (.aload_n 0, 1) := dk_42 (dk_at dksJ14_init_2_0 0 rfl rfl)
theorem dJ14_init_2_1 : decode cJ14_init_2 1 = .ok (.invokespecial 1, 3) := dk_183 0 1 (dk_at dksJ14_init_2_0 1 rfl rfl)
theorem dJ14_init_2_4 : decode cJ14_init_2 4 = .ok (.aload_n 0, 1) := dk_42 (dk_at dksJ14_init_2_0 4 rfl rfl)
theorem dJ14_init_2_5 : decode cJ14_init_2 5 = .ok (.aload_n 0, 1) := dk_42 (dk_at dksJ14_init_2_0 5 rfl rfl)
theorem dJ14_init_2_6 : decode cJ14_init_2 6 = .ok (.putfield 7, 3) := dk_181 0 7 (dk_at dksJ14_init_2_0 6 rfl rfl)
theorem dJ14_init_2_9 : decode cJ14_init_2 9 = .ok (.aload_n 0, 1) := dk_42 (dk_at dksJ14_init_2_0 9 rfl rfl)
theorem dJ14_init_2_10 : decode cJ14_init_2 10 = .ok (.getstatic 13, 3) := dk_178 0 13 (dk_at dksJ14_init_2_0 10 rfl rfl)
theorem dJ14_init_2_13 : decode cJ14_init_2 13 = .ok (.putfield 17, 3) := dk_181 0 17 (dk_at dksJ14_init_2_0 13 rfl rfl)
theorem dJ14_init_2_16 : decode cJ14_init_2 16 = .ok (.aload_n 0, 1) := dk_42 (dk_at dksJ14_init_2_0 16 rfl rfl)
theorem dJ14_init_2_17 : decode cJ14_init_2 17 = .ok (.getstatic 20, 3) := dk_178 0 20 (dk_at dksJ14_init_2_0 17 rfl rfl)
theorem dJ14_init_2_20 : decode cJ14_init_2 20 = .ok (.putfield 24, 3) := dk_181 0 24 (dk_at dksJ14_init_2_0 20 rfl rfl)
theorem dJ14_init_2_23 : decode cJ14_init_2 23 = .ok (.aload_n 0, 1) := dk_42 (dk_at dksJ14_init_2_0 23 rfl rfl)
theorem dJ14_init_2_24 : decode cJ14_init_2 24 = .ok (.invokevirtual 27, 3) := dk_182 0 27 (dk_at dksJ14_init_2_1 0 rfl rfl)
theorem dJ14_init_2_27 : decode cJ14_init_2 27 = .ok (.pop, 1) := dk_87 (dk_at dksJ14_init_2_1 3 rfl rfl)
theorem dJ14_init_2_28 : decode cJ14_init_2 28 = .ok (.aload_n 0, 1) := dk_42 (dk_at dksJ14_init_2_1 4 rfl rfl)
theorem dJ14_init_2_29 : decode cJ14_init_2 29 = .ok (.aload_n 1, 1) := dk_43 (dk_at dksJ14_init_2_1 5 rfl rfl)
theorem dJ14_init_2_30 : decode cJ14_init_2 30 = .ok (.putfield 31, 3) := dk_181 0 31 (dk_at dksJ14_init_2_1 6 rfl rfl)
theorem dJ14_init_2_33 : decode cJ14_init_2 33 = .ok (.return_, 1) := dk_177 (dk_at dksJ14_init_2_1 9 rfl rfl)
theorem q104 : (Jvm.Cond.initialized "java/lang/Throwable") ∈ lw_all := lw_g (lw_at lw_m1 21 rfl) rfl
theorem q549 : (Jvm.Cond.declares ({ cls := "java/lang/Throwable", name := "<init>", desc := "()V" } : Jvm.MethodName)) ∈ lw_tbl := lw_at lw_m2 226 rfl
theorem q550 : (Jvm.Cond.declares ({ cls := "java/lang/Throwable", name := "<init>", desc := "(Ljava/lang/String;)V" } : Jvm.MethodName)) ∈ lw_tbl := lw_at lw_m2 227 rfl
theorem q554 : (Jvm.Cond.lays "java/lang/Throwable" "java/lang/Throwable" "cause" "Ljava/lang/Throwable;") ∈ lw_all := lw_g (lw_at lw_m2 231 rfl) rfl
theorem q556 : (Jvm.Cond.lays "java/lang/Throwable" "java/lang/Throwable" "stackTrace" "[Ljava/lang/StackTraceElement;") ∈ lw_all := lw_g (lw_at lw_m2 233 rfl) rfl
theorem q558 : (Jvm.Cond.lays "java/lang/Throwable" "java/lang/Throwable" "suppressedExceptions" "Ljava/util/List;") ∈ lw_all := lw_g (lw_at lw_m2 235 rfl) rfl
theorem q560 : (Jvm.Cond.lays "java/lang/Throwable" "java/lang/Throwable" "detailMessage" "Ljava/lang/String;") ∈ lw_all := lw_g (lw_at lw_m2 237 rfl) rfl
theorem q562 : (Jvm.Cond.lays "java/lang/Throwable" "java/lang/Throwable" "backtrace" "Ljava/lang/Object;") ∈ lw_all := lw_g (lw_at lw_m2 239 rfl) rfl
theorem q563 : (Jvm.Cond.fieldLink "java/lang/Throwable" (198 : Nat) "java/lang/Throwable" "backtrace" "Ljava/lang/Object;") ∈ lw_all := lw_g (lw_at lw_m3 0 rfl) rfl
theorem q564 : (Jvm.Cond.superclass "java/lang/Throwable" "java/lang/Object") ∈ lw_all := lw_g (lw_at lw_m3 1 rfl) rfl
theorem q565 : (Jvm.Cond.instanceMethod ({ cls := "java/lang/Throwable", name := "<init>", desc := "()V" } : Jvm.MethodName)) ∈ lw_all := lw_g (lw_at lw_m3 2 rfl) rfl
theorem q566 : (Jvm.Cond.code ({ cls := "java/lang/Throwable", name := "<init>", desc := "()V" } : Jvm.MethodName) prog_45_method_1_code (1 : Nat) (Option.none : Option Jvm.ClassFile.FieldType)) ∈ lw_all := lw_g (lw_at lw_m3 3 rfl) rfl
theorem q567 : (Jvm.Cond.methodLink "java/lang/Throwable" (1 : Nat) ({ cls := "java/lang/Object", name := "<init>", desc := "()V" } : Jvm.MethodName)) ∈ lw_all := lw_g (lw_at lw_m3 4 rfl) rfl
theorem q568 : (Jvm.Cond.fieldLink "java/lang/Throwable" (13 : Nat) "java/lang/Throwable" "UNASSIGNED_STACK" "[Ljava/lang/StackTraceElement;") ∈ lw_all := lw_g (lw_at lw_m3 5 rfl) rfl
theorem q569 : (Jvm.Cond.laysStatic "java/lang/Throwable" "UNASSIGNED_STACK" "[Ljava/lang/StackTraceElement;") ∈ lw_tbl := lw_at lw_m3 6 rfl
theorem q570 : (Jvm.Cond.fieldLink "java/lang/Throwable" (20 : Nat) "java/lang/Throwable" "SUPPRESSED_SENTINEL" "Ljava/util/List;") ∈ lw_all := lw_g (lw_at lw_m3 7 rfl) rfl
theorem q571 : (Jvm.Cond.laysStatic "java/lang/Throwable" "SUPPRESSED_SENTINEL" "Ljava/util/List;") ∈ lw_tbl := lw_at lw_m3 8 rfl
theorem q572 : (Jvm.Cond.methodLink "java/lang/Throwable" (27 : Nat) ({ cls := "java/lang/Throwable", name := "fillInStackTrace", desc := "()Ljava/lang/Throwable;" } : Jvm.MethodName)) ∈ lw_all := lw_g (lw_at lw_m3 9 rfl) rfl
theorem q573 : (Jvm.Cond.instanceMethod ({ cls := "java/lang/Throwable", name := "fillInStackTrace", desc := "()Ljava/lang/Throwable;" } : Jvm.MethodName)) ∈ lw_all := lw_g (lw_at lw_m3 10 rfl) rfl
theorem q574 : (Jvm.Cond.sameMethod "java/lang/Throwable" "java/lang/Throwable" "fillInStackTrace" "()Ljava/lang/Throwable;") ∈ lw_all := lw_g (lw_at lw_m3 11 rfl) rfl
theorem q583 : (Jvm.Cond.codeSync ({ cls := "java/lang/Throwable", name := "fillInStackTrace", desc := "()Ljava/lang/Throwable;" } : Jvm.MethodName) prog_45_method_18_code (1 : Nat) (Option.some (Jvm.ClassFile.FieldType.object "java/lang/Throwable"))) ∈ lw_all := lw_g (lw_at lw_m3 20 rfl) rfl
theorem q584 : (Jvm.Cond.methodLink "java/lang/Throwable" (202 : Nat) ({ cls := "java/lang/Throwable", name := "fillInStackTrace", desc := "(I)Ljava/lang/Throwable;" } : Jvm.MethodName)) ∈ lw_all := lw_g (lw_at lw_m3 21 rfl) rfl
theorem q585 : (Jvm.Cond.privateMethod ({ cls := "java/lang/Throwable", name := "fillInStackTrace", desc := "(I)Ljava/lang/Throwable;" } : Jvm.MethodName)) ∈ lw_tbl := lw_at lw_m3 22 rfl
theorem q586 : (Jvm.Cond.instanceMethod ({ cls := "java/lang/Throwable", name := "fillInStackTrace", desc := "(I)Ljava/lang/Throwable;" } : Jvm.MethodName)) ∈ lw_all := lw_g (lw_at lw_m3 23 rfl) rfl
theorem q587 : (Jvm.Cond.instantiable "java/lang/Throwable" (6 : Nat)) ∈ lw_all := lw_g (lw_at lw_m3 24 rfl) rfl
theorem q588 : (Jvm.Cond.native ({ cls := "java/lang/Throwable", name := "fillInStackTrace", desc := "(I)Ljava/lang/Throwable;" } : Jvm.MethodName)) ∈ lw_all := lw_g (lw_at lw_m3 25 rfl) rfl
theorem q794 : (Jvm.Cond.instanceMethod ({ cls := "java/lang/Throwable", name := "<init>", desc := "(Ljava/lang/String;)V" } : Jvm.MethodName)) ∈ lw_all := lw_g (lw_at lw_m3 231 rfl) rfl
theorem q795 : (Jvm.Cond.code ({ cls := "java/lang/Throwable", name := "<init>", desc := "(Ljava/lang/String;)V" } : Jvm.MethodName) prog_45_method_2_code (2 : Nat) (Option.none : Option Jvm.ClassFile.FieldType)) ∈ lw_all := lw_g (lw_at lw_m3 232 rfl) rfl
theorem q796 : (Jvm.Cond.fieldLink "java/lang/Throwable" (198 : Nat) "java/lang/Throwable" "backtrace" "Ljava/lang/Object;") ∈ lw_all := lw_g (lw_at lw_m3 233 rfl) rfl
theorem q797 : (Jvm.Cond.fieldLink "java/lang/Throwable" (31 : Nat) "java/lang/Throwable" "detailMessage" "Ljava/lang/String;") ∈ lw_all := lw_g (lw_at lw_m3 234 rfl) rfl
theorem q798 : (Jvm.Cond.fieldLink "java/lang/Throwable" (7 : Nat) "java/lang/Throwable" "cause" "Ljava/lang/Throwable;") ∈ lw_all := lw_g (lw_at lw_m3 235 rfl) rfl
theorem q799 : (Jvm.Cond.fieldLink "java/lang/Throwable" (17 : Nat) "java/lang/Throwable" "stackTrace" "[Ljava/lang/StackTraceElement;") ∈ lw_all := lw_g (lw_at lw_m3 236 rfl) rfl
theorem q800 : (Jvm.Cond.fieldLink "java/lang/Throwable" (24 : Nat) "java/lang/Throwable" "suppressedExceptions" "Ljava/util/List;") ∈ lw_all := lw_g (lw_at lw_m3 237 rfl) rfl
theorem q801 : (Jvm.Cond.soleField "java/lang/Throwable" "backtrace") ∈ lw_all := lw_g (lw_at lw_m3 238 rfl) rfl
theorem q802 : (Jvm.Cond.soleField "java/lang/Throwable" "detailMessage") ∈ lw_all := lw_g (lw_at lw_m3 239 rfl) rfl
theorem q803 : (Jvm.Cond.soleField "java/lang/Throwable" "cause") ∈ lw_all := lw_g (lw_at lw_m4 0 rfl) rfl
theorem q804 : (Jvm.Cond.soleField "java/lang/Throwable" "stackTrace") ∈ lw_all := lw_g (lw_at lw_m4 1 rfl) rfl
theorem q806 : (Jvm.Cond.soleField "java/lang/Throwable" "depth") ∈ lw_all := lw_g (lw_at lw_m4 3 rfl) rfl
theorem q807 : (Jvm.Cond.soleField "java/lang/Throwable" "suppressedExceptions") ∈ lw_all := lw_g (lw_at lw_m4 4 rfl) rfl
theorem q3089 : (Jvm.Cond.sameMethod "java/lang/Throwable" "java/lang/Throwable" "fillInStackTrace" "(I)Ljava/lang/Throwable;") ∈ lw_all := lw_g (lw_at lw_m13 126 rfl) rfl
theorem q3150 : (Jvm.Cond.castable "java/lang/Throwable" "java/lang/Object") ∈ lw_tbl := lw_at lw_m13 187 rfl
theorem in_J14 : ∀ w ∈ wsJ140, w ∈ lw_all := lw_in wsJ140 [554, 556, 558, 560, 562] (by decide +kernel) (by decide +kernel)

/-! java/lang/Exception -/
set_option maxRecDepth 100000
def RJ15 : String := "java/lang/Exception"
abbrev cJ15_init : ByteArray := prog_28_method_2_code
def yJ15_init : MethodName := ⟨RJ15, "<init>", "(Ljava/lang/String;)V"⟩
def dkwJ15_init_0 : List UInt8 := [42, 43, 183, 0, 7, 177]
abbrev dktJ15_init_0 : List UInt8 := dkwJ15_init_0 ++ []
theorem dksJ15_init_0 : cJ15_init.data.toList.drop 0 = dktJ15_init_0 := by decide +kernel
theorem dJ15_init_0 : decode cJ15_init 0 = .ok (.aload_n 0, 1) := dk_42 (dk_at dksJ15_init_0 0 rfl rfl)
theorem dJ15_init_1 : decode cJ15_init 1 = .ok (.aload_n 1, 1) := dk_43 (dk_at dksJ15_init_0 1 rfl rfl)
theorem dJ15_init_2 : decode cJ15_init 2 = .ok (.invokespecial 7, 3) := dk_183 0 7 (dk_at dksJ15_init_0 2 rfl rfl)
theorem dJ15_init_5 : decode cJ15_init 5 = .ok (.return_, 1) := dk_177 (dk_at dksJ15_init_0 5 rfl rfl)
abbrev cJ15_init_2 : ByteArray := prog_28_method_1_code
def yJ15_init_2 : MethodName := ⟨RJ15, "<init>", "()V"⟩
theorem dJ15_init_2_0 : decode cJ15_init_2 0 = .ok (.aload_n 0, 1) := by decide +kernel
theorem dJ15_init_2_1 : decode cJ15_init_2 1 = .ok (.invokespecial 1, 3) := by decide +kernel
theorem dJ15_init_2_4 : decode cJ15_init_2 4 = .ok (.return_, 1) := by decide +kernel
theorem q105 : (Jvm.Cond.initialized "java/lang/Exception") ∈ lw_all := lw_g (lw_at lw_m1 22 rfl) rfl
theorem q547 : (Jvm.Cond.declares ({ cls := "java/lang/Exception", name := "<init>", desc := "()V" } : Jvm.MethodName)) ∈ lw_tbl := lw_at lw_m2 224 rfl
theorem q548 : (Jvm.Cond.declares ({ cls := "java/lang/Exception", name := "<init>", desc := "(Ljava/lang/String;)V" } : Jvm.MethodName)) ∈ lw_tbl := lw_at lw_m2 225 rfl
theorem q791 : (Jvm.Cond.instanceMethod ({ cls := "java/lang/Exception", name := "<init>", desc := "(Ljava/lang/String;)V" } : Jvm.MethodName)) ∈ lw_all := lw_g (lw_at lw_m3 228 rfl) rfl
theorem q792 : (Jvm.Cond.code ({ cls := "java/lang/Exception", name := "<init>", desc := "(Ljava/lang/String;)V" } : Jvm.MethodName) prog_28_method_2_code (2 : Nat) (Option.none : Option Jvm.ClassFile.FieldType)) ∈ lw_all := lw_g (lw_at lw_m3 229 rfl) rfl
theorem q793 : (Jvm.Cond.methodLink "java/lang/Exception" (7 : Nat) ({ cls := "java/lang/Throwable", name := "<init>", desc := "(Ljava/lang/String;)V" } : Jvm.MethodName)) ∈ lw_all := lw_g (lw_at lw_m3 230 rfl) rfl
theorem q1509 : (Jvm.Cond.instanceMethod ({ cls := "java/lang/Exception", name := "<init>", desc := "()V" } : Jvm.MethodName)) ∈ lw_all := lw_g (lw_at lw_m6 226 rfl) rfl
theorem q1510 : (Jvm.Cond.code ({ cls := "java/lang/Exception", name := "<init>", desc := "()V" } : Jvm.MethodName) prog_28_method_1_code (1 : Nat) (Option.none : Option Jvm.ClassFile.FieldType)) ∈ lw_all := lw_g (lw_at lw_m6 227 rfl) rfl
theorem q1511 : (Jvm.Cond.methodLink "java/lang/Exception" (1 : Nat) ({ cls := "java/lang/Throwable", name := "<init>", desc := "()V" } : Jvm.MethodName)) ∈ lw_all := lw_g (lw_at lw_m6 228 rfl) rfl

/-! java/lang/RuntimeException -/
set_option maxRecDepth 100000
def RJ16 : String := "java/lang/RuntimeException"
abbrev cJ16_init : ByteArray := prog_37_method_2_code
def yJ16_init : MethodName := ⟨RJ16, "<init>", "(Ljava/lang/String;)V"⟩
def dkwJ16_init_0 : List UInt8 := [42, 43, 183, 0, 7, 177]
abbrev dktJ16_init_0 : List UInt8 := dkwJ16_init_0 ++ []
theorem dksJ16_init_0 : cJ16_init.data.toList.drop 0 = dktJ16_init_0 := by decide +kernel
theorem dJ16_init_0 : decode cJ16_init 0 = .ok (.aload_n 0, 1) := dk_42 (dk_at dksJ16_init_0 0 rfl rfl)
theorem dJ16_init_1 : decode cJ16_init 1 = .ok (.aload_n 1, 1) := dk_43 (dk_at dksJ16_init_0 1 rfl rfl)
theorem dJ16_init_2 : decode cJ16_init 2 = .ok (.invokespecial 7, 3) := dk_183 0 7 (dk_at dksJ16_init_0 2 rfl rfl)
theorem dJ16_init_5 : decode cJ16_init 5 = .ok (.return_, 1) := dk_177 (dk_at dksJ16_init_0 5 rfl rfl)
abbrev cJ16_init_2 : ByteArray := prog_37_method_1_code
def yJ16_init_2 : MethodName := ⟨RJ16, "<init>", "()V"⟩
theorem dJ16_init_2_0 : decode cJ16_init_2 0 = .ok (.aload_n 0, 1) := by decide +kernel
theorem dJ16_init_2_1 : decode cJ16_init_2 1 = .ok (.invokespecial 1, 3) := by decide +kernel
theorem dJ16_init_2_4 : decode cJ16_init_2 4 = .ok (.return_, 1) := by decide +kernel
theorem q106 : (Jvm.Cond.initialized "java/lang/RuntimeException") ∈ lw_all := lw_g (lw_at lw_m1 23 rfl) rfl
theorem q545 : (Jvm.Cond.declares ({ cls := "java/lang/RuntimeException", name := "<init>", desc := "()V" } : Jvm.MethodName)) ∈ lw_tbl := lw_at lw_m2 222 rfl
theorem q546 : (Jvm.Cond.declares ({ cls := "java/lang/RuntimeException", name := "<init>", desc := "(Ljava/lang/String;)V" } : Jvm.MethodName)) ∈ lw_tbl := lw_at lw_m2 223 rfl
theorem q788 : (Jvm.Cond.instanceMethod ({ cls := "java/lang/RuntimeException", name := "<init>", desc := "(Ljava/lang/String;)V" } : Jvm.MethodName)) ∈ lw_all := lw_g (lw_at lw_m3 225 rfl) rfl
theorem q789 : (Jvm.Cond.code ({ cls := "java/lang/RuntimeException", name := "<init>", desc := "(Ljava/lang/String;)V" } : Jvm.MethodName) prog_37_method_2_code (2 : Nat) (Option.none : Option Jvm.ClassFile.FieldType)) ∈ lw_all := lw_g (lw_at lw_m3 226 rfl) rfl
theorem q790 : (Jvm.Cond.methodLink "java/lang/RuntimeException" (7 : Nat) ({ cls := "java/lang/Exception", name := "<init>", desc := "(Ljava/lang/String;)V" } : Jvm.MethodName)) ∈ lw_all := lw_g (lw_at lw_m3 227 rfl) rfl
theorem q1506 : (Jvm.Cond.instanceMethod ({ cls := "java/lang/RuntimeException", name := "<init>", desc := "()V" } : Jvm.MethodName)) ∈ lw_all := lw_g (lw_at lw_m6 223 rfl) rfl
theorem q1507 : (Jvm.Cond.code ({ cls := "java/lang/RuntimeException", name := "<init>", desc := "()V" } : Jvm.MethodName) prog_37_method_1_code (1 : Nat) (Option.none : Option Jvm.ClassFile.FieldType)) ∈ lw_all := lw_g (lw_at lw_m6 224 rfl) rfl
theorem q1508 : (Jvm.Cond.methodLink "java/lang/RuntimeException" (1 : Nat) ({ cls := "java/lang/Exception", name := "<init>", desc := "()V" } : Jvm.MethodName)) ∈ lw_all := lw_g (lw_at lw_m6 225 rfl) rfl

/-! java/lang/IllegalArgumentException -/
set_option maxRecDepth 100000
def RJ17 : String := "java/lang/IllegalArgumentException"
def TJ17 : u_T := fun k => match k with
  | 0 => ("java/lang/Throwable", "cause", "Ljava/lang/Throwable;", false)
  | 1 => ("java/lang/Throwable", "stackTrace", "[Ljava/lang/StackTraceElement;", false)
  | 2 => ("java/lang/Throwable", "suppressedExceptions", "Ljava/util/List;", false)
  | 3 => ("java/lang/Throwable", "detailMessage", "Ljava/lang/String;", false)
  | 4 => ("java/lang/Throwable", "backtrace", "Ljava/lang/Object;", false)
  | _ => ("java/lang/Throwable", "depth", "I", false)
def tyJ17 : Nat → FieldType := fun k => match k with
  | 0 => .object "java/lang/Throwable"
  | 1 => .array (.object "java/lang/StackTraceElement")
  | 2 => .object "java/util/List"
  | 3 => .object "java/lang/String"
  | 4 => .object "java/lang/Object"
  | _ => .int
abbrev wsJ170 : List Cond := u_ws RJ17 TJ17 6
theorem nmJ17 : ∀ a, a < 6 → ∀ b, b < 6 → a ≠ b → (TJ17 a).2.1 ≠ (TJ17 b).2.1 := by decide +kernel
theorem tyJ17_ok : ∀ k, k < 6 → parseFieldDescriptor (TJ17 k).2.2.1 = some (tyJ17 k) := by decide +kernel
abbrev cJ17_init : ByteArray := prog_29_method_2_code
def yJ17_init : MethodName := ⟨RJ17, "<init>", "(Ljava/lang/String;)V"⟩
def dkwJ17_init_0 : List UInt8 := [42, 43, 183, 0, 7, 177]
abbrev dktJ17_init_0 : List UInt8 := dkwJ17_init_0 ++ []
theorem dksJ17_init_0 : cJ17_init.data.toList.drop 0 = dktJ17_init_0 := by decide +kernel
theorem dJ17_init_0 : decode cJ17_init 0 = .ok (.aload_n 0, 1) := dk_42 (dk_at dksJ17_init_0 0 rfl rfl)
theorem dJ17_init_1 : decode cJ17_init 1 = .ok (.aload_n 1, 1) := dk_43 (dk_at dksJ17_init_0 1 rfl rfl)
theorem dJ17_init_2 : decode cJ17_init 2 = .ok (.invokespecial 7, 3) := dk_183 0 7 (dk_at dksJ17_init_0 2 rfl rfl)
theorem dJ17_init_5 : decode cJ17_init 5 = .ok (.return_, 1) := dk_177 (dk_at dksJ17_init_0 5 rfl rfl)
abbrev cJ17_init_2 : ByteArray := prog_29_method_1_code
def yJ17_init_2 : MethodName := ⟨RJ17, "<init>", "()V"⟩
theorem dJ17_init_2_0 : decode cJ17_init_2 0 = .ok (.aload_n 0, 1) := by decide +kernel
theorem dJ17_init_2_1 : decode cJ17_init_2 1 = .ok (.invokespecial 1, 3) := by decide +kernel
theorem dJ17_init_2_4 : decode cJ17_init_2 4 = .ok (.return_, 1) := by decide +kernel
theorem q107 : (Jvm.Cond.initialized "java/lang/IllegalArgumentException") ∈ lw_all := lw_g (lw_at lw_m1 24 rfl) rfl
theorem q318 : (Jvm.Cond.selects "java/lang/IllegalArgumentException" ({ cls := "java/lang/Object", name := "getClass", desc := "()Ljava/lang/Class;" } : Jvm.MethodName) ({ cls := "java/lang/Object", name := "getClass", desc := "()Ljava/lang/Class;" } : Jvm.MethodName)) ∈ lw_all := lw_g (lw_at lw_m1 235 rfl) rfl
theorem q478 : (Jvm.Cond.selects "java/lang/IllegalArgumentException" ({ cls := "java/lang/Object", name := "hashCode", desc := "()I" } : Jvm.MethodName) ({ cls := "java/lang/Object", name := "hashCode", desc := "()I" } : Jvm.MethodName)) ∈ lw_all := lw_g (lw_at lw_m2 155 rfl) rfl
theorem q543 : (Jvm.Cond.instantiable "java/lang/IllegalArgumentException" (6 : Nat)) ∈ lw_all := lw_g (lw_at lw_m2 220 rfl) rfl
theorem q544 : (Jvm.Cond.castable "java/lang/IllegalArgumentException" "java/lang/IllegalArgumentException") ∈ lw_tbl := lw_at lw_m2 221 rfl
theorem q551 : (Jvm.Cond.selects "java/lang/IllegalArgumentException" ({ cls := "java/lang/Throwable", name := "fillInStackTrace", desc := "(I)Ljava/lang/Throwable;" } : Jvm.MethodName) ({ cls := "java/lang/Throwable", name := "fillInStackTrace", desc := "(I)Ljava/lang/Throwable;" } : Jvm.MethodName)) ∈ lw_all := lw_g (lw_at lw_m2 228 rfl) rfl
theorem q552 : (Jvm.Cond.selects "java/lang/IllegalArgumentException" ({ cls := "java/lang/Throwable", name := "fillInStackTrace", desc := "()Ljava/lang/Throwable;" } : Jvm.MethodName) ({ cls := "java/lang/Throwable", name := "fillInStackTrace", desc := "()Ljava/lang/Throwable;" } : Jvm.MethodName)) ∈ lw_all := lw_g (lw_at lw_m2 229 rfl) rfl
theorem q553 : (Jvm.Cond.lays "java/lang/IllegalArgumentException" "java/lang/Throwable" "cause" "Ljava/lang/Throwable;") ∈ lw_all := lw_g (lw_at lw_m2 230 rfl) rfl
theorem q555 : (Jvm.Cond.lays "java/lang/IllegalArgumentException" "java/lang/Throwable" "stackTrace" "[Ljava/lang/StackTraceElement;") ∈ lw_all := lw_g (lw_at lw_m2 232 rfl) rfl
theorem q557 : (Jvm.Cond.lays "java/lang/IllegalArgumentException" "java/lang/Throwable" "suppressedExceptions" "Ljava/util/List;") ∈ lw_all := lw_g (lw_at lw_m2 234 rfl) rfl
theorem q559 : (Jvm.Cond.lays "java/lang/IllegalArgumentException" "java/lang/Throwable" "detailMessage" "Ljava/lang/String;") ∈ lw_all := lw_g (lw_at lw_m2 236 rfl) rfl
theorem q561 : (Jvm.Cond.lays "java/lang/IllegalArgumentException" "java/lang/Throwable" "backtrace" "Ljava/lang/Object;") ∈ lw_all := lw_g (lw_at lw_m2 238 rfl) rfl
theorem q785 : (Jvm.Cond.instanceMethod ({ cls := "java/lang/IllegalArgumentException", name := "<init>", desc := "(Ljava/lang/String;)V" } : Jvm.MethodName)) ∈ lw_all := lw_g (lw_at lw_m3 222 rfl) rfl
theorem q786 : (Jvm.Cond.code ({ cls := "java/lang/IllegalArgumentException", name := "<init>", desc := "(Ljava/lang/String;)V" } : Jvm.MethodName) prog_29_method_2_code (2 : Nat) (Option.none : Option Jvm.ClassFile.FieldType)) ∈ lw_all := lw_g (lw_at lw_m3 223 rfl) rfl
theorem q787 : (Jvm.Cond.methodLink "java/lang/IllegalArgumentException" (7 : Nat) ({ cls := "java/lang/RuntimeException", name := "<init>", desc := "(Ljava/lang/String;)V" } : Jvm.MethodName)) ∈ lw_all := lw_g (lw_at lw_m3 224 rfl) rfl
theorem q805 : (Jvm.Cond.lays "java/lang/IllegalArgumentException" "java/lang/Throwable" "depth" "I") ∈ lw_all := lw_g (lw_at lw_m4 2 rfl) rfl
theorem q808 : (Jvm.Cond.superclass "java/lang/IllegalArgumentException" "java/lang/RuntimeException") ∈ lw_all := lw_g (lw_at lw_m4 5 rfl) rfl
theorem q864 : (Jvm.Cond.selects "java/lang/IllegalArgumentException" ({ cls := "java/lang/Object", name := "equals", desc := "(Ljava/lang/Object;)Z" } : Jvm.MethodName) ({ cls := "java/lang/Object", name := "equals", desc := "(Ljava/lang/Object;)Z" } : Jvm.MethodName)) ∈ lw_all := lw_g (lw_at lw_m4 61 rfl) rfl
theorem q1703 : (Jvm.Cond.instanceMethod ({ cls := "java/lang/IllegalArgumentException", name := "<init>", desc := "()V" } : Jvm.MethodName)) ∈ lw_all := lw_g (lw_at lw_m7 180 rfl) rfl
theorem q1704 : (Jvm.Cond.code ({ cls := "java/lang/IllegalArgumentException", name := "<init>", desc := "()V" } : Jvm.MethodName) prog_29_method_1_code (1 : Nat) (Option.none : Option Jvm.ClassFile.FieldType)) ∈ lw_all := lw_g (lw_at lw_m7 181 rfl) rfl
theorem q1705 : (Jvm.Cond.methodLink "java/lang/IllegalArgumentException" (1 : Nat) ({ cls := "java/lang/RuntimeException", name := "<init>", desc := "()V" } : Jvm.MethodName)) ∈ lw_all := lw_g (lw_at lw_m7 182 rfl) rfl
theorem q3129 : (Jvm.Cond.castable "java/lang/IllegalArgumentException" "java/lang/Object") ∈ lw_tbl := lw_at lw_m13 166 rfl
theorem in_J17 : ∀ w ∈ wsJ170, w ∈ lw_all := lw_in wsJ170 [553, 555, 557, 559, 561, 805] (by decide +kernel) (by decide +kernel)

/-! java/lang/Integer -/
set_option maxRecDepth 100000
def RJ20 : String := "java/lang/Integer"
abbrev cJ20_numberOfLeadingZeros : ByteArray := prog_32_method_47_code
def yJ20_numberOfLeadingZeros : MethodName := ⟨RJ20, "numberOfLeadingZeros", "(I)I"⟩
def dkwJ20_numberOfLeadingZeros_3 : List UInt8 := [5, 124, 59, 27, 26, 4, 124, 100, 172]
abbrev dktJ20_numberOfLeadingZeros_3 : List UInt8 := dkwJ20_numberOfLeadingZeros_3 ++ []
def dkwJ20_numberOfLeadingZeros_2 : List UInt8 := [124, 59, 26, 16, 16, 161, 0, 10, 132, 1, 252, 26, 7, 124, 59, 26, 7, 161, 0, 10, 132, 1, 254, 26]
abbrev dktJ20_numberOfLeadingZeros_2 : List UInt8 := dkwJ20_numberOfLeadingZeros_2 ++ dktJ20_numberOfLeadingZeros_3
def dkwJ20_numberOfLeadingZeros_1 : List UInt8 := [161, 0, 11, 132, 1, 240, 26, 16, 16, 124, 59, 26, 17, 1, 0, 161, 0, 11, 132, 1, 248, 26, 16, 8]
abbrev dktJ20_numberOfLeadingZeros_1 : List UInt8 := dkwJ20_numberOfLeadingZeros_1 ++ dktJ20_numberOfLeadingZeros_2
def dkwJ20_numberOfLeadingZeros_0 : List UInt8 := [26, 157, 0, 14, 26, 154, 0, 8, 16, 32, 167, 0, 4, 3, 172, 16, 31, 60, 26, 19, 1, 8]
abbrev dktJ20_numberOfLeadingZeros_0 : List UInt8 := dkwJ20_numberOfLeadingZeros_0 ++ dktJ20_numberOfLeadingZeros_1
theorem dksJ20_numberOfLeadingZeros_0 : cJ20_numberOfLeadingZeros.data.toList.drop 0 = dktJ20_numberOfLeadingZeros_0 := by decide +kernel
theorem dksJ20_numberOfLeadingZeros_1 : cJ20_numberOfLeadingZeros.data.toList.drop 22 = dktJ20_numberOfLeadingZeros_1 := dk_seg dksJ20_numberOfLeadingZeros_0 22 rfl rfl
theorem dksJ20_numberOfLeadingZeros_2 : cJ20_numberOfLeadingZeros.data.toList.drop 46 = dktJ20_numberOfLeadingZeros_2 := dk_seg dksJ20_numberOfLeadingZeros_1 24 rfl rfl
theorem dksJ20_numberOfLeadingZeros_3 : cJ20_numberOfLeadingZeros.data.toList.drop 70 = dktJ20_numberOfLeadingZeros_3 := dk_seg dksJ20_numberOfLeadingZeros_2 24 rfl rfl
theorem dJ20_numberOfLeadingZeros_0 : decode cJ20_numberOfLeadingZeros 0 = .ok (.iload_n 0, 1) := dk_26 (dk_at dksJ20_numberOfLeadingZeros_0 0 rfl rfl)
theorem dJ20_numberOfLeadingZeros_1 : decode cJ20_numberOfLeadingZeros 1 = .ok (.ifCond .gt 14, 3) := dk_157 0 14 (dk_at dksJ20_numberOfLeadingZeros_0 1 rfl rfl)
theorem dJ20_numberOfLeadingZeros_4 : decode cJ20_numberOfLeadingZeros 4 = .ok (.iload_n 0, 1) := dk_26 (dk_at dksJ20_numberOfLeadingZeros_0 4 rfl rfl)
theorem dJ20_numberOfLeadingZeros_5 : decode cJ20_numberOfLeadingZeros 5 = .ok (.ifCond .ne 8, 3) := dk_154 0 8 (dk_at dksJ20_numberOfLeadingZeros_0 5 rfl rfl)
theorem dJ20_numberOfLeadingZeros_8 : decode cJ20_numberOfLeadingZeros 8 = .ok (.bipush 32, 2) := dk_16 32 (dk_at dksJ20_numberOfLeadingZeros_0 8 rfl rfl)
theorem dJ20_numberOfLeadingZeros_10 : decode cJ20_numberOfLeadingZeros 10 = .ok (.goto 4, 3) := dk_167 0 4 (dk_at dksJ20_numberOfLeadingZeros_0 10 rfl rfl)
theorem dJ20_numberOfLeadingZeros_13 : decode cJ20_numberOfLeadingZeros 13 = .ok (.iconst 0, 1) := dk_3 (dk_at dksJ20_numberOfLeadingZeros_0 13 rfl rfl)
theorem dJ20_numberOfLeadingZeros_14 : decode cJ20_numberOfLeadingZeros 14 = .ok (.ireturn, 1) := dk_172 (dk_at dksJ20_numberOfLeadingZeros_0 14 rfl rfl)
theorem dJ20_numberOfLeadingZeros_15 : decode cJ20_numberOfLeadingZeros 15 = .ok (.bipush 31, 2) := dk_16 31 (dk_at dksJ20_numberOfLeadingZeros_0 15 rfl rfl)
theorem dJ20_numberOfLeadingZeros_17 : decode cJ20_numberOfLeadingZeros 17 = .ok (.istore_n 1, 1) := dk_60 (dk_at dksJ20_numberOfLeadingZeros_0 17 rfl rfl)
theorem dJ20_numberOfLeadingZeros_18 : decode cJ20_numberOfLeadingZeros 18 = .ok (.iload_n 0, 1) := dk_26 (dk_at dksJ20_numberOfLeadingZeros_0 18 rfl rfl)
theorem dJ20_numberOfLeadingZeros_19 : decode cJ20_numberOfLeadingZeros 19 = .ok (.ldc_w 264, 3) := dk_19 1 8 (dk_at dksJ20_numberOfLeadingZeros_0 19 rfl rfl)
theorem dJ20_numberOfLeadingZeros_22 : decode cJ20_numberOfLeadingZeros 22 = .ok (.if_icmp .lt 11, 3) := dk_161 0 11 (dk_at dksJ20_numberOfLeadingZeros_1 0 rfl rfl)
theorem dJ20_numberOfLeadingZeros_25 : decode cJ20_numberOfLeadingZeros 25 = .ok (.iinc 1 (-16), 3) := dk_132 1 240 (dk_at dksJ20_numberOfLeadingZeros_1 3 rfl rfl)
theorem dJ20_numberOfLeadingZeros_28 : decode cJ20_numberOfLeadingZeros 28 = .ok (.iload_n 0, 1) := dk_26 (dk_at dksJ20_numberOfLeadingZeros_1 6 rfl rfl)
theorem dJ20_numberOfLeadingZeros_29 : decode cJ20_numberOfLeadingZeros 29 = .ok (.bipush 16, 2) := dk_16 16 (dk_at dksJ20_numberOfLeadingZeros_1 7 rfl rfl)
theorem dJ20_numberOfLeadingZeros_31 : decode cJ20_numberOfLeadingZeros 31 = .ok (.iushr, 1) := dk_124 (dk_at dksJ20_numberOfLeadingZeros_1 9 rfl rfl)
theorem dJ20_numberOfLeadingZeros_32 : decode cJ20_numberOfLeadingZeros 32 = .ok (.istore_n 0, 1) := dk_59 (dk_at dksJ20_numberOfLeadingZeros_1 10 rfl rfl)
theorem dJ20_numberOfLeadingZeros_33 : decode cJ20_numberOfLeadingZeros 33 = .ok (.iload_n 0, 1) := dk_26 (dk_at dksJ20_numberOfLeadingZeros_1 11 rfl rfl)
theorem dJ20_numberOfLeadingZeros_34 : decode cJ20_numberOfLeadingZeros 34 = .ok (.sipush 256, 3) := dk_17 1 0 (dk_at dksJ20_numberOfLeadingZeros_1 12 rfl rfl)
theorem dJ20_numberOfLeadingZeros_37 : decode cJ20_numberOfLeadingZeros 37 = .ok (.if_icmp .lt 11, 3) := dk_161 0 11 (dk_at dksJ20_numberOfLeadingZeros_1 15 rfl rfl)
theorem dJ20_numberOfLeadingZeros_40 : decode cJ20_numberOfLeadingZeros 40 = .ok (.iinc 1 (-8), 3) := dk_132 1 248 (dk_at dksJ20_numberOfLeadingZeros_1 18 rfl rfl)
theorem dJ20_numberOfLeadingZeros_43 : decode cJ20_numberOfLeadingZeros 43 = .ok (.iload_n 0, 1) := dk_26 (dk_at dksJ20_numberOfLeadingZeros_1 21 rfl rfl)
theorem dJ20_numberOfLeadingZeros_44 : decode cJ20_numberOfLeadingZeros 44 = .ok (.bipush 8, 2) := dk_16 8 (dk_at dksJ20_numberOfLeadingZeros_1 22 rfl rfl)
theorem dJ20_numberOfLeadingZeros_46 : decode cJ20_numberOfLeadingZeros 46 = .ok (.iushr, 1) := dk_124 (dk_at dksJ20_numberOfLeadingZeros_2 0 rfl rfl)
theorem dJ20_numberOfLeadingZeros_47 : decode cJ20_numberOfLeadingZeros 47 = .ok (.istore_n 0, 1) := dk_59 (dk_at dksJ20_numberOfLeadingZeros_2 1 rfl rfl)
theorem dJ20_numberOfLeadingZeros_48 : decode cJ20_numberOfLeadingZeros 48 = .ok (.iload_n 0, 1) := dk_26 (dk_at dksJ20_numberOfLeadingZeros_2 2 rfl rfl)
theorem dJ20_numberOfLeadingZeros_49 : decode cJ20_numberOfLeadingZeros 49 = .ok (.bipush 16, 2) := dk_16 16 (dk_at dksJ20_numberOfLeadingZeros_2 3 rfl rfl)
theorem dJ20_numberOfLeadingZeros_51 : decode cJ20_numberOfLeadingZeros 51 = .ok (.if_icmp .lt 10, 3) := dk_161 0 10 (dk_at dksJ20_numberOfLeadingZeros_2 5 rfl rfl)
theorem dJ20_numberOfLeadingZeros_54 : decode cJ20_numberOfLeadingZeros 54 = .ok (.iinc 1 (-4), 3) := dk_132 1 252 (dk_at dksJ20_numberOfLeadingZeros_2 8 rfl rfl)
theorem dJ20_numberOfLeadingZeros_57 : decode cJ20_numberOfLeadingZeros 57 = .ok (.iload_n 0, 1) := dk_26 (dk_at dksJ20_numberOfLeadingZeros_2 11 rfl rfl)
theorem dJ20_numberOfLeadingZeros_58 : decode cJ20_numberOfLeadingZeros 58 = .ok (.iconst 4, 1) := dk_7 (dk_at dksJ20_numberOfLeadingZeros_2 12 rfl rfl)
theorem dJ20_numberOfLeadingZeros_59 : decode cJ20_numberOfLeadingZeros 59 = .ok (.iushr, 1) := dk_124 (dk_at dksJ20_numberOfLeadingZeros_2 13 rfl rfl)
theorem dJ20_numberOfLeadingZeros_60 : decode cJ20_numberOfLeadingZeros 60 = .ok (.istore_n 0, 1) := dk_59 (dk_at dksJ20_numberOfLeadingZeros_2 14 rfl rfl)
theorem dJ20_numberOfLeadingZeros_61 : decode cJ20_numberOfLeadingZeros 61 = .ok (.iload_n 0, 1) := dk_26 (dk_at dksJ20_numberOfLeadingZeros_2 15 rfl rfl)
theorem dJ20_numberOfLeadingZeros_62 : decode cJ20_numberOfLeadingZeros 62 = .ok (.iconst 4, 1) := dk_7 (dk_at dksJ20_numberOfLeadingZeros_2 16 rfl rfl)
theorem dJ20_numberOfLeadingZeros_63 : decode cJ20_numberOfLeadingZeros 63 = .ok (.if_icmp .lt 10, 3) := dk_161 0 10 (dk_at dksJ20_numberOfLeadingZeros_2 17 rfl rfl)
theorem dJ20_numberOfLeadingZeros_66 : decode cJ20_numberOfLeadingZeros 66 = .ok (.iinc 1 (-2), 3) := dk_132 1 254 (dk_at dksJ20_numberOfLeadingZeros_2 20 rfl rfl)
theorem dJ20_numberOfLeadingZeros_69 : decode cJ20_numberOfLeadingZeros 69 = .ok (.iload_n 0, 1) := dk_26 (dk_at dksJ20_numberOfLeadingZeros_2 23 rfl rfl)
theorem dJ20_numberOfLeadingZeros_70 : decode cJ20_numberOfLeadingZeros 70 = .ok (.iconst 2, 1) := dk_5 (dk_at dksJ20_numberOfLeadingZeros_3 0 rfl rfl)
theorem dJ20_numberOfLeadingZeros_71 : decode cJ20_numberOfLeadingZeros 71 = .ok (.iushr, 1) := dk_124 (dk_at dksJ20_numberOfLeadingZeros_3 1 rfl rfl)
theorem dJ20_numberOfLeadingZeros_72 : decode cJ20_numberOfLeadingZeros 72 = .ok (.istore_n 0, 1) := dk_59 (dk_at dksJ20_numberOfLeadingZeros_3 2 rfl rfl)
theorem dJ20_numberOfLeadingZeros_73 : decode cJ20_numberOfLeadingZeros 73 = .ok (.iload_n 1, 1) := dk_27 (dk_at dksJ20_numberOfLeadingZeros_3 3 rfl rfl)
theorem dJ20_numberOfLeadingZeros_74 : decode cJ20_numberOfLeadingZeros 74 = .ok (.iload_n 0, 1) := dk_26 (dk_at dksJ20_numberOfLeadingZeros_3 4 rfl rfl)
theorem dJ20_numberOfLeadingZeros_75 : decode cJ20_numberOfLeadingZeros 75 = .ok (.iconst 1, 1) := dk_4 (dk_at dksJ20_numberOfLeadingZeros_3 5 rfl rfl)
theorem dJ20_numberOfLeadingZeros_76 : decode cJ20_numberOfLeadingZeros 76 = .ok (.iushr, 1) := dk_124 (dk_at dksJ20_numberOfLeadingZeros_3 6 rfl rfl)
theorem dJ20_numberOfLeadingZeros_77 : decode cJ20_numberOfLeadingZeros 77 = .ok (.isub, 1) := dk_100 (dk_at dksJ20_numberOfLeadingZeros_3 7 rfl rfl)
theorem dJ20_numberOfLeadingZeros_78 : decode cJ20_numberOfLeadingZeros 78 = .ok (.ireturn, 1) := dk_172 (dk_at dksJ20_numberOfLeadingZeros_3 8 rfl rfl)
abbrev cJ20_bitCount : ByteArray := prog_32_method_49_code
def yJ20_bitCount : MethodName := ⟨RJ20, "bitCount", "(I)I"⟩
def dkwJ20_bitCount_2 : List UInt8 := [26, 16, 63, 126, 172]
abbrev dktJ20_bitCount_2 : List UInt8 := dkwJ20_bitCount_2 ++ []
def dkwJ20_bitCount_1 : List UInt8 := [26, 26, 7, 124, 96, 19, 1, 11, 126, 59, 26, 26, 16, 8, 124, 96, 59, 26, 26, 16, 16, 124, 96, 59]
abbrev dktJ20_bitCount_1 : List UInt8 := dkwJ20_bitCount_1 ++ dktJ20_bitCount_2
def dkwJ20_bitCount_0 : List UInt8 := [26, 26, 4, 124, 19, 1, 9, 126, 100, 59, 26, 19, 1, 10, 126, 26, 5, 124, 19, 1, 10, 126, 96, 59]
abbrev dktJ20_bitCount_0 : List UInt8 := dkwJ20_bitCount_0 ++ dktJ20_bitCount_1
theorem dksJ20_bitCount_0 : cJ20_bitCount.data.toList.drop 0 = dktJ20_bitCount_0 := by decide +kernel
theorem dksJ20_bitCount_1 : cJ20_bitCount.data.toList.drop 24 = dktJ20_bitCount_1 := dk_seg dksJ20_bitCount_0 24 rfl rfl
theorem dksJ20_bitCount_2 : cJ20_bitCount.data.toList.drop 48 = dktJ20_bitCount_2 := dk_seg dksJ20_bitCount_1 24 rfl rfl
theorem dJ20_bitCount_0 : decode cJ20_bitCount 0 = .ok (.iload_n 0, 1) := dk_26 (dk_at dksJ20_bitCount_0 0 rfl rfl)
theorem dJ20_bitCount_1 : decode cJ20_bitCount 1 = .ok (.iload_n 0, 1) := dk_26 (dk_at dksJ20_bitCount_0 1 rfl rfl)
theorem dJ20_bitCount_2 : decode cJ20_bitCount 2 = .ok (.iconst 1, 1) := dk_4 (dk_at dksJ20_bitCount_0 2 rfl rfl)
theorem dJ20_bitCount_3 : decode cJ20_bitCount 3 = .ok (.iushr, 1) := dk_124 (dk_at dksJ20_bitCount_0 3 rfl rfl)
theorem dJ20_bitCount_4 : decode cJ20_bitCount 4 = .ok (.ldc_w 265, 3) := dk_19 1 9 (dk_at dksJ20_bitCount_0 4 rfl rfl)
theorem dJ20_bitCount_7 : decode cJ20_bitCount 7 = .ok (.iand, 1) := dk_126 (dk_at dksJ20_bitCount_0 7 rfl rfl)
theorem dJ20_bitCount_8 : decode cJ20_bitCount 8 = .ok (.isub, 1) := dk_100 (dk_at dksJ20_bitCount_0 8 rfl rfl)
theorem dJ20_bitCount_9 : decode cJ20_bitCount 9 = .ok (.istore_n 0, 1) := dk_59 (dk_at dksJ20_bitCount_0 9 rfl rfl)
theorem dJ20_bitCount_10 : decode cJ20_bitCount 10 = .ok (.iload_n 0, 1) := dk_26 (dk_at dksJ20_bitCount_0 10 rfl rfl)
theorem dJ20_bitCount_11 : decode cJ20_bitCount 11 = .ok (.ldc_w 266, 3) := dk_19 1 10 (dk_at dksJ20_bitCount_0 11 rfl rfl)
theorem dJ20_bitCount_14 : decode cJ20_bitCount 14 = .ok (.iand, 1) := dk_126 (dk_at dksJ20_bitCount_0 14 rfl rfl)
theorem dJ20_bitCount_15 : decode cJ20_bitCount 15 = .ok (.iload_n 0, 1) := dk_26 (dk_at dksJ20_bitCount_0 15 rfl rfl)
theorem dJ20_bitCount_16 : decode cJ20_bitCount 16 = .ok (.iconst 2, 1) := dk_5 (dk_at dksJ20_bitCount_0 16 rfl rfl)
theorem dJ20_bitCount_17 : decode cJ20_bitCount 17 = .ok (.iushr, 1) := dk_124 (dk_at dksJ20_bitCount_0 17 rfl rfl)
theorem dJ20_bitCount_18 : decode cJ20_bitCount 18 = .ok (.ldc_w 266, 3) := dk_19 1 10 (dk_at dksJ20_bitCount_0 18 rfl rfl)
theorem dJ20_bitCount_21 : decode cJ20_bitCount 21 = .ok (.iand, 1) := dk_126 (dk_at dksJ20_bitCount_0 21 rfl rfl)
theorem dJ20_bitCount_22 : decode cJ20_bitCount 22 = .ok (.iadd, 1) := dk_96 (dk_at dksJ20_bitCount_0 22 rfl rfl)
theorem dJ20_bitCount_23 : decode cJ20_bitCount 23 = .ok (.istore_n 0, 1) := dk_59 (dk_at dksJ20_bitCount_0 23 rfl rfl)
theorem dJ20_bitCount_24 : decode cJ20_bitCount 24 = .ok (.iload_n 0, 1) := dk_26 (dk_at dksJ20_bitCount_1 0 rfl rfl)
theorem dJ20_bitCount_25 : decode cJ20_bitCount 25 = .ok (.iload_n 0, 1) := dk_26 (dk_at dksJ20_bitCount_1 1 rfl rfl)
theorem dJ20_bitCount_26 : decode cJ20_bitCount 26 = .ok (.iconst 4, 1) := dk_7 (dk_at dksJ20_bitCount_1 2 rfl rfl)
theorem dJ20_bitCount_27 : decode cJ20_bitCount 27 = .ok (.iushr, 1) := dk_124 (dk_at dksJ20_bitCount_1 3 rfl rfl)
theorem dJ20_bitCount_28 : decode cJ20_bitCount 28 = .ok (.iadd, 1) := dk_96 (dk_at dksJ20_bitCount_1 4 rfl rfl)
theorem dJ20_bitCount_29 : decode cJ20_bitCount 29 = .ok (.ldc_w 267, 3) := dk_19 1 11 (dk_at dksJ20_bitCount_1 5 rfl rfl)
theorem dJ20_bitCount_32 : decode cJ20_bitCount 32 = .ok (.iand, 1) := dk_126 (dk_at dksJ20_bitCount_1 8 rfl rfl)
theorem dJ20_bitCount_33 : decode cJ20_bitCount 33 = .ok (.istore_n 0, 1) := dk_59 (dk_at dksJ20_bitCount_1 9 rfl rfl)
theorem dJ20_bitCount_34 : decode cJ20_bitCount 34 = .ok (.iload_n 0, 1) := dk_26 (dk_at dksJ20_bitCount_1 10 rfl rfl)
theorem dJ20_bitCount_35 : decode cJ20_bitCount 35 = .ok (.iload_n 0, 1) := dk_26 (dk_at dksJ20_bitCount_1 11 rfl rfl)
theorem dJ20_bitCount_36 : decode cJ20_bitCount 36 = .ok (.bipush 8, 2) := dk_16 8 (dk_at dksJ20_bitCount_1 12 rfl rfl)
theorem dJ20_bitCount_38 : decode cJ20_bitCount 38 = .ok (.iushr, 1) := dk_124 (dk_at dksJ20_bitCount_1 14 rfl rfl)
theorem dJ20_bitCount_39 : decode cJ20_bitCount 39 = .ok (.iadd, 1) := dk_96 (dk_at dksJ20_bitCount_1 15 rfl rfl)
theorem dJ20_bitCount_40 : decode cJ20_bitCount 40 = .ok (.istore_n 0, 1) := dk_59 (dk_at dksJ20_bitCount_1 16 rfl rfl)
theorem dJ20_bitCount_41 : decode cJ20_bitCount 41 = .ok (.iload_n 0, 1) := dk_26 (dk_at dksJ20_bitCount_1 17 rfl rfl)
theorem dJ20_bitCount_42 : decode cJ20_bitCount 42 = .ok (.iload_n 0, 1) := dk_26 (dk_at dksJ20_bitCount_1 18 rfl rfl)
theorem dJ20_bitCount_43 : decode cJ20_bitCount 43 = .ok (.bipush 16, 2) := dk_16 16 (dk_at dksJ20_bitCount_1 19 rfl rfl)
theorem dJ20_bitCount_45 : decode cJ20_bitCount 45 = .ok (.iushr, 1) := dk_124 (dk_at dksJ20_bitCount_1 21 rfl rfl)
theorem dJ20_bitCount_46 : decode cJ20_bitCount 46 = .ok (.iadd, 1) := dk_96 (dk_at dksJ20_bitCount_1 22 rfl rfl)
theorem dJ20_bitCount_47 : decode cJ20_bitCount 47 = .ok (.istore_n 0, 1) := dk_59 (dk_at dksJ20_bitCount_1 23 rfl rfl)
theorem dJ20_bitCount_48 : decode cJ20_bitCount 48 = .ok (.iload_n 0, 1) := dk_26 (dk_at dksJ20_bitCount_2 0 rfl rfl)
theorem dJ20_bitCount_49 : decode cJ20_bitCount 49 = .ok (.bipush 63, 2) := dk_16 63 (dk_at dksJ20_bitCount_2 1 rfl rfl)
theorem dJ20_bitCount_51 : decode cJ20_bitCount 51 = .ok (.iand, 1) := dk_126 (dk_at dksJ20_bitCount_2 3 rfl rfl)
theorem dJ20_bitCount_52 : decode cJ20_bitCount 52 = .ok (.ireturn, 1) := dk_172 (dk_at dksJ20_bitCount_2 4 rfl rfl)
theorem q111 : (Jvm.Cond.initialized "java/lang/Integer") ∈ lw_all := lw_g (lw_at lw_m1 28 rfl) rfl
theorem q724 : (Jvm.Cond.static ({ cls := "java/lang/Integer", name := "stringSize", desc := "(I)I" } : Jvm.MethodName)) ∈ lw_all := lw_g (lw_at lw_m3 161 rfl) rfl
theorem q725 : (Jvm.Cond.code ({ cls := "java/lang/Integer", name := "stringSize", desc := "(I)I" } : Jvm.MethodName) prog_32_method_13_code (4 : Nat) (Option.some Jvm.ClassFile.FieldType.int)) ∈ lw_all := lw_g (lw_at lw_m3 162 rfl) rfl
theorem q727 : (Jvm.Cond.static ({ cls := "java/lang/Integer", name := "getChars", desc := "(II[B)I" } : Jvm.MethodName)) ∈ lw_all := lw_g (lw_at lw_m3 164 rfl) rfl
theorem q728 : (Jvm.Cond.code ({ cls := "java/lang/Integer", name := "getChars", desc := "(II[B)I" } : Jvm.MethodName) prog_32_method_12_code (7 : Nat) (Option.some Jvm.ClassFile.FieldType.int)) ∈ lw_all := lw_g (lw_at lw_m3 165 rfl) rfl
theorem q729 : (Jvm.Cond.fieldLink "java/lang/Integer" (83 : Nat) "java/lang/Integer" "DigitOnes" "[B") ∈ lw_all := lw_g (lw_at lw_m3 166 rfl) rfl
theorem q730 : (Jvm.Cond.laysStatic "java/lang/Integer" "DigitOnes" "[B") ∈ lw_tbl := lw_at lw_m3 167 rfl
theorem q731 : (Jvm.Cond.fieldLink "java/lang/Integer" (87 : Nat) "java/lang/Integer" "DigitTens" "[B") ∈ lw_all := lw_g (lw_at lw_m3 168 rfl) rfl
theorem q732 : (Jvm.Cond.laysStatic "java/lang/Integer" "DigitTens" "[B") ∈ lw_tbl := lw_at lw_m3 169 rfl
theorem q995 : (Jvm.Cond.static ({ cls := "java/lang/Integer", name := "numberOfLeadingZeros", desc := "(I)I" } : Jvm.MethodName)) ∈ lw_all := lw_g (lw_at lw_m4 192 rfl) rfl
theorem q996 : (Jvm.Cond.code ({ cls := "java/lang/Integer", name := "numberOfLeadingZeros", desc := "(I)I" } : Jvm.MethodName) prog_32_method_47_code (2 : Nat) (Option.some Jvm.ClassFile.FieldType.int)) ∈ lw_all := lw_g (lw_at lw_m4 193 rfl) rfl
theorem q997 : (Jvm.Cond.constant "java/lang/Integer" (264 : Nat) (65536 : Int32)) ∈ lw_all := lw_g (lw_at lw_m4 194 rfl) rfl
theorem q1004 : (Jvm.Cond.static ({ cls := "java/lang/Integer", name := "numberOfTrailingZeros", desc := "(I)I" } : Jvm.MethodName)) ∈ lw_all := lw_g (lw_at lw_m4 201 rfl) rfl
theorem q1005 : (Jvm.Cond.code ({ cls := "java/lang/Integer", name := "numberOfTrailingZeros", desc := "(I)I" } : Jvm.MethodName) prog_32_method_48_code (2 : Nat) (Option.some Jvm.ClassFile.FieldType.int)) ∈ lw_all := lw_g (lw_at lw_m4 202 rfl) rfl
theorem q2061 : (Jvm.Cond.static ({ cls := "java/lang/Integer", name := "bitCount", desc := "(I)I" } : Jvm.MethodName)) ∈ lw_all := lw_g (lw_at lw_m9 58 rfl) rfl
theorem q2062 : (Jvm.Cond.code ({ cls := "java/lang/Integer", name := "bitCount", desc := "(I)I" } : Jvm.MethodName) prog_32_method_49_code (1 : Nat) (Option.some Jvm.ClassFile.FieldType.int)) ∈ lw_all := lw_g (lw_at lw_m9 59 rfl) rfl
theorem q2063 : (Jvm.Cond.constant "java/lang/Integer" (265 : Nat) (1431655765 : Int32)) ∈ lw_all := lw_g (lw_at lw_m9 60 rfl) rfl
theorem q2064 : (Jvm.Cond.constant "java/lang/Integer" (266 : Nat) (858993459 : Int32)) ∈ lw_all := lw_g (lw_at lw_m9 61 rfl) rfl
theorem q2065 : (Jvm.Cond.constant "java/lang/Integer" (267 : Nat) (252645135 : Int32)) ∈ lw_all := lw_g (lw_at lw_m9 62 rfl) rfl

/-! java/lang/StrictMath -/
set_option maxRecDepth 100000
def RJ23 : String := "java/lang/StrictMath"
abbrev cJ23_ceil : ByteArray := prog_38_method_16_code
def yJ23_ceil : MethodName := ⟨RJ23, "ceil", "(D)D"⟩
def dkwJ23_ceil_0 : List UInt8 := [38, 20, 0, 58, 15, 15, 184, 0, 60, 175]
abbrev dktJ23_ceil_0 : List UInt8 := dkwJ23_ceil_0 ++ []
theorem dksJ23_ceil_0 : cJ23_ceil.data.toList.drop 0 = dktJ23_ceil_0 := by decide +kernel
theorem dJ23_ceil_0 : decode cJ23_ceil 0 = .ok (.dload_n 0, 1) := dk_38 (dk_at dksJ23_ceil_0 0 rfl rfl)
theorem dJ23_ceil_1 : decode cJ23_ceil 1 = .ok (.ldc2_w 58, 3) := dk_20 0 58 (dk_at dksJ23_ceil_0 1 rfl rfl)
theorem dJ23_ceil_4 : decode cJ23_ceil 4 = .ok (.dconst 1, 1) := dk_15 (dk_at dksJ23_ceil_0 4 rfl rfl)
theorem dJ23_ceil_5 : decode cJ23_ceil 5 = .ok (.dconst 1, 1) := dk_15 (dk_at dksJ23_ceil_0 5 rfl rfl)
theorem dJ23_ceil_6 : decode cJ23_ceil 6 = .ok (.invokestatic 60, 3) := dk_184 0 60 (dk_at dksJ23_ceil_0 6 rfl rfl)
theorem dJ23_ceil_9 : decode cJ23_ceil 9 = .ok (.dreturn, 1) := dk_175 (dk_at dksJ23_ceil_0 9 rfl rfl)
abbrev cJ23_floorOrCeil : ByteArray := prog_38_method_18_code
def yJ23_floorOrCeil : MethodName := ⟨RJ23, "floorOrCeil", "(DDDD)D"⟩
def dkwJ23_floorOrCeil_5 : List UInt8 := [24, 13, 24, 6, 99, 57, 13, 24, 13, 175]
abbrev dktJ23_floorOrCeil_5 : List UInt8 := dkwJ23_floorOrCeil_5 ++ []
def dkwJ23_floorOrCeil_4 : List UInt8 := [175, 22, 9, 22, 11, 20, 0, 87, 131, 127, 184, 0, 89, 57, 13, 24, 6, 38, 107, 14, 151, 158, 0, 10]
abbrev dktJ23_floorOrCeil_4 : List UInt8 := dkwJ23_floorOrCeil_4 ++ dktJ23_floorOrCeil_5
def dkwJ23_floorOrCeil_3 : List UInt8 := [184, 0, 77, 55, 9, 20, 0, 85, 21, 8, 123, 55, 11, 22, 11, 22, 9, 127, 9, 148, 154, 0, 5, 38]
abbrev dktJ23_floorOrCeil_3 : List UInt8 := dkwJ23_floorOrCeil_3 ++ dktJ23_floorOrCeil_4
def dkwJ23_floorOrCeil_2 : List UInt8 := [154, 0, 23, 21, 8, 155, 0, 10, 21, 8, 16, 51, 164, 0, 11, 187, 0, 74, 89, 183, 0, 76, 191, 38]
abbrev dktJ23_floorOrCeil_2 : List UInt8 := dkwJ23_floorOrCeil_2 ++ dktJ23_floorOrCeil_3
def dkwJ23_floorOrCeil_1 : List UInt8 := [156, 0, 7, 40, 167, 0, 5, 24, 4, 175, 21, 8, 16, 52, 161, 0, 5, 38, 175, 178, 0, 70]
abbrev dktJ23_floorOrCeil_1 : List UInt8 := dkwJ23_floorOrCeil_1 ++ dktJ23_floorOrCeil_2
def dkwJ23_floorOrCeil_0 : List UInt8 := [38, 184, 0, 66, 54, 8, 21, 8, 156, 0, 26, 38, 14, 151, 154, 0, 7, 38, 167, 0, 15, 38, 14, 152]
abbrev dktJ23_floorOrCeil_0 : List UInt8 := dkwJ23_floorOrCeil_0 ++ dktJ23_floorOrCeil_1
theorem dksJ23_floorOrCeil_0 : cJ23_floorOrCeil.data.toList.drop 0 = dktJ23_floorOrCeil_0 := by decide +kernel
theorem dksJ23_floorOrCeil_1 : cJ23_floorOrCeil.data.toList.drop 24 = dktJ23_floorOrCeil_1 := dk_seg dksJ23_floorOrCeil_0 24 rfl rfl
theorem dksJ23_floorOrCeil_2 : cJ23_floorOrCeil.data.toList.drop 46 = dktJ23_floorOrCeil_2 := dk_seg dksJ23_floorOrCeil_1 22 rfl rfl
theorem dksJ23_floorOrCeil_3 : cJ23_floorOrCeil.data.toList.drop 70 = dktJ23_floorOrCeil_3 := dk_seg dksJ23_floorOrCeil_2 24 rfl rfl
theorem dksJ23_floorOrCeil_4 : cJ23_floorOrCeil.data.toList.drop 94 = dktJ23_floorOrCeil_4 := dk_seg dksJ23_floorOrCeil_3 24 rfl rfl
theorem dksJ23_floorOrCeil_5 : cJ23_floorOrCeil.data.toList.drop 118 = dktJ23_floorOrCeil_5 := dk_seg dksJ23_floorOrCeil_4 24 rfl rfl
theorem dJ23_floorOrCeil_0 : decode cJ23_floorOrCeil 0 = .ok (.dload_n 0, 1) := dk_38 (dk_at dksJ23_floorOrCeil_0 0 rfl rfl)
theorem dJ23_floorOrCeil_1 : decode cJ23_floorOrCeil 1 = .ok (.invokestatic 66, 3) := dk_184 0 66 (dk_at dksJ23_floorOrCeil_0 1 rfl rfl)
theorem dJ23_floorOrCeil_4 : decode cJ23_floorOrCeil 4 = .ok (.istore 8, 2) := dk_54 8 (dk_at dksJ23_floorOrCeil_0 4 rfl rfl)
theorem dJ23_floorOrCeil_6 : decode cJ23_floorOrCeil 6 = .ok (.iload 8, 2) := dk_21 8 (dk_at dksJ23_floorOrCeil_0 6 rfl rfl)
theorem dJ23_floorOrCeil_8 : decode cJ23_floorOrCeil 8 = .ok (.ifCond .ge 26, 3) := dk_156 0 26 (dk_at dksJ23_floorOrCeil_0 8 rfl rfl)
theorem dJ23_floorOrCeil_11 : decode cJ23_floorOrCeil 11 = .ok (.dload_n 0, 1) := dk_38 (dk_at dksJ23_floorOrCeil_0 11 rfl rfl)
theorem dJ23_floorOrCeil_12 : decode cJ23_floorOrCeil 12 = .ok (.dconst 0, 1) := dk_14 (dk_at dksJ23_floorOrCeil_0 12 rfl rfl)
theorem dJ23_floorOrCeil_13 : decode cJ23_floorOrCeil 13 = .ok (.dcmp .l, 1) := dk_151 (dk_at dksJ23_floorOrCeil_0 13 rfl rfl)
theorem dJ23_floorOrCeil_14 : decode cJ23_floorOrCeil 14 = .ok (.ifCond .ne 7, 3) := dk_154 0 7 (dk_at dksJ23_floorOrCeil_0 14 rfl rfl)
theorem dJ23_floorOrCeil_17 : decode cJ23_floorOrCeil 17 = .ok (.dload_n 0, 1) := dk_38 (dk_at dksJ23_floorOrCeil_0 17 rfl rfl)
theorem dJ23_floorOrCeil_18 : decode cJ23_floorOrCeil 18 = .ok (.goto 15, 3) := dk_167 0 15 (dk_at dksJ23_floorOrCeil_0 18 rfl rfl)
theorem dJ23_floorOrCeil_21 : decode cJ23_floorOrCeil 21 = .ok (.dload_n 0, 1) := dk_38 (dk_at dksJ23_floorOrCeil_0 21 rfl rfl)
theorem dJ23_floorOrCeil_22 : decode cJ23_floorOrCeil 22 = .ok (.dconst 0, 1) := dk_14 (dk_at dksJ23_floorOrCeil_0 22 rfl rfl)
theorem dJ23_floorOrCeil_23 : decode cJ23_floorOrCeil 23 = .ok (.dcmp .g, 1) := dk_152 (dk_at dksJ23_floorOrCeil_0 23 rfl rfl)
theorem dJ23_floorOrCeil_24 : decode cJ23_floorOrCeil 24 = .ok (.ifCond .ge 7, 3) := dk_156 0 7 (dk_at dksJ23_floorOrCeil_1 0 rfl rfl)
theorem dJ23_floorOrCeil_27 : decode cJ23_floorOrCeil 27 = .ok (.dload_n 2, 1) := dk_40 (dk_at dksJ23_floorOrCeil_1 3 rfl rfl)
theorem dJ23_floorOrCeil_28 : decode cJ23_floorOrCeil 28 = .ok (.goto 5, 3) := dk_167 0 5 (dk_at dksJ23_floorOrCeil_1 4 rfl rfl)
theorem dJ23_floorOrCeil_31 : decode cJ23_floorOrCeil 31 = .ok (.dload 4, 2) := dk_24 4 (dk_at dksJ23_floorOrCeil_1 7 rfl rfl)
theorem dJ23_floorOrCeil_33 : decode cJ23_floorOrCeil 33 = .ok (.dreturn, 1) := dk_175 (dk_at dksJ23_floorOrCeil_1 9 rfl rfl)
theorem dJ23_floorOrCeil_34 : decode cJ23_floorOrCeil 34 = .ok (.iload 8, 2) := dk_21 8 (dk_at dksJ23_floorOrCeil_1 10 rfl rfl)
theorem dJ23_floorOrCeil_36 : decode cJ23_floorOrCeil 36 = .ok (.bipush 52, 2) := dk_16 52 (dk_at dksJ23_floorOrCeil_1 12 rfl rfl)
theorem dJ23_floorOrCeil_38 : decode cJ23_floorOrCeil 38 = .ok (.if_icmp .lt 5, 3) := dk_161 0 5 (dk_at dksJ23_floorOrCeil_1 14 rfl rfl)
theorem dJ23_floorOrCeil_41 : decode cJ23_floorOrCeil 41 = .ok (.dload_n 0, 1) := dk_38 (dk_at dksJ23_floorOrCeil_1 17 rfl rfl)
theorem dJ23_floorOrCeil_42 : decode cJ23_floorOrCeil 42 = .ok (.dreturn, 1) := dk_175 (dk_at dksJ23_floorOrCeil_1 18 rfl rfl)
theorem dJ23_floorOrCeil_43 : decode cJ23_floorOrCeil 43 = .ok (.getstatic 70, 3) := dk_178 0 70 (dk_at dksJ23_floorOrCeil_1 19 rfl rfl)
theorem dJ23_floorOrCeil_46 : decode cJ23_floorOrCeil 46 = .ok (.ifCond .ne 23, 3) := dk_154 0 23 (dk_at dksJ23_floorOrCeil_2 0 rfl rfl)
theorem dJ23_floorOrCeil_49 : decode cJ23_floorOrCeil 49 = .ok (.iload 8, 2) := dk_21 8 (dk_at dksJ23_floorOrCeil_2 3 rfl rfl)
theorem dJ23_floorOrCeil_51 : decode cJ23_floorOrCeil 51 = .ok (.ifCond .lt 10, 3) := dk_155 0 10 (dk_at dksJ23_floorOrCeil_2 5 rfl rfl)
theorem dJ23_floorOrCeil_54 : decode cJ23_floorOrCeil 54 = .ok (.iload 8, 2) := dk_21 8 (dk_at dksJ23_floorOrCeil_2 8 rfl rfl)
theorem dJ23_floorOrCeil_56 : decode cJ23_floorOrCeil 56 = .ok (.bipush 51, 2) := dk_16 51 (dk_at dksJ23_floorOrCeil_2 10 rfl rfl)
theorem dJ23_floorOrCeil_58 : decode cJ23_floorOrCeil 58 = .ok (.if_icmp .le 11, 3) := dk_164 0 11 (dk_at dksJ23_floorOrCeil_2 12 rfl rfl)
theorem dJ23_floorOrCeil_61 : decode cJ23_floorOrCeil 61 = .ok (.new 74, 3) := dk_187 0 74 (dk_at dksJ23_floorOrCeil_2 15 rfl rfl)
theorem dJ23_floorOrCeil_64 : decode cJ23_floorOrCeil 64 = .ok (.dup, 1) := dk_89 (dk_at dksJ23_floorOrCeil_2 18 rfl rfl)
theorem dJ23_floorOrCeil_65 : decode cJ23_floorOrCeil 65 = .ok (.invokespecial 76, 3) := dk_183 0 76 (dk_at dksJ23_floorOrCeil_2 19 rfl rfl)
theorem dJ23_floorOrCeil_68 : decode cJ23_floorOrCeil 68 = .ok (.athrow, 1) := dk_191 (dk_at dksJ23_floorOrCeil_2 22 rfl rfl)
theorem dJ23_floorOrCeil_69 : decode cJ23_floorOrCeil 69 = .ok (.dload_n 0, 1) := dk_38 (dk_at dksJ23_floorOrCeil_2 23 rfl rfl)
theorem dJ23_floorOrCeil_70 : decode cJ23_floorOrCeil 70 = .ok (.invokestatic 77, 3) := dk_184 0 77 (dk_at dksJ23_floorOrCeil_3 0 rfl rfl)
theorem dJ23_floorOrCeil_73 : decode cJ23_floorOrCeil 73 = .ok (.lstore 9, 2) := dk_55 9 (dk_at dksJ23_floorOrCeil_3 3 rfl rfl)
theorem dJ23_floorOrCeil_75 : decode cJ23_floorOrCeil 75 = .ok (.ldc2_w 85, 3) := dk_20 0 85 (dk_at dksJ23_floorOrCeil_3 5 rfl rfl)
theorem dJ23_floorOrCeil_78 : decode cJ23_floorOrCeil 78 = .ok (.iload 8, 2) := dk_21 8 (dk_at dksJ23_floorOrCeil_3 8 rfl rfl)
theorem dJ23_floorOrCeil_80 : decode cJ23_floorOrCeil 80 = .ok (.lshr, 1) := dk_123 (dk_at dksJ23_floorOrCeil_3 10 rfl rfl)
theorem dJ23_floorOrCeil_81 : decode cJ23_floorOrCeil 81 = .ok (.lstore 11, 2) := dk_55 11 (dk_at dksJ23_floorOrCeil_3 11 rfl rfl)
theorem dJ23_floorOrCeil_83 : decode cJ23_floorOrCeil 83 = .ok (.lload 11, 2) := dk_22 11 (dk_at dksJ23_floorOrCeil_3 13 rfl rfl)
theorem dJ23_floorOrCeil_85 : decode cJ23_floorOrCeil 85 = .ok (.lload 9, 2) := dk_22 9 (dk_at dksJ23_floorOrCeil_3 15 rfl rfl)
theorem dJ23_floorOrCeil_87 : decode cJ23_floorOrCeil 87 = .ok (.land, 1) := dk_127 (dk_at dksJ23_floorOrCeil_3 17 rfl rfl)
theorem dJ23_floorOrCeil_88 : decode cJ23_floorOrCeil 88 = .ok (.lconst 0, 1) := dk_9 (dk_at dksJ23_floorOrCeil_3 18 rfl rfl)
theorem dJ23_floorOrCeil_89 : decode cJ23_floorOrCeil 89 = .ok (.lcmp, 1) := dk_148 (dk_at dksJ23_floorOrCeil_3 19 rfl rfl)
theorem dJ23_floorOrCeil_90 : decode cJ23_floorOrCeil 90 = .ok (.ifCond .ne 5, 3) := dk_154 0 5 (dk_at dksJ23_floorOrCeil_3 20 rfl rfl)
theorem dJ23_floorOrCeil_93 : decode cJ23_floorOrCeil 93 = .ok (.dload_n 0, 1) := dk_38 (dk_at dksJ23_floorOrCeil_3 23 rfl rfl)
theorem dJ23_floorOrCeil_94 : decode cJ23_floorOrCeil 94 = .ok (.dreturn, 1) := dk_175 (dk_at dksJ23_floorOrCeil_4 0 rfl rfl)
theorem dJ23_floorOrCeil_95 : decode cJ23_floorOrCeil 95 = .ok (.lload 9, 2) := dk_22 9 (dk_at dksJ23_floorOrCeil_4 1 rfl rfl)
theorem dJ23_floorOrCeil_97 : decode cJ23_floorOrCeil 97 = .ok (.lload 11, 2) := dk_22 11 (dk_at dksJ23_floorOrCeil_4 3 rfl rfl)
theorem dJ23_floorOrCeil_99 : decode cJ23_floorOrCeil 99 = .ok (.ldc2_w 87, 3) := dk_20 0 87 (dk_at dksJ23_floorOrCeil_4 5 rfl rfl)
theorem dJ23_floorOrCeil_102 : decode cJ23_floorOrCeil 102 = .ok (.lxor, 1) := dk_131 (dk_at dksJ23_floorOrCeil_4 8 rfl rfl)
theorem dJ23_floorOrCeil_103 : decode cJ23_floorOrCeil 103 = .ok (.land, 1) := dk_127 (dk_at dksJ23_floorOrCeil_4 9 rfl rfl)
theorem dJ23_floorOrCeil_104 : decode cJ23_floorOrCeil 104 = .ok (.invokestatic 89, 3) := dk_184 0 89 (dk_at dksJ23_floorOrCeil_4 10 rfl rfl)
theorem dJ23_floorOrCeil_107 : decode cJ23_floorOrCeil 107 = .ok (.dstore 13, 2) := dk_57 13 (dk_at dksJ23_floorOrCeil_4 13 rfl rfl)
theorem dJ23_floorOrCeil_109 : decode cJ23_floorOrCeil 109 = .ok (.dload 6, 2) := dk_24 6 (dk_at dksJ23_floorOrCeil_4 15 rfl rfl)
theorem dJ23_floorOrCeil_111 : decode cJ23_floorOrCeil 111 = .ok (.dload_n 0, 1) := dk_38 (dk_at dksJ23_floorOrCeil_4 17 rfl rfl)
theorem dJ23_floorOrCeil_112 : decode cJ23_floorOrCeil 112 = .ok (.dmul, 1) := dk_107 (dk_at dksJ23_floorOrCeil_4 18 rfl rfl)
theorem dJ23_floorOrCeil_113 : decode cJ23_floorOrCeil 113 = .ok (.dconst 0, 1) := dk_14 (dk_at dksJ23_floorOrCeil_4 19 rfl rfl)
theorem dJ23_floorOrCeil_114 : decode cJ23_floorOrCeil 114 = .ok (.dcmp .l, 1) := dk_151 (dk_at dksJ23_floorOrCeil_4 20 rfl rfl)
theorem dJ23_floorOrCeil_115 : decode cJ23_floorOrCeil 115 = .ok (.ifCond .le 10, 3) := dk_158 0 10 (dk_at dksJ23_floorOrCeil_4 21 rfl rfl)
theorem dJ23_floorOrCeil_118 : decode cJ23_floorOrCeil 118 = .ok (.dload 13, 2) := dk_24 13 (dk_at dksJ23_floorOrCeil_5 0 rfl rfl)
theorem dJ23_floorOrCeil_120 : decode cJ23_floorOrCeil 120 = .ok (.dload 6, 2) := dk_24 6 (dk_at dksJ23_floorOrCeil_5 2 rfl rfl)
theorem dJ23_floorOrCeil_122 : decode cJ23_floorOrCeil 122 = .ok (.dadd, 1) := dk_99 (dk_at dksJ23_floorOrCeil_5 4 rfl rfl)
theorem dJ23_floorOrCeil_123 : decode cJ23_floorOrCeil 123 = .ok (.dstore 13, 2) := dk_57 13 (dk_at dksJ23_floorOrCeil_5 5 rfl rfl)
theorem dJ23_floorOrCeil_125 : decode cJ23_floorOrCeil 125 = .ok (.dload 13, 2) := dk_24 13 (dk_at dksJ23_floorOrCeil_5 7 rfl rfl)
theorem dJ23_floorOrCeil_127 : decode cJ23_floorOrCeil 127 = .ok (.dreturn, 1) := dk_175 (dk_at dksJ23_floorOrCeil_5 9 rfl rfl)
theorem q117 : (Jvm.Cond.initialized "java/lang/StrictMath") ∈ lw_all := lw_g (lw_at lw_m1 34 rfl) rfl
theorem q1249 : (Jvm.Cond.static ({ cls := "java/lang/StrictMath", name := "ceil", desc := "(D)D" } : Jvm.MethodName)) ∈ lw_all := lw_g (lw_at lw_m5 206 rfl) rfl
theorem q1250 : (Jvm.Cond.code ({ cls := "java/lang/StrictMath", name := "ceil", desc := "(D)D" } : Jvm.MethodName) prog_38_method_16_code (2 : Nat) (Option.some Jvm.ClassFile.FieldType.double)) ∈ lw_all := lw_g (lw_at lw_m5 207 rfl) rfl
theorem q1251 : (Jvm.Cond.constantDouble "java/lang/StrictMath" (58 : Nat) (9223372036854775808 : UInt64)) ∈ lw_all := lw_g (lw_at lw_m5 208 rfl) rfl
theorem q1252 : (Jvm.Cond.methodLink "java/lang/StrictMath" (60 : Nat) ({ cls := "java/lang/StrictMath", name := "floorOrCeil", desc := "(DDDD)D" } : Jvm.MethodName)) ∈ lw_all := lw_g (lw_at lw_m5 209 rfl) rfl
theorem q1253 : (Jvm.Cond.static ({ cls := "java/lang/StrictMath", name := "floorOrCeil", desc := "(DDDD)D" } : Jvm.MethodName)) ∈ lw_all := lw_g (lw_at lw_m5 210 rfl) rfl
theorem q1254 : (Jvm.Cond.code ({ cls := "java/lang/StrictMath", name := "floorOrCeil", desc := "(DDDD)D" } : Jvm.MethodName) prog_38_method_18_code (15 : Nat) (Option.some Jvm.ClassFile.FieldType.double)) ∈ lw_all := lw_g (lw_at lw_m5 211 rfl) rfl
theorem q1255 : (Jvm.Cond.methodLink "java/lang/StrictMath" (66 : Nat) ({ cls := "java/lang/Math", name := "getExponent", desc := "(D)I" } : Jvm.MethodName)) ∈ lw_all := lw_g (lw_at lw_m5 212 rfl) rfl
theorem q1263 : (Jvm.Cond.fieldLink "java/lang/StrictMath" (70 : Nat) "java/lang/StrictMath" "$assertionsDisabled" "Z") ∈ lw_all := lw_g (lw_at lw_m5 220 rfl) rfl
theorem q1264 : (Jvm.Cond.laysStatic "java/lang/StrictMath" "$assertionsDisabled" "Z") ∈ lw_tbl := lw_at lw_m5 221 rfl
theorem q1265 : (Jvm.Cond.methodLink "java/lang/StrictMath" (77 : Nat) ({ cls := "java/lang/Double", name := "doubleToRawLongBits", desc := "(D)J" } : Jvm.MethodName)) ∈ lw_all := lw_g (lw_at lw_m5 222 rfl) rfl
theorem q1266 : (Jvm.Cond.constantLong "java/lang/StrictMath" (85 : Nat) (4503599627370495 : Int64)) ∈ lw_all := lw_g (lw_at lw_m5 223 rfl) rfl
theorem q1267 : (Jvm.Cond.constantLong "java/lang/StrictMath" (87 : Nat) (-1 : Int64)) ∈ lw_all := lw_g (lw_at lw_m5 224 rfl) rfl
theorem q1268 : (Jvm.Cond.methodLink "java/lang/StrictMath" (89 : Nat) ({ cls := "java/lang/Double", name := "longBitsToDouble", desc := "(J)D" } : Jvm.MethodName)) ∈ lw_all := lw_g (lw_at lw_m5 225 rfl) rfl

/-! java/util/HashMap$Node -/
set_option maxRecDepth 100000
def RJ24 : String := "java/util/HashMap$Node"
abbrev cJ24_init : ByteArray := prog_59_method_1_code
def yJ24_init : MethodName := ⟨RJ24, "<init>", "(ILjava/lang/Object;Ljava/lang/Object;Ljava/util/HashMap$Node;)V"⟩
def dkwJ24_init_1 : List UInt8 := [181, 0, 20, 177]
abbrev dktJ24_init_1 : List UInt8 := dkwJ24_init_1 ++ []
def dkwJ24_init_0 : List UInt8 := [42, 183, 0, 1, 42, 27, 181, 0, 7, 42, 44, 181, 0, 13, 42, 45, 181, 0, 17, 42, 25, 4]
abbrev dktJ24_init_0 : List UInt8 := dkwJ24_init_0 ++ dktJ24_init_1
theorem dksJ24_init_0 : cJ24_init.data.toList.drop 0 = dktJ24_init_0 := by decide +kernel
theorem dksJ24_init_1 : cJ24_init.data.toList.drop 22 = dktJ24_init_1 := dk_seg dksJ24_init_0 22 rfl rfl
theorem dJ24_init_0 : decode cJ24_init 0 = .ok (.aload_n 0, 1) := dk_42 (dk_at dksJ24_init_0 0 rfl rfl)
theorem dJ24_init_1 : decode cJ24_init 1 = .ok (.invokespecial 1, 3) := dk_183 0 1 (dk_at dksJ24_init_0 1 rfl rfl)
theorem dJ24_init_4 : decode cJ24_init 4 = .ok (.aload_n 0, 1) := dk_42 (dk_at dksJ24_init_0 4 rfl rfl)
theorem dJ24_init_5 : decode cJ24_init 5 = .ok (.iload_n 1, 1) := dk_27 (dk_at dksJ24_init_0 5 rfl rfl)
theorem dJ24_init_6 : decode cJ24_init 6 = .ok (.putfield 7, 3) := dk_181 0 7 (dk_at dksJ24_init_0 6 rfl rfl)
theorem dJ24_init_9 : decode cJ24_init 9 = .ok (.aload_n 0, 1) := dk_42 (dk_at dksJ24_init_0 9 rfl rfl)
theorem dJ24_init_10 : decode cJ24_init 10 = .ok (.aload_n 2, 1) := dk_44 (dk_at dksJ24_init_0 10 rfl rfl)
theorem dJ24_init_11 : decode cJ24_init 11 = .ok (.putfield 13, 3) := dk_181 0 13 (dk_at dksJ24_init_0 11 rfl rfl)
theorem dJ24_init_14 : decode cJ24_init 14 = .ok (.aload_n 0, 1) := dk_42 (dk_at dksJ24_init_0 14 rfl rfl)
theorem dJ24_init_15 : decode cJ24_init 15 = .ok (.aload_n 3, 1) := dk_45 (dk_at dksJ24_init_0 15 rfl rfl)
theorem dJ24_init_16 : decode cJ24_init 16 = .ok (.putfield 17, 3) := dk_181 0 17 (dk_at dksJ24_init_0 16 rfl rfl)
theorem dJ24_init_19 : decode cJ24_init 19 = .ok (.aload_n 0, 1) := dk_42 (dk_at dksJ24_init_0 19 rfl rfl)
theorem dJ24_init_20 : decode cJ24_init 20 = .ok (.aload 4, 2) := dk_25 4 (dk_at dksJ24_init_0 20 rfl rfl)
theorem dJ24_init_22 : decode cJ24_init 22 = .ok (.putfield 20, 3) := dk_181 0 20 (dk_at dksJ24_init_1 0 rfl rfl)
theorem dJ24_init_25 : decode cJ24_init 25 = .ok (.return_, 1) := dk_177 (dk_at dksJ24_init_1 3 rfl rfl)
abbrev cJ24_getKey : ByteArray := prog_59_method_2_code
def yJ24_getKey : MethodName := ⟨RJ24, "getKey", "()Ljava/lang/Object;"⟩
theorem dJ24_getKey_0 : decode cJ24_getKey 0 = .ok (.aload_n 0, 1) := by decide +kernel
theorem dJ24_getKey_1 : decode cJ24_getKey 1 = .ok (.getfield 13, 3) := by decide +kernel
theorem dJ24_getKey_4 : decode cJ24_getKey 4 = .ok (.areturn, 1) := by decide +kernel
abbrev cJ24_getValue : ByteArray := prog_59_method_3_code
def yJ24_getValue : MethodName := ⟨RJ24, "getValue", "()Ljava/lang/Object;"⟩
theorem dJ24_getValue_0 : decode cJ24_getValue 0 = .ok (.aload_n 0, 1) := by decide +kernel
theorem dJ24_getValue_1 : decode cJ24_getValue 1 = .ok (.getfield 17, 3) := by decide +kernel
theorem dJ24_getValue_4 : decode cJ24_getValue 4 = .ok (.areturn, 1) := by decide +kernel
theorem q119 : (Jvm.Cond.initialized "java/util/HashMap$Node") ∈ lw_all := lw_g (lw_at lw_m1 36 rfl) rfl
theorem q328 : (Jvm.Cond.selects "java/util/HashMap$Node" ({ cls := "java/lang/Object", name := "getClass", desc := "()Ljava/lang/Class;" } : Jvm.MethodName) ({ cls := "java/lang/Object", name := "getClass", desc := "()Ljava/lang/Class;" } : Jvm.MethodName)) ∈ lw_all := lw_g (lw_at lw_m2 5 rfl) rfl
theorem q1306 : (Jvm.Cond.instanceMethod ({ cls := "java/util/HashMap$Node", name := "<init>", desc := "(ILjava/lang/Object;Ljava/lang/Object;Ljava/util/HashMap$Node;)V" } : Jvm.MethodName)) ∈ lw_all := lw_g (lw_at lw_m6 23 rfl) rfl
theorem q1307 : (Jvm.Cond.code ({ cls := "java/util/HashMap$Node", name := "<init>", desc := "(ILjava/lang/Object;Ljava/lang/Object;Ljava/util/HashMap$Node;)V" } : Jvm.MethodName) prog_59_method_1_code (5 : Nat) (Option.none : Option Jvm.ClassFile.FieldType)) ∈ lw_all := lw_g (lw_at lw_m6 24 rfl) rfl
theorem q1308 : (Jvm.Cond.methodLink "java/util/HashMap$Node" (1 : Nat) ({ cls := "java/lang/Object", name := "<init>", desc := "()V" } : Jvm.MethodName)) ∈ lw_all := lw_g (lw_at lw_m6 25 rfl) rfl
theorem q1313 : (Jvm.Cond.fieldLink "java/util/HashMap$Node" (7 : Nat) "java/util/HashMap$Node" "hash" "I") ∈ lw_all := lw_g (lw_at lw_m6 30 rfl) rfl
theorem q1320 : (Jvm.Cond.fieldLink "java/util/HashMap$Node" (13 : Nat) "java/util/HashMap$Node" "key" "Ljava/lang/Object;") ∈ lw_all := lw_g (lw_at lw_m6 37 rfl) rfl
theorem q1327 : (Jvm.Cond.fieldLink "java/util/HashMap$Node" (17 : Nat) "java/util/HashMap$Node" "value" "Ljava/lang/Object;") ∈ lw_all := lw_g (lw_at lw_m6 44 rfl) rfl
theorem q1333 : (Jvm.Cond.fieldLink "java/util/HashMap$Node" (20 : Nat) "java/util/HashMap$Node" "next" "Ljava/util/HashMap$Node;") ∈ lw_all := lw_g (lw_at lw_m6 50 rfl) rfl
theorem q1344 : (Jvm.Cond.soleField "java/util/HashMap$Node" "hash") ∈ lw_all := lw_g (lw_at lw_m6 61 rfl) rfl
theorem q1346 : (Jvm.Cond.soleField "java/util/HashMap$Node" "key") ∈ lw_all := lw_g (lw_at lw_m6 63 rfl) rfl
theorem q1348 : (Jvm.Cond.soleField "java/util/HashMap$Node" "value") ∈ lw_all := lw_g (lw_at lw_m6 65 rfl) rfl
theorem q1350 : (Jvm.Cond.soleField "java/util/HashMap$Node" "next") ∈ lw_all := lw_g (lw_at lw_m6 67 rfl) rfl
theorem q1541 : (Jvm.Cond.declares ({ cls := "java/util/HashMap$Node", name := "getKey", desc := "()Ljava/lang/Object;" } : Jvm.MethodName)) ∈ lw_tbl := lw_at lw_m7 18 rfl
theorem q1544 : (Jvm.Cond.instanceMethod ({ cls := "java/util/HashMap$Node", name := "getKey", desc := "()Ljava/lang/Object;" } : Jvm.MethodName)) ∈ lw_all := lw_g (lw_at lw_m7 21 rfl) rfl
theorem q1545 : (Jvm.Cond.code ({ cls := "java/util/HashMap$Node", name := "getKey", desc := "()Ljava/lang/Object;" } : Jvm.MethodName) prog_59_method_2_code (1 : Nat) (Option.some (Jvm.ClassFile.FieldType.object "java/lang/Object"))) ∈ lw_all := lw_g (lw_at lw_m7 22 rfl) rfl
theorem q1559 : (Jvm.Cond.castable "java/util/HashMap$Node" "java/util/Map$Entry") ∈ lw_tbl := lw_at lw_m7 36 rfl
theorem q1560 : (Jvm.Cond.selects "java/util/HashMap$Node" ({ cls := "java/util/Map$Entry", name := "getKey", desc := "()Ljava/lang/Object;" } : Jvm.MethodName) ({ cls := "java/util/HashMap$Node", name := "getKey", desc := "()Ljava/lang/Object;" } : Jvm.MethodName)) ∈ lw_all := lw_g (lw_at lw_m7 37 rfl) rfl
theorem q1561 : (Jvm.Cond.unhidden "java/util/HashMap$Node" "getKey" "()Ljava/lang/Object;") ∈ lw_tbl := lw_at lw_m7 38 rfl
theorem q1562 : (Jvm.Cond.publicMethod ({ cls := "java/util/HashMap$Node", name := "getKey", desc := "()Ljava/lang/Object;" } : Jvm.MethodName)) ∈ lw_tbl := lw_at lw_m7 39 rfl
theorem q1573 : (Jvm.Cond.selects "java/util/HashMap$Node" ({ cls := "java/util/Map$Entry", name := "getValue", desc := "()Ljava/lang/Object;" } : Jvm.MethodName) ({ cls := "java/util/HashMap$Node", name := "getValue", desc := "()Ljava/lang/Object;" } : Jvm.MethodName)) ∈ lw_all := lw_g (lw_at lw_m7 50 rfl) rfl
theorem q1574 : (Jvm.Cond.unhidden "java/util/HashMap$Node" "getValue" "()Ljava/lang/Object;") ∈ lw_tbl := lw_at lw_m7 51 rfl
theorem q1575 : (Jvm.Cond.instanceMethod ({ cls := "java/util/HashMap$Node", name := "getValue", desc := "()Ljava/lang/Object;" } : Jvm.MethodName)) ∈ lw_all := lw_g (lw_at lw_m7 52 rfl) rfl
theorem q1576 : (Jvm.Cond.publicMethod ({ cls := "java/util/HashMap$Node", name := "getValue", desc := "()Ljava/lang/Object;" } : Jvm.MethodName)) ∈ lw_tbl := lw_at lw_m7 53 rfl
theorem q1577 : (Jvm.Cond.code ({ cls := "java/util/HashMap$Node", name := "getValue", desc := "()Ljava/lang/Object;" } : Jvm.MethodName) prog_59_method_3_code (1 : Nat) (Option.some (Jvm.ClassFile.FieldType.object "java/lang/Object"))) ∈ lw_all := lw_g (lw_at lw_m7 54 rfl) rfl
theorem q3114 : (Jvm.Cond.castable "java/util/HashMap$Node" "java/lang/Object") ∈ lw_tbl := lw_at lw_m13 151 rfl

/-! java/util/LinkedHashMap$Entry -/
set_option maxRecDepth 100000
def RJ25 : String := "java/util/LinkedHashMap$Entry"
def TJ25 : u_T := fun k => match k with
  | 0 => ("java/util/HashMap$Node", "hash", "I", true)
  | 1 => ("java/util/HashMap$Node", "key", "Ljava/lang/Object;", true)
  | 2 => ("java/util/HashMap$Node", "value", "Ljava/lang/Object;", false)
  | 3 => ("java/util/HashMap$Node", "next", "Ljava/util/HashMap$Node;", false)
  | 4 => ("java/util/LinkedHashMap$Entry", "before", "Ljava/util/LinkedHashMap$Entry;", false)
  | _ => ("java/util/LinkedHashMap$Entry", "after", "Ljava/util/LinkedHashMap$Entry;", false)
def tyJ25 : Nat → FieldType := fun k => match k with
  | 0 => .int
  | 1 => .object "java/lang/Object"
  | 2 => .object "java/lang/Object"
  | 3 => .object "java/util/HashMap$Node"
  | 4 => .object "java/util/LinkedHashMap$Entry"
  | _ => .object "java/util/LinkedHashMap$Entry"
abbrev wsJ250 : List Cond := u_ws RJ25 TJ25 6
theorem nmJ25 : ∀ a, a < 6 → ∀ b, b < 6 → a ≠ b → (TJ25 a).2.1 ≠ (TJ25 b).2.1 := by decide +kernel
theorem tyJ25_ok : ∀ k, k < 6 → parseFieldDescriptor (TJ25 k).2.2.1 = some (tyJ25 k) := by decide +kernel
abbrev cJ25_init : ByteArray := prog_63_method_1_code
def yJ25_init : MethodName := ⟨RJ25, "<init>", "(ILjava/lang/Object;Ljava/lang/Object;Ljava/util/HashMap$Node;)V"⟩
def dkwJ25_init_0 : List UInt8 := [42, 27, 44, 45, 25, 4, 183, 0, 1, 177]
abbrev dktJ25_init_0 : List UInt8 := dkwJ25_init_0 ++ []
theorem dksJ25_init_0 : cJ25_init.data.toList.drop 0 = dktJ25_init_0 := by decide +kernel
theorem dJ25_init_0 : decode cJ25_init 0 = .ok (.aload_n 0, 1) := dk_42 (dk_at dksJ25_init_0 0 rfl rfl)
theorem dJ25_init_1 : decode cJ25_init 1 = .ok (.iload_n 1, 1) := dk_27 (dk_at dksJ25_init_0 1 rfl rfl)
theorem dJ25_init_2 : decode cJ25_init 2 = .ok (.aload_n 2, 1) := dk_44 (dk_at dksJ25_init_0 2 rfl rfl)
theorem dJ25_init_3 : decode cJ25_init 3 = .ok (.aload_n 3, 1) := dk_45 (dk_at dksJ25_init_0 3 rfl rfl)
theorem dJ25_init_4 : decode cJ25_init 4 = .ok (.aload 4, 2) := dk_25 4 (dk_at dksJ25_init_0 4 rfl rfl)
theorem dJ25_init_6 : decode cJ25_init 6 = .ok (.invokespecial 1, 3) := dk_183 0 1 (dk_at dksJ25_init_0 6 rfl rfl)
theorem dJ25_init_9 : decode cJ25_init 9 = .ok (.return_, 1) := dk_177 (dk_at dksJ25_init_0 9 rfl rfl)
theorem q120 : (Jvm.Cond.initialized "java/util/LinkedHashMap$Entry") ∈ lw_all := lw_g (lw_at lw_m1 37 rfl) rfl
theorem q331 : (Jvm.Cond.selects "java/util/LinkedHashMap$Entry" ({ cls := "java/lang/Object", name := "getClass", desc := "()Ljava/lang/Class;" } : Jvm.MethodName) ({ cls := "java/lang/Object", name := "getClass", desc := "()Ljava/lang/Class;" } : Jvm.MethodName)) ∈ lw_all := lw_g (lw_at lw_m2 8 rfl) rfl
theorem q1301 : (Jvm.Cond.instantiable "java/util/LinkedHashMap$Entry" (6 : Nat)) ∈ lw_all := lw_g (lw_at lw_m6 18 rfl) rfl
theorem q1303 : (Jvm.Cond.instanceMethod ({ cls := "java/util/LinkedHashMap$Entry", name := "<init>", desc := "(ILjava/lang/Object;Ljava/lang/Object;Ljava/util/HashMap$Node;)V" } : Jvm.MethodName)) ∈ lw_all := lw_g (lw_at lw_m6 20 rfl) rfl
theorem q1304 : (Jvm.Cond.code ({ cls := "java/util/LinkedHashMap$Entry", name := "<init>", desc := "(ILjava/lang/Object;Ljava/lang/Object;Ljava/util/HashMap$Node;)V" } : Jvm.MethodName) prog_63_method_1_code (5 : Nat) (Option.none : Option Jvm.ClassFile.FieldType)) ∈ lw_all := lw_g (lw_at lw_m6 21 rfl) rfl
theorem q1305 : (Jvm.Cond.methodLink "java/util/LinkedHashMap$Entry" (1 : Nat) ({ cls := "java/util/HashMap$Node", name := "<init>", desc := "(ILjava/lang/Object;Ljava/lang/Object;Ljava/util/HashMap$Node;)V" } : Jvm.MethodName)) ∈ lw_all := lw_g (lw_at lw_m6 22 rfl) rfl
theorem q1318 : (Jvm.Cond.sameField "java/util/LinkedHashMap$Entry" "java/util/HashMap$Node" "hash" "I") ∈ lw_all := lw_g (lw_at lw_m6 35 rfl) rfl
theorem q1325 : (Jvm.Cond.sameField "java/util/LinkedHashMap$Entry" "java/util/HashMap$Node" "key" "Ljava/lang/Object;") ∈ lw_all := lw_g (lw_at lw_m6 42 rfl) rfl
theorem q1329 : (Jvm.Cond.sameField "java/util/LinkedHashMap$Entry" "java/util/HashMap$Node" "value" "Ljava/lang/Object;") ∈ lw_all := lw_g (lw_at lw_m6 46 rfl) rfl
theorem q1339 : (Jvm.Cond.lays "java/util/LinkedHashMap$Entry" "java/util/LinkedHashMap$Entry" "before" "Ljava/util/LinkedHashMap$Entry;") ∈ lw_all := lw_g (lw_at lw_m6 56 rfl) rfl
theorem q1340 : (Jvm.Cond.soleField "java/util/LinkedHashMap$Entry" "before") ∈ lw_all := lw_g (lw_at lw_m6 57 rfl) rfl
theorem q1341 : (Jvm.Cond.lays "java/util/LinkedHashMap$Entry" "java/util/LinkedHashMap$Entry" "after" "Ljava/util/LinkedHashMap$Entry;") ∈ lw_all := lw_g (lw_at lw_m6 58 rfl) rfl
theorem q1342 : (Jvm.Cond.soleField "java/util/LinkedHashMap$Entry" "after") ∈ lw_all := lw_g (lw_at lw_m6 59 rfl) rfl
theorem q1343 : (Jvm.Cond.laysFinal "java/util/LinkedHashMap$Entry" "java/util/HashMap$Node" "hash" "I") ∈ lw_all := lw_g (lw_at lw_m6 60 rfl) rfl
theorem q1345 : (Jvm.Cond.laysFinal "java/util/LinkedHashMap$Entry" "java/util/HashMap$Node" "key" "Ljava/lang/Object;") ∈ lw_all := lw_g (lw_at lw_m6 62 rfl) rfl
theorem q1347 : (Jvm.Cond.lays "java/util/LinkedHashMap$Entry" "java/util/HashMap$Node" "value" "Ljava/lang/Object;") ∈ lw_all := lw_g (lw_at lw_m6 64 rfl) rfl
theorem q1349 : (Jvm.Cond.lays "java/util/LinkedHashMap$Entry" "java/util/HashMap$Node" "next" "Ljava/util/HashMap$Node;") ∈ lw_all := lw_g (lw_at lw_m6 66 rfl) rfl
theorem q1351 : (Jvm.Cond.superclass "java/util/LinkedHashMap$Entry" "java/util/HashMap$Node") ∈ lw_all := lw_g (lw_at lw_m6 68 rfl) rfl
theorem q1540 : (Jvm.Cond.sameMethod "java/util/LinkedHashMap$Entry" "java/util/HashMap$Node" "getKey" "()Ljava/lang/Object;") ∈ lw_all := lw_g (lw_at lw_m7 17 rfl) rfl
theorem q1543 : (Jvm.Cond.selects "java/util/LinkedHashMap$Entry" ({ cls := "java/util/LinkedHashMap$Entry", name := "getKey", desc := "()Ljava/lang/Object;" } : Jvm.MethodName) ({ cls := "java/util/HashMap$Node", name := "getKey", desc := "()Ljava/lang/Object;" } : Jvm.MethodName)) ∈ lw_all := lw_g (lw_at lw_m7 20 rfl) rfl
theorem q1566 : (Jvm.Cond.castable "java/util/LinkedHashMap$Entry" "java/util/Map$Entry") ∈ lw_tbl := lw_at lw_m7 43 rfl
theorem q1567 : (Jvm.Cond.selects "java/util/LinkedHashMap$Entry" ({ cls := "java/util/Map$Entry", name := "getKey", desc := "()Ljava/lang/Object;" } : Jvm.MethodName) ({ cls := "java/util/HashMap$Node", name := "getKey", desc := "()Ljava/lang/Object;" } : Jvm.MethodName)) ∈ lw_all := lw_g (lw_at lw_m7 44 rfl) rfl
theorem q1568 : (Jvm.Cond.unhidden "java/util/LinkedHashMap$Entry" "getKey" "()Ljava/lang/Object;") ∈ lw_tbl := lw_at lw_m7 45 rfl
theorem q1580 : (Jvm.Cond.selects "java/util/LinkedHashMap$Entry" ({ cls := "java/util/Map$Entry", name := "getValue", desc := "()Ljava/lang/Object;" } : Jvm.MethodName) ({ cls := "java/util/HashMap$Node", name := "getValue", desc := "()Ljava/lang/Object;" } : Jvm.MethodName)) ∈ lw_all := lw_g (lw_at lw_m7 57 rfl) rfl
theorem q1581 : (Jvm.Cond.unhidden "java/util/LinkedHashMap$Entry" "getValue" "()Ljava/lang/Object;") ∈ lw_tbl := lw_at lw_m7 58 rfl
theorem q3124 : (Jvm.Cond.castable "java/util/LinkedHashMap$Entry" "java/lang/Object") ∈ lw_tbl := lw_at lw_m13 161 rfl
theorem q3151 : (Jvm.Cond.castable "java/util/LinkedHashMap$Entry" "java/util/HashMap$Node") ∈ lw_tbl := lw_at lw_m13 188 rfl
theorem in_J25 : ∀ w ∈ wsJ250, w ∈ lw_all := lw_in wsJ250 [1343, 1345, 1347, 1349, 1339, 1341] (by decide +kernel) (by decide +kernel)

/-! java/util/AbstractSet -/
set_option maxRecDepth 100000
def RJ27 : String := "java/util/AbstractSet"
abbrev cJ27_init : ByteArray := prog_52_method_1_code
def yJ27_init : MethodName := ⟨RJ27, "<init>", "()V"⟩
theorem dJ27_init_0 : decode cJ27_init 0 = .ok (.aload_n 0, 1) := by decide +kernel
theorem dJ27_init_1 : decode cJ27_init 1 = .ok (.invokespecial 1, 3) := by decide +kernel
theorem dJ27_init_4 : decode cJ27_init 4 = .ok (.return_, 1) := by decide +kernel
theorem q122 : (Jvm.Cond.initialized "java/util/AbstractSet") ∈ lw_all := lw_g (lw_at lw_m1 39 rfl) rfl
theorem q1394 : (Jvm.Cond.instanceMethod ({ cls := "java/util/AbstractSet", name := "<init>", desc := "()V" } : Jvm.MethodName)) ∈ lw_all := lw_g (lw_at lw_m6 111 rfl) rfl
theorem q1395 : (Jvm.Cond.code ({ cls := "java/util/AbstractSet", name := "<init>", desc := "()V" } : Jvm.MethodName) prog_52_method_1_code (1 : Nat) (Option.none : Option Jvm.ClassFile.FieldType)) ∈ lw_all := lw_g (lw_at lw_m6 112 rfl) rfl
theorem q1396 : (Jvm.Cond.methodLink "java/util/AbstractSet" (1 : Nat) ({ cls := "java/util/AbstractCollection", name := "<init>", desc := "()V" } : Jvm.MethodName)) ∈ lw_all := lw_g (lw_at lw_m6 113 rfl) rfl

/-! java/util/LinkedHashMap$LinkedEntrySet -/
set_option maxRecDepth 100000
def RJ28 : String := "java/util/LinkedHashMap$LinkedEntrySet"
def TJ28 : u_T := fun k => match k with
  | 0 => ("java/util/LinkedHashMap$LinkedEntrySet", "reversed", "Z", true)
  | _ => ("java/util/LinkedHashMap$LinkedEntrySet", "this$0", "Ljava/util/LinkedHashMap;", true)
def tyJ28 : Nat → FieldType := fun k => match k with
  | 0 => .boolean
  | _ => .object "java/util/LinkedHashMap"
abbrev wsJ280 : List Cond := u_ws RJ28 TJ28 2
theorem nmJ28 : ∀ a, a < 2 → ∀ b, b < 2 → a ≠ b → (TJ28 a).2.1 ≠ (TJ28 b).2.1 := by decide +kernel
theorem tyJ28_ok : ∀ k, k < 2 → parseFieldDescriptor (TJ28 k).2.2.1 = some (tyJ28 k) := by decide +kernel
abbrev cJ28_init : ByteArray := prog_65_method_1_code
def yJ28_init : MethodName := ⟨RJ28, "<init>", "(Ljava/util/LinkedHashMap;Z)V"⟩
def dkwJ28_init_0 : List UInt8 := [42, 43, 181, 0, 1, 42, 183, 0, 7, 42, 28, 181, 0, 13, 177]
abbrev dktJ28_init_0 : List UInt8 := dkwJ28_init_0 ++ []
theorem dksJ28_init_0 : cJ28_init.data.toList.drop 0 = dktJ28_init_0 := by decide +kernel
theorem dJ28_init_0 : decode cJ28_init 0 = .ok (.aload_n 0, 1) := dk_42 (dk_at dksJ28_init_0 0 rfl rfl)
theorem dJ28_init_1 : decode cJ28_init 1 = .ok (.aload_n 1, 1) := dk_43 (dk_at dksJ28_init_0 1 rfl rfl)
theorem dJ28_init_2 : decode cJ28_init 2 = .ok (.putfield 1, 3) := dk_181 0 1 (dk_at dksJ28_init_0 2 rfl rfl)
theorem dJ28_init_5 : decode cJ28_init 5 = .ok (.aload_n 0, 1) := dk_42 (dk_at dksJ28_init_0 5 rfl rfl)
theorem dJ28_init_6 : decode cJ28_init 6 = .ok (.invokespecial 7, 3) := dk_183 0 7 (dk_at dksJ28_init_0 6 rfl rfl)
theorem dJ28_init_9 : decode cJ28_init 9 = .ok (.aload_n 0, 1) := dk_42 (dk_at dksJ28_init_0 9 rfl rfl)
theorem dJ28_init_10 : decode cJ28_init 10 = .ok (.iload_n 2, 1) := dk_28 (dk_at dksJ28_init_0 10 rfl rfl)
theorem dJ28_init_11 : decode cJ28_init 11 = .ok (.putfield 13, 3) := dk_181 0 13 (dk_at dksJ28_init_0 11 rfl rfl)
theorem dJ28_init_14 : decode cJ28_init 14 = .ok (.return_, 1) := dk_177 (dk_at dksJ28_init_0 14 rfl rfl)
abbrev cJ28_iterator : ByteArray := prog_65_method_4_code
def yJ28_iterator : MethodName := ⟨RJ28, "iterator", "()Ljava/util/Iterator;"⟩
def dkwJ28_iterator_0 : List UInt8 := [187, 0, 26, 89, 42, 180, 0, 1, 42, 180, 0, 13, 183, 0, 28, 176]
abbrev dktJ28_iterator_0 : List UInt8 := dkwJ28_iterator_0 ++ []
theorem dksJ28_iterator_0 : cJ28_iterator.data.toList.drop 0 = dktJ28_iterator_0 := by decide +kernel
theorem dJ28_iterator_0 : decode cJ28_iterator 0 = .ok (.new 26, 3) := dk_187 0 26 (dk_at dksJ28_iterator_0 0 rfl rfl)
theorem dJ28_iterator_3 : decode cJ28_iterator 3 = .ok (.dup, 1) := dk_89 (dk_at dksJ28_iterator_0 3 rfl rfl)
theorem dJ28_iterator_4 : decode cJ28_iterator 4 = .ok (.aload_n 0, 1) := dk_42 (dk_at dksJ28_iterator_0 4 rfl rfl)
theorem dJ28_iterator_5 : decode cJ28_iterator 5 = .ok (.getfield 1, 3) := dk_180 0 1 (dk_at dksJ28_iterator_0 5 rfl rfl)
theorem dJ28_iterator_8 : decode cJ28_iterator 8 = .ok (.aload_n 0, 1) := dk_42 (dk_at dksJ28_iterator_0 8 rfl rfl)
theorem dJ28_iterator_9 : decode cJ28_iterator 9 = .ok (.getfield 13, 3) := dk_180 0 13 (dk_at dksJ28_iterator_0 9 rfl rfl)
theorem dJ28_iterator_12 : decode cJ28_iterator 12 = .ok (.invokespecial 28, 3) := dk_183 0 28 (dk_at dksJ28_iterator_0 12 rfl rfl)
theorem dJ28_iterator_15 : decode cJ28_iterator 15 = .ok (.areturn, 1) := dk_176 (dk_at dksJ28_iterator_0 15 rfl rfl)
theorem q123 : (Jvm.Cond.initialized "java/util/LinkedHashMap$LinkedEntrySet") ∈ lw_all := lw_g (lw_at lw_m1 40 rfl) rfl
theorem q333 : (Jvm.Cond.selects "java/util/LinkedHashMap$LinkedEntrySet" ({ cls := "java/lang/Object", name := "getClass", desc := "()Ljava/lang/Class;" } : Jvm.MethodName) ({ cls := "java/lang/Object", name := "getClass", desc := "()Ljava/lang/Class;" } : Jvm.MethodName)) ∈ lw_all := lw_g (lw_at lw_m2 10 rfl) rfl
theorem q1389 : (Jvm.Cond.instantiable "java/util/LinkedHashMap$LinkedEntrySet" (2 : Nat)) ∈ lw_all := lw_g (lw_at lw_m6 106 rfl) rfl
theorem q1391 : (Jvm.Cond.instanceMethod ({ cls := "java/util/LinkedHashMap$LinkedEntrySet", name := "<init>", desc := "(Ljava/util/LinkedHashMap;Z)V" } : Jvm.MethodName)) ∈ lw_all := lw_g (lw_at lw_m6 108 rfl) rfl
theorem q1392 : (Jvm.Cond.code ({ cls := "java/util/LinkedHashMap$LinkedEntrySet", name := "<init>", desc := "(Ljava/util/LinkedHashMap;Z)V" } : Jvm.MethodName) prog_65_method_1_code (3 : Nat) (Option.none : Option Jvm.ClassFile.FieldType)) ∈ lw_all := lw_g (lw_at lw_m6 109 rfl) rfl
theorem q1393 : (Jvm.Cond.methodLink "java/util/LinkedHashMap$LinkedEntrySet" (7 : Nat) ({ cls := "java/util/AbstractSet", name := "<init>", desc := "()V" } : Jvm.MethodName)) ∈ lw_all := lw_g (lw_at lw_m6 110 rfl) rfl
theorem q1397 : (Jvm.Cond.fieldLink "java/util/LinkedHashMap$LinkedEntrySet" (13 : Nat) "java/util/LinkedHashMap$LinkedEntrySet" "reversed" "Z") ∈ lw_all := lw_g (lw_at lw_m6 114 rfl) rfl
theorem q1398 : (Jvm.Cond.fieldLink "java/util/LinkedHashMap$LinkedEntrySet" (1 : Nat) "java/util/LinkedHashMap$LinkedEntrySet" "this$0" "Ljava/util/LinkedHashMap;") ∈ lw_all := lw_g (lw_at lw_m6 115 rfl) rfl
theorem q1399 : (Jvm.Cond.laysFinal "java/util/LinkedHashMap$LinkedEntrySet" "java/util/LinkedHashMap$LinkedEntrySet" "reversed" "Z") ∈ lw_all := lw_g (lw_at lw_m6 116 rfl) rfl
theorem q1400 : (Jvm.Cond.soleField "java/util/LinkedHashMap$LinkedEntrySet" "reversed") ∈ lw_all := lw_g (lw_at lw_m6 117 rfl) rfl
theorem q1401 : (Jvm.Cond.laysFinal "java/util/LinkedHashMap$LinkedEntrySet" "java/util/LinkedHashMap$LinkedEntrySet" "this$0" "Ljava/util/LinkedHashMap;") ∈ lw_all := lw_g (lw_at lw_m6 118 rfl) rfl
theorem q1402 : (Jvm.Cond.soleField "java/util/LinkedHashMap$LinkedEntrySet" "this$0") ∈ lw_all := lw_g (lw_at lw_m6 119 rfl) rfl
theorem q1403 : (Jvm.Cond.superclass "java/util/LinkedHashMap$LinkedEntrySet" "java/util/AbstractSet") ∈ lw_all := lw_g (lw_at lw_m6 120 rfl) rfl
theorem q1409 : (Jvm.Cond.castable "java/util/LinkedHashMap$LinkedEntrySet" "java/util/Set") ∈ lw_tbl := lw_at lw_m6 126 rfl
theorem q1410 : (Jvm.Cond.selects "java/util/LinkedHashMap$LinkedEntrySet" ({ cls := "java/util/Set", name := "iterator", desc := "()Ljava/util/Iterator;" } : Jvm.MethodName) ({ cls := "java/util/LinkedHashMap$LinkedEntrySet", name := "iterator", desc := "()Ljava/util/Iterator;" } : Jvm.MethodName)) ∈ lw_all := lw_g (lw_at lw_m6 127 rfl) rfl
theorem q1411 : (Jvm.Cond.unhidden "java/util/LinkedHashMap$LinkedEntrySet" "iterator" "()Ljava/util/Iterator;") ∈ lw_tbl := lw_at lw_m6 128 rfl
theorem q1412 : (Jvm.Cond.instanceMethod ({ cls := "java/util/LinkedHashMap$LinkedEntrySet", name := "iterator", desc := "()Ljava/util/Iterator;" } : Jvm.MethodName)) ∈ lw_all := lw_g (lw_at lw_m6 129 rfl) rfl
theorem q1413 : (Jvm.Cond.publicMethod ({ cls := "java/util/LinkedHashMap$LinkedEntrySet", name := "iterator", desc := "()Ljava/util/Iterator;" } : Jvm.MethodName)) ∈ lw_tbl := lw_at lw_m6 130 rfl
theorem q1414 : (Jvm.Cond.code ({ cls := "java/util/LinkedHashMap$LinkedEntrySet", name := "iterator", desc := "()Ljava/util/Iterator;" } : Jvm.MethodName) prog_65_method_4_code (1 : Nat) (Option.some (Jvm.ClassFile.FieldType.object "java/util/Iterator"))) ∈ lw_all := lw_g (lw_at lw_m6 131 rfl) rfl
theorem q1415 : (Jvm.Cond.classLink "java/util/LinkedHashMap$LinkedEntrySet" (26 : Nat) "java/util/LinkedHashMap$LinkedEntryIterator") ∈ lw_all := lw_g (lw_at lw_m6 132 rfl) rfl
theorem q1417 : (Jvm.Cond.methodLink "java/util/LinkedHashMap$LinkedEntrySet" (28 : Nat) ({ cls := "java/util/LinkedHashMap$LinkedEntryIterator", name := "<init>", desc := "(Ljava/util/LinkedHashMap;Z)V" } : Jvm.MethodName)) ∈ lw_all := lw_g (lw_at lw_m6 134 rfl) rfl
theorem q2448 : (Jvm.Cond.castable "java/util/LinkedHashMap$LinkedEntrySet" "java/util/Collection") ∈ lw_tbl := lw_at lw_m10 205 rfl
theorem q2449 : (Jvm.Cond.selects "java/util/LinkedHashMap$LinkedEntrySet" ({ cls := "java/util/Collection", name := "iterator", desc := "()Ljava/util/Iterator;" } : Jvm.MethodName) ({ cls := "java/util/LinkedHashMap$LinkedEntrySet", name := "iterator", desc := "()Ljava/util/Iterator;" } : Jvm.MethodName)) ∈ lw_all := lw_g (lw_at lw_m10 206 rfl) rfl
theorem q3105 : (Jvm.Cond.castable "java/util/LinkedHashMap$LinkedEntrySet" "java/util/SequencedSet") ∈ lw_tbl := lw_at lw_m13 142 rfl
theorem q3111 : (Jvm.Cond.castable "java/util/LinkedHashMap$LinkedEntrySet" "java/util/SequencedCollection") ∈ lw_tbl := lw_at lw_m13 148 rfl
theorem q3125 : (Jvm.Cond.castable "java/util/LinkedHashMap$LinkedEntrySet" "java/lang/Object") ∈ lw_tbl := lw_at lw_m13 162 rfl
theorem in_J28 : ∀ w ∈ wsJ280, w ∈ lw_all := lw_in wsJ280 [1399, 1401] (by decide +kernel) (by decide +kernel)

/-! java/util/LinkedHashMap$LinkedHashIterator -/
set_option maxRecDepth 100000
def RJ29 : String := "java/util/LinkedHashMap$LinkedHashIterator"
abbrev cJ29_init : ByteArray := prog_66_method_1_code
def yJ29_init : MethodName := ⟨RJ29, "<init>", "(Ljava/util/LinkedHashMap;Z)V"⟩
def dkwJ29_init_1 : List UInt8 := [167, 0, 7, 43, 180, 0, 23, 181, 0, 26, 42, 43, 180, 0, 29, 181, 0, 33, 42, 1, 181, 0, 36, 177]
abbrev dktJ29_init_1 : List UInt8 := dkwJ29_init_1 ++ []
def dkwJ29_init_0 : List UInt8 := [42, 43, 181, 0, 1, 42, 183, 0, 7, 42, 28, 181, 0, 13, 42, 28, 153, 0, 10, 43, 180, 0, 17]
abbrev dktJ29_init_0 : List UInt8 := dkwJ29_init_0 ++ dktJ29_init_1
theorem dksJ29_init_0 : cJ29_init.data.toList.drop 0 = dktJ29_init_0 := by decide +kernel
theorem dksJ29_init_1 : cJ29_init.data.toList.drop 23 = dktJ29_init_1 := dk_seg dksJ29_init_0 23 rfl rfl
theorem dJ29_init_0 : decode cJ29_init 0 = .ok (.aload_n 0, 1) := dk_42 (dk_at dksJ29_init_0 0 rfl rfl)
theorem dJ29_init_1 : decode cJ29_init 1 = .ok (.aload_n 1, 1) := dk_43 (dk_at dksJ29_init_0 1 rfl rfl)
theorem dJ29_init_2 : decode cJ29_init 2 = .ok (.putfield 1, 3) := dk_181 0 1 (dk_at dksJ29_init_0 2 rfl rfl)
theorem dJ29_init_5 : decode cJ29_init 5 = .ok (.aload_n 0, 1) := dk_42 (dk_at dksJ29_init_0 5 rfl rfl)
theorem dJ29_init_6 : decode cJ29_init 6 = .ok (.invokespecial 7, 3) := dk_183 0 7 (dk_at dksJ29_init_0 6 rfl rfl)
theorem dJ29_init_9 : decode cJ29_init 9 = .ok (.aload_n 0, 1) := dk_42 (dk_at dksJ29_init_0 9 rfl rfl)
theorem dJ29_init_10 : decode cJ29_init 10 = .ok (.iload_n 2, 1) := dk_28 (dk_at dksJ29_init_0 10 rfl rfl)
theorem dJ29_init_11 : decode cJ29_init 11 = .ok (.putfield 13, 3) := dk_181 0 13 (dk_at dksJ29_init_0 11 rfl rfl)
theorem dJ29_init_14 : decode cJ29_init 14 = .ok (.aload_n 0, 1) := dk_42 (dk_at dksJ29_init_0 14 rfl rfl)
theorem dJ29_init_15 : decode cJ29_init 15 = .ok (.iload_n 2, 1) := dk_28 (dk_at dksJ29_init_0 15 rfl rfl)
theorem dJ29_init_16 : decode cJ29_init 16 = .ok (.ifCond .eq 10, 3) := dk_153 0 10 (dk_at dksJ29_init_0 16 rfl rfl)
theorem dJ29_init_19 : decode cJ29_init 19 = .ok (.aload_n 1, 1) := dk_43 (dk_at dksJ29_init_0 19 rfl rfl)
theorem dJ29_init_20 : decode cJ29_init 20 = .ok (.getfield 17, 3) := dk_180 0 17 (dk_at dksJ29_init_0 20 rfl rfl)
theorem dJ29_init_23 : decode cJ29_init 23 = .ok (.goto 7, 3) := dk_167 0 7 (dk_at dksJ29_init_1 0 rfl rfl)
theorem dJ29_init_26 : decode cJ29_init 26 = .ok (.aload_n 1, 1) := dk_43 (dk_at dksJ29_init_1 3 rfl rfl)
theorem dJ29_init_27 : decode cJ29_init 27 = .ok (.getfield 23, 3) := dk_180 0 23 (dk_at dksJ29_init_1 4 rfl rfl)
theorem dJ29_init_30 : decode cJ29_init 30 = .ok (.putfield 26, 3) := dk_181 0 26 (dk_at dksJ29_init_1 7 rfl rfl)
theorem dJ29_init_33 : decode cJ29_init 33 = .ok (.aload_n 0, 1) := dk_42 (dk_at dksJ29_init_1 10 rfl rfl)
theorem dJ29_init_34 : decode cJ29_init 34 = .ok (.aload_n 1, 1) := dk_43 (dk_at dksJ29_init_1 11 rfl rfl)
theorem dJ29_init_35 : decode cJ29_init 35 = .ok (.getfield 29, 3) := dk_180 0 29 (dk_at dksJ29_init_1 12 rfl rfl)
theorem dJ29_init_38 : decode cJ29_init 38 = .ok (.putfield 33, 3) := dk_181 0 33 (dk_at dksJ29_init_1 15 rfl rfl)
theorem dJ29_init_41 : decode cJ29_init 41 = .ok (.aload_n 0, 1) := dk_42 (dk_at dksJ29_init_1 18 rfl rfl)
theorem dJ29_init_42 : decode cJ29_init 42 = .ok (.aconst_null, 1) := dk_1 (dk_at dksJ29_init_1 19 rfl rfl)
theorem dJ29_init_43 : decode cJ29_init 43 = .ok (.putfield 36, 3) := dk_181 0 36 (dk_at dksJ29_init_1 20 rfl rfl)
theorem dJ29_init_46 : decode cJ29_init 46 = .ok (.return_, 1) := dk_177 (dk_at dksJ29_init_1 23 rfl rfl)
abbrev cJ29_hasNext : ByteArray := prog_66_method_2_code
def yJ29_hasNext : MethodName := ⟨RJ29, "hasNext", "()Z"⟩
def dkwJ29_hasNext_0 : List UInt8 := [42, 180, 0, 26, 198, 0, 7, 4, 167, 0, 4, 3, 172]
abbrev dktJ29_hasNext_0 : List UInt8 := dkwJ29_hasNext_0 ++ []
theorem dksJ29_hasNext_0 : cJ29_hasNext.data.toList.drop 0 = dktJ29_hasNext_0 := by decide +kernel
theorem dJ29_hasNext_0 : decode cJ29_hasNext 0 = .ok (.aload_n 0, 1) := dk_42 (dk_at dksJ29_hasNext_0 0 rfl rfl)
theorem dJ29_hasNext_1 : decode cJ29_hasNext 1 = .ok (.getfield 26, 3) := dk_180 0 26 (dk_at dksJ29_hasNext_0 1 rfl rfl)
theorem dJ29_hasNext_4 : decode cJ29_hasNext 4 = .ok (.ifnull 7, 3) := dk_198 0 7 (dk_at dksJ29_hasNext_0 4 rfl rfl)
theorem dJ29_hasNext_7 : decode cJ29_hasNext 7 = .ok (.iconst 1, 1) := dk_4 (dk_at dksJ29_hasNext_0 7 rfl rfl)
theorem dJ29_hasNext_8 : decode cJ29_hasNext 8 = .ok (.goto 4, 3) := dk_167 0 4 (dk_at dksJ29_hasNext_0 8 rfl rfl)
theorem dJ29_hasNext_11 : decode cJ29_hasNext 11 = .ok (.iconst 0, 1) := dk_3 (dk_at dksJ29_hasNext_0 11 rfl rfl)
theorem dJ29_hasNext_12 : decode cJ29_hasNext 12 = .ok (.ireturn, 1) := dk_172 (dk_at dksJ29_hasNext_0 12 rfl rfl)
abbrev cJ29_nextNode : ByteArray := prog_66_method_3_code
def yJ29_nextNode : MethodName := ⟨RJ29, "nextNode", "()Ljava/util/LinkedHashMap$Entry;"⟩
def dkwJ29_nextNode_2 : List UInt8 := [180, 0, 13, 153, 0, 10, 43, 180, 0, 45, 167, 0, 7, 43, 180, 0, 50, 181, 0, 26, 43, 176]
abbrev dktJ29_nextNode_2 : List UInt8 := dkwJ29_nextNode_2 ++ []
def dkwJ29_nextNode_1 : List UInt8 := [183, 0, 41, 191, 43, 199, 0, 11, 187, 0, 42, 89, 183, 0, 44, 191, 42, 43, 181, 0, 36, 42, 42]
abbrev dktJ29_nextNode_1 : List UInt8 := dkwJ29_nextNode_1 ++ dktJ29_nextNode_2
def dkwJ29_nextNode_0 : List UInt8 := [42, 180, 0, 26, 76, 42, 180, 0, 1, 180, 0, 29, 42, 180, 0, 33, 159, 0, 11, 187, 0, 39, 89]
abbrev dktJ29_nextNode_0 : List UInt8 := dkwJ29_nextNode_0 ++ dktJ29_nextNode_1
theorem dksJ29_nextNode_0 : cJ29_nextNode.data.toList.drop 0 = dktJ29_nextNode_0 := by decide +kernel
theorem dksJ29_nextNode_1 : cJ29_nextNode.data.toList.drop 23 = dktJ29_nextNode_1 := dk_seg dksJ29_nextNode_0 23 rfl rfl
theorem dksJ29_nextNode_2 : cJ29_nextNode.data.toList.drop 46 = dktJ29_nextNode_2 := dk_seg dksJ29_nextNode_1 23 rfl rfl
theorem dJ29_nextNode_0 : decode cJ29_nextNode 0 = .ok (.aload_n 0, 1) := dk_42 (dk_at dksJ29_nextNode_0 0 rfl rfl)
theorem dJ29_nextNode_1 : decode cJ29_nextNode 1 = .ok (.getfield 26, 3) := dk_180 0 26 (dk_at dksJ29_nextNode_0 1 rfl rfl)
theorem dJ29_nextNode_4 : decode cJ29_nextNode 4 = .ok (.astore_n 1, 1) := dk_76 (dk_at dksJ29_nextNode_0 4 rfl rfl)
theorem dJ29_nextNode_5 : decode cJ29_nextNode 5 = .ok (.aload_n 0, 1) := dk_42 (dk_at dksJ29_nextNode_0 5 rfl rfl)
theorem dJ29_nextNode_6 : decode cJ29_nextNode 6 = .ok (.getfield 1, 3) := dk_180 0 1 (dk_at dksJ29_nextNode_0 6 rfl rfl)
theorem dJ29_nextNode_9 : decode cJ29_nextNode 9 = .ok (.getfield 29, 3) := dk_180 0 29 (dk_at dksJ29_nextNode_0 9 rfl rfl)
theorem dJ29_nextNode_12 : decode cJ29_nextNode 12 = .ok (.aload_n 0, 1) := dk_42 (dk_at dksJ29_nextNode_0 12 rfl rfl)
theorem dJ29_nextNode_13 : decode cJ29_nextNode 13 = .ok (.getfield 33, 3) := dk_180 0 33 (dk_at dksJ29_nextNode_0 13 rfl rfl)
theorem dJ29_nextNode_16 : decode cJ29_nextNode 16 = .ok (.if_icmp .eq 11, 3) := dk_159 0 11 (dk_at dksJ29_nextNode_0 16 rfl rfl)
theorem dJ29_nextNode_19 : decode cJ29_nextNode 19 = .ok (.new 39, 3) := dk_187 0 39 (dk_at dksJ29_nextNode_0 19 rfl rfl)
theorem dJ29_nextNode_22 : decode cJ29_nextNode 22 = .ok (.dup, 1) := dk_89 (dk_at dksJ29_nextNode_0 22 rfl rfl)
theorem dJ29_nextNode_23 : decode cJ29_nextNode 23 = .ok (.invokespecial 41, 3) := dk_183 0 41 (dk_at dksJ29_nextNode_1 0 rfl rfl)
theorem dJ29_nextNode_26 : decode cJ29_nextNode 26 = .ok (.athrow, 1) := dk_191 (dk_at dksJ29_nextNode_1 3 rfl rfl)
theorem dJ29_nextNode_27 : decode cJ29_nextNode 27 = .ok (.aload_n 1, 1) := dk_43 (dk_at dksJ29_nextNode_1 4 rfl rfl)
theorem dJ29_nextNode_28 : decode cJ29_nextNode 28 = .ok (.ifnonnull 11, 3) := dk_199 0 11 (dk_at dksJ29_nextNode_1 5 rfl rfl)
theorem dJ29_nextNode_31 : decode cJ29_nextNode 31 = .ok (.new 42, 3) := dk_187 0 42 (dk_at dksJ29_nextNode_1 8 rfl rfl)
theorem dJ29_nextNode_34 : decode cJ29_nextNode 34 = .ok (.dup, 1) := dk_89 (dk_at dksJ29_nextNode_1 11 rfl rfl)
theorem dJ29_nextNode_35 : decode cJ29_nextNode 35 = .ok (.invokespecial 44, 3) := dk_183 0 44 (dk_at dksJ29_nextNode_1 12 rfl rfl)
theorem dJ29_nextNode_38 : decode cJ29_nextNode 38 = .ok (.athrow, 1) := dk_191 (dk_at dksJ29_nextNode_1 15 rfl rfl)
theorem dJ29_nextNode_39 : decode cJ29_nextNode 39 = .ok (.aload_n 0, 1) := dk_42 (dk_at dksJ29_nextNode_1 16 rfl rfl)
theorem dJ29_nextNode_40 : decode cJ29_nextNode 40 = .ok (.aload_n 1, 1) := dk_43 (dk_at dksJ29_nextNode_1 17 rfl rfl)
theorem dJ29_nextNode_41 : decode cJ29_nextNode 41 = .ok (.putfield 36, 3) := dk_181 0 36 (dk_at dksJ29_nextNode_1 18 rfl rfl)
theorem dJ29_nextNode_44 : decode cJ29_nextNode 44 = .ok (.aload_n 0, 1) := dk_42 (dk_at dksJ29_nextNode_1 21 rfl rfl)
theorem dJ29_nextNode_45 : decode cJ29_nextNode 45 = .ok (.aload_n 0, 1) := dk_42 (dk_at dksJ29_nextNode_1 22 rfl rfl)
theorem dJ29_nextNode_46 : decode cJ29_nextNode 46 = .ok (.getfield 13, 3) := dk_180 0 13 (dk_at dksJ29_nextNode_2 0 rfl rfl)
theorem dJ29_nextNode_49 : decode cJ29_nextNode 49 = .ok (.ifCond .eq 10, 3) := dk_153 0 10 (dk_at dksJ29_nextNode_2 3 rfl rfl)
theorem dJ29_nextNode_52 : decode cJ29_nextNode 52 = .ok (.aload_n 1, 1) := dk_43 (dk_at dksJ29_nextNode_2 6 rfl rfl)
theorem dJ29_nextNode_53 : decode cJ29_nextNode 53 = .ok (.getfield 45, 3) := dk_180 0 45 (dk_at dksJ29_nextNode_2 7 rfl rfl)
theorem dJ29_nextNode_56 : decode cJ29_nextNode 56 = .ok (.goto 7, 3) := dk_167 0 7 (dk_at dksJ29_nextNode_2 10 rfl rfl)
theorem dJ29_nextNode_59 : decode cJ29_nextNode 59 = .ok (.aload_n 1, 1) := dk_43 (dk_at dksJ29_nextNode_2 13 rfl rfl)
theorem dJ29_nextNode_60 : decode cJ29_nextNode 60 = .ok (.getfield 50, 3) := dk_180 0 50 (dk_at dksJ29_nextNode_2 14 rfl rfl)
theorem dJ29_nextNode_63 : decode cJ29_nextNode 63 = .ok (.putfield 26, 3) := dk_181 0 26 (dk_at dksJ29_nextNode_2 17 rfl rfl)
theorem dJ29_nextNode_66 : decode cJ29_nextNode 66 = .ok (.aload_n 1, 1) := dk_43 (dk_at dksJ29_nextNode_2 20 rfl rfl)
theorem dJ29_nextNode_67 : decode cJ29_nextNode 67 = .ok (.areturn, 1) := dk_176 (dk_at dksJ29_nextNode_2 21 rfl rfl)
abbrev cJ29_remove : ByteArray := prog_66_method_4_code
def yJ29_remove : MethodName := ⟨RJ29, "remove", "()V"⟩
def dkwJ29_remove_3 : List UInt8 := [181, 0, 33, 177]
abbrev dktJ29_remove_3 : List UInt8 := dkwJ29_remove_3 ++ []
def dkwJ29_remove_2 : List UInt8 := [43, 180, 0, 56, 43, 180, 0, 61, 1, 3, 3, 182, 0, 65, 87, 42, 42, 180, 0, 1, 180, 0, 29]
abbrev dktJ29_remove_2 : List UInt8 := dkwJ29_remove_2 ++ dktJ29_remove_3
def dkwJ29_remove_1 : List UInt8 := [42, 180, 0, 33, 159, 0, 11, 187, 0, 39, 89, 183, 0, 41, 191, 42, 1, 181, 0, 36, 42, 180, 0, 1]
abbrev dktJ29_remove_1 : List UInt8 := dkwJ29_remove_1 ++ dktJ29_remove_2
def dkwJ29_remove_0 : List UInt8 := [42, 180, 0, 36, 76, 43, 199, 0, 11, 187, 0, 53, 89, 183, 0, 55, 191, 42, 180, 0, 1, 180, 0, 29]
abbrev dktJ29_remove_0 : List UInt8 := dkwJ29_remove_0 ++ dktJ29_remove_1
theorem dksJ29_remove_0 : cJ29_remove.data.toList.drop 0 = dktJ29_remove_0 := by decide +kernel
theorem dksJ29_remove_1 : cJ29_remove.data.toList.drop 24 = dktJ29_remove_1 := dk_seg dksJ29_remove_0 24 rfl rfl
theorem dksJ29_remove_2 : cJ29_remove.data.toList.drop 48 = dktJ29_remove_2 := dk_seg dksJ29_remove_1 24 rfl rfl
theorem dksJ29_remove_3 : cJ29_remove.data.toList.drop 71 = dktJ29_remove_3 := dk_seg dksJ29_remove_2 23 rfl rfl
theorem dJ29_remove_0 : decode cJ29_remove 0 = .ok (.aload_n 0, 1) := dk_42 (dk_at dksJ29_remove_0 0 rfl rfl)
theorem dJ29_remove_1 : decode cJ29_remove 1 = .ok (.getfield 36, 3) := dk_180 0 36 (dk_at dksJ29_remove_0 1 rfl rfl)
theorem dJ29_remove_4 : decode cJ29_remove 4 = .ok (.astore_n 1, 1) := dk_76 (dk_at dksJ29_remove_0 4 rfl rfl)
theorem dJ29_remove_5 : decode cJ29_remove 5 = .ok (.aload_n 1, 1) := dk_43 (dk_at dksJ29_remove_0 5 rfl rfl)
theorem dJ29_remove_6 : decode cJ29_remove 6 = .ok (.ifnonnull 11, 3) := dk_199 0 11 (dk_at dksJ29_remove_0 6 rfl rfl)
theorem dJ29_remove_9 : decode cJ29_remove 9 = .ok (.new 53, 3) := dk_187 0 53 (dk_at dksJ29_remove_0 9 rfl rfl)
theorem dJ29_remove_12 : decode cJ29_remove 12 = .ok (.dup, 1) := dk_89 (dk_at dksJ29_remove_0 12 rfl rfl)
theorem dJ29_remove_13 : decode cJ29_remove 13 = .ok (.invokespecial 55, 3) := dk_183 0 55 (dk_at dksJ29_remove_0 13 rfl rfl)
theorem dJ29_remove_16 : decode cJ29_remove 16 = .ok (.athrow, 1) := dk_191 (dk_at dksJ29_remove_0 16 rfl rfl)
theorem dJ29_remove_17 : decode cJ29_remove 17 = .ok (.aload_n 0, 1) := dk_42 (dk_at dksJ29_remove_0 17 rfl rfl)
theorem dJ29_remove_18 : decode cJ29_remove 18 = .ok (.getfield 1, 3) := dk_180 0 1 (dk_at dksJ29_remove_0 18 rfl rfl)
theorem dJ29_remove_21 : decode cJ29_remove 21 = .ok (.getfield 29, 3) := dk_180 0 29 (dk_at dksJ29_remove_0 21 rfl rfl)
theorem dJ29_remove_24 : decode cJ29_remove 24 = .ok (.aload_n 0, 1) := dk_42 (dk_at dksJ29_remove_1 0 rfl rfl)
theorem dJ29_remove_25 : decode cJ29_remove 25 = .ok (.getfield 33, 3) := dk_180 0 33 (dk_at dksJ29_remove_1 1 rfl rfl)
theorem dJ29_remove_28 : decode cJ29_remove 28 = .ok (.if_icmp .eq 11, 3) := dk_159 0 11 (dk_at dksJ29_remove_1 4 rfl rfl)
theorem dJ29_remove_31 : decode cJ29_remove 31 = .ok (.new 39, 3) := dk_187 0 39 (dk_at dksJ29_remove_1 7 rfl rfl)
theorem dJ29_remove_34 : decode cJ29_remove 34 = .ok (.dup, 1) := dk_89 (dk_at dksJ29_remove_1 10 rfl rfl)
theorem dJ29_remove_35 : decode cJ29_remove 35 = .ok (.invokespecial 41, 3) := dk_183 0 41 (dk_at dksJ29_remove_1 11 rfl rfl)
theorem dJ29_remove_38 : decode cJ29_remove 38 = .ok (.athrow, 1) := dk_191 (dk_at dksJ29_remove_1 14 rfl rfl)
theorem dJ29_remove_39 : decode cJ29_remove 39 = .ok (.aload_n 0, 1) := dk_42 (dk_at dksJ29_remove_1 15 rfl rfl)
theorem dJ29_remove_40 : decode cJ29_remove 40 = .ok (.aconst_null, 1) := dk_1 (dk_at dksJ29_remove_1 16 rfl rfl)
theorem dJ29_remove_41 : decode cJ29_remove 41 = .ok (.putfield 36, 3) := dk_181 0 36 (dk_at dksJ29_remove_1 17 rfl rfl)
theorem dJ29_remove_44 : decode cJ29_remove 44 = .ok (.aload_n 0, 1) := dk_42 (dk_at dksJ29_remove_1 20 rfl rfl)
theorem dJ29_remove_45 : decode cJ29_remove 45 = .ok (.getfield 1, 3) := dk_180 0 1 (dk_at dksJ29_remove_1 21 rfl rfl)
theorem dJ29_remove_48 : decode cJ29_remove 48 = .ok (.aload_n 1, 1) := dk_43 (dk_at dksJ29_remove_2 0 rfl rfl)
theorem dJ29_remove_49 : decode cJ29_remove 49 = .ok (.getfield 56, 3) := dk_180 0 56 (dk_at dksJ29_remove_2 1 rfl rfl)
theorem dJ29_remove_52 : decode cJ29_remove 52 = .ok (.aload_n 1, 1) := dk_43 (dk_at dksJ29_remove_2 4 rfl rfl)
theorem dJ29_remove_53 : decode cJ29_remove 53 = .ok (.getfield 61, 3) := dk_180 0 61 (dk_at dksJ29_remove_2 5 rfl rfl)
theorem dJ29_remove_56 : decode cJ29_remove 56 = .ok (.aconst_null, 1) := dk_1 (dk_at dksJ29_remove_2 8 rfl rfl)
theorem dJ29_remove_57 : decode cJ29_remove 57 = .ok (.iconst 0, 1) := dk_3 (dk_at dksJ29_remove_2 9 rfl rfl)
theorem dJ29_remove_58 : decode cJ29_remove 58 = .ok (.iconst 0, 1) := dk_3 (dk_at dksJ29_remove_2 10 rfl rfl)
theorem dJ29_remove_59 : decode cJ29_remove 59 = .ok (.invokevirtual 65, 3) := dk_182 0 65 (dk_at dksJ29_remove_2 11 rfl rfl)
theorem dJ29_remove_62 : decode cJ29_remove 62 = .ok (.pop, 1) := dk_87 (dk_at dksJ29_remove_2 14 rfl rfl)
theorem dJ29_remove_63 : decode cJ29_remove 63 = .ok (.aload_n 0, 1) := dk_42 (dk_at dksJ29_remove_2 15 rfl rfl)
theorem dJ29_remove_64 : decode cJ29_remove 64 = .ok (.aload_n 0, 1) := dk_42 (dk_at dksJ29_remove_2 16 rfl rfl)
theorem dJ29_remove_65 : decode cJ29_remove 65 = .ok (.getfield 1, 3) := dk_180 0 1 (dk_at dksJ29_remove_2 17 rfl rfl)
theorem dJ29_remove_68 : decode cJ29_remove 68 = .ok (.getfield 29, 3) := dk_180 0 29 (dk_at dksJ29_remove_2 20 rfl rfl)
theorem dJ29_remove_71 : decode cJ29_remove 71 = .ok (.putfield 33, 3) := dk_181 0 33 (dk_at dksJ29_remove_3 0 rfl rfl)
theorem dJ29_remove_74 : decode cJ29_remove 74 = .ok (.return_, 1) := dk_177 (dk_at dksJ29_remove_3 3 rfl rfl)
theorem q124 : (Jvm.Cond.initialized "java/util/LinkedHashMap$LinkedHashIterator") ∈ lw_all := lw_g (lw_at lw_m1 41 rfl) rfl
theorem q202 : (Jvm.Cond.fieldLink "java/util/LinkedHashMap$LinkedHashIterator" (23 : Nat) "java/util/LinkedHashMap" "head" "Ljava/util/LinkedHashMap$Entry;") ∈ lw_all := lw_g (lw_at lw_m1 119 rfl) rfl
theorem q203 : (Jvm.Cond.fieldLink "java/util/LinkedHashMap$LinkedHashIterator" (17 : Nat) "java/util/LinkedHashMap" "tail" "Ljava/util/LinkedHashMap$Entry;") ∈ lw_all := lw_g (lw_at lw_m1 120 rfl) rfl
theorem q211 : (Jvm.Cond.fieldLink "java/util/LinkedHashMap$LinkedHashIterator" (29 : Nat) "java/util/LinkedHashMap" "modCount" "I") ∈ lw_all := lw_g (lw_at lw_m1 128 rfl) rfl
theorem q1310 : (Jvm.Cond.fieldLink "java/util/LinkedHashMap$LinkedHashIterator" (45 : Nat) "java/util/LinkedHashMap$Entry" "before" "Ljava/util/LinkedHashMap$Entry;") ∈ lw_all := lw_g (lw_at lw_m6 27 rfl) rfl
theorem q1312 : (Jvm.Cond.fieldLink "java/util/LinkedHashMap$LinkedHashIterator" (50 : Nat) "java/util/LinkedHashMap$Entry" "after" "Ljava/util/LinkedHashMap$Entry;") ∈ lw_all := lw_g (lw_at lw_m6 29 rfl) rfl
theorem q1316 : (Jvm.Cond.fieldLink "java/util/LinkedHashMap$LinkedHashIterator" (56 : Nat) "java/util/HashMap$Node" "hash" "I") ∈ lw_all := lw_g (lw_at lw_m6 33 rfl) rfl
theorem q1323 : (Jvm.Cond.fieldLink "java/util/LinkedHashMap$LinkedHashIterator" (61 : Nat) "java/util/HashMap$Node" "key" "Ljava/lang/Object;") ∈ lw_all := lw_g (lw_at lw_m6 40 rfl) rfl
theorem q1421 : (Jvm.Cond.instanceMethod ({ cls := "java/util/LinkedHashMap$LinkedHashIterator", name := "<init>", desc := "(Ljava/util/LinkedHashMap;Z)V" } : Jvm.MethodName)) ∈ lw_all := lw_g (lw_at lw_m6 138 rfl) rfl
theorem q1422 : (Jvm.Cond.code ({ cls := "java/util/LinkedHashMap$LinkedHashIterator", name := "<init>", desc := "(Ljava/util/LinkedHashMap;Z)V" } : Jvm.MethodName) prog_66_method_1_code (3 : Nat) (Option.none : Option Jvm.ClassFile.FieldType)) ∈ lw_all := lw_g (lw_at lw_m6 139 rfl) rfl
theorem q1423 : (Jvm.Cond.methodLink "java/util/LinkedHashMap$LinkedHashIterator" (7 : Nat) ({ cls := "java/lang/Object", name := "<init>", desc := "()V" } : Jvm.MethodName)) ∈ lw_all := lw_g (lw_at lw_m6 140 rfl) rfl
theorem q1424 : (Jvm.Cond.fieldLink "java/util/LinkedHashMap$LinkedHashIterator" (26 : Nat) "java/util/LinkedHashMap$LinkedHashIterator" "next" "Ljava/util/LinkedHashMap$Entry;") ∈ lw_all := lw_g (lw_at lw_m6 141 rfl) rfl
theorem q1425 : (Jvm.Cond.fieldLink "java/util/LinkedHashMap$LinkedHashIterator" (36 : Nat) "java/util/LinkedHashMap$LinkedHashIterator" "current" "Ljava/util/LinkedHashMap$Entry;") ∈ lw_all := lw_g (lw_at lw_m6 142 rfl) rfl
theorem q1426 : (Jvm.Cond.fieldLink "java/util/LinkedHashMap$LinkedHashIterator" (33 : Nat) "java/util/LinkedHashMap$LinkedHashIterator" "expectedModCount" "I") ∈ lw_all := lw_g (lw_at lw_m6 143 rfl) rfl
theorem q1427 : (Jvm.Cond.fieldLink "java/util/LinkedHashMap$LinkedHashIterator" (13 : Nat) "java/util/LinkedHashMap$LinkedHashIterator" "reversed" "Z") ∈ lw_all := lw_g (lw_at lw_m6 144 rfl) rfl
theorem q1428 : (Jvm.Cond.fieldLink "java/util/LinkedHashMap$LinkedHashIterator" (1 : Nat) "java/util/LinkedHashMap$LinkedHashIterator" "this$0" "Ljava/util/LinkedHashMap;") ∈ lw_all := lw_g (lw_at lw_m6 145 rfl) rfl
theorem q1430 : (Jvm.Cond.soleField "java/util/LinkedHashMap$LinkedHashIterator" "next") ∈ lw_all := lw_g (lw_at lw_m6 147 rfl) rfl
theorem q1432 : (Jvm.Cond.soleField "java/util/LinkedHashMap$LinkedHashIterator" "current") ∈ lw_all := lw_g (lw_at lw_m6 149 rfl) rfl
theorem q1434 : (Jvm.Cond.soleField "java/util/LinkedHashMap$LinkedHashIterator" "expectedModCount") ∈ lw_all := lw_g (lw_at lw_m6 151 rfl) rfl
theorem q1436 : (Jvm.Cond.soleField "java/util/LinkedHashMap$LinkedHashIterator" "reversed") ∈ lw_all := lw_g (lw_at lw_m6 153 rfl) rfl
theorem q1438 : (Jvm.Cond.soleField "java/util/LinkedHashMap$LinkedHashIterator" "this$0") ∈ lw_all := lw_g (lw_at lw_m6 155 rfl) rfl
theorem q1471 : (Jvm.Cond.instanceMethod ({ cls := "java/util/LinkedHashMap$LinkedHashIterator", name := "hasNext", desc := "()Z" } : Jvm.MethodName)) ∈ lw_all := lw_g (lw_at lw_m6 188 rfl) rfl
theorem q1472 : (Jvm.Cond.publicMethod ({ cls := "java/util/LinkedHashMap$LinkedHashIterator", name := "hasNext", desc := "()Z" } : Jvm.MethodName)) ∈ lw_tbl := lw_at lw_m6 189 rfl
theorem q1473 : (Jvm.Cond.code ({ cls := "java/util/LinkedHashMap$LinkedHashIterator", name := "hasNext", desc := "()Z" } : Jvm.MethodName) prog_66_method_2_code (1 : Nat) (Option.some Jvm.ClassFile.FieldType.boolean)) ∈ lw_all := lw_g (lw_at lw_m6 190 rfl) rfl
theorem q1525 : (Jvm.Cond.declares ({ cls := "java/util/LinkedHashMap$LinkedHashIterator", name := "nextNode", desc := "()Ljava/util/LinkedHashMap$Entry;" } : Jvm.MethodName)) ∈ lw_tbl := lw_at lw_m7 2 rfl
theorem q1527 : (Jvm.Cond.instanceMethod ({ cls := "java/util/LinkedHashMap$LinkedHashIterator", name := "nextNode", desc := "()Ljava/util/LinkedHashMap$Entry;" } : Jvm.MethodName)) ∈ lw_all := lw_g (lw_at lw_m7 4 rfl) rfl
theorem q1528 : (Jvm.Cond.code ({ cls := "java/util/LinkedHashMap$LinkedHashIterator", name := "nextNode", desc := "()Ljava/util/LinkedHashMap$Entry;" } : Jvm.MethodName) prog_66_method_3_code (2 : Nat) (Option.some (Jvm.ClassFile.FieldType.object "java/util/LinkedHashMap$Entry"))) ∈ lw_all := lw_g (lw_at lw_m7 5 rfl) rfl
theorem q1529 : (Jvm.Cond.classLink "java/util/LinkedHashMap$LinkedHashIterator" (42 : Nat) "java/util/NoSuchElementException") ∈ lw_all := lw_g (lw_at lw_m7 6 rfl) rfl
theorem q1530 : (Jvm.Cond.methodLink "java/util/LinkedHashMap$LinkedHashIterator" (44 : Nat) ({ cls := "java/util/NoSuchElementException", name := "<init>", desc := "()V" } : Jvm.MethodName)) ∈ lw_all := lw_g (lw_at lw_m7 7 rfl) rfl
theorem q1910 : (Jvm.Cond.instanceMethod ({ cls := "java/util/LinkedHashMap$LinkedHashIterator", name := "remove", desc := "()V" } : Jvm.MethodName)) ∈ lw_all := lw_g (lw_at lw_m8 147 rfl) rfl
theorem q1911 : (Jvm.Cond.publicMethod ({ cls := "java/util/LinkedHashMap$LinkedHashIterator", name := "remove", desc := "()V" } : Jvm.MethodName)) ∈ lw_tbl := lw_at lw_m8 148 rfl
theorem q1912 : (Jvm.Cond.code ({ cls := "java/util/LinkedHashMap$LinkedHashIterator", name := "remove", desc := "()V" } : Jvm.MethodName) prog_66_method_4_code (2 : Nat) (Option.none : Option Jvm.ClassFile.FieldType)) ∈ lw_all := lw_g (lw_at lw_m8 149 rfl) rfl
theorem q1913 : (Jvm.Cond.classLink "java/util/LinkedHashMap$LinkedHashIterator" (53 : Nat) "java/lang/IllegalStateException") ∈ lw_all := lw_g (lw_at lw_m8 150 rfl) rfl
theorem q1914 : (Jvm.Cond.methodLink "java/util/LinkedHashMap$LinkedHashIterator" (55 : Nat) ({ cls := "java/lang/IllegalStateException", name := "<init>", desc := "()V" } : Jvm.MethodName)) ∈ lw_all := lw_g (lw_at lw_m8 151 rfl) rfl
theorem q1915 : (Jvm.Cond.methodLink "java/util/LinkedHashMap$LinkedHashIterator" (65 : Nat) ({ cls := "java/util/LinkedHashMap", name := "removeNode", desc := "(ILjava/lang/Object;Ljava/lang/Object;ZZ)Ljava/util/HashMap$Node;" } : Jvm.MethodName)) ∈ lw_all := lw_g (lw_at lw_m8 152 rfl) rfl

/-! java/util/LinkedHashMap$LinkedEntryIterator -/
set_option maxRecDepth 100000
def RJ30 : String := "java/util/LinkedHashMap$LinkedEntryIterator"
def TJ30 : u_T := fun k => match k with
  | 0 => ("java/util/LinkedHashMap$LinkedHashIterator", "next", "Ljava/util/LinkedHashMap$Entry;", false)
  | 1 => ("java/util/LinkedHashMap$LinkedHashIterator", "current", "Ljava/util/LinkedHashMap$Entry;", false)
  | 2 => ("java/util/LinkedHashMap$LinkedHashIterator", "expectedModCount", "I", false)
  | 3 => ("java/util/LinkedHashMap$LinkedHashIterator", "reversed", "Z", false)
  | _ => ("java/util/LinkedHashMap$LinkedHashIterator", "this$0", "Ljava/util/LinkedHashMap;", true)
def tyJ30 : Nat → FieldType := fun k => match k with
  | 0 => .object "java/util/LinkedHashMap$Entry"
  | 1 => .object "java/util/LinkedHashMap$Entry"
  | 2 => .int
  | 3 => .boolean
  | _ => .object "java/util/LinkedHashMap"
abbrev wsJ300 : List Cond := u_ws RJ30 TJ30 5
theorem nmJ30 : ∀ a, a < 5 → ∀ b, b < 5 → a ≠ b → (TJ30 a).2.1 ≠ (TJ30 b).2.1 := by decide +kernel
theorem tyJ30_ok : ∀ k, k < 5 → parseFieldDescriptor (TJ30 k).2.2.1 = some (tyJ30 k) := by decide +kernel
abbrev cJ30_init : ByteArray := prog_64_method_1_code
def yJ30_init : MethodName := ⟨RJ30, "<init>", "(Ljava/util/LinkedHashMap;Z)V"⟩
def dkwJ30_init_0 : List UInt8 := [42, 43, 28, 183, 0, 1, 177]
abbrev dktJ30_init_0 : List UInt8 := dkwJ30_init_0 ++ []
theorem dksJ30_init_0 : cJ30_init.data.toList.drop 0 = dktJ30_init_0 := by decide +kernel
theorem dJ30_init_0 : decode cJ30_init 0 = .ok (.aload_n 0, 1) := dk_42 (dk_at dksJ30_init_0 0 rfl rfl)
theorem dJ30_init_1 : decode cJ30_init 1 = .ok (.aload_n 1, 1) := dk_43 (dk_at dksJ30_init_0 1 rfl rfl)
theorem dJ30_init_2 : decode cJ30_init 2 = .ok (.iload_n 2, 1) := dk_28 (dk_at dksJ30_init_0 2 rfl rfl)
theorem dJ30_init_3 : decode cJ30_init 3 = .ok (.invokespecial 1, 3) := dk_183 0 1 (dk_at dksJ30_init_0 3 rfl rfl)
theorem dJ30_init_6 : decode cJ30_init 6 = .ok (.return_, 1) := dk_177 (dk_at dksJ30_init_0 6 rfl rfl)
abbrev cJ30_next : ByteArray := prog_64_method_3_code
def yJ30_next : MethodName := ⟨RJ30, "next", "()Ljava/lang/Object;"⟩
theorem dJ30_next_0 : decode cJ30_next 0 = .ok (.aload_n 0, 1) := by decide +kernel
theorem dJ30_next_1 : decode cJ30_next 1 = .ok (.invokevirtual 13, 3) := by decide +kernel
theorem dJ30_next_4 : decode cJ30_next 4 = .ok (.areturn, 1) := by decide +kernel
abbrev cJ30_next_2 : ByteArray := prog_64_method_2_code
def yJ30_next_2 : MethodName := ⟨RJ30, "next", "()Ljava/util/Map$Entry;"⟩
theorem dJ30_next_2_0 : decode cJ30_next_2 0 = .ok (.aload_n 0, 1) := by decide +kernel
theorem dJ30_next_2_1 : decode cJ30_next_2 1 = .ok (.invokevirtual 7, 3) := by decide +kernel
theorem dJ30_next_2_4 : decode cJ30_next_2 4 = .ok (.areturn, 1) := by decide +kernel
theorem q125 : (Jvm.Cond.initialized "java/util/LinkedHashMap$LinkedEntryIterator") ∈ lw_all := lw_g (lw_at lw_m1 42 rfl) rfl
theorem q332 : (Jvm.Cond.selects "java/util/LinkedHashMap$LinkedEntryIterator" ({ cls := "java/lang/Object", name := "getClass", desc := "()Ljava/lang/Class;" } : Jvm.MethodName) ({ cls := "java/lang/Object", name := "getClass", desc := "()Ljava/lang/Class;" } : Jvm.MethodName)) ∈ lw_all := lw_g (lw_at lw_m2 9 rfl) rfl
theorem q1416 : (Jvm.Cond.instantiable "java/util/LinkedHashMap$LinkedEntryIterator" (5 : Nat)) ∈ lw_all := lw_g (lw_at lw_m6 133 rfl) rfl
theorem q1418 : (Jvm.Cond.instanceMethod ({ cls := "java/util/LinkedHashMap$LinkedEntryIterator", name := "<init>", desc := "(Ljava/util/LinkedHashMap;Z)V" } : Jvm.MethodName)) ∈ lw_all := lw_g (lw_at lw_m6 135 rfl) rfl
theorem q1419 : (Jvm.Cond.code ({ cls := "java/util/LinkedHashMap$LinkedEntryIterator", name := "<init>", desc := "(Ljava/util/LinkedHashMap;Z)V" } : Jvm.MethodName) prog_64_method_1_code (3 : Nat) (Option.none : Option Jvm.ClassFile.FieldType)) ∈ lw_all := lw_g (lw_at lw_m6 136 rfl) rfl
theorem q1420 : (Jvm.Cond.methodLink "java/util/LinkedHashMap$LinkedEntryIterator" (1 : Nat) ({ cls := "java/util/LinkedHashMap$LinkedHashIterator", name := "<init>", desc := "(Ljava/util/LinkedHashMap;Z)V" } : Jvm.MethodName)) ∈ lw_all := lw_g (lw_at lw_m6 137 rfl) rfl
theorem q1429 : (Jvm.Cond.lays "java/util/LinkedHashMap$LinkedEntryIterator" "java/util/LinkedHashMap$LinkedHashIterator" "next" "Ljava/util/LinkedHashMap$Entry;") ∈ lw_all := lw_g (lw_at lw_m6 146 rfl) rfl
theorem q1431 : (Jvm.Cond.lays "java/util/LinkedHashMap$LinkedEntryIterator" "java/util/LinkedHashMap$LinkedHashIterator" "current" "Ljava/util/LinkedHashMap$Entry;") ∈ lw_all := lw_g (lw_at lw_m6 148 rfl) rfl
theorem q1433 : (Jvm.Cond.lays "java/util/LinkedHashMap$LinkedEntryIterator" "java/util/LinkedHashMap$LinkedHashIterator" "expectedModCount" "I") ∈ lw_all := lw_g (lw_at lw_m6 150 rfl) rfl
theorem q1435 : (Jvm.Cond.lays "java/util/LinkedHashMap$LinkedEntryIterator" "java/util/LinkedHashMap$LinkedHashIterator" "reversed" "Z") ∈ lw_all := lw_g (lw_at lw_m6 152 rfl) rfl
theorem q1437 : (Jvm.Cond.laysFinal "java/util/LinkedHashMap$LinkedEntryIterator" "java/util/LinkedHashMap$LinkedHashIterator" "this$0" "Ljava/util/LinkedHashMap;") ∈ lw_all := lw_g (lw_at lw_m6 154 rfl) rfl
theorem q1439 : (Jvm.Cond.superclass "java/util/LinkedHashMap$LinkedEntryIterator" "java/util/LinkedHashMap$LinkedHashIterator") ∈ lw_all := lw_g (lw_at lw_m6 156 rfl) rfl
theorem q1468 : (Jvm.Cond.castable "java/util/LinkedHashMap$LinkedEntryIterator" "java/util/Iterator") ∈ lw_tbl := lw_at lw_m6 185 rfl
theorem q1469 : (Jvm.Cond.selects "java/util/LinkedHashMap$LinkedEntryIterator" ({ cls := "java/util/Iterator", name := "hasNext", desc := "()Z" } : Jvm.MethodName) ({ cls := "java/util/LinkedHashMap$LinkedHashIterator", name := "hasNext", desc := "()Z" } : Jvm.MethodName)) ∈ lw_all := lw_g (lw_at lw_m6 186 rfl) rfl
theorem q1470 : (Jvm.Cond.unhidden "java/util/LinkedHashMap$LinkedEntryIterator" "hasNext" "()Z") ∈ lw_tbl := lw_at lw_m6 187 rfl
theorem q1514 : (Jvm.Cond.selects "java/util/LinkedHashMap$LinkedEntryIterator" ({ cls := "java/util/Iterator", name := "next", desc := "()Ljava/lang/Object;" } : Jvm.MethodName) ({ cls := "java/util/LinkedHashMap$LinkedEntryIterator", name := "next", desc := "()Ljava/lang/Object;" } : Jvm.MethodName)) ∈ lw_all := lw_g (lw_at lw_m6 231 rfl) rfl
theorem q1515 : (Jvm.Cond.unhidden "java/util/LinkedHashMap$LinkedEntryIterator" "next" "()Ljava/lang/Object;") ∈ lw_tbl := lw_at lw_m6 232 rfl
theorem q1516 : (Jvm.Cond.instanceMethod ({ cls := "java/util/LinkedHashMap$LinkedEntryIterator", name := "next", desc := "()Ljava/lang/Object;" } : Jvm.MethodName)) ∈ lw_all := lw_g (lw_at lw_m6 233 rfl) rfl
theorem q1517 : (Jvm.Cond.publicMethod ({ cls := "java/util/LinkedHashMap$LinkedEntryIterator", name := "next", desc := "()Ljava/lang/Object;" } : Jvm.MethodName)) ∈ lw_tbl := lw_at lw_m6 234 rfl
theorem q1518 : (Jvm.Cond.code ({ cls := "java/util/LinkedHashMap$LinkedEntryIterator", name := "next", desc := "()Ljava/lang/Object;" } : Jvm.MethodName) prog_64_method_3_code (1 : Nat) (Option.some (Jvm.ClassFile.FieldType.object "java/lang/Object"))) ∈ lw_all := lw_g (lw_at lw_m6 235 rfl) rfl
theorem q1519 : (Jvm.Cond.methodLink "java/util/LinkedHashMap$LinkedEntryIterator" (13 : Nat) ({ cls := "java/util/LinkedHashMap$LinkedEntryIterator", name := "next", desc := "()Ljava/util/Map$Entry;" } : Jvm.MethodName)) ∈ lw_all := lw_g (lw_at lw_m6 236 rfl) rfl
theorem q1520 : (Jvm.Cond.instanceMethod ({ cls := "java/util/LinkedHashMap$LinkedEntryIterator", name := "next", desc := "()Ljava/util/Map$Entry;" } : Jvm.MethodName)) ∈ lw_all := lw_g (lw_at lw_m6 237 rfl) rfl
theorem q1521 : (Jvm.Cond.selects "java/util/LinkedHashMap$LinkedEntryIterator" ({ cls := "java/util/LinkedHashMap$LinkedEntryIterator", name := "next", desc := "()Ljava/util/Map$Entry;" } : Jvm.MethodName) ({ cls := "java/util/LinkedHashMap$LinkedEntryIterator", name := "next", desc := "()Ljava/util/Map$Entry;" } : Jvm.MethodName)) ∈ lw_all := lw_g (lw_at lw_m6 238 rfl) rfl
theorem q1522 : (Jvm.Cond.code ({ cls := "java/util/LinkedHashMap$LinkedEntryIterator", name := "next", desc := "()Ljava/util/Map$Entry;" } : Jvm.MethodName) prog_64_method_2_code (1 : Nat) (Option.some (Jvm.ClassFile.FieldType.object "java/util/Map$Entry"))) ∈ lw_all := lw_g (lw_at lw_m6 239 rfl) rfl
theorem q1523 : (Jvm.Cond.methodLink "java/util/LinkedHashMap$LinkedEntryIterator" (7 : Nat) ({ cls := "java/util/LinkedHashMap$LinkedEntryIterator", name := "nextNode", desc := "()Ljava/util/LinkedHashMap$Entry;" } : Jvm.MethodName)) ∈ lw_all := lw_g (lw_at lw_m7 0 rfl) rfl
theorem q1524 : (Jvm.Cond.sameMethod "java/util/LinkedHashMap$LinkedEntryIterator" "java/util/LinkedHashMap$LinkedHashIterator" "nextNode" "()Ljava/util/LinkedHashMap$Entry;") ∈ lw_all := lw_g (lw_at lw_m7 1 rfl) rfl
theorem q1526 : (Jvm.Cond.selects "java/util/LinkedHashMap$LinkedEntryIterator" ({ cls := "java/util/LinkedHashMap$LinkedEntryIterator", name := "nextNode", desc := "()Ljava/util/LinkedHashMap$Entry;" } : Jvm.MethodName) ({ cls := "java/util/LinkedHashMap$LinkedHashIterator", name := "nextNode", desc := "()Ljava/util/LinkedHashMap$Entry;" } : Jvm.MethodName)) ∈ lw_all := lw_g (lw_at lw_m7 3 rfl) rfl
theorem q1908 : (Jvm.Cond.selects "java/util/LinkedHashMap$LinkedEntryIterator" ({ cls := "java/util/Iterator", name := "remove", desc := "()V" } : Jvm.MethodName) ({ cls := "java/util/LinkedHashMap$LinkedHashIterator", name := "remove", desc := "()V" } : Jvm.MethodName)) ∈ lw_all := lw_g (lw_at lw_m8 145 rfl) rfl
theorem q1909 : (Jvm.Cond.unhidden "java/util/LinkedHashMap$LinkedEntryIterator" "remove" "()V") ∈ lw_tbl := lw_at lw_m8 146 rfl
theorem q3126 : (Jvm.Cond.castable "java/util/LinkedHashMap$LinkedEntryIterator" "java/lang/Object") ∈ lw_tbl := lw_at lw_m13 163 rfl
theorem in_J30 : ∀ w ∈ wsJ300, w ∈ lw_all := lw_in wsJ300 [1429, 1431, 1433, 1435, 1437] (by decide +kernel) (by decide +kernel)

/-! java/util/LinkedHashMap$LinkedKeyIterator -/
set_option maxRecDepth 100000
def RJ31 : String := "java/util/LinkedHashMap$LinkedKeyIterator"
def TJ31 : u_T := fun k => match k with
  | 0 => ("java/util/LinkedHashMap$LinkedHashIterator", "next", "Ljava/util/LinkedHashMap$Entry;", false)
  | 1 => ("java/util/LinkedHashMap$LinkedHashIterator", "current", "Ljava/util/LinkedHashMap$Entry;", false)
  | 2 => ("java/util/LinkedHashMap$LinkedHashIterator", "expectedModCount", "I", false)
  | 3 => ("java/util/LinkedHashMap$LinkedHashIterator", "reversed", "Z", false)
  | _ => ("java/util/LinkedHashMap$LinkedHashIterator", "this$0", "Ljava/util/LinkedHashMap;", true)
def tyJ31 : Nat → FieldType := fun k => match k with
  | 0 => .object "java/util/LinkedHashMap$Entry"
  | 1 => .object "java/util/LinkedHashMap$Entry"
  | 2 => .int
  | 3 => .boolean
  | _ => .object "java/util/LinkedHashMap"
abbrev wsJ310 : List Cond := u_ws RJ31 TJ31 5
theorem nmJ31 : ∀ a, a < 5 → ∀ b, b < 5 → a ≠ b → (TJ31 a).2.1 ≠ (TJ31 b).2.1 := by decide +kernel
theorem tyJ31_ok : ∀ k, k < 5 → parseFieldDescriptor (TJ31 k).2.2.1 = some (tyJ31 k) := by decide +kernel
abbrev cJ31_init : ByteArray := prog_67_method_1_code
def yJ31_init : MethodName := ⟨RJ31, "<init>", "(Ljava/util/LinkedHashMap;Z)V"⟩
def dkwJ31_init_0 : List UInt8 := [42, 43, 28, 183, 0, 1, 177]
abbrev dktJ31_init_0 : List UInt8 := dkwJ31_init_0 ++ []
theorem dksJ31_init_0 : cJ31_init.data.toList.drop 0 = dktJ31_init_0 := by decide +kernel
theorem dJ31_init_0 : decode cJ31_init 0 = .ok (.aload_n 0, 1) := dk_42 (dk_at dksJ31_init_0 0 rfl rfl)
theorem dJ31_init_1 : decode cJ31_init 1 = .ok (.aload_n 1, 1) := dk_43 (dk_at dksJ31_init_0 1 rfl rfl)
theorem dJ31_init_2 : decode cJ31_init 2 = .ok (.iload_n 2, 1) := dk_28 (dk_at dksJ31_init_0 2 rfl rfl)
theorem dJ31_init_3 : decode cJ31_init 3 = .ok (.invokespecial 1, 3) := dk_183 0 1 (dk_at dksJ31_init_0 3 rfl rfl)
theorem dJ31_init_6 : decode cJ31_init 6 = .ok (.return_, 1) := dk_177 (dk_at dksJ31_init_0 6 rfl rfl)
abbrev cJ31_next : ByteArray := prog_67_method_2_code
def yJ31_next : MethodName := ⟨RJ31, "next", "()Ljava/lang/Object;"⟩
def dkwJ31_next_0 : List UInt8 := [42, 182, 0, 7, 182, 0, 13, 176]
abbrev dktJ31_next_0 : List UInt8 := dkwJ31_next_0 ++ []
theorem dksJ31_next_0 : cJ31_next.data.toList.drop 0 = dktJ31_next_0 := by decide +kernel
theorem dJ31_next_0 : decode cJ31_next 0 = .ok (.aload_n 0, 1) := dk_42 (dk_at dksJ31_next_0 0 rfl rfl)
theorem dJ31_next_1 : decode cJ31_next 1 = .ok (.invokevirtual 7, 3) := dk_182 0 7 (dk_at dksJ31_next_0 1 rfl rfl)
theorem dJ31_next_4 : decode cJ31_next 4 = .ok (.invokevirtual 13, 3) := dk_182 0 13 (dk_at dksJ31_next_0 4 rfl rfl)
theorem dJ31_next_7 : decode cJ31_next 7 = .ok (.areturn, 1) := dk_176 (dk_at dksJ31_next_0 7 rfl rfl)
theorem q126 : (Jvm.Cond.initialized "java/util/LinkedHashMap$LinkedKeyIterator") ∈ lw_all := lw_g (lw_at lw_m1 43 rfl) rfl
theorem q334 : (Jvm.Cond.selects "java/util/LinkedHashMap$LinkedKeyIterator" ({ cls := "java/lang/Object", name := "getClass", desc := "()Ljava/lang/Class;" } : Jvm.MethodName) ({ cls := "java/lang/Object", name := "getClass", desc := "()Ljava/lang/Class;" } : Jvm.MethodName)) ∈ lw_all := lw_g (lw_at lw_m2 11 rfl) rfl
theorem q1447 : (Jvm.Cond.instantiable "java/util/LinkedHashMap$LinkedKeyIterator" (5 : Nat)) ∈ lw_all := lw_g (lw_at lw_m6 164 rfl) rfl
theorem q1449 : (Jvm.Cond.instanceMethod ({ cls := "java/util/LinkedHashMap$LinkedKeyIterator", name := "<init>", desc := "(Ljava/util/LinkedHashMap;Z)V" } : Jvm.MethodName)) ∈ lw_all := lw_g (lw_at lw_m6 166 rfl) rfl
theorem q1450 : (Jvm.Cond.code ({ cls := "java/util/LinkedHashMap$LinkedKeyIterator", name := "<init>", desc := "(Ljava/util/LinkedHashMap;Z)V" } : Jvm.MethodName) prog_67_method_1_code (3 : Nat) (Option.none : Option Jvm.ClassFile.FieldType)) ∈ lw_all := lw_g (lw_at lw_m6 167 rfl) rfl
theorem q1451 : (Jvm.Cond.methodLink "java/util/LinkedHashMap$LinkedKeyIterator" (1 : Nat) ({ cls := "java/util/LinkedHashMap$LinkedHashIterator", name := "<init>", desc := "(Ljava/util/LinkedHashMap;Z)V" } : Jvm.MethodName)) ∈ lw_all := lw_g (lw_at lw_m6 168 rfl) rfl
theorem q1452 : (Jvm.Cond.lays "java/util/LinkedHashMap$LinkedKeyIterator" "java/util/LinkedHashMap$LinkedHashIterator" "next" "Ljava/util/LinkedHashMap$Entry;") ∈ lw_all := lw_g (lw_at lw_m6 169 rfl) rfl
theorem q1453 : (Jvm.Cond.lays "java/util/LinkedHashMap$LinkedKeyIterator" "java/util/LinkedHashMap$LinkedHashIterator" "current" "Ljava/util/LinkedHashMap$Entry;") ∈ lw_all := lw_g (lw_at lw_m6 170 rfl) rfl
theorem q1454 : (Jvm.Cond.lays "java/util/LinkedHashMap$LinkedKeyIterator" "java/util/LinkedHashMap$LinkedHashIterator" "expectedModCount" "I") ∈ lw_all := lw_g (lw_at lw_m6 171 rfl) rfl
theorem q1455 : (Jvm.Cond.lays "java/util/LinkedHashMap$LinkedKeyIterator" "java/util/LinkedHashMap$LinkedHashIterator" "reversed" "Z") ∈ lw_all := lw_g (lw_at lw_m6 172 rfl) rfl
theorem q1456 : (Jvm.Cond.laysFinal "java/util/LinkedHashMap$LinkedKeyIterator" "java/util/LinkedHashMap$LinkedHashIterator" "this$0" "Ljava/util/LinkedHashMap;") ∈ lw_all := lw_g (lw_at lw_m6 173 rfl) rfl
theorem q1457 : (Jvm.Cond.superclass "java/util/LinkedHashMap$LinkedKeyIterator" "java/util/LinkedHashMap$LinkedHashIterator") ∈ lw_all := lw_g (lw_at lw_m6 174 rfl) rfl
theorem q1474 : (Jvm.Cond.castable "java/util/LinkedHashMap$LinkedKeyIterator" "java/util/Iterator") ∈ lw_tbl := lw_at lw_m6 191 rfl
theorem q1475 : (Jvm.Cond.selects "java/util/LinkedHashMap$LinkedKeyIterator" ({ cls := "java/util/Iterator", name := "hasNext", desc := "()Z" } : Jvm.MethodName) ({ cls := "java/util/LinkedHashMap$LinkedHashIterator", name := "hasNext", desc := "()Z" } : Jvm.MethodName)) ∈ lw_all := lw_g (lw_at lw_m6 192 rfl) rfl
theorem q1476 : (Jvm.Cond.unhidden "java/util/LinkedHashMap$LinkedKeyIterator" "hasNext" "()Z") ∈ lw_tbl := lw_at lw_m6 193 rfl
theorem q1531 : (Jvm.Cond.selects "java/util/LinkedHashMap$LinkedKeyIterator" ({ cls := "java/util/Iterator", name := "next", desc := "()Ljava/lang/Object;" } : Jvm.MethodName) ({ cls := "java/util/LinkedHashMap$LinkedKeyIterator", name := "next", desc := "()Ljava/lang/Object;" } : Jvm.MethodName)) ∈ lw_all := lw_g (lw_at lw_m7 8 rfl) rfl
theorem q1532 : (Jvm.Cond.unhidden "java/util/LinkedHashMap$LinkedKeyIterator" "next" "()Ljava/lang/Object;") ∈ lw_tbl := lw_at lw_m7 9 rfl
theorem q1533 : (Jvm.Cond.instanceMethod ({ cls := "java/util/LinkedHashMap$LinkedKeyIterator", name := "next", desc := "()Ljava/lang/Object;" } : Jvm.MethodName)) ∈ lw_all := lw_g (lw_at lw_m7 10 rfl) rfl
theorem q1534 : (Jvm.Cond.publicMethod ({ cls := "java/util/LinkedHashMap$LinkedKeyIterator", name := "next", desc := "()Ljava/lang/Object;" } : Jvm.MethodName)) ∈ lw_tbl := lw_at lw_m7 11 rfl
theorem q1535 : (Jvm.Cond.code ({ cls := "java/util/LinkedHashMap$LinkedKeyIterator", name := "next", desc := "()Ljava/lang/Object;" } : Jvm.MethodName) prog_67_method_2_code (1 : Nat) (Option.some (Jvm.ClassFile.FieldType.object "java/lang/Object"))) ∈ lw_all := lw_g (lw_at lw_m7 12 rfl) rfl
theorem q1536 : (Jvm.Cond.methodLink "java/util/LinkedHashMap$LinkedKeyIterator" (7 : Nat) ({ cls := "java/util/LinkedHashMap$LinkedKeyIterator", name := "nextNode", desc := "()Ljava/util/LinkedHashMap$Entry;" } : Jvm.MethodName)) ∈ lw_all := lw_g (lw_at lw_m7 13 rfl) rfl
theorem q1537 : (Jvm.Cond.sameMethod "java/util/LinkedHashMap$LinkedKeyIterator" "java/util/LinkedHashMap$LinkedHashIterator" "nextNode" "()Ljava/util/LinkedHashMap$Entry;") ∈ lw_all := lw_g (lw_at lw_m7 14 rfl) rfl
theorem q1538 : (Jvm.Cond.selects "java/util/LinkedHashMap$LinkedKeyIterator" ({ cls := "java/util/LinkedHashMap$LinkedKeyIterator", name := "nextNode", desc := "()Ljava/util/LinkedHashMap$Entry;" } : Jvm.MethodName) ({ cls := "java/util/LinkedHashMap$LinkedHashIterator", name := "nextNode", desc := "()Ljava/util/LinkedHashMap$Entry;" } : Jvm.MethodName)) ∈ lw_all := lw_g (lw_at lw_m7 15 rfl) rfl
theorem q1539 : (Jvm.Cond.methodLink "java/util/LinkedHashMap$LinkedKeyIterator" (13 : Nat) ({ cls := "java/util/LinkedHashMap$Entry", name := "getKey", desc := "()Ljava/lang/Object;" } : Jvm.MethodName)) ∈ lw_all := lw_g (lw_at lw_m7 16 rfl) rfl
theorem q1935 : (Jvm.Cond.selects "java/util/LinkedHashMap$LinkedKeyIterator" ({ cls := "java/util/Iterator", name := "remove", desc := "()V" } : Jvm.MethodName) ({ cls := "java/util/LinkedHashMap$LinkedHashIterator", name := "remove", desc := "()V" } : Jvm.MethodName)) ∈ lw_all := lw_g (lw_at lw_m8 172 rfl) rfl
theorem q1936 : (Jvm.Cond.unhidden "java/util/LinkedHashMap$LinkedKeyIterator" "remove" "()V") ∈ lw_tbl := lw_at lw_m8 173 rfl
theorem q3138 : (Jvm.Cond.castable "java/util/LinkedHashMap$LinkedKeyIterator" "java/lang/Object") ∈ lw_tbl := lw_at lw_m13 175 rfl
theorem in_J31 : ∀ w ∈ wsJ310, w ∈ lw_all := lw_in wsJ310 [1452, 1453, 1454, 1455, 1456] (by decide +kernel) (by decide +kernel)

/-! java/util/NoSuchElementException -/
set_option maxRecDepth 100000
def RJ32 : String := "java/util/NoSuchElementException"
def TJ32 : u_T := fun k => match k with
  | 0 => ("java/lang/Throwable", "cause", "Ljava/lang/Throwable;", false)
  | 1 => ("java/lang/Throwable", "stackTrace", "[Ljava/lang/StackTraceElement;", false)
  | 2 => ("java/lang/Throwable", "suppressedExceptions", "Ljava/util/List;", false)
  | 3 => ("java/lang/Throwable", "detailMessage", "Ljava/lang/String;", false)
  | 4 => ("java/lang/Throwable", "backtrace", "Ljava/lang/Object;", false)
  | _ => ("java/lang/Throwable", "depth", "I", false)
def tyJ32 : Nat → FieldType := fun k => match k with
  | 0 => .object "java/lang/Throwable"
  | 1 => .array (.object "java/lang/StackTraceElement")
  | 2 => .object "java/util/List"
  | 3 => .object "java/lang/String"
  | 4 => .object "java/lang/Object"
  | _ => .int
abbrev wsJ320 : List Cond := u_ws RJ32 TJ32 6
theorem nmJ32 : ∀ a, a < 6 → ∀ b, b < 6 → a ≠ b → (TJ32 a).2.1 ≠ (TJ32 b).2.1 := by decide +kernel
theorem tyJ32_ok : ∀ k, k < 6 → parseFieldDescriptor (TJ32 k).2.2.1 = some (tyJ32 k) := by decide +kernel
abbrev cJ32_init : ByteArray := prog_74_method_1_code
def yJ32_init : MethodName := ⟨RJ32, "<init>", "()V"⟩
theorem dJ32_init_0 : decode cJ32_init 0 = .ok (.aload_n 0, 1) := by decide +kernel
theorem dJ32_init_1 : decode cJ32_init 1 = .ok (.invokespecial 1, 3) := by decide +kernel
theorem dJ32_init_4 : decode cJ32_init 4 = .ok (.return_, 1) := by decide +kernel
theorem q127 : (Jvm.Cond.initialized "java/util/NoSuchElementException") ∈ lw_all := lw_g (lw_at lw_m1 44 rfl) rfl
theorem q338 : (Jvm.Cond.selects "java/util/NoSuchElementException" ({ cls := "java/lang/Object", name := "getClass", desc := "()Ljava/lang/Class;" } : Jvm.MethodName) ({ cls := "java/lang/Object", name := "getClass", desc := "()Ljava/lang/Class;" } : Jvm.MethodName)) ∈ lw_all := lw_g (lw_at lw_m2 15 rfl) rfl
theorem q582 : (Jvm.Cond.selects "java/util/NoSuchElementException" ({ cls := "java/lang/Throwable", name := "fillInStackTrace", desc := "()Ljava/lang/Throwable;" } : Jvm.MethodName) ({ cls := "java/lang/Throwable", name := "fillInStackTrace", desc := "()Ljava/lang/Throwable;" } : Jvm.MethodName)) ∈ lw_all := lw_g (lw_at lw_m3 19 rfl) rfl
theorem q1494 : (Jvm.Cond.instantiable "java/util/NoSuchElementException" (6 : Nat)) ∈ lw_all := lw_g (lw_at lw_m6 211 rfl) rfl
theorem q1495 : (Jvm.Cond.castable "java/util/NoSuchElementException" "java/util/NoSuchElementException") ∈ lw_tbl := lw_at lw_m6 212 rfl
theorem q1496 : (Jvm.Cond.selects "java/util/NoSuchElementException" ({ cls := "java/lang/Throwable", name := "fillInStackTrace", desc := "(I)Ljava/lang/Throwable;" } : Jvm.MethodName) ({ cls := "java/lang/Throwable", name := "fillInStackTrace", desc := "(I)Ljava/lang/Throwable;" } : Jvm.MethodName)) ∈ lw_all := lw_g (lw_at lw_m6 213 rfl) rfl
theorem q1497 : (Jvm.Cond.lays "java/util/NoSuchElementException" "java/lang/Throwable" "cause" "Ljava/lang/Throwable;") ∈ lw_all := lw_g (lw_at lw_m6 214 rfl) rfl
theorem q1498 : (Jvm.Cond.lays "java/util/NoSuchElementException" "java/lang/Throwable" "stackTrace" "[Ljava/lang/StackTraceElement;") ∈ lw_all := lw_g (lw_at lw_m6 215 rfl) rfl
theorem q1499 : (Jvm.Cond.lays "java/util/NoSuchElementException" "java/lang/Throwable" "suppressedExceptions" "Ljava/util/List;") ∈ lw_all := lw_g (lw_at lw_m6 216 rfl) rfl
theorem q1500 : (Jvm.Cond.lays "java/util/NoSuchElementException" "java/lang/Throwable" "detailMessage" "Ljava/lang/String;") ∈ lw_all := lw_g (lw_at lw_m6 217 rfl) rfl
theorem q1501 : (Jvm.Cond.lays "java/util/NoSuchElementException" "java/lang/Throwable" "backtrace" "Ljava/lang/Object;") ∈ lw_all := lw_g (lw_at lw_m6 218 rfl) rfl
theorem q1503 : (Jvm.Cond.instanceMethod ({ cls := "java/util/NoSuchElementException", name := "<init>", desc := "()V" } : Jvm.MethodName)) ∈ lw_all := lw_g (lw_at lw_m6 220 rfl) rfl
theorem q1504 : (Jvm.Cond.code ({ cls := "java/util/NoSuchElementException", name := "<init>", desc := "()V" } : Jvm.MethodName) prog_74_method_1_code (1 : Nat) (Option.none : Option Jvm.ClassFile.FieldType)) ∈ lw_all := lw_g (lw_at lw_m6 221 rfl) rfl
theorem q1505 : (Jvm.Cond.methodLink "java/util/NoSuchElementException" (1 : Nat) ({ cls := "java/lang/RuntimeException", name := "<init>", desc := "()V" } : Jvm.MethodName)) ∈ lw_all := lw_g (lw_at lw_m6 222 rfl) rfl
theorem q1512 : (Jvm.Cond.lays "java/util/NoSuchElementException" "java/lang/Throwable" "depth" "I") ∈ lw_all := lw_g (lw_at lw_m6 229 rfl) rfl
theorem q1513 : (Jvm.Cond.superclass "java/util/NoSuchElementException" "java/lang/RuntimeException") ∈ lw_all := lw_g (lw_at lw_m6 230 rfl) rfl
theorem q3127 : (Jvm.Cond.castable "java/util/NoSuchElementException" "java/lang/Object") ∈ lw_tbl := lw_at lw_m13 164 rfl
theorem in_J32 : ∀ w ∈ wsJ320, w ∈ lw_all := lw_in wsJ320 [1497, 1498, 1499, 1500, 1501, 1512] (by decide +kernel) (by decide +kernel)

/-! java/lang/IllegalStateException -/
set_option maxRecDepth 100000
def RJ33 : String := "java/lang/IllegalStateException"
def TJ33 : u_T := fun k => match k with
  | 0 => ("java/lang/Throwable", "cause", "Ljava/lang/Throwable;", false)
  | 1 => ("java/lang/Throwable", "stackTrace", "[Ljava/lang/StackTraceElement;", false)
  | 2 => ("java/lang/Throwable", "suppressedExceptions", "Ljava/util/List;", false)
  | 3 => ("java/lang/Throwable", "detailMessage", "Ljava/lang/String;", false)
  | 4 => ("java/lang/Throwable", "backtrace", "Ljava/lang/Object;", false)
  | _ => ("java/lang/Throwable", "depth", "I", false)
def tyJ33 : Nat → FieldType := fun k => match k with
  | 0 => .object "java/lang/Throwable"
  | 1 => .array (.object "java/lang/StackTraceElement")
  | 2 => .object "java/util/List"
  | 3 => .object "java/lang/String"
  | 4 => .object "java/lang/Object"
  | _ => .int
abbrev wsJ330 : List Cond := u_ws RJ33 TJ33 6
theorem nmJ33 : ∀ a, a < 6 → ∀ b, b < 6 → a ≠ b → (TJ33 a).2.1 ≠ (TJ33 b).2.1 := by decide +kernel
theorem tyJ33_ok : ∀ k, k < 6 → parseFieldDescriptor (TJ33 k).2.2.1 = some (tyJ33 k) := by decide +kernel
abbrev cJ33_init : ByteArray := prog_30_method_1_code
def yJ33_init : MethodName := ⟨RJ33, "<init>", "()V"⟩
theorem dJ33_init_0 : decode cJ33_init 0 = .ok (.aload_n 0, 1) := by decide +kernel
theorem dJ33_init_1 : decode cJ33_init 1 = .ok (.invokespecial 1, 3) := by decide +kernel
theorem dJ33_init_4 : decode cJ33_init 4 = .ok (.return_, 1) := by decide +kernel
theorem q128 : (Jvm.Cond.initialized "java/lang/IllegalStateException") ∈ lw_all := lw_g (lw_at lw_m1 45 rfl) rfl
theorem q319 : (Jvm.Cond.selects "java/lang/IllegalStateException" ({ cls := "java/lang/Object", name := "getClass", desc := "()Ljava/lang/Class;" } : Jvm.MethodName) ({ cls := "java/lang/Object", name := "getClass", desc := "()Ljava/lang/Class;" } : Jvm.MethodName)) ∈ lw_all := lw_g (lw_at lw_m1 236 rfl) rfl
theorem q479 : (Jvm.Cond.selects "java/lang/IllegalStateException" ({ cls := "java/lang/Object", name := "hashCode", desc := "()I" } : Jvm.MethodName) ({ cls := "java/lang/Object", name := "hashCode", desc := "()I" } : Jvm.MethodName)) ∈ lw_all := lw_g (lw_at lw_m2 156 rfl) rfl
theorem q578 : (Jvm.Cond.selects "java/lang/IllegalStateException" ({ cls := "java/lang/Throwable", name := "fillInStackTrace", desc := "()Ljava/lang/Throwable;" } : Jvm.MethodName) ({ cls := "java/lang/Throwable", name := "fillInStackTrace", desc := "()Ljava/lang/Throwable;" } : Jvm.MethodName)) ∈ lw_all := lw_g (lw_at lw_m3 15 rfl) rfl
theorem q865 : (Jvm.Cond.selects "java/lang/IllegalStateException" ({ cls := "java/lang/Object", name := "equals", desc := "(Ljava/lang/Object;)Z" } : Jvm.MethodName) ({ cls := "java/lang/Object", name := "equals", desc := "(Ljava/lang/Object;)Z" } : Jvm.MethodName)) ∈ lw_all := lw_g (lw_at lw_m4 62 rfl) rfl
theorem q1710 : (Jvm.Cond.instantiable "java/lang/IllegalStateException" (6 : Nat)) ∈ lw_all := lw_g (lw_at lw_m7 187 rfl) rfl
theorem q1711 : (Jvm.Cond.castable "java/lang/IllegalStateException" "java/lang/IllegalStateException") ∈ lw_tbl := lw_at lw_m7 188 rfl
theorem q1712 : (Jvm.Cond.selects "java/lang/IllegalStateException" ({ cls := "java/lang/Throwable", name := "fillInStackTrace", desc := "(I)Ljava/lang/Throwable;" } : Jvm.MethodName) ({ cls := "java/lang/Throwable", name := "fillInStackTrace", desc := "(I)Ljava/lang/Throwable;" } : Jvm.MethodName)) ∈ lw_all := lw_g (lw_at lw_m7 189 rfl) rfl
theorem q1713 : (Jvm.Cond.lays "java/lang/IllegalStateException" "java/lang/Throwable" "cause" "Ljava/lang/Throwable;") ∈ lw_all := lw_g (lw_at lw_m7 190 rfl) rfl
theorem q1714 : (Jvm.Cond.lays "java/lang/IllegalStateException" "java/lang/Throwable" "stackTrace" "[Ljava/lang/StackTraceElement;") ∈ lw_all := lw_g (lw_at lw_m7 191 rfl) rfl
theorem q1715 : (Jvm.Cond.lays "java/lang/IllegalStateException" "java/lang/Throwable" "suppressedExceptions" "Ljava/util/List;") ∈ lw_all := lw_g (lw_at lw_m7 192 rfl) rfl
theorem q1716 : (Jvm.Cond.lays "java/lang/IllegalStateException" "java/lang/Throwable" "detailMessage" "Ljava/lang/String;") ∈ lw_all := lw_g (lw_at lw_m7 193 rfl) rfl
theorem q1717 : (Jvm.Cond.lays "java/lang/IllegalStateException" "java/lang/Throwable" "backtrace" "Ljava/lang/Object;") ∈ lw_all := lw_g (lw_at lw_m7 194 rfl) rfl
theorem q1719 : (Jvm.Cond.instanceMethod ({ cls := "java/lang/IllegalStateException", name := "<init>", desc := "()V" } : Jvm.MethodName)) ∈ lw_all := lw_g (lw_at lw_m7 196 rfl) rfl
theorem q1720 : (Jvm.Cond.code ({ cls := "java/lang/IllegalStateException", name := "<init>", desc := "()V" } : Jvm.MethodName) prog_30_method_1_code (1 : Nat) (Option.none : Option Jvm.ClassFile.FieldType)) ∈ lw_all := lw_g (lw_at lw_m7 197 rfl) rfl
theorem q1721 : (Jvm.Cond.methodLink "java/lang/IllegalStateException" (1 : Nat) ({ cls := "java/lang/RuntimeException", name := "<init>", desc := "()V" } : Jvm.MethodName)) ∈ lw_all := lw_g (lw_at lw_m7 198 rfl) rfl
theorem q1722 : (Jvm.Cond.lays "java/lang/IllegalStateException" "java/lang/Throwable" "depth" "I") ∈ lw_all := lw_g (lw_at lw_m7 199 rfl) rfl
theorem q1723 : (Jvm.Cond.superclass "java/lang/IllegalStateException" "java/lang/RuntimeException") ∈ lw_all := lw_g (lw_at lw_m7 200 rfl) rfl
theorem q3130 : (Jvm.Cond.castable "java/lang/IllegalStateException" "java/lang/Object") ∈ lw_tbl := lw_at lw_m13 167 rfl
theorem in_J33 : ∀ w ∈ wsJ330, w ∈ lw_all := lw_in wsJ330 [1713, 1714, 1715, 1716, 1717, 1722] (by decide +kernel) (by decide +kernel)

/-! java/lang/IndexOutOfBoundsException -/
set_option maxRecDepth 100000
def RJ34 : String := "java/lang/IndexOutOfBoundsException"
def TJ34 : u_T := fun k => match k with
  | 0 => ("java/lang/Throwable", "cause", "Ljava/lang/Throwable;", false)
  | 1 => ("java/lang/Throwable", "stackTrace", "[Ljava/lang/StackTraceElement;", false)
  | 2 => ("java/lang/Throwable", "suppressedExceptions", "Ljava/util/List;", false)
  | 3 => ("java/lang/Throwable", "detailMessage", "Ljava/lang/String;", false)
  | 4 => ("java/lang/Throwable", "backtrace", "Ljava/lang/Object;", false)
  | _ => ("java/lang/Throwable", "depth", "I", false)
def tyJ34 : Nat → FieldType := fun k => match k with
  | 0 => .object "java/lang/Throwable"
  | 1 => .array (.object "java/lang/StackTraceElement")
  | 2 => .object "java/util/List"
  | 3 => .object "java/lang/String"
  | 4 => .object "java/lang/Object"
  | _ => .int
abbrev wsJ340 : List Cond := u_ws RJ34 TJ34 6
theorem nmJ34 : ∀ a, a < 6 → ∀ b, b < 6 → a ≠ b → (TJ34 a).2.1 ≠ (TJ34 b).2.1 := by decide +kernel
theorem tyJ34_ok : ∀ k, k < 6 → parseFieldDescriptor (TJ34 k).2.2.1 = some (tyJ34 k) := by decide +kernel
abbrev cJ34_init : ByteArray := prog_31_method_2_code
def yJ34_init : MethodName := ⟨RJ34, "<init>", "(Ljava/lang/String;)V"⟩
def dkwJ34_init_0 : List UInt8 := [42, 43, 183, 0, 7, 177]
abbrev dktJ34_init_0 : List UInt8 := dkwJ34_init_0 ++ []
theorem dksJ34_init_0 : cJ34_init.data.toList.drop 0 = dktJ34_init_0 := by decide +kernel
theorem dJ34_init_0 : decode cJ34_init 0 = .ok (.aload_n 0, 1) := dk_42 (dk_at dksJ34_init_0 0 rfl rfl)
theorem dJ34_init_1 : decode cJ34_init 1 = .ok (.aload_n 1, 1) := dk_43 (dk_at dksJ34_init_0 1 rfl rfl)
theorem dJ34_init_2 : decode cJ34_init 2 = .ok (.invokespecial 7, 3) := dk_183 0 7 (dk_at dksJ34_init_0 2 rfl rfl)
theorem dJ34_init_5 : decode cJ34_init 5 = .ok (.return_, 1) := dk_177 (dk_at dksJ34_init_0 5 rfl rfl)
abbrev cJ34_init_2 : ByteArray := prog_31_method_1_code
def yJ34_init_2 : MethodName := ⟨RJ34, "<init>", "()V"⟩
theorem dJ34_init_2_0 : decode cJ34_init_2 0 = .ok (.aload_n 0, 1) := by decide +kernel
theorem dJ34_init_2_1 : decode cJ34_init_2 1 = .ok (.invokespecial 1, 3) := by decide +kernel
theorem dJ34_init_2_4 : decode cJ34_init_2 4 = .ok (.return_, 1) := by decide +kernel
theorem q129 : (Jvm.Cond.initialized "java/lang/IndexOutOfBoundsException") ∈ lw_all := lw_g (lw_at lw_m1 46 rfl) rfl
theorem q320 : (Jvm.Cond.selects "java/lang/IndexOutOfBoundsException" ({ cls := "java/lang/Object", name := "getClass", desc := "()Ljava/lang/Class;" } : Jvm.MethodName) ({ cls := "java/lang/Object", name := "getClass", desc := "()Ljava/lang/Class;" } : Jvm.MethodName)) ∈ lw_all := lw_g (lw_at lw_m1 237 rfl) rfl
theorem q480 : (Jvm.Cond.selects "java/lang/IndexOutOfBoundsException" ({ cls := "java/lang/Object", name := "hashCode", desc := "()I" } : Jvm.MethodName) ({ cls := "java/lang/Object", name := "hashCode", desc := "()I" } : Jvm.MethodName)) ∈ lw_all := lw_g (lw_at lw_m2 157 rfl) rfl
theorem q579 : (Jvm.Cond.selects "java/lang/IndexOutOfBoundsException" ({ cls := "java/lang/Throwable", name := "fillInStackTrace", desc := "()Ljava/lang/Throwable;" } : Jvm.MethodName) ({ cls := "java/lang/Throwable", name := "fillInStackTrace", desc := "()Ljava/lang/Throwable;" } : Jvm.MethodName)) ∈ lw_all := lw_g (lw_at lw_m3 16 rfl) rfl
theorem q866 : (Jvm.Cond.selects "java/lang/IndexOutOfBoundsException" ({ cls := "java/lang/Object", name := "equals", desc := "(Ljava/lang/Object;)Z" } : Jvm.MethodName) ({ cls := "java/lang/Object", name := "equals", desc := "(Ljava/lang/Object;)Z" } : Jvm.MethodName)) ∈ lw_all := lw_g (lw_at lw_m4 63 rfl) rfl
theorem q1734 : (Jvm.Cond.instantiable "java/lang/IndexOutOfBoundsException" (6 : Nat)) ∈ lw_all := lw_g (lw_at lw_m7 211 rfl) rfl
theorem q1735 : (Jvm.Cond.castable "java/lang/IndexOutOfBoundsException" "java/lang/IndexOutOfBoundsException") ∈ lw_tbl := lw_at lw_m7 212 rfl
theorem q1736 : (Jvm.Cond.selects "java/lang/IndexOutOfBoundsException" ({ cls := "java/lang/Throwable", name := "fillInStackTrace", desc := "(I)Ljava/lang/Throwable;" } : Jvm.MethodName) ({ cls := "java/lang/Throwable", name := "fillInStackTrace", desc := "(I)Ljava/lang/Throwable;" } : Jvm.MethodName)) ∈ lw_all := lw_g (lw_at lw_m7 213 rfl) rfl
theorem q1737 : (Jvm.Cond.lays "java/lang/IndexOutOfBoundsException" "java/lang/Throwable" "cause" "Ljava/lang/Throwable;") ∈ lw_all := lw_g (lw_at lw_m7 214 rfl) rfl
theorem q1738 : (Jvm.Cond.lays "java/lang/IndexOutOfBoundsException" "java/lang/Throwable" "stackTrace" "[Ljava/lang/StackTraceElement;") ∈ lw_all := lw_g (lw_at lw_m7 215 rfl) rfl
theorem q1739 : (Jvm.Cond.lays "java/lang/IndexOutOfBoundsException" "java/lang/Throwable" "suppressedExceptions" "Ljava/util/List;") ∈ lw_all := lw_g (lw_at lw_m7 216 rfl) rfl
theorem q1740 : (Jvm.Cond.lays "java/lang/IndexOutOfBoundsException" "java/lang/Throwable" "detailMessage" "Ljava/lang/String;") ∈ lw_all := lw_g (lw_at lw_m7 217 rfl) rfl
theorem q1741 : (Jvm.Cond.lays "java/lang/IndexOutOfBoundsException" "java/lang/Throwable" "backtrace" "Ljava/lang/Object;") ∈ lw_all := lw_g (lw_at lw_m7 218 rfl) rfl
theorem q1754 : (Jvm.Cond.instanceMethod ({ cls := "java/lang/IndexOutOfBoundsException", name := "<init>", desc := "(Ljava/lang/String;)V" } : Jvm.MethodName)) ∈ lw_all := lw_g (lw_at lw_m7 231 rfl) rfl
theorem q1755 : (Jvm.Cond.code ({ cls := "java/lang/IndexOutOfBoundsException", name := "<init>", desc := "(Ljava/lang/String;)V" } : Jvm.MethodName) prog_31_method_2_code (2 : Nat) (Option.none : Option Jvm.ClassFile.FieldType)) ∈ lw_all := lw_g (lw_at lw_m7 232 rfl) rfl
theorem q1756 : (Jvm.Cond.methodLink "java/lang/IndexOutOfBoundsException" (7 : Nat) ({ cls := "java/lang/RuntimeException", name := "<init>", desc := "(Ljava/lang/String;)V" } : Jvm.MethodName)) ∈ lw_all := lw_g (lw_at lw_m7 233 rfl) rfl
theorem q1757 : (Jvm.Cond.lays "java/lang/IndexOutOfBoundsException" "java/lang/Throwable" "depth" "I") ∈ lw_all := lw_g (lw_at lw_m7 234 rfl) rfl
theorem q1758 : (Jvm.Cond.superclass "java/lang/IndexOutOfBoundsException" "java/lang/RuntimeException") ∈ lw_all := lw_g (lw_at lw_m7 235 rfl) rfl
theorem q1820 : (Jvm.Cond.declares ({ cls := "java/lang/IndexOutOfBoundsException", name := "<init>", desc := "()V" } : Jvm.MethodName)) ∈ lw_tbl := lw_at lw_m8 57 rfl
theorem q1821 : (Jvm.Cond.declares ({ cls := "java/lang/IndexOutOfBoundsException", name := "<init>", desc := "(Ljava/lang/String;)V" } : Jvm.MethodName)) ∈ lw_tbl := lw_at lw_m8 58 rfl
theorem q1838 : (Jvm.Cond.instanceMethod ({ cls := "java/lang/IndexOutOfBoundsException", name := "<init>", desc := "()V" } : Jvm.MethodName)) ∈ lw_all := lw_g (lw_at lw_m8 75 rfl) rfl
theorem q1839 : (Jvm.Cond.code ({ cls := "java/lang/IndexOutOfBoundsException", name := "<init>", desc := "()V" } : Jvm.MethodName) prog_31_method_1_code (1 : Nat) (Option.none : Option Jvm.ClassFile.FieldType)) ∈ lw_all := lw_g (lw_at lw_m8 76 rfl) rfl
theorem q1840 : (Jvm.Cond.methodLink "java/lang/IndexOutOfBoundsException" (1 : Nat) ({ cls := "java/lang/RuntimeException", name := "<init>", desc := "()V" } : Jvm.MethodName)) ∈ lw_all := lw_g (lw_at lw_m8 77 rfl) rfl
theorem q3131 : (Jvm.Cond.castable "java/lang/IndexOutOfBoundsException" "java/lang/Object") ∈ lw_tbl := lw_at lw_m13 168 rfl
theorem in_J34 : ∀ w ∈ wsJ340, w ∈ lw_all := lw_in wsJ340 [1737, 1738, 1739, 1740, 1741, 1757] (by decide +kernel) (by decide +kernel)

/-! java/util/LinkedHashMap$LinkedKeySet -/
set_option maxRecDepth 100000
def RJ36 : String := "java/util/LinkedHashMap$LinkedKeySet"
def TJ36 : u_T := fun k => match k with
  | 0 => ("java/util/LinkedHashMap$LinkedKeySet", "reversed", "Z", true)
  | _ => ("java/util/LinkedHashMap$LinkedKeySet", "this$0", "Ljava/util/LinkedHashMap;", true)
def tyJ36 : Nat → FieldType := fun k => match k with
  | 0 => .boolean
  | _ => .object "java/util/LinkedHashMap"
abbrev wsJ360 : List Cond := u_ws RJ36 TJ36 2
theorem nmJ36 : ∀ a, a < 2 → ∀ b, b < 2 → a ≠ b → (TJ36 a).2.1 ≠ (TJ36 b).2.1 := by decide +kernel
theorem tyJ36_ok : ∀ k, k < 2 → parseFieldDescriptor (TJ36 k).2.2.1 = some (tyJ36 k) := by decide +kernel
abbrev cJ36_iterator : ByteArray := prog_68_method_4_code
def yJ36_iterator : MethodName := ⟨RJ36, "iterator", "()Ljava/util/Iterator;"⟩
def dkwJ36_iterator_0 : List UInt8 := [187, 0, 26, 89, 42, 180, 0, 1, 42, 180, 0, 13, 183, 0, 28, 176]
abbrev dktJ36_iterator_0 : List UInt8 := dkwJ36_iterator_0 ++ []
theorem dksJ36_iterator_0 : cJ36_iterator.data.toList.drop 0 = dktJ36_iterator_0 := by decide +kernel
theorem dJ36_iterator_0 : decode cJ36_iterator 0 = .ok (.new 26, 3) := dk_187 0 26 (dk_at dksJ36_iterator_0 0 rfl rfl)
theorem dJ36_iterator_3 : decode cJ36_iterator 3 = .ok (.dup, 1) := dk_89 (dk_at dksJ36_iterator_0 3 rfl rfl)
theorem dJ36_iterator_4 : decode cJ36_iterator 4 = .ok (.aload_n 0, 1) := dk_42 (dk_at dksJ36_iterator_0 4 rfl rfl)
theorem dJ36_iterator_5 : decode cJ36_iterator 5 = .ok (.getfield 1, 3) := dk_180 0 1 (dk_at dksJ36_iterator_0 5 rfl rfl)
theorem dJ36_iterator_8 : decode cJ36_iterator 8 = .ok (.aload_n 0, 1) := dk_42 (dk_at dksJ36_iterator_0 8 rfl rfl)
theorem dJ36_iterator_9 : decode cJ36_iterator 9 = .ok (.getfield 13, 3) := dk_180 0 13 (dk_at dksJ36_iterator_0 9 rfl rfl)
theorem dJ36_iterator_12 : decode cJ36_iterator 12 = .ok (.invokespecial 28, 3) := dk_183 0 28 (dk_at dksJ36_iterator_0 12 rfl rfl)
theorem dJ36_iterator_15 : decode cJ36_iterator 15 = .ok (.areturn, 1) := dk_176 (dk_at dksJ36_iterator_0 15 rfl rfl)
abbrev cJ36_init : ByteArray := prog_68_method_1_code
def yJ36_init : MethodName := ⟨RJ36, "<init>", "(Ljava/util/LinkedHashMap;Z)V"⟩
def dkwJ36_init_0 : List UInt8 := [42, 43, 181, 0, 1, 42, 183, 0, 7, 42, 28, 181, 0, 13, 177]
abbrev dktJ36_init_0 : List UInt8 := dkwJ36_init_0 ++ []
theorem dksJ36_init_0 : cJ36_init.data.toList.drop 0 = dktJ36_init_0 := by decide +kernel
theorem dJ36_init_0 : decode cJ36_init 0 = .ok (.aload_n 0, 1) := dk_42 (dk_at dksJ36_init_0 0 rfl rfl)
theorem dJ36_init_1 : decode cJ36_init 1 = .ok (.aload_n 1, 1) := dk_43 (dk_at dksJ36_init_0 1 rfl rfl)
theorem dJ36_init_2 : decode cJ36_init 2 = .ok (.putfield 1, 3) := dk_181 0 1 (dk_at dksJ36_init_0 2 rfl rfl)
theorem dJ36_init_5 : decode cJ36_init 5 = .ok (.aload_n 0, 1) := dk_42 (dk_at dksJ36_init_0 5 rfl rfl)
theorem dJ36_init_6 : decode cJ36_init 6 = .ok (.invokespecial 7, 3) := dk_183 0 7 (dk_at dksJ36_init_0 6 rfl rfl)
theorem dJ36_init_9 : decode cJ36_init 9 = .ok (.aload_n 0, 1) := dk_42 (dk_at dksJ36_init_0 9 rfl rfl)
theorem dJ36_init_10 : decode cJ36_init 10 = .ok (.iload_n 2, 1) := dk_28 (dk_at dksJ36_init_0 10 rfl rfl)
theorem dJ36_init_11 : decode cJ36_init 11 = .ok (.putfield 13, 3) := dk_181 0 13 (dk_at dksJ36_init_0 11 rfl rfl)
theorem dJ36_init_14 : decode cJ36_init 14 = .ok (.return_, 1) := dk_177 (dk_at dksJ36_init_0 14 rfl rfl)
theorem q131 : (Jvm.Cond.initialized "java/util/LinkedHashMap$LinkedKeySet") ∈ lw_all := lw_g (lw_at lw_m1 48 rfl) rfl
theorem q335 : (Jvm.Cond.selects "java/util/LinkedHashMap$LinkedKeySet" ({ cls := "java/lang/Object", name := "getClass", desc := "()Ljava/lang/Class;" } : Jvm.MethodName) ({ cls := "java/lang/Object", name := "getClass", desc := "()Ljava/lang/Class;" } : Jvm.MethodName)) ∈ lw_all := lw_g (lw_at lw_m2 12 rfl) rfl
theorem q1440 : (Jvm.Cond.castable "java/util/LinkedHashMap$LinkedKeySet" "java/util/Set") ∈ lw_tbl := lw_at lw_m6 157 rfl
theorem q1441 : (Jvm.Cond.selects "java/util/LinkedHashMap$LinkedKeySet" ({ cls := "java/util/Set", name := "iterator", desc := "()Ljava/util/Iterator;" } : Jvm.MethodName) ({ cls := "java/util/LinkedHashMap$LinkedKeySet", name := "iterator", desc := "()Ljava/util/Iterator;" } : Jvm.MethodName)) ∈ lw_all := lw_g (lw_at lw_m6 158 rfl) rfl
theorem q1442 : (Jvm.Cond.unhidden "java/util/LinkedHashMap$LinkedKeySet" "iterator" "()Ljava/util/Iterator;") ∈ lw_tbl := lw_at lw_m6 159 rfl
theorem q1443 : (Jvm.Cond.instanceMethod ({ cls := "java/util/LinkedHashMap$LinkedKeySet", name := "iterator", desc := "()Ljava/util/Iterator;" } : Jvm.MethodName)) ∈ lw_all := lw_g (lw_at lw_m6 160 rfl) rfl
theorem q1444 : (Jvm.Cond.publicMethod ({ cls := "java/util/LinkedHashMap$LinkedKeySet", name := "iterator", desc := "()Ljava/util/Iterator;" } : Jvm.MethodName)) ∈ lw_tbl := lw_at lw_m6 161 rfl
theorem q1445 : (Jvm.Cond.code ({ cls := "java/util/LinkedHashMap$LinkedKeySet", name := "iterator", desc := "()Ljava/util/Iterator;" } : Jvm.MethodName) prog_68_method_4_code (1 : Nat) (Option.some (Jvm.ClassFile.FieldType.object "java/util/Iterator"))) ∈ lw_all := lw_g (lw_at lw_m6 162 rfl) rfl
theorem q1446 : (Jvm.Cond.classLink "java/util/LinkedHashMap$LinkedKeySet" (26 : Nat) "java/util/LinkedHashMap$LinkedKeyIterator") ∈ lw_all := lw_g (lw_at lw_m6 163 rfl) rfl
theorem q1448 : (Jvm.Cond.methodLink "java/util/LinkedHashMap$LinkedKeySet" (28 : Nat) ({ cls := "java/util/LinkedHashMap$LinkedKeyIterator", name := "<init>", desc := "(Ljava/util/LinkedHashMap;Z)V" } : Jvm.MethodName)) ∈ lw_all := lw_g (lw_at lw_m6 165 rfl) rfl
theorem q1854 : (Jvm.Cond.instantiable "java/util/LinkedHashMap$LinkedKeySet" (2 : Nat)) ∈ lw_all := lw_g (lw_at lw_m8 91 rfl) rfl
theorem q1856 : (Jvm.Cond.instanceMethod ({ cls := "java/util/LinkedHashMap$LinkedKeySet", name := "<init>", desc := "(Ljava/util/LinkedHashMap;Z)V" } : Jvm.MethodName)) ∈ lw_all := lw_g (lw_at lw_m8 93 rfl) rfl
theorem q1857 : (Jvm.Cond.code ({ cls := "java/util/LinkedHashMap$LinkedKeySet", name := "<init>", desc := "(Ljava/util/LinkedHashMap;Z)V" } : Jvm.MethodName) prog_68_method_1_code (3 : Nat) (Option.none : Option Jvm.ClassFile.FieldType)) ∈ lw_all := lw_g (lw_at lw_m8 94 rfl) rfl
theorem q1858 : (Jvm.Cond.methodLink "java/util/LinkedHashMap$LinkedKeySet" (7 : Nat) ({ cls := "java/util/AbstractSet", name := "<init>", desc := "()V" } : Jvm.MethodName)) ∈ lw_all := lw_g (lw_at lw_m8 95 rfl) rfl
theorem q1859 : (Jvm.Cond.fieldLink "java/util/LinkedHashMap$LinkedKeySet" (13 : Nat) "java/util/LinkedHashMap$LinkedKeySet" "reversed" "Z") ∈ lw_all := lw_g (lw_at lw_m8 96 rfl) rfl
theorem q1860 : (Jvm.Cond.fieldLink "java/util/LinkedHashMap$LinkedKeySet" (1 : Nat) "java/util/LinkedHashMap$LinkedKeySet" "this$0" "Ljava/util/LinkedHashMap;") ∈ lw_all := lw_g (lw_at lw_m8 97 rfl) rfl
theorem q1861 : (Jvm.Cond.laysFinal "java/util/LinkedHashMap$LinkedKeySet" "java/util/LinkedHashMap$LinkedKeySet" "reversed" "Z") ∈ lw_all := lw_g (lw_at lw_m8 98 rfl) rfl
theorem q1862 : (Jvm.Cond.soleField "java/util/LinkedHashMap$LinkedKeySet" "reversed") ∈ lw_all := lw_g (lw_at lw_m8 99 rfl) rfl
theorem q1863 : (Jvm.Cond.laysFinal "java/util/LinkedHashMap$LinkedKeySet" "java/util/LinkedHashMap$LinkedKeySet" "this$0" "Ljava/util/LinkedHashMap;") ∈ lw_all := lw_g (lw_at lw_m8 100 rfl) rfl
theorem q1864 : (Jvm.Cond.soleField "java/util/LinkedHashMap$LinkedKeySet" "this$0") ∈ lw_all := lw_g (lw_at lw_m8 101 rfl) rfl
theorem q1865 : (Jvm.Cond.superclass "java/util/LinkedHashMap$LinkedKeySet" "java/util/AbstractSet") ∈ lw_all := lw_g (lw_at lw_m8 102 rfl) rfl
theorem q2450 : (Jvm.Cond.castable "java/util/LinkedHashMap$LinkedKeySet" "java/util/Collection") ∈ lw_tbl := lw_at lw_m10 207 rfl
theorem q2451 : (Jvm.Cond.selects "java/util/LinkedHashMap$LinkedKeySet" ({ cls := "java/util/Collection", name := "iterator", desc := "()Ljava/util/Iterator;" } : Jvm.MethodName) ({ cls := "java/util/LinkedHashMap$LinkedKeySet", name := "iterator", desc := "()Ljava/util/Iterator;" } : Jvm.MethodName)) ∈ lw_all := lw_g (lw_at lw_m10 208 rfl) rfl
theorem q3106 : (Jvm.Cond.castable "java/util/LinkedHashMap$LinkedKeySet" "java/util/SequencedSet") ∈ lw_tbl := lw_at lw_m13 143 rfl
theorem q3112 : (Jvm.Cond.castable "java/util/LinkedHashMap$LinkedKeySet" "java/util/SequencedCollection") ∈ lw_tbl := lw_at lw_m13 149 rfl
theorem q3137 : (Jvm.Cond.castable "java/util/LinkedHashMap$LinkedKeySet" "java/lang/Object") ∈ lw_tbl := lw_at lw_m13 174 rfl
theorem in_J36 : ∀ w ∈ wsJ360, w ∈ lw_all := lw_in wsJ360 [1861, 1863] (by decide +kernel) (by decide +kernel)

/-! java/lang/UnsupportedOperationException -/
set_option maxRecDepth 100000
def RJ37 : String := "java/lang/UnsupportedOperationException"
def TJ37 : u_T := fun k => match k with
  | 0 => ("java/lang/Throwable", "cause", "Ljava/lang/Throwable;", false)
  | 1 => ("java/lang/Throwable", "stackTrace", "[Ljava/lang/StackTraceElement;", false)
  | 2 => ("java/lang/Throwable", "suppressedExceptions", "Ljava/util/List;", false)
  | 3 => ("java/lang/Throwable", "detailMessage", "Ljava/lang/String;", false)
  | 4 => ("java/lang/Throwable", "backtrace", "Ljava/lang/Object;", false)
  | _ => ("java/lang/Throwable", "depth", "I", false)
def tyJ37 : Nat → FieldType := fun k => match k with
  | 0 => .object "java/lang/Throwable"
  | 1 => .array (.object "java/lang/StackTraceElement")
  | 2 => .object "java/util/List"
  | 3 => .object "java/lang/String"
  | 4 => .object "java/lang/Object"
  | _ => .int
abbrev wsJ370 : List Cond := u_ws RJ37 TJ37 6
theorem nmJ37 : ∀ a, a < 6 → ∀ b, b < 6 → a ≠ b → (TJ37 a).2.1 ≠ (TJ37 b).2.1 := by decide +kernel
theorem tyJ37_ok : ∀ k, k < 6 → parseFieldDescriptor (TJ37 k).2.2.1 = some (tyJ37 k) := by decide +kernel
abbrev cJ37_init : ByteArray := prog_46_method_1_code
def yJ37_init : MethodName := ⟨RJ37, "<init>", "()V"⟩
theorem dJ37_init_0 : decode cJ37_init 0 = .ok (.aload_n 0, 1) := by decide +kernel
theorem dJ37_init_1 : decode cJ37_init 1 = .ok (.invokespecial 1, 3) := by decide +kernel
theorem dJ37_init_4 : decode cJ37_init 4 = .ok (.return_, 1) := by decide +kernel
theorem q132 : (Jvm.Cond.initialized "java/lang/UnsupportedOperationException") ∈ lw_all := lw_g (lw_at lw_m1 49 rfl) rfl
theorem q324 : (Jvm.Cond.selects "java/lang/UnsupportedOperationException" ({ cls := "java/lang/Object", name := "getClass", desc := "()Ljava/lang/Class;" } : Jvm.MethodName) ({ cls := "java/lang/Object", name := "getClass", desc := "()Ljava/lang/Class;" } : Jvm.MethodName)) ∈ lw_all := lw_g (lw_at lw_m2 1 rfl) rfl
theorem q580 : (Jvm.Cond.selects "java/lang/UnsupportedOperationException" ({ cls := "java/lang/Throwable", name := "fillInStackTrace", desc := "()Ljava/lang/Throwable;" } : Jvm.MethodName) ({ cls := "java/lang/Throwable", name := "fillInStackTrace", desc := "()Ljava/lang/Throwable;" } : Jvm.MethodName)) ∈ lw_all := lw_g (lw_at lw_m3 17 rfl) rfl
theorem q840 : (Jvm.Cond.selects "java/lang/UnsupportedOperationException" ({ cls := "java/lang/Object", name := "hashCode", desc := "()I" } : Jvm.MethodName) ({ cls := "java/lang/Object", name := "hashCode", desc := "()I" } : Jvm.MethodName)) ∈ lw_all := lw_g (lw_at lw_m4 37 rfl) rfl
theorem q876 : (Jvm.Cond.selects "java/lang/UnsupportedOperationException" ({ cls := "java/lang/Object", name := "equals", desc := "(Ljava/lang/Object;)Z" } : Jvm.MethodName) ({ cls := "java/lang/Object", name := "equals", desc := "(Ljava/lang/Object;)Z" } : Jvm.MethodName)) ∈ lw_all := lw_g (lw_at lw_m4 73 rfl) rfl
theorem q1998 : (Jvm.Cond.instantiable "java/lang/UnsupportedOperationException" (6 : Nat)) ∈ lw_all := lw_g (lw_at lw_m8 235 rfl) rfl
theorem q1999 : (Jvm.Cond.castable "java/lang/UnsupportedOperationException" "java/lang/UnsupportedOperationException") ∈ lw_tbl := lw_at lw_m8 236 rfl
theorem q2000 : (Jvm.Cond.selects "java/lang/UnsupportedOperationException" ({ cls := "java/lang/Throwable", name := "fillInStackTrace", desc := "(I)Ljava/lang/Throwable;" } : Jvm.MethodName) ({ cls := "java/lang/Throwable", name := "fillInStackTrace", desc := "(I)Ljava/lang/Throwable;" } : Jvm.MethodName)) ∈ lw_all := lw_g (lw_at lw_m8 237 rfl) rfl
theorem q2001 : (Jvm.Cond.lays "java/lang/UnsupportedOperationException" "java/lang/Throwable" "cause" "Ljava/lang/Throwable;") ∈ lw_all := lw_g (lw_at lw_m8 238 rfl) rfl
theorem q2002 : (Jvm.Cond.lays "java/lang/UnsupportedOperationException" "java/lang/Throwable" "stackTrace" "[Ljava/lang/StackTraceElement;") ∈ lw_all := lw_g (lw_at lw_m8 239 rfl) rfl
theorem q2003 : (Jvm.Cond.lays "java/lang/UnsupportedOperationException" "java/lang/Throwable" "suppressedExceptions" "Ljava/util/List;") ∈ lw_all := lw_g (lw_at lw_m9 0 rfl) rfl
theorem q2004 : (Jvm.Cond.lays "java/lang/UnsupportedOperationException" "java/lang/Throwable" "detailMessage" "Ljava/lang/String;") ∈ lw_all := lw_g (lw_at lw_m9 1 rfl) rfl
theorem q2005 : (Jvm.Cond.lays "java/lang/UnsupportedOperationException" "java/lang/Throwable" "backtrace" "Ljava/lang/Object;") ∈ lw_all := lw_g (lw_at lw_m9 2 rfl) rfl
theorem q2007 : (Jvm.Cond.instanceMethod ({ cls := "java/lang/UnsupportedOperationException", name := "<init>", desc := "()V" } : Jvm.MethodName)) ∈ lw_all := lw_g (lw_at lw_m9 4 rfl) rfl
theorem q2008 : (Jvm.Cond.code ({ cls := "java/lang/UnsupportedOperationException", name := "<init>", desc := "()V" } : Jvm.MethodName) prog_46_method_1_code (1 : Nat) (Option.none : Option Jvm.ClassFile.FieldType)) ∈ lw_all := lw_g (lw_at lw_m9 5 rfl) rfl
theorem q2009 : (Jvm.Cond.methodLink "java/lang/UnsupportedOperationException" (1 : Nat) ({ cls := "java/lang/RuntimeException", name := "<init>", desc := "()V" } : Jvm.MethodName)) ∈ lw_all := lw_g (lw_at lw_m9 6 rfl) rfl
theorem q2010 : (Jvm.Cond.lays "java/lang/UnsupportedOperationException" "java/lang/Throwable" "depth" "I") ∈ lw_all := lw_g (lw_at lw_m9 7 rfl) rfl
theorem q2011 : (Jvm.Cond.superclass "java/lang/UnsupportedOperationException" "java/lang/RuntimeException") ∈ lw_all := lw_g (lw_at lw_m9 8 rfl) rfl
theorem q3139 : (Jvm.Cond.castable "java/lang/UnsupportedOperationException" "java/lang/Object") ∈ lw_tbl := lw_at lw_m13 176 rfl
theorem in_J37 : ∀ w ∈ wsJ370, w ∈ lw_all := lw_in wsJ370 [2001, 2002, 2003, 2004, 2005, 2010] (by decide +kernel) (by decide +kernel)

/-! java/util/LinkedHashMap$LinkedValues -/
set_option maxRecDepth 100000
def RJ39 : String := "java/util/LinkedHashMap$LinkedValues"
def TJ39 : u_T := fun k => match k with
  | 0 => ("java/util/LinkedHashMap$LinkedValues", "reversed", "Z", true)
  | _ => ("java/util/LinkedHashMap$LinkedValues", "this$0", "Ljava/util/LinkedHashMap;", true)
def tyJ39 : Nat → FieldType := fun k => match k with
  | 0 => .boolean
  | _ => .object "java/util/LinkedHashMap"
abbrev wsJ390 : List Cond := u_ws RJ39 TJ39 2
theorem nmJ39 : ∀ a, a < 2 → ∀ b, b < 2 → a ≠ b → (TJ39 a).2.1 ≠ (TJ39 b).2.1 := by decide +kernel
theorem tyJ39_ok : ∀ k, k < 2 → parseFieldDescriptor (TJ39 k).2.2.1 = some (tyJ39 k) := by decide +kernel
abbrev cJ39_init : ByteArray := prog_70_method_1_code
def yJ39_init : MethodName := ⟨RJ39, "<init>", "(Ljava/util/LinkedHashMap;Z)V"⟩
def dkwJ39_init_0 : List UInt8 := [42, 43, 181, 0, 1, 42, 183, 0, 7, 42, 28, 181, 0, 13, 177]
abbrev dktJ39_init_0 : List UInt8 := dkwJ39_init_0 ++ []
theorem dksJ39_init_0 : cJ39_init.data.toList.drop 0 = dktJ39_init_0 := by decide +kernel
theorem dJ39_init_0 : decode cJ39_init 0 = .ok (.aload_n 0, 1) := dk_42 (dk_at dksJ39_init_0 0 rfl rfl)
theorem dJ39_init_1 : decode cJ39_init 1 = .ok (.aload_n 1, 1) := dk_43 (dk_at dksJ39_init_0 1 rfl rfl)
theorem dJ39_init_2 : decode cJ39_init 2 = .ok (.putfield 1, 3) := dk_181 0 1 (dk_at dksJ39_init_0 2 rfl rfl)
theorem dJ39_init_5 : decode cJ39_init 5 = .ok (.aload_n 0, 1) := dk_42 (dk_at dksJ39_init_0 5 rfl rfl)
theorem dJ39_init_6 : decode cJ39_init 6 = .ok (.invokespecial 7, 3) := dk_183 0 7 (dk_at dksJ39_init_0 6 rfl rfl)
theorem dJ39_init_9 : decode cJ39_init 9 = .ok (.aload_n 0, 1) := dk_42 (dk_at dksJ39_init_0 9 rfl rfl)
theorem dJ39_init_10 : decode cJ39_init 10 = .ok (.iload_n 2, 1) := dk_28 (dk_at dksJ39_init_0 10 rfl rfl)
theorem dJ39_init_11 : decode cJ39_init 11 = .ok (.putfield 13, 3) := dk_181 0 13 (dk_at dksJ39_init_0 11 rfl rfl)
theorem dJ39_init_14 : decode cJ39_init 14 = .ok (.return_, 1) := dk_177 (dk_at dksJ39_init_0 14 rfl rfl)
abbrev cJ39_iterator : ByteArray := prog_70_method_4_code
def yJ39_iterator : MethodName := ⟨RJ39, "iterator", "()Ljava/util/Iterator;"⟩
def dkwJ39_iterator_0 : List UInt8 := [187, 0, 26, 89, 42, 180, 0, 1, 42, 180, 0, 13, 183, 0, 28, 176]
abbrev dktJ39_iterator_0 : List UInt8 := dkwJ39_iterator_0 ++ []
theorem dksJ39_iterator_0 : cJ39_iterator.data.toList.drop 0 = dktJ39_iterator_0 := by decide +kernel
theorem dJ39_iterator_0 : decode cJ39_iterator 0 = .ok (.new 26, 3) := dk_187 0 26 (dk_at dksJ39_iterator_0 0 rfl rfl)
theorem dJ39_iterator_3 : decode cJ39_iterator 3 = .ok (.dup, 1) := dk_89 (dk_at dksJ39_iterator_0 3 rfl rfl)
theorem dJ39_iterator_4 : decode cJ39_iterator 4 = .ok (.aload_n 0, 1) := dk_42 (dk_at dksJ39_iterator_0 4 rfl rfl)
theorem dJ39_iterator_5 : decode cJ39_iterator 5 = .ok (.getfield 1, 3) := dk_180 0 1 (dk_at dksJ39_iterator_0 5 rfl rfl)
theorem dJ39_iterator_8 : decode cJ39_iterator 8 = .ok (.aload_n 0, 1) := dk_42 (dk_at dksJ39_iterator_0 8 rfl rfl)
theorem dJ39_iterator_9 : decode cJ39_iterator 9 = .ok (.getfield 13, 3) := dk_180 0 13 (dk_at dksJ39_iterator_0 9 rfl rfl)
theorem dJ39_iterator_12 : decode cJ39_iterator 12 = .ok (.invokespecial 28, 3) := dk_183 0 28 (dk_at dksJ39_iterator_0 12 rfl rfl)
theorem dJ39_iterator_15 : decode cJ39_iterator 15 = .ok (.areturn, 1) := dk_176 (dk_at dksJ39_iterator_0 15 rfl rfl)
theorem q138 : (Jvm.Cond.initialized "java/util/LinkedHashMap$LinkedValues") ∈ lw_all := lw_g (lw_at lw_m1 55 rfl) rfl
theorem q337 : (Jvm.Cond.selects "java/util/LinkedHashMap$LinkedValues" ({ cls := "java/lang/Object", name := "getClass", desc := "()Ljava/lang/Class;" } : Jvm.MethodName) ({ cls := "java/lang/Object", name := "getClass", desc := "()Ljava/lang/Class;" } : Jvm.MethodName)) ∈ lw_all := lw_g (lw_at lw_m2 14 rfl) rfl
theorem q2406 : (Jvm.Cond.instantiable "java/util/LinkedHashMap$LinkedValues" (2 : Nat)) ∈ lw_all := lw_g (lw_at lw_m10 163 rfl) rfl
theorem q2408 : (Jvm.Cond.instanceMethod ({ cls := "java/util/LinkedHashMap$LinkedValues", name := "<init>", desc := "(Ljava/util/LinkedHashMap;Z)V" } : Jvm.MethodName)) ∈ lw_all := lw_g (lw_at lw_m10 165 rfl) rfl
theorem q2409 : (Jvm.Cond.code ({ cls := "java/util/LinkedHashMap$LinkedValues", name := "<init>", desc := "(Ljava/util/LinkedHashMap;Z)V" } : Jvm.MethodName) prog_70_method_1_code (3 : Nat) (Option.none : Option Jvm.ClassFile.FieldType)) ∈ lw_all := lw_g (lw_at lw_m10 166 rfl) rfl
theorem q2410 : (Jvm.Cond.methodLink "java/util/LinkedHashMap$LinkedValues" (7 : Nat) ({ cls := "java/util/AbstractCollection", name := "<init>", desc := "()V" } : Jvm.MethodName)) ∈ lw_all := lw_g (lw_at lw_m10 167 rfl) rfl
theorem q2411 : (Jvm.Cond.fieldLink "java/util/LinkedHashMap$LinkedValues" (13 : Nat) "java/util/LinkedHashMap$LinkedValues" "reversed" "Z") ∈ lw_all := lw_g (lw_at lw_m10 168 rfl) rfl
theorem q2412 : (Jvm.Cond.fieldLink "java/util/LinkedHashMap$LinkedValues" (1 : Nat) "java/util/LinkedHashMap$LinkedValues" "this$0" "Ljava/util/LinkedHashMap;") ∈ lw_all := lw_g (lw_at lw_m10 169 rfl) rfl
theorem q2413 : (Jvm.Cond.laysFinal "java/util/LinkedHashMap$LinkedValues" "java/util/LinkedHashMap$LinkedValues" "reversed" "Z") ∈ lw_all := lw_g (lw_at lw_m10 170 rfl) rfl
theorem q2414 : (Jvm.Cond.soleField "java/util/LinkedHashMap$LinkedValues" "reversed") ∈ lw_all := lw_g (lw_at lw_m10 171 rfl) rfl
theorem q2415 : (Jvm.Cond.laysFinal "java/util/LinkedHashMap$LinkedValues" "java/util/LinkedHashMap$LinkedValues" "this$0" "Ljava/util/LinkedHashMap;") ∈ lw_all := lw_g (lw_at lw_m10 172 rfl) rfl
theorem q2416 : (Jvm.Cond.soleField "java/util/LinkedHashMap$LinkedValues" "this$0") ∈ lw_all := lw_g (lw_at lw_m10 173 rfl) rfl
theorem q2417 : (Jvm.Cond.superclass "java/util/LinkedHashMap$LinkedValues" "java/util/AbstractCollection") ∈ lw_all := lw_g (lw_at lw_m10 174 rfl) rfl
theorem q2452 : (Jvm.Cond.castable "java/util/LinkedHashMap$LinkedValues" "java/util/Collection") ∈ lw_tbl := lw_at lw_m10 209 rfl
theorem q2453 : (Jvm.Cond.selects "java/util/LinkedHashMap$LinkedValues" ({ cls := "java/util/Collection", name := "iterator", desc := "()Ljava/util/Iterator;" } : Jvm.MethodName) ({ cls := "java/util/LinkedHashMap$LinkedValues", name := "iterator", desc := "()Ljava/util/Iterator;" } : Jvm.MethodName)) ∈ lw_all := lw_g (lw_at lw_m10 210 rfl) rfl
theorem q2454 : (Jvm.Cond.unhidden "java/util/LinkedHashMap$LinkedValues" "iterator" "()Ljava/util/Iterator;") ∈ lw_tbl := lw_at lw_m10 211 rfl
theorem q2455 : (Jvm.Cond.instanceMethod ({ cls := "java/util/LinkedHashMap$LinkedValues", name := "iterator", desc := "()Ljava/util/Iterator;" } : Jvm.MethodName)) ∈ lw_all := lw_g (lw_at lw_m10 212 rfl) rfl
theorem q2456 : (Jvm.Cond.publicMethod ({ cls := "java/util/LinkedHashMap$LinkedValues", name := "iterator", desc := "()Ljava/util/Iterator;" } : Jvm.MethodName)) ∈ lw_tbl := lw_at lw_m10 213 rfl
theorem q2457 : (Jvm.Cond.code ({ cls := "java/util/LinkedHashMap$LinkedValues", name := "iterator", desc := "()Ljava/util/Iterator;" } : Jvm.MethodName) prog_70_method_4_code (1 : Nat) (Option.some (Jvm.ClassFile.FieldType.object "java/util/Iterator"))) ∈ lw_all := lw_g (lw_at lw_m10 214 rfl) rfl
theorem q2458 : (Jvm.Cond.classLink "java/util/LinkedHashMap$LinkedValues" (26 : Nat) "java/util/LinkedHashMap$LinkedValueIterator") ∈ lw_all := lw_g (lw_at lw_m10 215 rfl) rfl
theorem q2460 : (Jvm.Cond.methodLink "java/util/LinkedHashMap$LinkedValues" (28 : Nat) ({ cls := "java/util/LinkedHashMap$LinkedValueIterator", name := "<init>", desc := "(Ljava/util/LinkedHashMap;Z)V" } : Jvm.MethodName)) ∈ lw_all := lw_g (lw_at lw_m10 217 rfl) rfl
theorem q3113 : (Jvm.Cond.castable "java/util/LinkedHashMap$LinkedValues" "java/util/SequencedCollection") ∈ lw_tbl := lw_at lw_m13 150 rfl
theorem q3143 : (Jvm.Cond.castable "java/util/LinkedHashMap$LinkedValues" "java/lang/Object") ∈ lw_tbl := lw_at lw_m13 180 rfl
theorem in_J39 : ∀ w ∈ wsJ390, w ∈ lw_all := lw_in wsJ390 [2413, 2415] (by decide +kernel) (by decide +kernel)

/-! java/util/LinkedHashMap$LinkedValueIterator -/
set_option maxRecDepth 100000
def RJ41 : String := "java/util/LinkedHashMap$LinkedValueIterator"
def TJ41 : u_T := fun k => match k with
  | 0 => ("java/util/LinkedHashMap$LinkedHashIterator", "next", "Ljava/util/LinkedHashMap$Entry;", false)
  | 1 => ("java/util/LinkedHashMap$LinkedHashIterator", "current", "Ljava/util/LinkedHashMap$Entry;", false)
  | 2 => ("java/util/LinkedHashMap$LinkedHashIterator", "expectedModCount", "I", false)
  | 3 => ("java/util/LinkedHashMap$LinkedHashIterator", "reversed", "Z", false)
  | _ => ("java/util/LinkedHashMap$LinkedHashIterator", "this$0", "Ljava/util/LinkedHashMap;", true)
def tyJ41 : Nat → FieldType := fun k => match k with
  | 0 => .object "java/util/LinkedHashMap$Entry"
  | 1 => .object "java/util/LinkedHashMap$Entry"
  | 2 => .int
  | 3 => .boolean
  | _ => .object "java/util/LinkedHashMap"
abbrev wsJ410 : List Cond := u_ws RJ41 TJ41 5
theorem nmJ41 : ∀ a, a < 5 → ∀ b, b < 5 → a ≠ b → (TJ41 a).2.1 ≠ (TJ41 b).2.1 := by decide +kernel
theorem tyJ41_ok : ∀ k, k < 5 → parseFieldDescriptor (TJ41 k).2.2.1 = some (tyJ41 k) := by decide +kernel
abbrev cJ41_next : ByteArray := prog_69_method_2_code
def yJ41_next : MethodName := ⟨RJ41, "next", "()Ljava/lang/Object;"⟩
def dkwJ41_next_0 : List UInt8 := [42, 182, 0, 7, 180, 0, 13, 176]
abbrev dktJ41_next_0 : List UInt8 := dkwJ41_next_0 ++ []
theorem dksJ41_next_0 : cJ41_next.data.toList.drop 0 = dktJ41_next_0 := by decide +kernel
theorem dJ41_next_0 : decode cJ41_next 0 = .ok (.aload_n 0, 1) := dk_42 (dk_at dksJ41_next_0 0 rfl rfl)
theorem dJ41_next_1 : decode cJ41_next 1 = .ok (.invokevirtual 7, 3) := dk_182 0 7 (dk_at dksJ41_next_0 1 rfl rfl)
theorem dJ41_next_4 : decode cJ41_next 4 = .ok (.getfield 13, 3) := dk_180 0 13 (dk_at dksJ41_next_0 4 rfl rfl)
theorem dJ41_next_7 : decode cJ41_next 7 = .ok (.areturn, 1) := dk_176 (dk_at dksJ41_next_0 7 rfl rfl)
abbrev cJ41_init : ByteArray := prog_69_method_1_code
def yJ41_init : MethodName := ⟨RJ41, "<init>", "(Ljava/util/LinkedHashMap;Z)V"⟩
def dkwJ41_init_0 : List UInt8 := [42, 43, 28, 183, 0, 1, 177]
abbrev dktJ41_init_0 : List UInt8 := dkwJ41_init_0 ++ []
theorem dksJ41_init_0 : cJ41_init.data.toList.drop 0 = dktJ41_init_0 := by decide +kernel
theorem dJ41_init_0 : decode cJ41_init 0 = .ok (.aload_n 0, 1) := dk_42 (dk_at dksJ41_init_0 0 rfl rfl)
theorem dJ41_init_1 : decode cJ41_init 1 = .ok (.aload_n 1, 1) := dk_43 (dk_at dksJ41_init_0 1 rfl rfl)
theorem dJ41_init_2 : decode cJ41_init 2 = .ok (.iload_n 2, 1) := dk_28 (dk_at dksJ41_init_0 2 rfl rfl)
theorem dJ41_init_3 : decode cJ41_init 3 = .ok (.invokespecial 1, 3) := dk_183 0 1 (dk_at dksJ41_init_0 3 rfl rfl)
theorem dJ41_init_6 : decode cJ41_init 6 = .ok (.return_, 1) := dk_177 (dk_at dksJ41_init_0 6 rfl rfl)
theorem q140 : (Jvm.Cond.initialized "java/util/LinkedHashMap$LinkedValueIterator") ∈ lw_all := lw_g (lw_at lw_m1 57 rfl) rfl
theorem q336 : (Jvm.Cond.selects "java/util/LinkedHashMap$LinkedValueIterator" ({ cls := "java/lang/Object", name := "getClass", desc := "()Ljava/lang/Class;" } : Jvm.MethodName) ({ cls := "java/lang/Object", name := "getClass", desc := "()Ljava/lang/Class;" } : Jvm.MethodName)) ∈ lw_all := lw_g (lw_at lw_m2 13 rfl) rfl
theorem q1328 : (Jvm.Cond.fieldLink "java/util/LinkedHashMap$LinkedValueIterator" (13 : Nat) "java/util/LinkedHashMap$Entry" "value" "Ljava/lang/Object;") ∈ lw_all := lw_g (lw_at lw_m6 45 rfl) rfl
theorem q1477 : (Jvm.Cond.castable "java/util/LinkedHashMap$LinkedValueIterator" "java/util/Iterator") ∈ lw_tbl := lw_at lw_m6 194 rfl
theorem q1478 : (Jvm.Cond.selects "java/util/LinkedHashMap$LinkedValueIterator" ({ cls := "java/util/Iterator", name := "hasNext", desc := "()Z" } : Jvm.MethodName) ({ cls := "java/util/LinkedHashMap$LinkedHashIterator", name := "hasNext", desc := "()Z" } : Jvm.MethodName)) ∈ lw_all := lw_g (lw_at lw_m6 195 rfl) rfl
theorem q1479 : (Jvm.Cond.unhidden "java/util/LinkedHashMap$LinkedValueIterator" "hasNext" "()Z") ∈ lw_tbl := lw_at lw_m6 196 rfl
theorem q1546 : (Jvm.Cond.selects "java/util/LinkedHashMap$LinkedValueIterator" ({ cls := "java/util/Iterator", name := "next", desc := "()Ljava/lang/Object;" } : Jvm.MethodName) ({ cls := "java/util/LinkedHashMap$LinkedValueIterator", name := "next", desc := "()Ljava/lang/Object;" } : Jvm.MethodName)) ∈ lw_all := lw_g (lw_at lw_m7 23 rfl) rfl
theorem q1547 : (Jvm.Cond.unhidden "java/util/LinkedHashMap$LinkedValueIterator" "next" "()Ljava/lang/Object;") ∈ lw_tbl := lw_at lw_m7 24 rfl
theorem q1548 : (Jvm.Cond.instanceMethod ({ cls := "java/util/LinkedHashMap$LinkedValueIterator", name := "next", desc := "()Ljava/lang/Object;" } : Jvm.MethodName)) ∈ lw_all := lw_g (lw_at lw_m7 25 rfl) rfl
theorem q1549 : (Jvm.Cond.publicMethod ({ cls := "java/util/LinkedHashMap$LinkedValueIterator", name := "next", desc := "()Ljava/lang/Object;" } : Jvm.MethodName)) ∈ lw_tbl := lw_at lw_m7 26 rfl
theorem q1550 : (Jvm.Cond.code ({ cls := "java/util/LinkedHashMap$LinkedValueIterator", name := "next", desc := "()Ljava/lang/Object;" } : Jvm.MethodName) prog_69_method_2_code (1 : Nat) (Option.some (Jvm.ClassFile.FieldType.object "java/lang/Object"))) ∈ lw_all := lw_g (lw_at lw_m7 27 rfl) rfl
theorem q1551 : (Jvm.Cond.methodLink "java/util/LinkedHashMap$LinkedValueIterator" (7 : Nat) ({ cls := "java/util/LinkedHashMap$LinkedValueIterator", name := "nextNode", desc := "()Ljava/util/LinkedHashMap$Entry;" } : Jvm.MethodName)) ∈ lw_all := lw_g (lw_at lw_m7 28 rfl) rfl
theorem q1552 : (Jvm.Cond.sameMethod "java/util/LinkedHashMap$LinkedValueIterator" "java/util/LinkedHashMap$LinkedHashIterator" "nextNode" "()Ljava/util/LinkedHashMap$Entry;") ∈ lw_all := lw_g (lw_at lw_m7 29 rfl) rfl
theorem q1553 : (Jvm.Cond.selects "java/util/LinkedHashMap$LinkedValueIterator" ({ cls := "java/util/LinkedHashMap$LinkedValueIterator", name := "nextNode", desc := "()Ljava/util/LinkedHashMap$Entry;" } : Jvm.MethodName) ({ cls := "java/util/LinkedHashMap$LinkedHashIterator", name := "nextNode", desc := "()Ljava/util/LinkedHashMap$Entry;" } : Jvm.MethodName)) ∈ lw_all := lw_g (lw_at lw_m7 30 rfl) rfl
theorem q1937 : (Jvm.Cond.selects "java/util/LinkedHashMap$LinkedValueIterator" ({ cls := "java/util/Iterator", name := "remove", desc := "()V" } : Jvm.MethodName) ({ cls := "java/util/LinkedHashMap$LinkedHashIterator", name := "remove", desc := "()V" } : Jvm.MethodName)) ∈ lw_all := lw_g (lw_at lw_m8 174 rfl) rfl
theorem q1938 : (Jvm.Cond.unhidden "java/util/LinkedHashMap$LinkedValueIterator" "remove" "()V") ∈ lw_tbl := lw_at lw_m8 175 rfl
theorem q2459 : (Jvm.Cond.instantiable "java/util/LinkedHashMap$LinkedValueIterator" (5 : Nat)) ∈ lw_all := lw_g (lw_at lw_m10 216 rfl) rfl
theorem q2461 : (Jvm.Cond.instanceMethod ({ cls := "java/util/LinkedHashMap$LinkedValueIterator", name := "<init>", desc := "(Ljava/util/LinkedHashMap;Z)V" } : Jvm.MethodName)) ∈ lw_all := lw_g (lw_at lw_m10 218 rfl) rfl
theorem q2462 : (Jvm.Cond.code ({ cls := "java/util/LinkedHashMap$LinkedValueIterator", name := "<init>", desc := "(Ljava/util/LinkedHashMap;Z)V" } : Jvm.MethodName) prog_69_method_1_code (3 : Nat) (Option.none : Option Jvm.ClassFile.FieldType)) ∈ lw_all := lw_g (lw_at lw_m10 219 rfl) rfl
theorem q2463 : (Jvm.Cond.methodLink "java/util/LinkedHashMap$LinkedValueIterator" (1 : Nat) ({ cls := "java/util/LinkedHashMap$LinkedHashIterator", name := "<init>", desc := "(Ljava/util/LinkedHashMap;Z)V" } : Jvm.MethodName)) ∈ lw_all := lw_g (lw_at lw_m10 220 rfl) rfl
theorem q2464 : (Jvm.Cond.lays "java/util/LinkedHashMap$LinkedValueIterator" "java/util/LinkedHashMap$LinkedHashIterator" "next" "Ljava/util/LinkedHashMap$Entry;") ∈ lw_all := lw_g (lw_at lw_m10 221 rfl) rfl
theorem q2465 : (Jvm.Cond.lays "java/util/LinkedHashMap$LinkedValueIterator" "java/util/LinkedHashMap$LinkedHashIterator" "current" "Ljava/util/LinkedHashMap$Entry;") ∈ lw_all := lw_g (lw_at lw_m10 222 rfl) rfl
theorem q2466 : (Jvm.Cond.lays "java/util/LinkedHashMap$LinkedValueIterator" "java/util/LinkedHashMap$LinkedHashIterator" "expectedModCount" "I") ∈ lw_all := lw_g (lw_at lw_m10 223 rfl) rfl
theorem q2467 : (Jvm.Cond.lays "java/util/LinkedHashMap$LinkedValueIterator" "java/util/LinkedHashMap$LinkedHashIterator" "reversed" "Z") ∈ lw_all := lw_g (lw_at lw_m10 224 rfl) rfl
theorem q2468 : (Jvm.Cond.laysFinal "java/util/LinkedHashMap$LinkedValueIterator" "java/util/LinkedHashMap$LinkedHashIterator" "this$0" "Ljava/util/LinkedHashMap;") ∈ lw_all := lw_g (lw_at lw_m10 225 rfl) rfl
theorem q2469 : (Jvm.Cond.superclass "java/util/LinkedHashMap$LinkedValueIterator" "java/util/LinkedHashMap$LinkedHashIterator") ∈ lw_all := lw_g (lw_at lw_m10 226 rfl) rfl
theorem q3145 : (Jvm.Cond.castable "java/util/LinkedHashMap$LinkedValueIterator" "java/lang/Object") ∈ lw_tbl := lw_at lw_m13 182 rfl
theorem in_J41 : ∀ w ∈ wsJ410, w ∈ lw_all := lw_in wsJ410 [2464, 2465, 2466, 2467, 2468] (by decide +kernel) (by decide +kernel)

/-! java/lang/Object -/
set_option maxRecDepth 100000
def RJ43 : String := "java/lang/Object"
abbrev cJ43_init : ByteArray := object_method_1_code
def yJ43_init : MethodName := ⟨RJ43, "<init>", "()V"⟩
theorem dJ43_init_0 : decode cJ43_init 0 = .ok (.return_, 1) := by decide +kernel
abbrev cJ43_equals : ByteArray := object_method_4_code
def yJ43_equals : MethodName := ⟨RJ43, "equals", "(Ljava/lang/Object;)Z"⟩
def dkwJ43_equals_0 : List UInt8 := [42, 43, 166, 0, 7, 4, 167, 0, 4, 3, 172]
abbrev dktJ43_equals_0 : List UInt8 := dkwJ43_equals_0 ++ []
theorem dksJ43_equals_0 : cJ43_equals.data.toList.drop 0 = dktJ43_equals_0 := by decide +kernel
theorem dJ43_equals_0 : decode cJ43_equals 0 = .ok (.aload_n 0, 1) := dk_42 (dk_at dksJ43_equals_0 0 rfl rfl)
theorem dJ43_equals_1 : decode cJ43_equals 1 = .ok (.aload_n 1, 1) := dk_43 (dk_at dksJ43_equals_0 1 rfl rfl)
theorem dJ43_equals_2 : decode cJ43_equals 2 = .ok (.if_acmp .ne 7, 3) := dk_166 0 7 (dk_at dksJ43_equals_0 2 rfl rfl)
theorem dJ43_equals_5 : decode cJ43_equals 5 = .ok (.iconst 1, 1) := dk_4 (dk_at dksJ43_equals_0 5 rfl rfl)
theorem dJ43_equals_6 : decode cJ43_equals 6 = .ok (.goto 4, 3) := dk_167 0 4 (dk_at dksJ43_equals_0 6 rfl rfl)
theorem dJ43_equals_9 : decode cJ43_equals 9 = .ok (.iconst 0, 1) := dk_3 (dk_at dksJ43_equals_0 9 rfl rfl)
theorem dJ43_equals_10 : decode cJ43_equals 10 = .ok (.ireturn, 1) := dk_172 (dk_at dksJ43_equals_0 10 rfl rfl)
theorem q151 : (Jvm.Cond.instanceMethod ({ cls := "java/lang/Object", name := "<init>", desc := "()V" } : Jvm.MethodName)) ∈ lw_all := lw_g (lw_at lw_m1 68 rfl) rfl
theorem q152 : (Jvm.Cond.code ({ cls := "java/lang/Object", name := "<init>", desc := "()V" } : Jvm.MethodName) object_method_1_code (1 : Nat) (Option.none : Option Jvm.ClassFile.FieldType)) ∈ lw_all := lw_g (lw_at lw_m1 69 rfl) rfl
theorem q302 : (Jvm.Cond.instanceMethod ({ cls := "java/lang/Object", name := "getClass", desc := "()Ljava/lang/Class;" } : Jvm.MethodName)) ∈ lw_all := lw_g (lw_at lw_m1 219 rfl) rfl
theorem q303 : (Jvm.Cond.sameMethod "java/lang/Object" "java/lang/Object" "getClass" "()Ljava/lang/Class;") ∈ lw_all := lw_g (lw_at lw_m1 220 rfl) rfl
theorem q340 : (Jvm.Cond.native ({ cls := "java/lang/Object", name := "getClass", desc := "()Ljava/lang/Class;" } : Jvm.MethodName)) ∈ lw_all := lw_g (lw_at lw_m2 17 rfl) rfl
theorem q458 : (Jvm.Cond.declares ({ cls := "java/lang/Object", name := "hashCode", desc := "()I" } : Jvm.MethodName)) ∈ lw_tbl := lw_at lw_m2 135 rfl
theorem q460 : (Jvm.Cond.instanceMethod ({ cls := "java/lang/Object", name := "hashCode", desc := "()I" } : Jvm.MethodName)) ∈ lw_all := lw_g (lw_at lw_m2 137 rfl) rfl
theorem q461 : (Jvm.Cond.sameMethod "java/lang/Object" "java/lang/Object" "hashCode" "()I") ∈ lw_all := lw_g (lw_at lw_m2 138 rfl) rfl
theorem q647 : (Jvm.Cond.native ({ cls := "java/lang/Object", name := "clone", desc := "()Ljava/lang/Object;" } : Jvm.MethodName)) ∈ lw_all := lw_g (lw_at lw_m3 84 rfl) rfl
theorem q648 : (Jvm.Cond.instanceMethod ({ cls := "java/lang/Object", name := "clone", desc := "()Ljava/lang/Object;" } : Jvm.MethodName)) ∈ lw_all := lw_g (lw_at lw_m3 85 rfl) rfl
theorem q842 : (Jvm.Cond.native ({ cls := "java/lang/Object", name := "hashCode", desc := "()I" } : Jvm.MethodName)) ∈ lw_all := lw_g (lw_at lw_m4 39 rfl) rfl
theorem q843 : (Jvm.Cond.declares ({ cls := "java/lang/Object", name := "equals", desc := "(Ljava/lang/Object;)Z" } : Jvm.MethodName)) ∈ lw_tbl := lw_at lw_m4 40 rfl
theorem q845 : (Jvm.Cond.instanceMethod ({ cls := "java/lang/Object", name := "equals", desc := "(Ljava/lang/Object;)Z" } : Jvm.MethodName)) ∈ lw_all := lw_g (lw_at lw_m4 42 rfl) rfl
theorem q846 : (Jvm.Cond.sameMethod "java/lang/Object" "java/lang/Object" "equals" "(Ljava/lang/Object;)Z") ∈ lw_all := lw_g (lw_at lw_m4 43 rfl) rfl
theorem q878 : (Jvm.Cond.code ({ cls := "java/lang/Object", name := "equals", desc := "(Ljava/lang/Object;)Z" } : Jvm.MethodName) object_method_4_code (2 : Nat) (Option.some Jvm.ClassFile.FieldType.boolean)) ∈ lw_all := lw_g (lw_at lw_m4 75 rfl) rfl
theorem q3103 : (Jvm.Cond.initialized "java/lang/Object") ∈ lw_all := lw_g (lw_at lw_m13 140 rfl) rfl
theorem q3155 : (Jvm.Cond.declares ({ cls := "java/lang/Object", name := "getClass", desc := "()Ljava/lang/Class;" } : Jvm.MethodName)) ∈ lw_tbl := lw_at lw_m13 192 rfl
theorem q3163 : (Jvm.Cond.instantiable "java/lang/Object" (0 : Nat)) ∈ lw_all := lw_g (lw_at lw_m13 200 rfl) rfl

theorem q1779 : (Jvm.Cond.interfaceMethod "CueStack$Copied" "CueStack$Copied" "copy" "()Ljava/lang/Object;") ∈ lw_tbl := lw_at lw_m8 16 rfl
set_option maxRecDepth 100000
theorem q1780 : (Jvm.Cond.declares ({ cls := "CueStack$Copied", name := "copy", desc := "()Ljava/lang/Object;" } : Jvm.MethodName)) ∈ lw_tbl := lw_at lw_m8 17 rfl

theorem q2228 : (Jvm.Cond.interfaceMethod "CueStack$Levels" "CueStack$Levels" "of" "(II)I") ∈ lw_tbl := lw_at lw_m9 225 rfl
set_option maxRecDepth 100000
theorem q2229 : (Jvm.Cond.declares ({ cls := "CueStack$Levels", name := "of", desc := "(II)I" } : Jvm.MethodName)) ∈ lw_tbl := lw_at lw_m9 226 rfl

theorem q2058 : (Jvm.Cond.interfaceMethod "CueStack$Test" "CueStack$Test" "holds" "(I)Z") ∈ lw_tbl := lw_at lw_m9 55 rfl
set_option maxRecDepth 100000
theorem q2059 : (Jvm.Cond.declares ({ cls := "CueStack$Test", name := "holds", desc := "(I)Z" } : Jvm.MethodName)) ∈ lw_tbl := lw_at lw_m9 56 rfl

theorem q646 : (Jvm.Cond.sameMethod "[B" "java/lang/Object" "clone" "()Ljava/lang/Object;") ∈ lw_all := lw_g (lw_at lw_m3 83 rfl) rfl
set_option maxRecDepth 100000
theorem q649 : (Jvm.Cond.selects "[B" ({ cls := "[B", name := "clone", desc := "()Ljava/lang/Object;" } : Jvm.MethodName) ({ cls := "java/lang/Object", name := "clone", desc := "()Ljava/lang/Object;" } : Jvm.MethodName)) ∈ lw_all := lw_g (lw_at lw_m3 86 rfl) rfl
theorem q650 : (Jvm.Cond.castable "[B" "java/lang/Cloneable") ∈ lw_tbl := lw_at lw_m3 87 rfl
theorem q3158 : (Jvm.Cond.castable "[B" "java/lang/Object") ∈ lw_tbl := lw_at lw_m13 195 rfl

theorem q3159 : (Jvm.Cond.castable "[C" "java/lang/Object") ∈ lw_tbl := lw_at lw_m13 196 rfl
set_option maxRecDepth 100000

theorem q3156 : (Jvm.Cond.castable "[I" "java/lang/Object") ∈ lw_tbl := lw_at lw_m13 193 rfl
set_option maxRecDepth 100000

theorem q3161 : (Jvm.Cond.castable "[J" "java/lang/Object") ∈ lw_tbl := lw_at lw_m13 198 rfl
set_option maxRecDepth 100000

theorem q3153 : (Jvm.Cond.sameMethod "[Ljava/lang/Object;" "java/lang/Object" "getClass" "()Ljava/lang/Class;") ∈ lw_all := lw_g (lw_at lw_m13 190 rfl) rfl
set_option maxRecDepth 100000
theorem q3154 : (Jvm.Cond.selects "[Ljava/lang/Object;" ({ cls := "java/lang/Object", name := "getClass", desc := "()Ljava/lang/Class;" } : Jvm.MethodName) ({ cls := "java/lang/Object", name := "getClass", desc := "()Ljava/lang/Class;" } : Jvm.MethodName)) ∈ lw_all := lw_g (lw_at lw_m13 191 rfl) rfl
theorem q3157 : (Jvm.Cond.castable "[Ljava/lang/Object;" "java/lang/Object") ∈ lw_tbl := lw_at lw_m13 194 rfl

theorem q3160 : (Jvm.Cond.castable "[Ljava/util/HashMap$Node;" "java/lang/Object") ∈ lw_tbl := lw_at lw_m13 197 rfl
set_option maxRecDepth 100000

theorem q904 : (Jvm.Cond.interfaceMethod "java/lang/Comparable" "java/lang/Comparable" "compareTo" "(Ljava/lang/Object;)I") ∈ lw_tbl := lw_at lw_m4 101 rfl
set_option maxRecDepth 100000
theorem q905 : (Jvm.Cond.declares ({ cls := "java/lang/Comparable", name := "compareTo", desc := "(Ljava/lang/Object;)I" } : Jvm.MethodName)) ∈ lw_tbl := lw_at lw_m4 102 rfl

theorem q118 : (Jvm.Cond.initialized "java/lang/Double") ∈ lw_all := lw_g (lw_at lw_m1 35 rfl) rfl
set_option maxRecDepth 100000
theorem q1259 : (Jvm.Cond.static ({ cls := "java/lang/Double", name := "doubleToRawLongBits", desc := "(D)J" } : Jvm.MethodName)) ∈ lw_all := lw_g (lw_at lw_m5 216 rfl) rfl
theorem q1260 : (Jvm.Cond.native ({ cls := "java/lang/Double", name := "doubleToRawLongBits", desc := "(D)J" } : Jvm.MethodName)) ∈ lw_all := lw_g (lw_at lw_m5 217 rfl) rfl
theorem q1269 : (Jvm.Cond.static ({ cls := "java/lang/Double", name := "longBitsToDouble", desc := "(J)D" } : Jvm.MethodName)) ∈ lw_all := lw_g (lw_at lw_m5 226 rfl) rfl
theorem q1270 : (Jvm.Cond.native ({ cls := "java/lang/Double", name := "longBitsToDouble", desc := "(J)D" } : Jvm.MethodName)) ∈ lw_all := lw_g (lw_at lw_m5 227 rfl) rfl

theorem q110 : (Jvm.Cond.initialized "java/lang/Number") ∈ lw_all := lw_g (lw_at lw_m1 27 rfl) rfl
set_option maxRecDepth 100000

theorem q96 : (Jvm.Cond.initialized "java/lang/System") ∈ lw_all := lw_g (lw_at lw_m1 13 rfl) rfl
set_option maxRecDepth 100000
theorem q351 : (Jvm.Cond.static ({ cls := "java/lang/System", name := "arraycopy", desc := "(Ljava/lang/Object;ILjava/lang/Object;II)V" } : Jvm.MethodName)) ∈ lw_all := lw_g (lw_at lw_m2 28 rfl) rfl
theorem q352 : (Jvm.Cond.native ({ cls := "java/lang/System", name := "arraycopy", desc := "(Ljava/lang/Object;ILjava/lang/Object;II)V" } : Jvm.MethodName)) ∈ lw_all := lw_g (lw_at lw_m2 29 rfl) rfl

theorem q2421 : (Jvm.Cond.interfaceMethod "java/util/Collection" "java/util/Collection" "iterator" "()Ljava/util/Iterator;") ∈ lw_tbl := lw_at lw_m10 178 rfl
set_option maxRecDepth 100000
theorem q2422 : (Jvm.Cond.declares ({ cls := "java/util/Collection", name := "iterator", desc := "()Ljava/util/Iterator;" } : Jvm.MethodName)) ∈ lw_tbl := lw_at lw_m10 179 rfl

theorem q1460 : (Jvm.Cond.interfaceMethod "java/util/Iterator" "java/util/Iterator" "hasNext" "()Z") ∈ lw_tbl := lw_at lw_m6 177 rfl
set_option maxRecDepth 100000
theorem q1461 : (Jvm.Cond.declares ({ cls := "java/util/Iterator", name := "hasNext", desc := "()Z" } : Jvm.MethodName)) ∈ lw_tbl := lw_at lw_m6 178 rfl
theorem q1482 : (Jvm.Cond.interfaceMethod "java/util/Iterator" "java/util/Iterator" "next" "()Ljava/lang/Object;") ∈ lw_tbl := lw_at lw_m6 199 rfl
theorem q1483 : (Jvm.Cond.declares ({ cls := "java/util/Iterator", name := "next", desc := "()Ljava/lang/Object;" } : Jvm.MethodName)) ∈ lw_tbl := lw_at lw_m6 200 rfl
theorem q1883 : (Jvm.Cond.interfaceMethod "java/util/Iterator" "java/util/Iterator" "remove" "()V") ∈ lw_tbl := lw_at lw_m8 120 rfl
theorem q1884 : (Jvm.Cond.declares ({ cls := "java/util/Iterator", name := "remove", desc := "()V" } : Jvm.MethodName)) ∈ lw_tbl := lw_at lw_m8 121 rfl

theorem q1237 : (Jvm.Cond.interfaceMethod "java/util/Map" "java/util/Map" "size" "()I") ∈ lw_tbl := lw_at lw_m5 194 rfl
set_option maxRecDepth 100000
theorem q1238 : (Jvm.Cond.declares ({ cls := "java/util/Map", name := "size", desc := "()I" } : Jvm.MethodName)) ∈ lw_tbl := lw_at lw_m5 195 rfl
theorem q1377 : (Jvm.Cond.interfaceMethod "java/util/Map" "java/util/Map" "entrySet" "()Ljava/util/Set;") ∈ lw_tbl := lw_at lw_m6 94 rfl
theorem q1378 : (Jvm.Cond.declares ({ cls := "java/util/Map", name := "entrySet", desc := "()Ljava/util/Set;" } : Jvm.MethodName)) ∈ lw_tbl := lw_at lw_m6 95 rfl

theorem q1557 : (Jvm.Cond.interfaceMethod "java/util/Map$Entry" "java/util/Map$Entry" "getKey" "()Ljava/lang/Object;") ∈ lw_tbl := lw_at lw_m7 34 rfl
set_option maxRecDepth 100000
theorem q1558 : (Jvm.Cond.declares ({ cls := "java/util/Map$Entry", name := "getKey", desc := "()Ljava/lang/Object;" } : Jvm.MethodName)) ∈ lw_tbl := lw_at lw_m7 35 rfl
theorem q1571 : (Jvm.Cond.interfaceMethod "java/util/Map$Entry" "java/util/Map$Entry" "getValue" "()Ljava/lang/Object;") ∈ lw_tbl := lw_at lw_m7 48 rfl
theorem q1572 : (Jvm.Cond.declares ({ cls := "java/util/Map$Entry", name := "getValue", desc := "()Ljava/lang/Object;" } : Jvm.MethodName)) ∈ lw_tbl := lw_at lw_m7 49 rfl

theorem q1407 : (Jvm.Cond.interfaceMethod "java/util/Set" "java/util/Set" "iterator" "()Ljava/util/Iterator;") ∈ lw_tbl := lw_at lw_m6 124 rfl
set_option maxRecDepth 100000
theorem q1408 : (Jvm.Cond.declares ({ cls := "java/util/Set", name := "iterator", desc := "()Ljava/util/Iterator;" } : Jvm.MethodName)) ∈ lw_tbl := lw_at lw_m6 125 rfl

theorem q507 : (Jvm.Cond.interfaceMethod "jdk/internal/access/JavaLangAccess" "jdk/internal/access/JavaLangAccess" "getUTF16Char" "([BI)C") ∈ lw_tbl := lw_at lw_m2 184 rfl
set_option maxRecDepth 100000
theorem q508 : (Jvm.Cond.declares ({ cls := "jdk/internal/access/JavaLangAccess", name := "getUTF16Char", desc := "([BI)C" } : Jvm.MethodName)) ∈ lw_tbl := lw_at lw_m2 185 rfl

theorem q113 : (Jvm.Cond.initialized "jdk/internal/misc/UnsafeConstants") ∈ lw_all := lw_g (lw_at lw_m1 30 rfl) rfl
set_option maxRecDepth 100000
theorem q963 : (Jvm.Cond.laysStatic "jdk/internal/misc/UnsafeConstants" "BIG_ENDIAN" "Z") ∈ lw_tbl := lw_at lw_m4 160 rfl

theorem q271 : (Jvm.Cond.arrayClass Jvm.ClassFile.FieldType.int) ∈ lw_all := lw_g (lw_at lw_m1 188 rfl) rfl
set_option maxRecDepth 100000
theorem q345 : (Jvm.Cond.arrayOver (Jvm.ClassFile.FieldType.object "java/lang/Object")) ∈ lw_tbl := lw_at lw_m2 22 rfl
theorem q619 : (Jvm.Cond.arrayClass Jvm.ClassFile.FieldType.byte) ∈ lw_all := lw_g (lw_at lw_m3 56 rfl) rfl
theorem q1139 : (Jvm.Cond.arrayClass Jvm.ClassFile.FieldType.char) ∈ lw_all := lw_g (lw_at lw_m5 96 rfl) rfl
theorem q1285 : (Jvm.Cond.arrayOver (Jvm.ClassFile.FieldType.object "java/util/HashMap$Node")) ∈ lw_tbl := lw_at lw_m6 2 rfl
theorem q3088 : (Jvm.Cond.arrayClass Jvm.ClassFile.FieldType.long) ∈ lw_all := lw_g (lw_at lw_m13 125 rfl) rfl
theorem q3162 : (Jvm.Cond.arrayClass Jvm.ClassFile.FieldType.short) ∈ lw_all := lw_g (lw_at lw_m13 199 rfl) rfl

