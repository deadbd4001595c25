/-! java/util/LinkedHashMap -/
set_option maxRecDepth 100000
def RJ5 : String := "java/util/LinkedHashMap"
def TJ5 : u_T := fun k => match k with
  | 0 => ("java/util/HashMap", "table", "[Ljava/util/HashMap$Node;", false)
  | 1 => ("java/util/HashMap", "entrySet", "Ljava/util/Set;", false)
  | 2 => ("java/util/HashMap", "size", "I", false)
  | 3 => ("java/util/HashMap", "modCount", "I", false)
  | 4 => ("java/util/HashMap", "threshold", "I", false)
  | 5 => ("java/util/HashMap", "loadFactor", "F", true)
  | 6 => ("java/util/AbstractMap", "keySet", "Ljava/util/Set;", false)
  | 7 => ("java/util/AbstractMap", "values", "Ljava/util/Collection;", false)
  | 8 => ("java/util/LinkedHashMap", "head", "Ljava/util/LinkedHashMap$Entry;", false)
  | 9 => ("java/util/LinkedHashMap", "tail", "Ljava/util/LinkedHashMap$Entry;", false)
  | 10 => ("java/util/LinkedHashMap", "accessOrder", "Z", true)
  | _ => ("java/util/LinkedHashMap", "putMode", "I", false)
def tyJ5 : Nat → FieldType := fun k => match k with
  | 0 => .array (.object "java/util/HashMap$Node")
  | 1 => .object "java/util/Set"
  | 2 => .int
  | 3 => .int
  | 4 => .int
  | 5 => .float
  | 6 => .object "java/util/Set"
  | 7 => .object "java/util/Collection"
  | 8 => .object "java/util/LinkedHashMap$Entry"
  | 9 => .object "java/util/LinkedHashMap$Entry"
  | 10 => .boolean
  | _ => .int
abbrev wsJ50 : List Cond := u_ws RJ5 TJ5 12
theorem nmJ5 : ∀ a, a < 12 → ∀ b, b < 12 → a ≠ b → (TJ5 a).2.1 ≠ (TJ5 b).2.1 := by decide +kernel
theorem tyJ5_ok : ∀ k, k < 12 → parseFieldDescriptor (TJ5 k).2.2.1 = some (tyJ5 k) := by decide +kernel
abbrev cJ5_init : ByteArray := prog_62_method_16_code
def yJ5_init : MethodName := ⟨RJ5, "<init>", "()V"⟩
def dkwJ5_init_0 : List UInt8 := [42, 183, 0, 87, 42, 3, 181, 0, 1, 42, 3, 181, 0, 64, 177]
abbrev dktJ5_init_0 : List UInt8 := dkwJ5_init_0 ++ []
theorem dksJ5_init_0 : cJ5_init.data.toList.drop 0 = dktJ5_init_0 := by decide +kernel
theorem dJ5_init_0 : decode cJ5_init 0 = .ok (.aload_n 0, 1) := dk_42 (dk_at dksJ5_init_0 0 rfl rfl)
theorem dJ5_init_1 : decode cJ5_init 1 = .ok (.invokespecial 87, 3) := dk_183 0 87 (dk_at dksJ5_init_0 1 rfl rfl)
theorem dJ5_init_4 : decode cJ5_init 4 = .ok (.aload_n 0, 1) := dk_42 (dk_at dksJ5_init_0 4 rfl rfl)
theorem dJ5_init_5 : decode cJ5_init 5 = .ok (.iconst 0, 1) := dk_3 (dk_at dksJ5_init_0 5 rfl rfl)
theorem dJ5_init_6 : decode cJ5_init 6 = .ok (.putfield 1, 3) := dk_181 0 1 (dk_at dksJ5_init_0 6 rfl rfl)
theorem dJ5_init_9 : decode cJ5_init 9 = .ok (.aload_n 0, 1) := dk_42 (dk_at dksJ5_init_0 9 rfl rfl)
theorem dJ5_init_10 : decode cJ5_init 10 = .ok (.iconst 0, 1) := dk_3 (dk_at dksJ5_init_0 10 rfl rfl)
theorem dJ5_init_11 : decode cJ5_init 11 = .ok (.putfield 64, 3) := dk_181 0 64 (dk_at dksJ5_init_0 11 rfl rfl)
theorem dJ5_init_14 : decode cJ5_init 14 = .ok (.return_, 1) := dk_177 (dk_at dksJ5_init_0 14 rfl rfl)
abbrev cJ5_get : ByteArray := prog_62_method_20_code
def yJ5_get : MethodName := ⟨RJ5, "get", "(Ljava/lang/Object;)Ljava/lang/Object;"⟩
def dkwJ5_get_1 : List UInt8 := [44, 180, 0, 107, 176]
abbrev dktJ5_get_1 : List UInt8 := dkwJ5_get_1 ++ []
def dkwJ5_get_0 : List UInt8 := [42, 43, 182, 0, 99, 89, 77, 199, 0, 5, 1, 176, 42, 180, 0, 64, 153, 0, 8, 42, 44, 182, 0, 103]
abbrev dktJ5_get_0 : List UInt8 := dkwJ5_get_0 ++ dktJ5_get_1
theorem dksJ5_get_0 : cJ5_get.data.toList.drop 0 = dktJ5_get_0 := by decide +kernel
theorem dksJ5_get_1 : cJ5_get.data.toList.drop 24 = dktJ5_get_1 := dk_seg dksJ5_get_0 24 rfl rfl
theorem dJ5_get_0 : decode cJ5_get 0 = .ok (.aload_n 0, 1) := dk_42 (dk_at dksJ5_get_0 0 rfl rfl)
theorem dJ5_get_1 : decode cJ5_get 1 = .ok (.aload_n 1, 1) := dk_43 (dk_at dksJ5_get_0 1 rfl rfl)
theorem dJ5_get_2 : decode cJ5_get 2 = .ok (.invokevirtual 99, 3) := dk_182 0 99 (dk_at dksJ5_get_0 2 rfl rfl)
theorem dJ5_get_5 : decode cJ5_get 5 = .ok (.dup, 1) := dk_89 (dk_at dksJ5_get_0 5 rfl rfl)
theorem dJ5_get_6 : decode cJ5_get 6 = .ok (.astore_n 2, 1) := dk_77 (dk_at dksJ5_get_0 6 rfl rfl)
theorem dJ5_get_7 : decode cJ5_get 7 = .ok (.ifnonnull 5, 3) := dk_199 0 5 (dk_at dksJ5_get_0 7 rfl rfl)
theorem dJ5_get_10 : decode cJ5_get 10 = .ok (.aconst_null, 1) := dk_1 (dk_at dksJ5_get_0 10 rfl rfl)
theorem dJ5_get_11 : decode cJ5_get 11 = .ok (.areturn, 1) := dk_176 (dk_at dksJ5_get_0 11 rfl rfl)
theorem dJ5_get_12 : decode cJ5_get 12 = .ok (.aload_n 0, 1) := dk_42 (dk_at dksJ5_get_0 12 rfl rfl)
theorem dJ5_get_13 : decode cJ5_get 13 = .ok (.getfield 64, 3) := dk_180 0 64 (dk_at dksJ5_get_0 13 rfl rfl)
theorem dJ5_get_16 : decode cJ5_get 16 = .ok (.ifCond .eq 8, 3) := dk_153 0 8 (dk_at dksJ5_get_0 16 rfl rfl)
theorem dJ5_get_19 : decode cJ5_get 19 = .ok (.aload_n 0, 1) := dk_42 (dk_at dksJ5_get_0 19 rfl rfl)
theorem dJ5_get_20 : decode cJ5_get 20 = .ok (.aload_n 2, 1) := dk_44 (dk_at dksJ5_get_0 20 rfl rfl)
theorem dJ5_get_21 : decode cJ5_get 21 = .ok (.invokevirtual 103, 3) := dk_182 0 103 (dk_at dksJ5_get_0 21 rfl rfl)
theorem dJ5_get_24 : decode cJ5_get 24 = .ok (.aload_n 2, 1) := dk_44 (dk_at dksJ5_get_1 0 rfl rfl)
theorem dJ5_get_25 : decode cJ5_get 25 = .ok (.getfield 107, 3) := dk_180 0 107 (dk_at dksJ5_get_1 1 rfl rfl)
theorem dJ5_get_28 : decode cJ5_get 28 = .ok (.areturn, 1) := dk_176 (dk_at dksJ5_get_1 4 rfl rfl)
abbrev cJ5_afterNodeAccess : ByteArray := prog_62_method_10_code
def yJ5_afterNodeAccess : MethodName := ⟨RJ5, "afterNodeAccess", "(Ljava/util/HashMap$Node;)V"⟩
def dkwJ5_afterNodeAccess_11 : List UInt8 := [181, 0, 7, 42, 89, 180, 0, 68, 4, 96, 181, 0, 68, 177]
abbrev dktJ5_afterNodeAccess_11 : List UInt8 := dkwJ5_afterNodeAccess_11 ++ []
def dkwJ5_afterNodeAccess_10 : List UInt8 := [25, 4, 181, 0, 11, 167, 0, 15, 25, 4, 45, 181, 0, 14, 45, 25, 4, 181, 0, 19, 42, 25, 4]
abbrev dktJ5_afterNodeAccess_10 : List UInt8 := dkwJ5_afterNodeAccess_10 ++ dktJ5_afterNodeAccess_11
def dkwJ5_afterNodeAccess_9 : List UInt8 := [25, 5, 198, 0, 13, 25, 5, 25, 6, 181, 0, 14, 167, 0, 6, 25, 6, 78, 45, 199, 0, 12, 42]
abbrev dktJ5_afterNodeAccess_9 : List UInt8 := dkwJ5_afterNodeAccess_9 ++ dktJ5_afterNodeAccess_10
def dkwJ5_afterNodeAccess_8 : List UInt8 := [181, 0, 19, 25, 6, 199, 0, 12, 42, 25, 5, 181, 0, 11, 167, 0, 10, 25, 6, 25, 5, 181, 0, 19]
abbrev dktJ5_afterNodeAccess_8 : List UInt8 := dkwJ5_afterNodeAccess_8 ++ dktJ5_afterNodeAccess_9
def dkwJ5_afterNodeAccess_7 : List UInt8 := [43, 192, 0, 15, 58, 4, 25, 4, 180, 0, 19, 58, 5, 25, 4, 180, 0, 14, 58, 6, 25, 4, 1]
abbrev dktJ5_afterNodeAccess_7 : List UInt8 := dkwJ5_afterNodeAccess_7 ++ dktJ5_afterNodeAccess_8
def dkwJ5_afterNodeAccess_6 : List UInt8 := [181, 0, 68, 167, 0, 127, 42, 180, 0, 1, 4, 160, 0, 119, 42, 180, 0, 7, 89, 78, 43, 165, 0, 109]
abbrev dktJ5_afterNodeAccess_6 : List UInt8 := dkwJ5_afterNodeAccess_6 ++ dktJ5_afterNodeAccess_7
def dkwJ5_afterNodeAccess_5 : List UInt8 := [181, 0, 19, 44, 25, 4, 181, 0, 14, 42, 25, 4, 181, 0, 11, 42, 89, 180, 0, 68, 4, 96]
abbrev dktJ5_afterNodeAccess_5 : List UInt8 := dkwJ5_afterNodeAccess_5 ++ dktJ5_afterNodeAccess_6
def dkwJ5_afterNodeAccess_4 : List UInt8 := [167, 0, 6, 25, 5, 77, 44, 199, 0, 12, 42, 25, 4, 181, 0, 7, 167, 0, 15, 25, 4, 44]
abbrev dktJ5_afterNodeAccess_4 : List UInt8 := dkwJ5_afterNodeAccess_4 ++ dktJ5_afterNodeAccess_5
def dkwJ5_afterNodeAccess_3 : List UInt8 := [167, 0, 10, 25, 5, 25, 6, 181, 0, 14, 25, 6, 198, 0, 13, 25, 6, 25, 5, 181, 0, 19]
abbrev dktJ5_afterNodeAccess_3 : List UInt8 := dkwJ5_afterNodeAccess_3 ++ dktJ5_afterNodeAccess_4
def dkwJ5_afterNodeAccess_2 : List UInt8 := [180, 0, 14, 58, 6, 25, 4, 1, 181, 0, 14, 25, 5, 199, 0, 12, 42, 25, 6, 181, 0, 7]
abbrev dktJ5_afterNodeAccess_2 : List UInt8 := dkwJ5_afterNodeAccess_2 ++ dktJ5_afterNodeAccess_3
def dkwJ5_afterNodeAccess_1 : List UInt8 := [180, 0, 11, 89, 77, 43, 165, 0, 112, 43, 192, 0, 15, 58, 4, 25, 4, 180, 0, 19, 58, 5, 25, 4]
abbrev dktJ5_afterNodeAccess_1 : List UInt8 := dkwJ5_afterNodeAccess_1 ++ dktJ5_afterNodeAccess_2
def dkwJ5_afterNodeAccess_0 : List UInt8 := [42, 180, 0, 1, 5, 159, 0, 17, 42, 180, 0, 1, 154, 0, 129, 42, 180, 0, 64, 153, 0, 122, 42]
abbrev dktJ5_afterNodeAccess_0 : List UInt8 := dkwJ5_afterNodeAccess_0 ++ dktJ5_afterNodeAccess_1
theorem dksJ5_afterNodeAccess_0 : cJ5_afterNodeAccess.data.toList.drop 0 = dktJ5_afterNodeAccess_0 := by decide +kernel
theorem dksJ5_afterNodeAccess_1 : cJ5_afterNodeAccess.data.toList.drop 23 = dktJ5_afterNodeAccess_1 := dk_seg dksJ5_afterNodeAccess_0 23 rfl rfl
theorem dksJ5_afterNodeAccess_2 : cJ5_afterNodeAccess.data.toList.drop 47 = dktJ5_afterNodeAccess_2 := dk_seg dksJ5_afterNodeAccess_1 24 rfl rfl
theorem dksJ5_afterNodeAccess_3 : cJ5_afterNodeAccess.data.toList.drop 69 = dktJ5_afterNodeAccess_3 := dk_seg dksJ5_afterNodeAccess_2 22 rfl rfl
theorem dksJ5_afterNodeAccess_4 : cJ5_afterNodeAccess.data.toList.drop 91 = dktJ5_afterNodeAccess_4 := dk_seg dksJ5_afterNodeAccess_3 22 rfl rfl
theorem dksJ5_afterNodeAccess_5 : cJ5_afterNodeAccess.data.toList.drop 113 = dktJ5_afterNodeAccess_5 := dk_seg dksJ5_afterNodeAccess_4 22 rfl rfl
theorem dksJ5_afterNodeAccess_6 : cJ5_afterNodeAccess.data.toList.drop 135 = dktJ5_afterNodeAccess_6 := dk_seg dksJ5_afterNodeAccess_5 22 rfl rfl
theorem dksJ5_afterNodeAccess_7 : cJ5_afterNodeAccess.data.toList.drop 159 = dktJ5_afterNodeAccess_7 := dk_seg dksJ5_afterNodeAccess_6 24 rfl rfl
theorem dksJ5_afterNodeAccess_8 : cJ5_afterNodeAccess.data.toList.drop 182 = dktJ5_afterNodeAccess_8 := dk_seg dksJ5_afterNodeAccess_7 23 rfl rfl
theorem dksJ5_afterNodeAccess_9 : cJ5_afterNodeAccess.data.toList.drop 206 = dktJ5_afterNodeAccess_9 := dk_seg dksJ5_afterNodeAccess_8 24 rfl rfl
theorem dksJ5_afterNodeAccess_10 : cJ5_afterNodeAccess.data.toList.drop 229 = dktJ5_afterNodeAccess_10 := dk_seg dksJ5_afterNodeAccess_9 23 rfl rfl
theorem dksJ5_afterNodeAccess_11 : cJ5_afterNodeAccess.data.toList.drop 252 = dktJ5_afterNodeAccess_11 := dk_seg dksJ5_afterNodeAccess_10 23 rfl rfl
theorem dJ5_afterNodeAccess_0 : decode cJ5_afterNodeAccess 0 = .ok (.aload_n 0, 1) := dk_42 (dk_at dksJ5_afterNodeAccess_0 0 rfl rfl)
theorem dJ5_afterNodeAccess_1 : decode cJ5_afterNodeAccess 1 = .ok (.getfield 1, 3) := dk_180 0 1 (dk_at dksJ5_afterNodeAccess_0 1 rfl rfl)
theorem dJ5_afterNodeAccess_4 : decode cJ5_afterNodeAccess 4 = .ok (.iconst 2, 1) := dk_5 (dk_at dksJ5_afterNodeAccess_0 4 rfl rfl)
theorem dJ5_afterNodeAccess_5 : decode cJ5_afterNodeAccess 5 = .ok (.if_icmp .eq 17, 3) := dk_159 0 17 (dk_at dksJ5_afterNodeAccess_0 5 rfl rfl)
theorem dJ5_afterNodeAccess_8 : decode cJ5_afterNodeAccess 8 = .ok (.aload_n 0, 1) := dk_42 (dk_at dksJ5_afterNodeAccess_0 8 rfl rfl)
theorem dJ5_afterNodeAccess_9 : decode cJ5_afterNodeAccess 9 = .ok (.getfield 1, 3) := dk_180 0 1 (dk_at dksJ5_afterNodeAccess_0 9 rfl rfl)
theorem dJ5_afterNodeAccess_12 : decode cJ5_afterNodeAccess 12 = .ok (.ifCond .ne 129, 3) := dk_154 0 129 (dk_at dksJ5_afterNodeAccess_0 12 rfl rfl)
theorem dJ5_afterNodeAccess_15 : decode cJ5_afterNodeAccess 15 = .ok (.aload_n 0, 1) := dk_42 (dk_at dksJ5_afterNodeAccess_0 15 rfl rfl)
theorem dJ5_afterNodeAccess_16 : decode cJ5_afterNodeAccess 16 = .ok (.getfield 64, 3) := dk_180 0 64 (dk_at dksJ5_afterNodeAccess_0 16 rfl rfl)
theorem dJ5_afterNodeAccess_19 : decode cJ5_afterNodeAccess 19 = .ok (.ifCond .eq 122, 3) := dk_153 0 122 (dk_at dksJ5_afterNodeAccess_0 19 rfl rfl)
theorem dJ5_afterNodeAccess_22 : decode cJ5_afterNodeAccess 22 = .ok (.aload_n 0, 1) := dk_42 (dk_at dksJ5_afterNodeAccess_0 22 rfl rfl)
theorem dJ5_afterNodeAccess_23 : decode cJ5_afterNodeAccess 23 = .ok (.getfield 11, 3) := dk_180 0 11 (dk_at dksJ5_afterNodeAccess_1 0 rfl rfl)
theorem dJ5_afterNodeAccess_26 : decode cJ5_afterNodeAccess 26 = .ok (.dup, 1) := dk_89 (dk_at dksJ5_afterNodeAccess_1 3 rfl rfl)
theorem dJ5_afterNodeAccess_27 : decode cJ5_afterNodeAccess 27 = .ok (.astore_n 2, 1) := dk_77 (dk_at dksJ5_afterNodeAccess_1 4 rfl rfl)
theorem dJ5_afterNodeAccess_28 : decode cJ5_afterNodeAccess 28 = .ok (.aload_n 1, 1) := dk_43 (dk_at dksJ5_afterNodeAccess_1 5 rfl rfl)
theorem dJ5_afterNodeAccess_29 : decode cJ5_afterNodeAccess 29 = .ok (.if_acmp .eq 112, 3) := dk_165 0 112 (dk_at dksJ5_afterNodeAccess_1 6 rfl rfl)
theorem dJ5_afterNodeAccess_32 : decode cJ5_afterNodeAccess 32 = .ok (.aload_n 1, 1) := dk_43 (dk_at dksJ5_afterNodeAccess_1 9 rfl rfl)
theorem dJ5_afterNodeAccess_33 : decode cJ5_afterNodeAccess 33 = .ok (.checkcast 15, 3) := dk_192 0 15 (dk_at dksJ5_afterNodeAccess_1 10 rfl rfl)
theorem dJ5_afterNodeAccess_36 : decode cJ5_afterNodeAccess 36 = .ok (.astore 4, 2) := dk_58 4 (dk_at dksJ5_afterNodeAccess_1 13 rfl rfl)
theorem dJ5_afterNodeAccess_38 : decode cJ5_afterNodeAccess 38 = .ok (.aload 4, 2) := dk_25 4 (dk_at dksJ5_afterNodeAccess_1 15 rfl rfl)
theorem dJ5_afterNodeAccess_40 : decode cJ5_afterNodeAccess 40 = .ok (.getfield 19, 3) := dk_180 0 19 (dk_at dksJ5_afterNodeAccess_1 17 rfl rfl)
theorem dJ5_afterNodeAccess_43 : decode cJ5_afterNodeAccess 43 = .ok (.astore 5, 2) := dk_58 5 (dk_at dksJ5_afterNodeAccess_1 20 rfl rfl)
theorem dJ5_afterNodeAccess_45 : decode cJ5_afterNodeAccess 45 = .ok (.aload 4, 2) := dk_25 4 (dk_at dksJ5_afterNodeAccess_1 22 rfl rfl)
theorem dJ5_afterNodeAccess_47 : decode cJ5_afterNodeAccess 47 = .ok (.getfield 14, 3) := dk_180 0 14 (dk_at dksJ5_afterNodeAccess_2 0 rfl rfl)
theorem dJ5_afterNodeAccess_50 : decode cJ5_afterNodeAccess 50 = .ok (.astore 6, 2) := dk_58 6 (dk_at dksJ5_afterNodeAccess_2 3 rfl rfl)
theorem dJ5_afterNodeAccess_52 : decode cJ5_afterNodeAccess 52 = .ok (.aload 4, 2) := dk_25 4 (dk_at dksJ5_afterNodeAccess_2 5 rfl rfl)
theorem dJ5_afterNodeAccess_54 : decode cJ5_afterNodeAccess 54 = .ok (.aconst_null, 1) := dk_1 (dk_at dksJ5_afterNodeAccess_2 7 rfl rfl)
theorem dJ5_afterNodeAccess_55 : decode cJ5_afterNodeAccess 55 = .ok (.putfield 14, 3) := dk_181 0 14 (dk_at dksJ5_afterNodeAccess_2 8 rfl rfl)
theorem dJ5_afterNodeAccess_58 : decode cJ5_afterNodeAccess 58 = .ok (.aload 5, 2) := dk_25 5 (dk_at dksJ5_afterNodeAccess_2 11 rfl rfl)
theorem dJ5_afterNodeAccess_60 : decode cJ5_afterNodeAccess 60 = .ok (.ifnonnull 12, 3) := dk_199 0 12 (dk_at dksJ5_afterNodeAccess_2 13 rfl rfl)
theorem dJ5_afterNodeAccess_63 : decode cJ5_afterNodeAccess 63 = .ok (.aload_n 0, 1) := dk_42 (dk_at dksJ5_afterNodeAccess_2 16 rfl rfl)
theorem dJ5_afterNodeAccess_64 : decode cJ5_afterNodeAccess 64 = .ok (.aload 6, 2) := dk_25 6 (dk_at dksJ5_afterNodeAccess_2 17 rfl rfl)
theorem dJ5_afterNodeAccess_66 : decode cJ5_afterNodeAccess 66 = .ok (.putfield 7, 3) := dk_181 0 7 (dk_at dksJ5_afterNodeAccess_2 19 rfl rfl)
theorem dJ5_afterNodeAccess_69 : decode cJ5_afterNodeAccess 69 = .ok (.goto 10, 3) := dk_167 0 10 (dk_at dksJ5_afterNodeAccess_3 0 rfl rfl)
theorem dJ5_afterNodeAccess_72 : decode cJ5_afterNodeAccess 72 = .ok (.aload 5, 2) := dk_25 5 (dk_at dksJ5_afterNodeAccess_3 3 rfl rfl)
theorem dJ5_afterNodeAccess_74 : decode cJ5_afterNodeAccess 74 = .ok (.aload 6, 2) := dk_25 6 (dk_at dksJ5_afterNodeAccess_3 5 rfl rfl)
theorem dJ5_afterNodeAccess_76 : decode cJ5_afterNodeAccess 76 = .ok (.putfield 14, 3) := dk_181 0 14 (dk_at dksJ5_afterNodeAccess_3 7 rfl rfl)
theorem dJ5_afterNodeAccess_79 : decode cJ5_afterNodeAccess 79 = .ok (.aload 6, 2) := dk_25 6 (dk_at dksJ5_afterNodeAccess_3 10 rfl rfl)
theorem dJ5_afterNodeAccess_81 : decode cJ5_afterNodeAccess 81 = .ok (.ifnull 13, 3) := dk_198 0 13 (dk_at dksJ5_afterNodeAccess_3 12 rfl rfl)
theorem dJ5_afterNodeAccess_84 : decode cJ5_afterNodeAccess 84 = .ok (.aload 6, 2) := dk_25 6 (dk_at dksJ5_afterNodeAccess_3 15 rfl rfl)
theorem dJ5_afterNodeAccess_86 : decode cJ5_afterNodeAccess 86 = .ok (.aload 5, 2) := dk_25 5 (dk_at dksJ5_afterNodeAccess_3 17 rfl rfl)
theorem dJ5_afterNodeAccess_88 : decode cJ5_afterNodeAccess 88 = .ok (.putfield 19, 3) := dk_181 0 19 (dk_at dksJ5_afterNodeAccess_3 19 rfl rfl)
theorem dJ5_afterNodeAccess_91 : decode cJ5_afterNodeAccess 91 = .ok (.goto 6, 3) := dk_167 0 6 (dk_at dksJ5_afterNodeAccess_4 0 rfl rfl)
theorem dJ5_afterNodeAccess_94 : decode cJ5_afterNodeAccess 94 = .ok (.aload 5, 2) := dk_25 5 (dk_at dksJ5_afterNodeAccess_4 3 rfl rfl)
theorem dJ5_afterNodeAccess_96 : decode cJ5_afterNodeAccess 96 = .ok (.astore_n 2, 1) := dk_77 (dk_at dksJ5_afterNodeAccess_4 5 rfl rfl)
theorem dJ5_afterNodeAccess_97 : decode cJ5_afterNodeAccess 97 = .ok (.aload_n 2, 1) := dk_44 (dk_at dksJ5_afterNodeAccess_4 6 rfl rfl)
theorem dJ5_afterNodeAccess_98 : decode cJ5_afterNodeAccess 98 = .ok (.ifnonnull 12, 3) := dk_199 0 12 (dk_at dksJ5_afterNodeAccess_4 7 rfl rfl)
theorem dJ5_afterNodeAccess_101 : decode cJ5_afterNodeAccess 101 = .ok (.aload_n 0, 1) := dk_42 (dk_at dksJ5_afterNodeAccess_4 10 rfl rfl)
theorem dJ5_afterNodeAccess_102 : decode cJ5_afterNodeAccess 102 = .ok (.aload 4, 2) := dk_25 4 (dk_at dksJ5_afterNodeAccess_4 11 rfl rfl)
theorem dJ5_afterNodeAccess_104 : decode cJ5_afterNodeAccess 104 = .ok (.putfield 7, 3) := dk_181 0 7 (dk_at dksJ5_afterNodeAccess_4 13 rfl rfl)
theorem dJ5_afterNodeAccess_107 : decode cJ5_afterNodeAccess 107 = .ok (.goto 15, 3) := dk_167 0 15 (dk_at dksJ5_afterNodeAccess_4 16 rfl rfl)
theorem dJ5_afterNodeAccess_110 : decode cJ5_afterNodeAccess 110 = .ok (.aload 4, 2) := dk_25 4 (dk_at dksJ5_afterNodeAccess_4 19 rfl rfl)
theorem dJ5_afterNodeAccess_112 : decode cJ5_afterNodeAccess 112 = .ok (.aload_n 2, 1) := dk_44 (dk_at dksJ5_afterNodeAccess_4 21 rfl rfl)
theorem dJ5_afterNodeAccess_113 : decode cJ5_afterNodeAccess 113 = .ok (.putfield 19, 3) := dk_181 0 19 (dk_at dksJ5_afterNodeAccess_5 0 rfl rfl)
theorem dJ5_afterNodeAccess_116 : decode cJ5_afterNodeAccess 116 = .ok (.aload_n 2, 1) := dk_44 (dk_at dksJ5_afterNodeAccess_5 3 rfl rfl)
theorem dJ5_afterNodeAccess_117 : decode cJ5_afterNodeAccess 117 = .ok (.aload 4, 2) := dk_25 4 (dk_at dksJ5_afterNodeAccess_5 4 rfl rfl)
theorem dJ5_afterNodeAccess_119 : decode cJ5_afterNodeAccess 119 = .ok (.putfield 14, 3) := dk_181 0 14 (dk_at dksJ5_afterNodeAccess_5 6 rfl rfl)
theorem dJ5_afterNodeAccess_122 : decode cJ5_afterNodeAccess 122 = .ok (.aload_n 0, 1) := dk_42 (dk_at dksJ5_afterNodeAccess_5 9 rfl rfl)
theorem dJ5_afterNodeAccess_123 : decode cJ5_afterNodeAccess 123 = .ok (.aload 4, 2) := dk_25 4 (dk_at dksJ5_afterNodeAccess_5 10 rfl rfl)
theorem dJ5_afterNodeAccess_125 : decode cJ5_afterNodeAccess 125 = .ok (.putfield 11, 3) := dk_181 0 11 (dk_at dksJ5_afterNodeAccess_5 12 rfl rfl)
theorem dJ5_afterNodeAccess_128 : decode cJ5_afterNodeAccess 128 = .ok (.aload_n 0, 1) := dk_42 (dk_at dksJ5_afterNodeAccess_5 15 rfl rfl)
theorem dJ5_afterNodeAccess_129 : decode cJ5_afterNodeAccess 129 = .ok (.dup, 1) := dk_89 (dk_at dksJ5_afterNodeAccess_5 16 rfl rfl)
theorem dJ5_afterNodeAccess_130 : decode cJ5_afterNodeAccess 130 = .ok (.getfield 68, 3) := dk_180 0 68 (dk_at dksJ5_afterNodeAccess_5 17 rfl rfl)
theorem dJ5_afterNodeAccess_133 : decode cJ5_afterNodeAccess 133 = .ok (.iconst 1, 1) := dk_4 (dk_at dksJ5_afterNodeAccess_5 20 rfl rfl)
theorem dJ5_afterNodeAccess_134 : decode cJ5_afterNodeAccess 134 = .ok (.iadd, 1) := dk_96 (dk_at dksJ5_afterNodeAccess_5 21 rfl rfl)
theorem dJ5_afterNodeAccess_135 : decode cJ5_afterNodeAccess 135 = .ok (.putfield 68, 3) := dk_181 0 68 (dk_at dksJ5_afterNodeAccess_6 0 rfl rfl)
theorem dJ5_afterNodeAccess_138 : decode cJ5_afterNodeAccess 138 = .ok (.goto 127, 3) := dk_167 0 127 (dk_at dksJ5_afterNodeAccess_6 3 rfl rfl)
theorem dJ5_afterNodeAccess_141 : decode cJ5_afterNodeAccess 141 = .ok (.aload_n 0, 1) := dk_42 (dk_at dksJ5_afterNodeAccess_6 6 rfl rfl)
theorem dJ5_afterNodeAccess_142 : decode cJ5_afterNodeAccess 142 = .ok (.getfield 1, 3) := dk_180 0 1 (dk_at dksJ5_afterNodeAccess_6 7 rfl rfl)
theorem dJ5_afterNodeAccess_145 : decode cJ5_afterNodeAccess 145 = .ok (.iconst 1, 1) := dk_4 (dk_at dksJ5_afterNodeAccess_6 10 rfl rfl)
theorem dJ5_afterNodeAccess_146 : decode cJ5_afterNodeAccess 146 = .ok (.if_icmp .ne 119, 3) := dk_160 0 119 (dk_at dksJ5_afterNodeAccess_6 11 rfl rfl)
theorem dJ5_afterNodeAccess_149 : decode cJ5_afterNodeAccess 149 = .ok (.aload_n 0, 1) := dk_42 (dk_at dksJ5_afterNodeAccess_6 14 rfl rfl)
theorem dJ5_afterNodeAccess_150 : decode cJ5_afterNodeAccess 150 = .ok (.getfield 7, 3) := dk_180 0 7 (dk_at dksJ5_afterNodeAccess_6 15 rfl rfl)
theorem dJ5_afterNodeAccess_153 : decode cJ5_afterNodeAccess 153 = .ok (.dup, 1) := dk_89 (dk_at dksJ5_afterNodeAccess_6 18 rfl rfl)
theorem dJ5_afterNodeAccess_154 : decode cJ5_afterNodeAccess 154 = .ok (.astore_n 3, 1) := dk_78 (dk_at dksJ5_afterNodeAccess_6 19 rfl rfl)
theorem dJ5_afterNodeAccess_155 : decode cJ5_afterNodeAccess 155 = .ok (.aload_n 1, 1) := dk_43 (dk_at dksJ5_afterNodeAccess_6 20 rfl rfl)
theorem dJ5_afterNodeAccess_156 : decode cJ5_afterNodeAccess 156 = .ok (.if_acmp .eq 109, 3) := dk_165 0 109 (dk_at dksJ5_afterNodeAccess_6 21 rfl rfl)
theorem dJ5_afterNodeAccess_159 : decode cJ5_afterNodeAccess 159 = .ok (.aload_n 1, 1) := dk_43 (dk_at dksJ5_afterNodeAccess_7 0 rfl rfl)
theorem dJ5_afterNodeAccess_160 : decode cJ5_afterNodeAccess 160 = .ok (.checkcast 15, 3) := dk_192 0 15 (dk_at dksJ5_afterNodeAccess_7 1 rfl rfl)
theorem dJ5_afterNodeAccess_163 : decode cJ5_afterNodeAccess 163 = .ok (.astore 4, 2) := dk_58 4 (dk_at dksJ5_afterNodeAccess_7 4 rfl rfl)
theorem dJ5_afterNodeAccess_165 : decode cJ5_afterNodeAccess 165 = .ok (.aload 4, 2) := dk_25 4 (dk_at dksJ5_afterNodeAccess_7 6 rfl rfl)
theorem dJ5_afterNodeAccess_167 : decode cJ5_afterNodeAccess 167 = .ok (.getfield 19, 3) := dk_180 0 19 (dk_at dksJ5_afterNodeAccess_7 8 rfl rfl)
theorem dJ5_afterNodeAccess_170 : decode cJ5_afterNodeAccess 170 = .ok (.astore 5, 2) := dk_58 5 (dk_at dksJ5_afterNodeAccess_7 11 rfl rfl)
theorem dJ5_afterNodeAccess_172 : decode cJ5_afterNodeAccess 172 = .ok (.aload 4, 2) := dk_25 4 (dk_at dksJ5_afterNodeAccess_7 13 rfl rfl)
theorem dJ5_afterNodeAccess_174 : decode cJ5_afterNodeAccess 174 = .ok (.getfield 14, 3) := dk_180 0 14 (dk_at dksJ5_afterNodeAccess_7 15 rfl rfl)
theorem dJ5_afterNodeAccess_177 : decode cJ5_afterNodeAccess 177 = .ok (.astore 6, 2) := dk_58 6 (dk_at dksJ5_afterNodeAccess_7 18 rfl rfl)
theorem dJ5_afterNodeAccess_179 : decode cJ5_afterNodeAccess 179 = .ok (.aload 4, 2) := dk_25 4 (dk_at dksJ5_afterNodeAccess_7 20 rfl rfl)
theorem dJ5_afterNodeAccess_181 : decode cJ5_afterNodeAccess 181 = .ok (.aconst_null, 1) := dk_1 (dk_at dksJ5_afterNodeAccess_7 22 rfl rfl)
theorem dJ5_afterNodeAccess_182 : decode cJ5_afterNodeAccess 182 = .ok (.putfield 19, 3) := dk_181 0 19 (dk_at dksJ5_afterNodeAccess_8 0 rfl rfl)
theorem dJ5_afterNodeAccess_185 : decode cJ5_afterNodeAccess 185 = .ok (.aload 6, 2) := dk_25 6 (dk_at dksJ5_afterNodeAccess_8 3 rfl rfl)
theorem dJ5_afterNodeAccess_187 : decode cJ5_afterNodeAccess 187 = .ok (.ifnonnull 12, 3) := dk_199 0 12 (dk_at dksJ5_afterNodeAccess_8 5 rfl rfl)
theorem dJ5_afterNodeAccess_190 : decode cJ5_afterNodeAccess 190 = .ok (.aload_n 0, 1) := dk_42 (dk_at dksJ5_afterNodeAccess_8 8 rfl rfl)
theorem dJ5_afterNodeAccess_191 : decode cJ5_afterNodeAccess 191 = .ok (.aload 5, 2) := dk_25 5 (dk_at dksJ5_afterNodeAccess_8 9 rfl rfl)
theorem dJ5_afterNodeAccess_193 : decode cJ5_afterNodeAccess 193 = .ok (.putfield 11, 3) := dk_181 0 11 (dk_at dksJ5_afterNodeAccess_8 11 rfl rfl)
theorem dJ5_afterNodeAccess_196 : decode cJ5_afterNodeAccess 196 = .ok (.goto 10, 3) := dk_167 0 10 (dk_at dksJ5_afterNodeAccess_8 14 rfl rfl)
theorem dJ5_afterNodeAccess_199 : decode cJ5_afterNodeAccess 199 = .ok (.aload 6, 2) := dk_25 6 (dk_at dksJ5_afterNodeAccess_8 17 rfl rfl)
theorem dJ5_afterNodeAccess_201 : decode cJ5_afterNodeAccess 201 = .ok (.aload 5, 2) := dk_25 5 (dk_at dksJ5_afterNodeAccess_8 19 rfl rfl)
theorem dJ5_afterNodeAccess_203 : decode cJ5_afterNodeAccess 203 = .ok (.putfield 19, 3) := dk_181 0 19 (dk_at dksJ5_afterNodeAccess_8 21 rfl rfl)
theorem dJ5_afterNodeAccess_206 : decode cJ5_afterNodeAccess 206 = .ok (.aload 5, 2) := dk_25 5 (dk_at dksJ5_afterNodeAccess_9 0 rfl rfl)
theorem dJ5_afterNodeAccess_208 : decode cJ5_afterNodeAccess 208 = .ok (.ifnull 13, 3) := dk_198 0 13 (dk_at dksJ5_afterNodeAccess_9 2 rfl rfl)
theorem dJ5_afterNodeAccess_211 : decode cJ5_afterNodeAccess 211 = .ok (.aload 5, 2) := dk_25 5 (dk_at dksJ5_afterNodeAccess_9 5 rfl rfl)
theorem dJ5_afterNodeAccess_213 : decode cJ5_afterNodeAccess 213 = .ok (.aload 6, 2) := dk_25 6 (dk_at dksJ5_afterNodeAccess_9 7 rfl rfl)
theorem dJ5_afterNodeAccess_215 : decode cJ5_afterNodeAccess 215 = .ok (.putfield 14, 3) := dk_181 0 14 (dk_at dksJ5_afterNodeAccess_9 9 rfl rfl)
theorem dJ5_afterNodeAccess_218 : decode cJ5_afterNodeAccess 218 = .ok (.goto 6, 3) := dk_167 0 6 (dk_at dksJ5_afterNodeAccess_9 12 rfl rfl)
theorem dJ5_afterNodeAccess_221 : decode cJ5_afterNodeAccess 221 = .ok (.aload 6, 2) := dk_25 6 (dk_at dksJ5_afterNodeAccess_9 15 rfl rfl)
theorem dJ5_afterNodeAccess_223 : decode cJ5_afterNodeAccess 223 = .ok (.astore_n 3, 1) := dk_78 (dk_at dksJ5_afterNodeAccess_9 17 rfl rfl)
theorem dJ5_afterNodeAccess_224 : decode cJ5_afterNodeAccess 224 = .ok (.aload_n 3, 1) := dk_45 (dk_at dksJ5_afterNodeAccess_9 18 rfl rfl)
theorem dJ5_afterNodeAccess_225 : decode cJ5_afterNodeAccess 225 = .ok (.ifnonnull 12, 3) := dk_199 0 12 (dk_at dksJ5_afterNodeAccess_9 19 rfl rfl)
theorem dJ5_afterNodeAccess_228 : decode cJ5_afterNodeAccess 228 = .ok (.aload_n 0, 1) := dk_42 (dk_at dksJ5_afterNodeAccess_9 22 rfl rfl)
theorem dJ5_afterNodeAccess_229 : decode cJ5_afterNodeAccess 229 = .ok (.aload 4, 2) := dk_25 4 (dk_at dksJ5_afterNodeAccess_10 0 rfl rfl)
theorem dJ5_afterNodeAccess_231 : decode cJ5_afterNodeAccess 231 = .ok (.putfield 11, 3) := dk_181 0 11 (dk_at dksJ5_afterNodeAccess_10 2 rfl rfl)
theorem dJ5_afterNodeAccess_234 : decode cJ5_afterNodeAccess 234 = .ok (.goto 15, 3) := dk_167 0 15 (dk_at dksJ5_afterNodeAccess_10 5 rfl rfl)
theorem dJ5_afterNodeAccess_237 : decode cJ5_afterNodeAccess 237 = .ok (.aload 4, 2) := dk_25 4 (dk_at dksJ5_afterNodeAccess_10 8 rfl rfl)
theorem dJ5_afterNodeAccess_239 : decode cJ5_afterNodeAccess 239 = .ok (.aload_n 3, 1) := dk_45 (dk_at dksJ5_afterNodeAccess_10 10 rfl rfl)
theorem dJ5_afterNodeAccess_240 : decode cJ5_afterNodeAccess 240 = .ok (.putfield 14, 3) := dk_181 0 14 (dk_at dksJ5_afterNodeAccess_10 11 rfl rfl)
theorem dJ5_afterNodeAccess_243 : decode cJ5_afterNodeAccess 243 = .ok (.aload_n 3, 1) := dk_45 (dk_at dksJ5_afterNodeAccess_10 14 rfl rfl)
theorem dJ5_afterNodeAccess_244 : decode cJ5_afterNodeAccess 244 = .ok (.aload 4, 2) := dk_25 4 (dk_at dksJ5_afterNodeAccess_10 15 rfl rfl)
theorem dJ5_afterNodeAccess_246 : decode cJ5_afterNodeAccess 246 = .ok (.putfield 19, 3) := dk_181 0 19 (dk_at dksJ5_afterNodeAccess_10 17 rfl rfl)
theorem dJ5_afterNodeAccess_249 : decode cJ5_afterNodeAccess 249 = .ok (.aload_n 0, 1) := dk_42 (dk_at dksJ5_afterNodeAccess_10 20 rfl rfl)
theorem dJ5_afterNodeAccess_250 : decode cJ5_afterNodeAccess 250 = .ok (.aload 4, 2) := dk_25 4 (dk_at dksJ5_afterNodeAccess_10 21 rfl rfl)
theorem dJ5_afterNodeAccess_252 : decode cJ5_afterNodeAccess 252 = .ok (.putfield 7, 3) := dk_181 0 7 (dk_at dksJ5_afterNodeAccess_11 0 rfl rfl)
theorem dJ5_afterNodeAccess_255 : decode cJ5_afterNodeAccess 255 = .ok (.aload_n 0, 1) := dk_42 (dk_at dksJ5_afterNodeAccess_11 3 rfl rfl)
theorem dJ5_afterNodeAccess_256 : decode cJ5_afterNodeAccess 256 = .ok (.dup, 1) := dk_89 (dk_at dksJ5_afterNodeAccess_11 4 rfl rfl)
theorem dJ5_afterNodeAccess_257 : decode cJ5_afterNodeAccess 257 = .ok (.getfield 68, 3) := dk_180 0 68 (dk_at dksJ5_afterNodeAccess_11 5 rfl rfl)
theorem dJ5_afterNodeAccess_260 : decode cJ5_afterNodeAccess 260 = .ok (.iconst 1, 1) := dk_4 (dk_at dksJ5_afterNodeAccess_11 8 rfl rfl)
theorem dJ5_afterNodeAccess_261 : decode cJ5_afterNodeAccess 261 = .ok (.iadd, 1) := dk_96 (dk_at dksJ5_afterNodeAccess_11 9 rfl rfl)
theorem dJ5_afterNodeAccess_262 : decode cJ5_afterNodeAccess 262 = .ok (.putfield 68, 3) := dk_181 0 68 (dk_at dksJ5_afterNodeAccess_11 10 rfl rfl)
theorem dJ5_afterNodeAccess_265 : decode cJ5_afterNodeAccess 265 = .ok (.return_, 1) := dk_177 (dk_at dksJ5_afterNodeAccess_11 13 rfl rfl)
abbrev cJ5_replacementNode : ByteArray := prog_62_method_5_code
def yJ5_replacementNode : MethodName := ⟨RJ5, "replacementNode", "(Ljava/util/HashMap$Node;Ljava/util/HashMap$Node;)Ljava/util/HashMap$Node;"⟩
def dkwJ5_replacementNode_1 : List UInt8 := [183, 0, 28, 58, 4, 42, 45, 25, 4, 182, 0, 46, 25, 4, 176]
abbrev dktJ5_replacementNode_1 : List UInt8 := dkwJ5_replacementNode_1 ++ []
def dkwJ5_replacementNode_0 : List UInt8 := [43, 192, 0, 15, 78, 187, 0, 15, 89, 45, 180, 0, 36, 45, 180, 0, 39, 45, 180, 0, 43, 44]
abbrev dktJ5_replacementNode_0 : List UInt8 := dkwJ5_replacementNode_0 ++ dktJ5_replacementNode_1
theorem dksJ5_replacementNode_0 : cJ5_replacementNode.data.toList.drop 0 = dktJ5_replacementNode_0 := by decide +kernel
theorem dksJ5_replacementNode_1 : cJ5_replacementNode.data.toList.drop 22 = dktJ5_replacementNode_1 := dk_seg dksJ5_replacementNode_0 22 rfl rfl
theorem dJ5_replacementNode_0 : decode cJ5_replacementNode 0 = .ok (.aload_n 1, 1) := dk_43 (dk_at dksJ5_replacementNode_0 0 rfl rfl)
theorem dJ5_replacementNode_1 : decode cJ5_replacementNode 1 = .ok (.checkcast 15, 3) := dk_192 0 15 (dk_at dksJ5_replacementNode_0 1 rfl rfl)
theorem dJ5_replacementNode_4 : decode cJ5_replacementNode 4 = .ok (.astore_n 3, 1) := dk_78 (dk_at dksJ5_replacementNode_0 4 rfl rfl)
theorem dJ5_replacementNode_5 : decode cJ5_replacementNode 5 = .ok (.new 15, 3) := dk_187 0 15 (dk_at dksJ5_replacementNode_0 5 rfl rfl)
theorem dJ5_replacementNode_8 : decode cJ5_replacementNode 8 = .ok (.dup, 1) := dk_89 (dk_at dksJ5_replacementNode_0 8 rfl rfl)
theorem dJ5_replacementNode_9 : decode cJ5_replacementNode 9 = .ok (.aload_n 3, 1) := dk_45 (dk_at dksJ5_replacementNode_0 9 rfl rfl)
theorem dJ5_replacementNode_10 : decode cJ5_replacementNode 10 = .ok (.getfield 36, 3) := dk_180 0 36 (dk_at dksJ5_replacementNode_0 10 rfl rfl)
theorem dJ5_replacementNode_13 : decode cJ5_replacementNode 13 = .ok (.aload_n 3, 1) := dk_45 (dk_at dksJ5_replacementNode_0 13 rfl rfl)
theorem dJ5_replacementNode_14 : decode cJ5_replacementNode 14 = .ok (.getfield 39, 3) := dk_180 0 39 (dk_at dksJ5_replacementNode_0 14 rfl rfl)
theorem dJ5_replacementNode_17 : decode cJ5_replacementNode 17 = .ok (.aload_n 3, 1) := dk_45 (dk_at dksJ5_replacementNode_0 17 rfl rfl)
theorem dJ5_replacementNode_18 : decode cJ5_replacementNode 18 = .ok (.getfield 43, 3) := dk_180 0 43 (dk_at dksJ5_replacementNode_0 18 rfl rfl)
theorem dJ5_replacementNode_21 : decode cJ5_replacementNode 21 = .ok (.aload_n 2, 1) := dk_44 (dk_at dksJ5_replacementNode_0 21 rfl rfl)
theorem dJ5_replacementNode_22 : decode cJ5_replacementNode 22 = .ok (.invokespecial 28, 3) := dk_183 0 28 (dk_at dksJ5_replacementNode_1 0 rfl rfl)
theorem dJ5_replacementNode_25 : decode cJ5_replacementNode 25 = .ok (.astore 4, 2) := dk_58 4 (dk_at dksJ5_replacementNode_1 3 rfl rfl)
theorem dJ5_replacementNode_27 : decode cJ5_replacementNode 27 = .ok (.aload_n 0, 1) := dk_42 (dk_at dksJ5_replacementNode_1 5 rfl rfl)
theorem dJ5_replacementNode_28 : decode cJ5_replacementNode 28 = .ok (.aload_n 3, 1) := dk_45 (dk_at dksJ5_replacementNode_1 6 rfl rfl)
theorem dJ5_replacementNode_29 : decode cJ5_replacementNode 29 = .ok (.aload 4, 2) := dk_25 4 (dk_at dksJ5_replacementNode_1 7 rfl rfl)
theorem dJ5_replacementNode_31 : decode cJ5_replacementNode 31 = .ok (.invokevirtual 46, 3) := dk_182 0 46 (dk_at dksJ5_replacementNode_1 9 rfl rfl)
theorem dJ5_replacementNode_34 : decode cJ5_replacementNode 34 = .ok (.aload 4, 2) := dk_25 4 (dk_at dksJ5_replacementNode_1 12 rfl rfl)
theorem dJ5_replacementNode_36 : decode cJ5_replacementNode 36 = .ok (.areturn, 1) := dk_176 (dk_at dksJ5_replacementNode_1 14 rfl rfl)
abbrev cJ5_transferLinks : ByteArray := prog_62_method_2_code
def yJ5_transferLinks : MethodName := ⟨RJ5, "transferLinks", "(Ljava/util/LinkedHashMap$Entry;Ljava/util/LinkedHashMap$Entry;)V"⟩
def dkwJ5_transferLinks_2 : List UInt8 := [181, 0, 11, 167, 0, 9, 25, 4, 44, 181, 0, 19, 177]
abbrev dktJ5_transferLinks_2 : List UInt8 := dkwJ5_transferLinks_2 ++ []
def dkwJ5_transferLinks_1 : List UInt8 := [199, 0, 11, 42, 44, 181, 0, 7, 167, 0, 8, 45, 44, 181, 0, 14, 25, 4, 199, 0, 11, 42, 44]
abbrev dktJ5_transferLinks_1 : List UInt8 := dkwJ5_transferLinks_1 ++ dktJ5_transferLinks_2
def dkwJ5_transferLinks_0 : List UInt8 := [44, 43, 180, 0, 19, 90, 181, 0, 19, 78, 44, 43, 180, 0, 14, 90, 181, 0, 14, 58, 4, 45]
abbrev dktJ5_transferLinks_0 : List UInt8 := dkwJ5_transferLinks_0 ++ dktJ5_transferLinks_1
theorem dksJ5_transferLinks_0 : cJ5_transferLinks.data.toList.drop 0 = dktJ5_transferLinks_0 := by decide +kernel
theorem dksJ5_transferLinks_1 : cJ5_transferLinks.data.toList.drop 22 = dktJ5_transferLinks_1 := dk_seg dksJ5_transferLinks_0 22 rfl rfl
theorem dksJ5_transferLinks_2 : cJ5_transferLinks.data.toList.drop 45 = dktJ5_transferLinks_2 := dk_seg dksJ5_transferLinks_1 23 rfl rfl
theorem dJ5_transferLinks_0 : decode cJ5_transferLinks 0 = .ok (.aload_n 2, 1) := dk_44 (dk_at dksJ5_transferLinks_0 0 rfl rfl)
theorem dJ5_transferLinks_1 : decode cJ5_transferLinks 1 = .ok (.aload_n 1, 1) := dk_43 (dk_at dksJ5_transferLinks_0 1 rfl rfl)
theorem dJ5_transferLinks_2 : decode cJ5_transferLinks 2 = .ok (.getfield 19, 3) := dk_180 0 19 (dk_at dksJ5_transferLinks_0 2 rfl rfl)
theorem dJ5_transferLinks_5 : decode cJ5_transferLinks 5 = .ok (.dup_x1, 1) := dk_90 (dk_at dksJ5_transferLinks_0 5 rfl rfl)
theorem dJ5_transferLinks_6 : decode cJ5_transferLinks 6 = .ok (.putfield 19, 3) := dk_181 0 19 (dk_at dksJ5_transferLinks_0 6 rfl rfl)
theorem dJ5_transferLinks_9 : decode cJ5_transferLinks 9 = .ok (.astore_n 3, 1) := dk_78 (dk_at dksJ5_transferLinks_0 9 rfl rfl)
theorem dJ5_transferLinks_10 : decode cJ5_transferLinks 10 = .ok (.aload_n 2, 1) := dk_44 (dk_at dksJ5_transferLinks_0 10 rfl rfl)
theorem dJ5_transferLinks_11 : decode cJ5_transferLinks 11 = .ok (.aload_n 1, 1) := dk_43 (dk_at dksJ5_transferLinks_0 11 rfl rfl)
theorem dJ5_transferLinks_12 : decode cJ5_transferLinks 12 = .ok (.getfield 14, 3) := dk_180 0 14 (dk_at dksJ5_transferLinks_0 12 rfl rfl)
theorem dJ5_transferLinks_15 : decode cJ5_transferLinks 15 = .ok (.dup_x1, 1) := dk_90 (dk_at dksJ5_transferLinks_0 15 rfl rfl)
theorem dJ5_transferLinks_16 : decode cJ5_transferLinks 16 = .ok (.putfield 14, 3) := dk_181 0 14 (dk_at dksJ5_transferLinks_0 16 rfl rfl)
theorem dJ5_transferLinks_19 : decode cJ5_transferLinks 19 = .ok (.astore 4, 2) := dk_58 4 (dk_at dksJ5_transferLinks_0 19 rfl rfl)
theorem dJ5_transferLinks_21 : decode cJ5_transferLinks 21 = .ok (.aload_n 3, 1) := dk_45 (dk_at dksJ5_transferLinks_0 21 rfl rfl)
theorem dJ5_transferLinks_22 : decode cJ5_transferLinks 22 = .ok (.ifnonnull 11, 3) := dk_199 0 11 (dk_at dksJ5_transferLinks_1 0 rfl rfl)
theorem dJ5_transferLinks_25 : decode cJ5_transferLinks 25 = .ok (.aload_n 0, 1) := dk_42 (dk_at dksJ5_transferLinks_1 3 rfl rfl)
theorem dJ5_transferLinks_26 : decode cJ5_transferLinks 26 = .ok (.aload_n 2, 1) := dk_44 (dk_at dksJ5_transferLinks_1 4 rfl rfl)
theorem dJ5_transferLinks_27 : decode cJ5_transferLinks 27 = .ok (.putfield 7, 3) := dk_181 0 7 (dk_at dksJ5_transferLinks_1 5 rfl rfl)
theorem dJ5_transferLinks_30 : decode cJ5_transferLinks 30 = .ok (.goto 8, 3) := dk_167 0 8 (dk_at dksJ5_transferLinks_1 8 rfl rfl)
theorem dJ5_transferLinks_33 : decode cJ5_transferLinks 33 = .ok (.aload_n 3, 1) := dk_45 (dk_at dksJ5_transferLinks_1 11 rfl rfl)
theorem dJ5_transferLinks_34 : decode cJ5_transferLinks 34 = .ok (.aload_n 2, 1) := dk_44 (dk_at dksJ5_transferLinks_1 12 rfl rfl)
theorem dJ5_transferLinks_35 : decode cJ5_transferLinks 35 = .ok (.putfield 14, 3) := dk_181 0 14 (dk_at dksJ5_transferLinks_1 13 rfl rfl)
theorem dJ5_transferLinks_38 : decode cJ5_transferLinks 38 = .ok (.aload 4, 2) := dk_25 4 (dk_at dksJ5_transferLinks_1 16 rfl rfl)
theorem dJ5_transferLinks_40 : decode cJ5_transferLinks 40 = .ok (.ifnonnull 11, 3) := dk_199 0 11 (dk_at dksJ5_transferLinks_1 18 rfl rfl)
theorem dJ5_transferLinks_43 : decode cJ5_transferLinks 43 = .ok (.aload_n 0, 1) := dk_42 (dk_at dksJ5_transferLinks_1 21 rfl rfl)
theorem dJ5_transferLinks_44 : decode cJ5_transferLinks 44 = .ok (.aload_n 2, 1) := dk_44 (dk_at dksJ5_transferLinks_1 22 rfl rfl)
theorem dJ5_transferLinks_45 : decode cJ5_transferLinks 45 = .ok (.putfield 11, 3) := dk_181 0 11 (dk_at dksJ5_transferLinks_2 0 rfl rfl)
theorem dJ5_transferLinks_48 : decode cJ5_transferLinks 48 = .ok (.goto 9, 3) := dk_167 0 9 (dk_at dksJ5_transferLinks_2 3 rfl rfl)
theorem dJ5_transferLinks_51 : decode cJ5_transferLinks 51 = .ok (.aload 4, 2) := dk_25 4 (dk_at dksJ5_transferLinks_2 6 rfl rfl)
theorem dJ5_transferLinks_53 : decode cJ5_transferLinks 53 = .ok (.aload_n 2, 1) := dk_44 (dk_at dksJ5_transferLinks_2 8 rfl rfl)
theorem dJ5_transferLinks_54 : decode cJ5_transferLinks 54 = .ok (.putfield 19, 3) := dk_181 0 19 (dk_at dksJ5_transferLinks_2 9 rfl rfl)
theorem dJ5_transferLinks_57 : decode cJ5_transferLinks 57 = .ok (.return_, 1) := dk_177 (dk_at dksJ5_transferLinks_2 12 rfl rfl)
abbrev cJ5_entrySet : ByteArray := prog_62_method_32_code
def yJ5_entrySet : MethodName := ⟨RJ5, "entrySet", "()Ljava/util/Set;"⟩
theorem dJ5_entrySet_0 : decode cJ5_entrySet 0 = .ok (.aload_n 0, 1) := by decide +kernel
theorem dJ5_entrySet_1 : decode cJ5_entrySet 1 = .ok (.invokevirtual 148, 3) := by decide +kernel
theorem dJ5_entrySet_4 : decode cJ5_entrySet 4 = .ok (.areturn, 1) := by decide +kernel
abbrev cJ5_sequencedEntrySet : ByteArray := prog_62_method_33_code
def yJ5_sequencedEntrySet : MethodName := ⟨RJ5, "sequencedEntrySet", "()Ljava/util/SequencedSet;"⟩
def dkwJ5_sequencedEntrySet_1 : List UInt8 := [44, 176, 43, 192, 0, 126, 176]
abbrev dktJ5_sequencedEntrySet_1 : List UInt8 := dkwJ5_sequencedEntrySet_1 ++ []
def dkwJ5_sequencedEntrySet_0 : List UInt8 := [42, 180, 0, 151, 76, 43, 199, 0, 20, 187, 0, 154, 89, 42, 3, 183, 0, 156, 77, 42, 44, 181, 0, 151]
abbrev dktJ5_sequencedEntrySet_0 : List UInt8 := dkwJ5_sequencedEntrySet_0 ++ dktJ5_sequencedEntrySet_1
theorem dksJ5_sequencedEntrySet_0 : cJ5_sequencedEntrySet.data.toList.drop 0 = dktJ5_sequencedEntrySet_0 := by decide +kernel
theorem dksJ5_sequencedEntrySet_1 : cJ5_sequencedEntrySet.data.toList.drop 24 = dktJ5_sequencedEntrySet_1 := dk_seg dksJ5_sequencedEntrySet_0 24 rfl rfl
theorem dJ5_sequencedEntrySet_0 : decode cJ5_sequencedEntrySet 0 = .ok (.aload_n 0, 1) := dk_42 (dk_at dksJ5_sequencedEntrySet_0 0 rfl rfl)
theorem dJ5_sequencedEntrySet_1 : decode cJ5_sequencedEntrySet 1 = .ok (.getfield 151, 3) := dk_180 0 151 (dk_at dksJ5_sequencedEntrySet_0 1 rfl rfl)
theorem dJ5_sequencedEntrySet_4 : decode cJ5_sequencedEntrySet 4 = .ok (.astore_n 1, 1) := dk_76 (dk_at dksJ5_sequencedEntrySet_0 4 rfl rfl)
theorem dJ5_sequencedEntrySet_5 : decode cJ5_sequencedEntrySet 5 = .ok (.aload_n 1, 1) := dk_43 (dk_at dksJ5_sequencedEntrySet_0 5 rfl rfl)
theorem dJ5_sequencedEntrySet_6 : decode cJ5_sequencedEntrySet 6 = .ok (.ifnonnull 20, 3) := dk_199 0 20 (dk_at dksJ5_sequencedEntrySet_0 6 rfl rfl)
theorem dJ5_sequencedEntrySet_9 : decode cJ5_sequencedEntrySet 9 = .ok (.new 154, 3) := dk_187 0 154 (dk_at dksJ5_sequencedEntrySet_0 9 rfl rfl)
theorem dJ5_sequencedEntrySet_12 : decode cJ5_sequencedEntrySet 12 = .ok (.dup, 1) := dk_89 (dk_at dksJ5_sequencedEntrySet_0 12 rfl rfl)
theorem dJ5_sequencedEntrySet_13 : decode cJ5_sequencedEntrySet 13 = .ok (.aload_n 0, 1) := dk_42 (dk_at dksJ5_sequencedEntrySet_0 13 rfl rfl)
theorem dJ5_sequencedEntrySet_14 : decode cJ5_sequencedEntrySet 14 = .ok (.iconst 0, 1) := dk_3 (dk_at dksJ5_sequencedEntrySet_0 14 rfl rfl)
theorem dJ5_sequencedEntrySet_15 : decode cJ5_sequencedEntrySet 15 = .ok (.invokespecial 156, 3) := dk_183 0 156 (dk_at dksJ5_sequencedEntrySet_0 15 rfl rfl)
theorem dJ5_sequencedEntrySet_18 : decode cJ5_sequencedEntrySet 18 = .ok (.astore_n 2, 1) := dk_77 (dk_at dksJ5_sequencedEntrySet_0 18 rfl rfl)
theorem dJ5_sequencedEntrySet_19 : decode cJ5_sequencedEntrySet 19 = .ok (.aload_n 0, 1) := dk_42 (dk_at dksJ5_sequencedEntrySet_0 19 rfl rfl)
theorem dJ5_sequencedEntrySet_20 : decode cJ5_sequencedEntrySet 20 = .ok (.aload_n 2, 1) := dk_44 (dk_at dksJ5_sequencedEntrySet_0 20 rfl rfl)
theorem dJ5_sequencedEntrySet_21 : decode cJ5_sequencedEntrySet 21 = .ok (.putfield 151, 3) := dk_181 0 151 (dk_at dksJ5_sequencedEntrySet_0 21 rfl rfl)
theorem dJ5_sequencedEntrySet_24 : decode cJ5_sequencedEntrySet 24 = .ok (.aload_n 2, 1) := dk_44 (dk_at dksJ5_sequencedEntrySet_1 0 rfl rfl)
theorem dJ5_sequencedEntrySet_25 : decode cJ5_sequencedEntrySet 25 = .ok (.areturn, 1) := dk_176 (dk_at dksJ5_sequencedEntrySet_1 1 rfl rfl)
theorem dJ5_sequencedEntrySet_26 : decode cJ5_sequencedEntrySet 26 = .ok (.aload_n 1, 1) := dk_43 (dk_at dksJ5_sequencedEntrySet_1 2 rfl rfl)
theorem dJ5_sequencedEntrySet_27 : decode cJ5_sequencedEntrySet 27 = .ok (.checkcast 126, 3) := dk_192 0 126 (dk_at dksJ5_sequencedEntrySet_1 3 rfl rfl)
theorem dJ5_sequencedEntrySet_30 : decode cJ5_sequencedEntrySet 30 = .ok (.areturn, 1) := dk_176 (dk_at dksJ5_sequencedEntrySet_1 6 rfl rfl)
abbrev cJ5_newNode : ByteArray := prog_62_method_4_code
def yJ5_newNode : MethodName := ⟨RJ5, "newNode", "(ILjava/lang/Object;Ljava/lang/Object;Ljava/util/HashMap$Node;)Ljava/util/HashMap$Node;"⟩
def dkwJ5_newNode_0 : List UInt8 := [187, 0, 15, 89, 27, 44, 45, 25, 4, 183, 0, 28, 58, 5, 42, 25, 5, 182, 0, 32, 25, 5, 176]
abbrev dktJ5_newNode_0 : List UInt8 := dkwJ5_newNode_0 ++ []
theorem dksJ5_newNode_0 : cJ5_newNode.data.toList.drop 0 = dktJ5_newNode_0 := by decide +kernel
theorem dJ5_newNode_0 : decode cJ5_newNode 0 = .ok (.new 15, 3) := dk_187 0 15 (dk_at dksJ5_newNode_0 0 rfl rfl)
theorem dJ5_newNode_3 : decode cJ5_newNode 3 = .ok (.dup, 1) := dk_89 (dk_at dksJ5_newNode_0 3 rfl rfl)
theorem dJ5_newNode_4 : decode cJ5_newNode 4 = .ok (.iload_n 1, 1) := dk_27 (dk_at dksJ5_newNode_0 4 rfl rfl)
theorem dJ5_newNode_5 : decode cJ5_newNode 5 = .ok (.aload_n 2, 1) := dk_44 (dk_at dksJ5_newNode_0 5 rfl rfl)
theorem dJ5_newNode_6 : decode cJ5_newNode 6 = .ok (.aload_n 3, 1) := dk_45 (dk_at dksJ5_newNode_0 6 rfl rfl)
theorem dJ5_newNode_7 : decode cJ5_newNode 7 = .ok (.aload 4, 2) := dk_25 4 (dk_at dksJ5_newNode_0 7 rfl rfl)
theorem dJ5_newNode_9 : decode cJ5_newNode 9 = .ok (.invokespecial 28, 3) := dk_183 0 28 (dk_at dksJ5_newNode_0 9 rfl rfl)
theorem dJ5_newNode_12 : decode cJ5_newNode 12 = .ok (.astore 5, 2) := dk_58 5 (dk_at dksJ5_newNode_0 12 rfl rfl)
theorem dJ5_newNode_14 : decode cJ5_newNode 14 = .ok (.aload_n 0, 1) := dk_42 (dk_at dksJ5_newNode_0 14 rfl rfl)
theorem dJ5_newNode_15 : decode cJ5_newNode 15 = .ok (.aload 5, 2) := dk_25 5 (dk_at dksJ5_newNode_0 15 rfl rfl)
theorem dJ5_newNode_17 : decode cJ5_newNode 17 = .ok (.invokevirtual 32, 3) := dk_182 0 32 (dk_at dksJ5_newNode_0 17 rfl rfl)
theorem dJ5_newNode_20 : decode cJ5_newNode 20 = .ok (.aload 5, 2) := dk_25 5 (dk_at dksJ5_newNode_0 20 rfl rfl)
theorem dJ5_newNode_22 : decode cJ5_newNode 22 = .ok (.areturn, 1) := dk_176 (dk_at dksJ5_newNode_0 22 rfl rfl)
abbrev cJ5_linkNodeAtEnd : ByteArray := prog_62_method_1_code
def yJ5_linkNodeAtEnd : MethodName := ⟨RJ5, "linkNodeAtEnd", "(Ljava/util/LinkedHashMap$Entry;)V"⟩
def dkwJ5_linkNodeAtEnd_3 : List UInt8 := [181, 0, 14, 177]
abbrev dktJ5_linkNodeAtEnd_3 : List UInt8 := dkwJ5_linkNodeAtEnd_3 ++ []
def dkwJ5_linkNodeAtEnd_2 : List UInt8 := [42, 43, 181, 0, 11, 44, 199, 0, 11, 42, 43, 181, 0, 7, 167, 0, 13, 43, 44, 181, 0, 19, 44, 43]
abbrev dktJ5_linkNodeAtEnd_2 : List UInt8 := dkwJ5_linkNodeAtEnd_2 ++ dktJ5_linkNodeAtEnd_3
def dkwJ5_linkNodeAtEnd_1 : List UInt8 := [181, 0, 11, 167, 0, 13, 43, 44, 181, 0, 14, 44, 43, 181, 0, 19, 167, 0, 35, 42, 180, 0, 11, 77]
abbrev dktJ5_linkNodeAtEnd_1 : List UInt8 := dkwJ5_linkNodeAtEnd_1 ++ dktJ5_linkNodeAtEnd_2
def dkwJ5_linkNodeAtEnd_0 : List UInt8 := [42, 180, 0, 1, 4, 160, 0, 38, 42, 180, 0, 7, 77, 42, 43, 181, 0, 7, 44, 199, 0, 11, 42, 43]
abbrev dktJ5_linkNodeAtEnd_0 : List UInt8 := dkwJ5_linkNodeAtEnd_0 ++ dktJ5_linkNodeAtEnd_1
theorem dksJ5_linkNodeAtEnd_0 : cJ5_linkNodeAtEnd.data.toList.drop 0 = dktJ5_linkNodeAtEnd_0 := by decide +kernel
theorem dksJ5_linkNodeAtEnd_1 : cJ5_linkNodeAtEnd.data.toList.drop 24 = dktJ5_linkNodeAtEnd_1 := dk_seg dksJ5_linkNodeAtEnd_0 24 rfl rfl
theorem dksJ5_linkNodeAtEnd_2 : cJ5_linkNodeAtEnd.data.toList.drop 48 = dktJ5_linkNodeAtEnd_2 := dk_seg dksJ5_linkNodeAtEnd_1 24 rfl rfl
theorem dksJ5_linkNodeAtEnd_3 : cJ5_linkNodeAtEnd.data.toList.drop 72 = dktJ5_linkNodeAtEnd_3 := dk_seg dksJ5_linkNodeAtEnd_2 24 rfl rfl
theorem dJ5_linkNodeAtEnd_0 : decode cJ5_linkNodeAtEnd 0 = .ok (.aload_n 0, 1) := dk_42 (dk_at dksJ5_linkNodeAtEnd_0 0 rfl rfl)
theorem dJ5_linkNodeAtEnd_1 : decode cJ5_linkNodeAtEnd 1 = .ok (.getfield 1, 3) := dk_180 0 1 (dk_at dksJ5_linkNodeAtEnd_0 1 rfl rfl)
theorem dJ5_linkNodeAtEnd_4 : decode cJ5_linkNodeAtEnd 4 = .ok (.iconst 1, 1) := dk_4 (dk_at dksJ5_linkNodeAtEnd_0 4 rfl rfl)
theorem dJ5_linkNodeAtEnd_5 : decode cJ5_linkNodeAtEnd 5 = .ok (.if_icmp .ne 38, 3) := dk_160 0 38 (dk_at dksJ5_linkNodeAtEnd_0 5 rfl rfl)
theorem dJ5_linkNodeAtEnd_8 : decode cJ5_linkNodeAtEnd 8 = .ok (.aload_n 0, 1) := dk_42 (dk_at dksJ5_linkNodeAtEnd_0 8 rfl rfl)
theorem dJ5_linkNodeAtEnd_9 : decode cJ5_linkNodeAtEnd 9 = .ok (.getfield 7, 3) := dk_180 0 7 (dk_at dksJ5_linkNodeAtEnd_0 9 rfl rfl)
theorem dJ5_linkNodeAtEnd_12 : decode cJ5_linkNodeAtEnd 12 = .ok (.astore_n 2, 1) := dk_77 (dk_at dksJ5_linkNodeAtEnd_0 12 rfl rfl)
theorem dJ5_linkNodeAtEnd_13 : decode cJ5_linkNodeAtEnd 13 = .ok (.aload_n 0, 1) := dk_42 (dk_at dksJ5_linkNodeAtEnd_0 13 rfl rfl)
theorem dJ5_linkNodeAtEnd_14 : decode cJ5_linkNodeAtEnd 14 = .ok (.aload_n 1, 1) := dk_43 (dk_at dksJ5_linkNodeAtEnd_0 14 rfl rfl)
theorem dJ5_linkNodeAtEnd_15 : decode cJ5_linkNodeAtEnd 15 = .ok (.putfield 7, 3) := dk_181 0 7 (dk_at dksJ5_linkNodeAtEnd_0 15 rfl rfl)
theorem dJ5_linkNodeAtEnd_18 : decode cJ5_linkNodeAtEnd 18 = .ok (.aload_n 2, 1) := dk_44 (dk_at dksJ5_linkNodeAtEnd_0 18 rfl rfl)
theorem dJ5_linkNodeAtEnd_19 : decode cJ5_linkNodeAtEnd 19 = .ok (.ifnonnull 11, 3) := dk_199 0 11 (dk_at dksJ5_linkNodeAtEnd_0 19 rfl rfl)
theorem dJ5_linkNodeAtEnd_22 : decode cJ5_linkNodeAtEnd 22 = .ok (.aload_n 0, 1) := dk_42 (dk_at dksJ5_linkNodeAtEnd_0 22 rfl rfl)
theorem dJ5_linkNodeAtEnd_23 : decode cJ5_linkNodeAtEnd 23 = .ok (.aload_n 1, 1) := dk_43 (dk_at dksJ5_linkNodeAtEnd_0 23 rfl rfl)
theorem dJ5_linkNodeAtEnd_24 : decode cJ5_linkNodeAtEnd 24 = .ok (.putfield 11, 3) := dk_181 0 11 (dk_at dksJ5_linkNodeAtEnd_1 0 rfl rfl)
theorem dJ5_linkNodeAtEnd_27 : decode cJ5_linkNodeAtEnd 27 = .ok (.goto 13, 3) := dk_167 0 13 (dk_at dksJ5_linkNodeAtEnd_1 3 rfl rfl)
theorem dJ5_linkNodeAtEnd_30 : decode cJ5_linkNodeAtEnd 30 = .ok (.aload_n 1, 1) := dk_43 (dk_at dksJ5_linkNodeAtEnd_1 6 rfl rfl)
theorem dJ5_linkNodeAtEnd_31 : decode cJ5_linkNodeAtEnd 31 = .ok (.aload_n 2, 1) := dk_44 (dk_at dksJ5_linkNodeAtEnd_1 7 rfl rfl)
theorem dJ5_linkNodeAtEnd_32 : decode cJ5_linkNodeAtEnd 32 = .ok (.putfield 14, 3) := dk_181 0 14 (dk_at dksJ5_linkNodeAtEnd_1 8 rfl rfl)
theorem dJ5_linkNodeAtEnd_35 : decode cJ5_linkNodeAtEnd 35 = .ok (.aload_n 2, 1) := dk_44 (dk_at dksJ5_linkNodeAtEnd_1 11 rfl rfl)
theorem dJ5_linkNodeAtEnd_36 : decode cJ5_linkNodeAtEnd 36 = .ok (.aload_n 1, 1) := dk_43 (dk_at dksJ5_linkNodeAtEnd_1 12 rfl rfl)
theorem dJ5_linkNodeAtEnd_37 : decode cJ5_linkNodeAtEnd 37 = .ok (.putfield 19, 3) := dk_181 0 19 (dk_at dksJ5_linkNodeAtEnd_1 13 rfl rfl)
theorem dJ5_linkNodeAtEnd_40 : decode cJ5_linkNodeAtEnd 40 = .ok (.goto 35, 3) := dk_167 0 35 (dk_at dksJ5_linkNodeAtEnd_1 16 rfl rfl)
theorem dJ5_linkNodeAtEnd_43 : decode cJ5_linkNodeAtEnd 43 = .ok (.aload_n 0, 1) := dk_42 (dk_at dksJ5_linkNodeAtEnd_1 19 rfl rfl)
theorem dJ5_linkNodeAtEnd_44 : decode cJ5_linkNodeAtEnd 44 = .ok (.getfield 11, 3) := dk_180 0 11 (dk_at dksJ5_linkNodeAtEnd_1 20 rfl rfl)
theorem dJ5_linkNodeAtEnd_47 : decode cJ5_linkNodeAtEnd 47 = .ok (.astore_n 2, 1) := dk_77 (dk_at dksJ5_linkNodeAtEnd_1 23 rfl rfl)
theorem dJ5_linkNodeAtEnd_48 : decode cJ5_linkNodeAtEnd 48 = .ok (.aload_n 0, 1) := dk_42 (dk_at dksJ5_linkNodeAtEnd_2 0 rfl rfl)
theorem dJ5_linkNodeAtEnd_49 : decode cJ5_linkNodeAtEnd 49 = .ok (.aload_n 1, 1) := dk_43 (dk_at dksJ5_linkNodeAtEnd_2 1 rfl rfl)
theorem dJ5_linkNodeAtEnd_50 : decode cJ5_linkNodeAtEnd 50 = .ok (.putfield 11, 3) := dk_181 0 11 (dk_at dksJ5_linkNodeAtEnd_2 2 rfl rfl)
theorem dJ5_linkNodeAtEnd_53 : decode cJ5_linkNodeAtEnd 53 = .ok (.aload_n 2, 1) := dk_44 (dk_at dksJ5_linkNodeAtEnd_2 5 rfl rfl)
theorem dJ5_linkNodeAtEnd_54 : decode cJ5_linkNodeAtEnd 54 = .ok (.ifnonnull 11, 3) := dk_199 0 11 (dk_at dksJ5_linkNodeAtEnd_2 6 rfl rfl)
theorem dJ5_linkNodeAtEnd_57 : decode cJ5_linkNodeAtEnd 57 = .ok (.aload_n 0, 1) := dk_42 (dk_at dksJ5_linkNodeAtEnd_2 9 rfl rfl)
theorem dJ5_linkNodeAtEnd_58 : decode cJ5_linkNodeAtEnd 58 = .ok (.aload_n 1, 1) := dk_43 (dk_at dksJ5_linkNodeAtEnd_2 10 rfl rfl)
theorem dJ5_linkNodeAtEnd_59 : decode cJ5_linkNodeAtEnd 59 = .ok (.putfield 7, 3) := dk_181 0 7 (dk_at dksJ5_linkNodeAtEnd_2 11 rfl rfl)
theorem dJ5_linkNodeAtEnd_62 : decode cJ5_linkNodeAtEnd 62 = .ok (.goto 13, 3) := dk_167 0 13 (dk_at dksJ5_linkNodeAtEnd_2 14 rfl rfl)
theorem dJ5_linkNodeAtEnd_65 : decode cJ5_linkNodeAtEnd 65 = .ok (.aload_n 1, 1) := dk_43 (dk_at dksJ5_linkNodeAtEnd_2 17 rfl rfl)
theorem dJ5_linkNodeAtEnd_66 : decode cJ5_linkNodeAtEnd 66 = .ok (.aload_n 2, 1) := dk_44 (dk_at dksJ5_linkNodeAtEnd_2 18 rfl rfl)
theorem dJ5_linkNodeAtEnd_67 : decode cJ5_linkNodeAtEnd 67 = .ok (.putfield 19, 3) := dk_181 0 19 (dk_at dksJ5_linkNodeAtEnd_2 19 rfl rfl)
theorem dJ5_linkNodeAtEnd_70 : decode cJ5_linkNodeAtEnd 70 = .ok (.aload_n 2, 1) := dk_44 (dk_at dksJ5_linkNodeAtEnd_2 22 rfl rfl)
theorem dJ5_linkNodeAtEnd_71 : decode cJ5_linkNodeAtEnd 71 = .ok (.aload_n 1, 1) := dk_43 (dk_at dksJ5_linkNodeAtEnd_2 23 rfl rfl)
theorem dJ5_linkNodeAtEnd_72 : decode cJ5_linkNodeAtEnd 72 = .ok (.putfield 14, 3) := dk_181 0 14 (dk_at dksJ5_linkNodeAtEnd_3 0 rfl rfl)
theorem dJ5_linkNodeAtEnd_75 : decode cJ5_linkNodeAtEnd 75 = .ok (.return_, 1) := dk_177 (dk_at dksJ5_linkNodeAtEnd_3 3 rfl rfl)
abbrev cJ5_newTreeNode : ByteArray := prog_62_method_6_code
def yJ5_newTreeNode : MethodName := ⟨RJ5, "newTreeNode", "(ILjava/lang/Object;Ljava/lang/Object;Ljava/util/HashMap$Node;)Ljava/util/HashMap$TreeNode;"⟩
def dkwJ5_newTreeNode_0 : List UInt8 := [187, 0, 50, 89, 27, 44, 45, 25, 4, 183, 0, 52, 58, 5, 42, 25, 5, 182, 0, 32, 25, 5, 176]
abbrev dktJ5_newTreeNode_0 : List UInt8 := dkwJ5_newTreeNode_0 ++ []
theorem dksJ5_newTreeNode_0 : cJ5_newTreeNode.data.toList.drop 0 = dktJ5_newTreeNode_0 := by decide +kernel
theorem dJ5_newTreeNode_0 : decode cJ5_newTreeNode 0 = .ok (.new 50, 3) := dk_187 0 50 (dk_at dksJ5_newTreeNode_0 0 rfl rfl)
theorem dJ5_newTreeNode_3 : decode cJ5_newTreeNode 3 = .ok (.dup, 1) := dk_89 (dk_at dksJ5_newTreeNode_0 3 rfl rfl)
theorem dJ5_newTreeNode_4 : decode cJ5_newTreeNode 4 = .ok (.iload_n 1, 1) := dk_27 (dk_at dksJ5_newTreeNode_0 4 rfl rfl)
theorem dJ5_newTreeNode_5 : decode cJ5_newTreeNode 5 = .ok (.aload_n 2, 1) := dk_44 (dk_at dksJ5_newTreeNode_0 5 rfl rfl)
theorem dJ5_newTreeNode_6 : decode cJ5_newTreeNode 6 = .ok (.aload_n 3, 1) := dk_45 (dk_at dksJ5_newTreeNode_0 6 rfl rfl)
theorem dJ5_newTreeNode_7 : decode cJ5_newTreeNode 7 = .ok (.aload 4, 2) := dk_25 4 (dk_at dksJ5_newTreeNode_0 7 rfl rfl)
theorem dJ5_newTreeNode_9 : decode cJ5_newTreeNode 9 = .ok (.invokespecial 52, 3) := dk_183 0 52 (dk_at dksJ5_newTreeNode_0 9 rfl rfl)
theorem dJ5_newTreeNode_12 : decode cJ5_newTreeNode 12 = .ok (.astore 5, 2) := dk_58 5 (dk_at dksJ5_newTreeNode_0 12 rfl rfl)
theorem dJ5_newTreeNode_14 : decode cJ5_newTreeNode 14 = .ok (.aload_n 0, 1) := dk_42 (dk_at dksJ5_newTreeNode_0 14 rfl rfl)
theorem dJ5_newTreeNode_15 : decode cJ5_newTreeNode 15 = .ok (.aload 5, 2) := dk_25 5 (dk_at dksJ5_newTreeNode_0 15 rfl rfl)
theorem dJ5_newTreeNode_17 : decode cJ5_newTreeNode 17 = .ok (.invokevirtual 32, 3) := dk_182 0 32 (dk_at dksJ5_newTreeNode_0 17 rfl rfl)
theorem dJ5_newTreeNode_20 : decode cJ5_newTreeNode 20 = .ok (.aload 5, 2) := dk_25 5 (dk_at dksJ5_newTreeNode_0 20 rfl rfl)
theorem dJ5_newTreeNode_22 : decode cJ5_newTreeNode 22 = .ok (.areturn, 1) := dk_176 (dk_at dksJ5_newTreeNode_0 22 rfl rfl)
abbrev cJ5_replacementTreeNode : ByteArray := prog_62_method_7_code
def yJ5_replacementTreeNode : MethodName := ⟨RJ5, "replacementTreeNode", "(Ljava/util/HashMap$Node;Ljava/util/HashMap$Node;)Ljava/util/HashMap$TreeNode;"⟩
def dkwJ5_replacementTreeNode_1 : List UInt8 := [183, 0, 52, 58, 4, 42, 45, 25, 4, 182, 0, 46, 25, 4, 176]
abbrev dktJ5_replacementTreeNode_1 : List UInt8 := dkwJ5_replacementTreeNode_1 ++ []
def dkwJ5_replacementTreeNode_0 : List UInt8 := [43, 192, 0, 15, 78, 187, 0, 50, 89, 45, 180, 0, 36, 45, 180, 0, 39, 45, 180, 0, 43, 44]
abbrev dktJ5_replacementTreeNode_0 : List UInt8 := dkwJ5_replacementTreeNode_0 ++ dktJ5_replacementTreeNode_1
theorem dksJ5_replacementTreeNode_0 : cJ5_replacementTreeNode.data.toList.drop 0 = dktJ5_replacementTreeNode_0 := by decide +kernel
theorem dksJ5_replacementTreeNode_1 : cJ5_replacementTreeNode.data.toList.drop 22 = dktJ5_replacementTreeNode_1 := dk_seg dksJ5_replacementTreeNode_0 22 rfl rfl
theorem dJ5_replacementTreeNode_0 : decode cJ5_replacementTreeNode 0 = .ok (.aload_n 1, 1) := dk_43 (dk_at dksJ5_replacementTreeNode_0 0 rfl rfl)
theorem dJ5_replacementTreeNode_1 : decode cJ5_replacementTreeNode 1 = .ok (.checkcast 15, 3) := dk_192 0 15 (dk_at dksJ5_replacementTreeNode_0 1 rfl rfl)
theorem dJ5_replacementTreeNode_4 : decode cJ5_replacementTreeNode 4 = .ok (.astore_n 3, 1) := dk_78 (dk_at dksJ5_replacementTreeNode_0 4 rfl rfl)
theorem dJ5_replacementTreeNode_5 : decode cJ5_replacementTreeNode 5 = .ok (.new 50, 3) := dk_187 0 50 (dk_at dksJ5_replacementTreeNode_0 5 rfl rfl)
theorem dJ5_replacementTreeNode_8 : decode cJ5_replacementTreeNode 8 = .ok (.dup, 1) := dk_89 (dk_at dksJ5_replacementTreeNode_0 8 rfl rfl)
theorem dJ5_replacementTreeNode_9 : decode cJ5_replacementTreeNode 9 = .ok (.aload_n 3, 1) := dk_45 (dk_at dksJ5_replacementTreeNode_0 9 rfl rfl)
theorem dJ5_replacementTreeNode_10 : decode cJ5_replacementTreeNode 10 = .ok (.getfield 36, 3) := dk_180 0 36 (dk_at dksJ5_replacementTreeNode_0 10 rfl rfl)
theorem dJ5_replacementTreeNode_13 : decode cJ5_replacementTreeNode 13 = .ok (.aload_n 3, 1) := dk_45 (dk_at dksJ5_replacementTreeNode_0 13 rfl rfl)
theorem dJ5_replacementTreeNode_14 : decode cJ5_replacementTreeNode 14 = .ok (.getfield 39, 3) := dk_180 0 39 (dk_at dksJ5_replacementTreeNode_0 14 rfl rfl)
theorem dJ5_replacementTreeNode_17 : decode cJ5_replacementTreeNode 17 = .ok (.aload_n 3, 1) := dk_45 (dk_at dksJ5_replacementTreeNode_0 17 rfl rfl)
theorem dJ5_replacementTreeNode_18 : decode cJ5_replacementTreeNode 18 = .ok (.getfield 43, 3) := dk_180 0 43 (dk_at dksJ5_replacementTreeNode_0 18 rfl rfl)
theorem dJ5_replacementTreeNode_21 : decode cJ5_replacementTreeNode 21 = .ok (.aload_n 2, 1) := dk_44 (dk_at dksJ5_replacementTreeNode_0 21 rfl rfl)
theorem dJ5_replacementTreeNode_22 : decode cJ5_replacementTreeNode 22 = .ok (.invokespecial 52, 3) := dk_183 0 52 (dk_at dksJ5_replacementTreeNode_1 0 rfl rfl)
theorem dJ5_replacementTreeNode_25 : decode cJ5_replacementTreeNode 25 = .ok (.astore 4, 2) := dk_58 4 (dk_at dksJ5_replacementTreeNode_1 3 rfl rfl)
theorem dJ5_replacementTreeNode_27 : decode cJ5_replacementTreeNode 27 = .ok (.aload_n 0, 1) := dk_42 (dk_at dksJ5_replacementTreeNode_1 5 rfl rfl)
theorem dJ5_replacementTreeNode_28 : decode cJ5_replacementTreeNode 28 = .ok (.aload_n 3, 1) := dk_45 (dk_at dksJ5_replacementTreeNode_1 6 rfl rfl)
theorem dJ5_replacementTreeNode_29 : decode cJ5_replacementTreeNode 29 = .ok (.aload 4, 2) := dk_25 4 (dk_at dksJ5_replacementTreeNode_1 7 rfl rfl)
theorem dJ5_replacementTreeNode_31 : decode cJ5_replacementTreeNode 31 = .ok (.invokevirtual 46, 3) := dk_182 0 46 (dk_at dksJ5_replacementTreeNode_1 9 rfl rfl)
theorem dJ5_replacementTreeNode_34 : decode cJ5_replacementTreeNode 34 = .ok (.aload 4, 2) := dk_25 4 (dk_at dksJ5_replacementTreeNode_1 12 rfl rfl)
theorem dJ5_replacementTreeNode_36 : decode cJ5_replacementTreeNode 36 = .ok (.areturn, 1) := dk_176 (dk_at dksJ5_replacementTreeNode_1 14 rfl rfl)
abbrev cJ5_afterNodeInsertion : ByteArray := prog_62_method_9_code
def yJ5_afterNodeInsertion : MethodName := ⟨RJ5, "afterNodeInsertion", "(Z)V"⟩
def dkwJ5_afterNodeInsertion_1 : List UInt8 := [180, 0, 39, 78, 42, 45, 184, 0, 57, 45, 1, 3, 4, 182, 0, 60, 87, 177]
abbrev dktJ5_afterNodeInsertion_1 : List UInt8 := dkwJ5_afterNodeInsertion_1 ++ []
def dkwJ5_afterNodeInsertion_0 : List UInt8 := [27, 153, 0, 38, 42, 180, 0, 7, 89, 77, 198, 0, 29, 42, 44, 182, 0, 53, 153, 0, 21, 44]
abbrev dktJ5_afterNodeInsertion_0 : List UInt8 := dkwJ5_afterNodeInsertion_0 ++ dktJ5_afterNodeInsertion_1
theorem dksJ5_afterNodeInsertion_0 : cJ5_afterNodeInsertion.data.toList.drop 0 = dktJ5_afterNodeInsertion_0 := by decide +kernel
theorem dksJ5_afterNodeInsertion_1 : cJ5_afterNodeInsertion.data.toList.drop 22 = dktJ5_afterNodeInsertion_1 := dk_seg dksJ5_afterNodeInsertion_0 22 rfl rfl
theorem dJ5_afterNodeInsertion_0 : decode cJ5_afterNodeInsertion 0 = .ok (.iload_n 1, 1) := dk_27 (dk_at dksJ5_afterNodeInsertion_0 0 rfl rfl)
theorem dJ5_afterNodeInsertion_1 : decode cJ5_afterNodeInsertion 1 = .ok (.ifCond .eq 38, 3) := dk_153 0 38 (dk_at dksJ5_afterNodeInsertion_0 1 rfl rfl)
theorem dJ5_afterNodeInsertion_4 : decode cJ5_afterNodeInsertion 4 = .ok (.aload_n 0, 1) := dk_42 (dk_at dksJ5_afterNodeInsertion_0 4 rfl rfl)
theorem dJ5_afterNodeInsertion_5 : decode cJ5_afterNodeInsertion 5 = .ok (.getfield 7, 3) := dk_180 0 7 (dk_at dksJ5_afterNodeInsertion_0 5 rfl rfl)
theorem dJ5_afterNodeInsertion_8 : decode cJ5_afterNodeInsertion 8 = .ok (.dup, 1) := dk_89 (dk_at dksJ5_afterNodeInsertion_0 8 rfl rfl)
theorem dJ5_afterNodeInsertion_9 : decode cJ5_afterNodeInsertion 9 = .ok (.astore_n 2, 1) := dk_77 (dk_at dksJ5_afterNodeInsertion_0 9 rfl rfl)
theorem dJ5_afterNodeInsertion_10 : decode cJ5_afterNodeInsertion 10 = .ok (.ifnull 29, 3) := dk_198 0 29 (dk_at dksJ5_afterNodeInsertion_0 10 rfl rfl)
theorem dJ5_afterNodeInsertion_13 : decode cJ5_afterNodeInsertion 13 = .ok (.aload_n 0, 1) := dk_42 (dk_at dksJ5_afterNodeInsertion_0 13 rfl rfl)
theorem dJ5_afterNodeInsertion_14 : decode cJ5_afterNodeInsertion 14 = .ok (.aload_n 2, 1) := dk_44 (dk_at dksJ5_afterNodeInsertion_0 14 rfl rfl)
theorem dJ5_afterNodeInsertion_15 : decode cJ5_afterNodeInsertion 15 = .ok (.invokevirtual 53, 3) := dk_182 0 53 (dk_at dksJ5_afterNodeInsertion_0 15 rfl rfl)
theorem dJ5_afterNodeInsertion_18 : decode cJ5_afterNodeInsertion 18 = .ok (.ifCond .eq 21, 3) := dk_153 0 21 (dk_at dksJ5_afterNodeInsertion_0 18 rfl rfl)
theorem dJ5_afterNodeInsertion_21 : decode cJ5_afterNodeInsertion 21 = .ok (.aload_n 2, 1) := dk_44 (dk_at dksJ5_afterNodeInsertion_0 21 rfl rfl)
theorem dJ5_afterNodeInsertion_22 : decode cJ5_afterNodeInsertion 22 = .ok (.getfield 39, 3) := dk_180 0 39 (dk_at dksJ5_afterNodeInsertion_1 0 rfl rfl)
theorem dJ5_afterNodeInsertion_25 : decode cJ5_afterNodeInsertion 25 = .ok (.astore_n 3, 1) := dk_78 (dk_at dksJ5_afterNodeInsertion_1 3 rfl rfl)
theorem dJ5_afterNodeInsertion_26 : decode cJ5_afterNodeInsertion 26 = .ok (.aload_n 0, 1) := dk_42 (dk_at dksJ5_afterNodeInsertion_1 4 rfl rfl)
theorem dJ5_afterNodeInsertion_27 : decode cJ5_afterNodeInsertion 27 = .ok (.aload_n 3, 1) := dk_45 (dk_at dksJ5_afterNodeInsertion_1 5 rfl rfl)
theorem dJ5_afterNodeInsertion_28 : decode cJ5_afterNodeInsertion 28 = .ok (.invokestatic 57, 3) := dk_184 0 57 (dk_at dksJ5_afterNodeInsertion_1 6 rfl rfl)
theorem dJ5_afterNodeInsertion_31 : decode cJ5_afterNodeInsertion 31 = .ok (.aload_n 3, 1) := dk_45 (dk_at dksJ5_afterNodeInsertion_1 9 rfl rfl)
theorem dJ5_afterNodeInsertion_32 : decode cJ5_afterNodeInsertion 32 = .ok (.aconst_null, 1) := dk_1 (dk_at dksJ5_afterNodeInsertion_1 10 rfl rfl)
theorem dJ5_afterNodeInsertion_33 : decode cJ5_afterNodeInsertion 33 = .ok (.iconst 0, 1) := dk_3 (dk_at dksJ5_afterNodeInsertion_1 11 rfl rfl)
theorem dJ5_afterNodeInsertion_34 : decode cJ5_afterNodeInsertion 34 = .ok (.iconst 1, 1) := dk_4 (dk_at dksJ5_afterNodeInsertion_1 12 rfl rfl)
theorem dJ5_afterNodeInsertion_35 : decode cJ5_afterNodeInsertion 35 = .ok (.invokevirtual 60, 3) := dk_182 0 60 (dk_at dksJ5_afterNodeInsertion_1 13 rfl rfl)
theorem dJ5_afterNodeInsertion_38 : decode cJ5_afterNodeInsertion 38 = .ok (.pop, 1) := dk_87 (dk_at dksJ5_afterNodeInsertion_1 16 rfl rfl)
theorem dJ5_afterNodeInsertion_39 : decode cJ5_afterNodeInsertion 39 = .ok (.return_, 1) := dk_177 (dk_at dksJ5_afterNodeInsertion_1 17 rfl rfl)
abbrev cJ5_removeEldestEntry : ByteArray := prog_62_method_23_code
def yJ5_removeEldestEntry : MethodName := ⟨RJ5, "removeEldestEntry", "(Ljava/util/Map$Entry;)Z"⟩
theorem dJ5_removeEldestEntry_0 : decode cJ5_removeEldestEntry 0 = .ok (.iconst 0, 1) := by decide +kernel
theorem dJ5_removeEldestEntry_1 : decode cJ5_removeEldestEntry 1 = .ok (.ireturn, 1) := by decide +kernel
abbrev cJ5_keySet : ByteArray := prog_62_method_24_code
def yJ5_keySet : MethodName := ⟨RJ5, "keySet", "()Ljava/util/Set;"⟩
theorem dJ5_keySet_0 : decode cJ5_keySet 0 = .ok (.aload_n 0, 1) := by decide +kernel
theorem dJ5_keySet_1 : decode cJ5_keySet 1 = .ok (.invokevirtual 113, 3) := by decide +kernel
theorem dJ5_keySet_4 : decode cJ5_keySet 4 = .ok (.areturn, 1) := by decide +kernel
abbrev cJ5_sequencedKeySet : ByteArray := prog_62_method_25_code
def yJ5_sequencedKeySet : MethodName := ⟨RJ5, "sequencedKeySet", "()Ljava/util/SequencedSet;"⟩
def dkwJ5_sequencedKeySet_1 : List UInt8 := [44, 176, 43, 192, 0, 126, 176]
abbrev dktJ5_sequencedKeySet_1 : List UInt8 := dkwJ5_sequencedKeySet_1 ++ []
def dkwJ5_sequencedKeySet_0 : List UInt8 := [42, 180, 0, 117, 76, 43, 199, 0, 20, 187, 0, 121, 89, 42, 3, 183, 0, 123, 77, 42, 44, 181, 0, 117]
abbrev dktJ5_sequencedKeySet_0 : List UInt8 := dkwJ5_sequencedKeySet_0 ++ dktJ5_sequencedKeySet_1
theorem dksJ5_sequencedKeySet_0 : cJ5_sequencedKeySet.data.toList.drop 0 = dktJ5_sequencedKeySet_0 := by decide +kernel
theorem dksJ5_sequencedKeySet_1 : cJ5_sequencedKeySet.data.toList.drop 24 = dktJ5_sequencedKeySet_1 := dk_seg dksJ5_sequencedKeySet_0 24 rfl rfl
theorem dJ5_sequencedKeySet_0 : decode cJ5_sequencedKeySet 0 = .ok (.aload_n 0, 1) := dk_42 (dk_at dksJ5_sequencedKeySet_0 0 rfl rfl)
theorem dJ5_sequencedKeySet_1 : decode cJ5_sequencedKeySet 1 = .ok (.getfield 117, 3) := dk_180 0 117 (dk_at dksJ5_sequencedKeySet_0 1 rfl rfl)
theorem dJ5_sequencedKeySet_4 : decode cJ5_sequencedKeySet 4 = .ok (.astore_n 1, 1) := dk_76 (dk_at dksJ5_sequencedKeySet_0 4 rfl rfl)
theorem dJ5_sequencedKeySet_5 : decode cJ5_sequencedKeySet 5 = .ok (.aload_n 1, 1) := dk_43 (dk_at dksJ5_sequencedKeySet_0 5 rfl rfl)
theorem dJ5_sequencedKeySet_6 : decode cJ5_sequencedKeySet 6 = .ok (.ifnonnull 20, 3) := dk_199 0 20 (dk_at dksJ5_sequencedKeySet_0 6 rfl rfl)
theorem dJ5_sequencedKeySet_9 : decode cJ5_sequencedKeySet 9 = .ok (.new 121, 3) := dk_187 0 121 (dk_at dksJ5_sequencedKeySet_0 9 rfl rfl)
theorem dJ5_sequencedKeySet_12 : decode cJ5_sequencedKeySet 12 = .ok (.dup, 1) := dk_89 (dk_at dksJ5_sequencedKeySet_0 12 rfl rfl)
theorem dJ5_sequencedKeySet_13 : decode cJ5_sequencedKeySet 13 = .ok (.aload_n 0, 1) := dk_42 (dk_at dksJ5_sequencedKeySet_0 13 rfl rfl)
theorem dJ5_sequencedKeySet_14 : decode cJ5_sequencedKeySet 14 = .ok (.iconst 0, 1) := dk_3 (dk_at dksJ5_sequencedKeySet_0 14 rfl rfl)
theorem dJ5_sequencedKeySet_15 : decode cJ5_sequencedKeySet 15 = .ok (.invokespecial 123, 3) := dk_183 0 123 (dk_at dksJ5_sequencedKeySet_0 15 rfl rfl)
theorem dJ5_sequencedKeySet_18 : decode cJ5_sequencedKeySet 18 = .ok (.astore_n 2, 1) := dk_77 (dk_at dksJ5_sequencedKeySet_0 18 rfl rfl)
theorem dJ5_sequencedKeySet_19 : decode cJ5_sequencedKeySet 19 = .ok (.aload_n 0, 1) := dk_42 (dk_at dksJ5_sequencedKeySet_0 19 rfl rfl)
theorem dJ5_sequencedKeySet_20 : decode cJ5_sequencedKeySet 20 = .ok (.aload_n 2, 1) := dk_44 (dk_at dksJ5_sequencedKeySet_0 20 rfl rfl)
theorem dJ5_sequencedKeySet_21 : decode cJ5_sequencedKeySet 21 = .ok (.putfield 117, 3) := dk_181 0 117 (dk_at dksJ5_sequencedKeySet_0 21 rfl rfl)
theorem dJ5_sequencedKeySet_24 : decode cJ5_sequencedKeySet 24 = .ok (.aload_n 2, 1) := dk_44 (dk_at dksJ5_sequencedKeySet_1 0 rfl rfl)
theorem dJ5_sequencedKeySet_25 : decode cJ5_sequencedKeySet 25 = .ok (.areturn, 1) := dk_176 (dk_at dksJ5_sequencedKeySet_1 1 rfl rfl)
theorem dJ5_sequencedKeySet_26 : decode cJ5_sequencedKeySet 26 = .ok (.aload_n 1, 1) := dk_43 (dk_at dksJ5_sequencedKeySet_1 2 rfl rfl)
theorem dJ5_sequencedKeySet_27 : decode cJ5_sequencedKeySet 27 = .ok (.checkcast 126, 3) := dk_192 0 126 (dk_at dksJ5_sequencedKeySet_1 3 rfl rfl)
theorem dJ5_sequencedKeySet_30 : decode cJ5_sequencedKeySet 30 = .ok (.areturn, 1) := dk_176 (dk_at dksJ5_sequencedKeySet_1 6 rfl rfl)
abbrev cJ5_afterNodeRemoval : ByteArray := prog_62_method_8_code
def yJ5_afterNodeRemoval : MethodName := ⟨RJ5, "afterNodeRemoval", "(Ljava/util/HashMap$Node;)V"⟩
def dkwJ5_afterNodeRemoval_2 : List UInt8 := [199, 0, 11, 42, 45, 181, 0, 11, 167, 0, 9, 25, 4, 45, 181, 0, 19, 177]
abbrev dktJ5_afterNodeRemoval_2 : List UInt8 := dkwJ5_afterNodeRemoval_2 ++ []
def dkwJ5_afterNodeRemoval_1 : List UInt8 := [181, 0, 19, 45, 199, 0, 12, 42, 25, 4, 181, 0, 7, 167, 0, 9, 45, 25, 4, 181, 0, 14, 25, 4]
abbrev dktJ5_afterNodeRemoval_1 : List UInt8 := dkwJ5_afterNodeRemoval_1 ++ dktJ5_afterNodeRemoval_2
def dkwJ5_afterNodeRemoval_0 : List UInt8 := [43, 192, 0, 15, 77, 44, 180, 0, 19, 78, 44, 180, 0, 14, 58, 4, 44, 44, 1, 90, 181, 0, 14]
abbrev dktJ5_afterNodeRemoval_0 : List UInt8 := dkwJ5_afterNodeRemoval_0 ++ dktJ5_afterNodeRemoval_1
theorem dksJ5_afterNodeRemoval_0 : cJ5_afterNodeRemoval.data.toList.drop 0 = dktJ5_afterNodeRemoval_0 := by decide +kernel
theorem dksJ5_afterNodeRemoval_1 : cJ5_afterNodeRemoval.data.toList.drop 23 = dktJ5_afterNodeRemoval_1 := dk_seg dksJ5_afterNodeRemoval_0 23 rfl rfl
theorem dksJ5_afterNodeRemoval_2 : cJ5_afterNodeRemoval.data.toList.drop 47 = dktJ5_afterNodeRemoval_2 := dk_seg dksJ5_afterNodeRemoval_1 24 rfl rfl
theorem dJ5_afterNodeRemoval_0 : decode cJ5_afterNodeRemoval 0 = .ok (.aload_n 1, 1) := dk_43 (dk_at dksJ5_afterNodeRemoval_0 0 rfl rfl)
theorem dJ5_afterNodeRemoval_1 : decode cJ5_afterNodeRemoval 1 = .ok (.checkcast 15, 3) := dk_192 0 15 (dk_at dksJ5_afterNodeRemoval_0 1 rfl rfl)
theorem dJ5_afterNodeRemoval_4 : decode cJ5_afterNodeRemoval 4 = .ok (.astore_n 2, 1) := dk_77 (dk_at dksJ5_afterNodeRemoval_0 4 rfl rfl)
theorem dJ5_afterNodeRemoval_5 : decode cJ5_afterNodeRemoval 5 = .ok (.aload_n 2, 1) := dk_44 (dk_at dksJ5_afterNodeRemoval_0 5 rfl rfl)
theorem dJ5_afterNodeRemoval_6 : decode cJ5_afterNodeRemoval 6 = .ok (.getfield 19, 3) := dk_180 0 19 (dk_at dksJ5_afterNodeRemoval_0 6 rfl rfl)
theorem dJ5_afterNodeRemoval_9 : decode cJ5_afterNodeRemoval 9 = .ok (.astore_n 3, 1) := dk_78 (dk_at dksJ5_afterNodeRemoval_0 9 rfl rfl)
theorem dJ5_afterNodeRemoval_10 : decode cJ5_afterNodeRemoval 10 = .ok (.aload_n 2, 1) := dk_44 (dk_at dksJ5_afterNodeRemoval_0 10 rfl rfl)
theorem dJ5_afterNodeRemoval_11 : decode cJ5_afterNodeRemoval 11 = .ok (.getfield 14, 3) := dk_180 0 14 (dk_at dksJ5_afterNodeRemoval_0 11 rfl rfl)
theorem dJ5_afterNodeRemoval_14 : decode cJ5_afterNodeRemoval 14 = .ok (.astore 4, 2) := dk_58 4 (dk_at dksJ5_afterNodeRemoval_0 14 rfl rfl)
theorem dJ5_afterNodeRemoval_16 : decode cJ5_afterNodeRemoval 16 = .ok (.aload_n 2, 1) := dk_44 (dk_at dksJ5_afterNodeRemoval_0 16 rfl rfl)
theorem dJ5_afterNodeRemoval_17 : decode cJ5_afterNodeRemoval 17 = .ok (.aload_n 2, 1) := dk_44 (dk_at dksJ5_afterNodeRemoval_0 17 rfl rfl)
theorem dJ5_afterNodeRemoval_18 : decode cJ5_afterNodeRemoval 18 = .ok (.aconst_null, 1) := dk_1 (dk_at dksJ5_afterNodeRemoval_0 18 rfl rfl)
theorem dJ5_afterNodeRemoval_19 : decode cJ5_afterNodeRemoval 19 = .ok (.dup_x1, 1) := dk_90 (dk_at dksJ5_afterNodeRemoval_0 19 rfl rfl)
theorem dJ5_afterNodeRemoval_20 : decode cJ5_afterNodeRemoval 20 = .ok (.putfield 14, 3) := dk_181 0 14 (dk_at dksJ5_afterNodeRemoval_0 20 rfl rfl)
theorem dJ5_afterNodeRemoval_23 : decode cJ5_afterNodeRemoval 23 = .ok (.putfield 19, 3) := dk_181 0 19 (dk_at dksJ5_afterNodeRemoval_1 0 rfl rfl)
theorem dJ5_afterNodeRemoval_26 : decode cJ5_afterNodeRemoval 26 = .ok (.aload_n 3, 1) := dk_45 (dk_at dksJ5_afterNodeRemoval_1 3 rfl rfl)
theorem dJ5_afterNodeRemoval_27 : decode cJ5_afterNodeRemoval 27 = .ok (.ifnonnull 12, 3) := dk_199 0 12 (dk_at dksJ5_afterNodeRemoval_1 4 rfl rfl)
theorem dJ5_afterNodeRemoval_30 : decode cJ5_afterNodeRemoval 30 = .ok (.aload_n 0, 1) := dk_42 (dk_at dksJ5_afterNodeRemoval_1 7 rfl rfl)
theorem dJ5_afterNodeRemoval_31 : decode cJ5_afterNodeRemoval 31 = .ok (.aload 4, 2) := dk_25 4 (dk_at dksJ5_afterNodeRemoval_1 8 rfl rfl)
theorem dJ5_afterNodeRemoval_33 : decode cJ5_afterNodeRemoval 33 = .ok (.putfield 7, 3) := dk_181 0 7 (dk_at dksJ5_afterNodeRemoval_1 10 rfl rfl)
theorem dJ5_afterNodeRemoval_36 : decode cJ5_afterNodeRemoval 36 = .ok (.goto 9, 3) := dk_167 0 9 (dk_at dksJ5_afterNodeRemoval_1 13 rfl rfl)
theorem dJ5_afterNodeRemoval_39 : decode cJ5_afterNodeRemoval 39 = .ok (.aload_n 3, 1) := dk_45 (dk_at dksJ5_afterNodeRemoval_1 16 rfl rfl)
theorem dJ5_afterNodeRemoval_40 : decode cJ5_afterNodeRemoval 40 = .ok (.aload 4, 2) := dk_25 4 (dk_at dksJ5_afterNodeRemoval_1 17 rfl rfl)
theorem dJ5_afterNodeRemoval_42 : decode cJ5_afterNodeRemoval 42 = .ok (.putfield 14, 3) := dk_181 0 14 (dk_at dksJ5_afterNodeRemoval_1 19 rfl rfl)
theorem dJ5_afterNodeRemoval_45 : decode cJ5_afterNodeRemoval 45 = .ok (.aload 4, 2) := dk_25 4 (dk_at dksJ5_afterNodeRemoval_1 22 rfl rfl)
theorem dJ5_afterNodeRemoval_47 : decode cJ5_afterNodeRemoval 47 = .ok (.ifnonnull 11, 3) := dk_199 0 11 (dk_at dksJ5_afterNodeRemoval_2 0 rfl rfl)
theorem dJ5_afterNodeRemoval_50 : decode cJ5_afterNodeRemoval 50 = .ok (.aload_n 0, 1) := dk_42 (dk_at dksJ5_afterNodeRemoval_2 3 rfl rfl)
theorem dJ5_afterNodeRemoval_51 : decode cJ5_afterNodeRemoval 51 = .ok (.aload_n 3, 1) := dk_45 (dk_at dksJ5_afterNodeRemoval_2 4 rfl rfl)
theorem dJ5_afterNodeRemoval_52 : decode cJ5_afterNodeRemoval 52 = .ok (.putfield 11, 3) := dk_181 0 11 (dk_at dksJ5_afterNodeRemoval_2 5 rfl rfl)
theorem dJ5_afterNodeRemoval_55 : decode cJ5_afterNodeRemoval 55 = .ok (.goto 9, 3) := dk_167 0 9 (dk_at dksJ5_afterNodeRemoval_2 8 rfl rfl)
theorem dJ5_afterNodeRemoval_58 : decode cJ5_afterNodeRemoval 58 = .ok (.aload 4, 2) := dk_25 4 (dk_at dksJ5_afterNodeRemoval_2 11 rfl rfl)
theorem dJ5_afterNodeRemoval_60 : decode cJ5_afterNodeRemoval 60 = .ok (.aload_n 3, 1) := dk_45 (dk_at dksJ5_afterNodeRemoval_2 13 rfl rfl)
theorem dJ5_afterNodeRemoval_61 : decode cJ5_afterNodeRemoval 61 = .ok (.putfield 19, 3) := dk_181 0 19 (dk_at dksJ5_afterNodeRemoval_2 14 rfl rfl)
theorem dJ5_afterNodeRemoval_64 : decode cJ5_afterNodeRemoval 64 = .ok (.return_, 1) := dk_177 (dk_at dksJ5_afterNodeRemoval_2 17 rfl rfl)
abbrev cJ5_values : ByteArray := prog_62_method_30_code
def yJ5_values : MethodName := ⟨RJ5, "values", "()Ljava/util/Collection;"⟩
theorem dJ5_values_0 : decode cJ5_values 0 = .ok (.aload_n 0, 1) := by decide +kernel
theorem dJ5_values_1 : decode cJ5_values 1 = .ok (.invokevirtual 135, 3) := by decide +kernel
theorem dJ5_values_4 : decode cJ5_values 4 = .ok (.areturn, 1) := by decide +kernel
abbrev cJ5_sequencedValues : ByteArray := prog_62_method_31_code
def yJ5_sequencedValues : MethodName := ⟨RJ5, "sequencedValues", "()Ljava/util/SequencedCollection;"⟩
def dkwJ5_sequencedValues_1 : List UInt8 := [44, 176, 43, 192, 0, 146, 176]
abbrev dktJ5_sequencedValues_1 : List UInt8 := dkwJ5_sequencedValues_1 ++ []
def dkwJ5_sequencedValues_0 : List UInt8 := [42, 180, 0, 139, 76, 43, 199, 0, 20, 187, 0, 143, 89, 42, 3, 183, 0, 145, 77, 42, 44, 181, 0, 139]
abbrev dktJ5_sequencedValues_0 : List UInt8 := dkwJ5_sequencedValues_0 ++ dktJ5_sequencedValues_1
theorem dksJ5_sequencedValues_0 : cJ5_sequencedValues.data.toList.drop 0 = dktJ5_sequencedValues_0 := by decide +kernel
theorem dksJ5_sequencedValues_1 : cJ5_sequencedValues.data.toList.drop 24 = dktJ5_sequencedValues_1 := dk_seg dksJ5_sequencedValues_0 24 rfl rfl
theorem dJ5_sequencedValues_0 : decode cJ5_sequencedValues 0 = .ok (.aload_n 0, 1) := dk_42 (dk_at dksJ5_sequencedValues_0 0 rfl rfl)
theorem dJ5_sequencedValues_1 : decode cJ5_sequencedValues 1 = .ok (.getfield 139, 3) := dk_180 0 139 (dk_at dksJ5_sequencedValues_0 1 rfl rfl)
theorem dJ5_sequencedValues_4 : decode cJ5_sequencedValues 4 = .ok (.astore_n 1, 1) := dk_76 (dk_at dksJ5_sequencedValues_0 4 rfl rfl)
theorem dJ5_sequencedValues_5 : decode cJ5_sequencedValues 5 = .ok (.aload_n 1, 1) := dk_43 (dk_at dksJ5_sequencedValues_0 5 rfl rfl)
theorem dJ5_sequencedValues_6 : decode cJ5_sequencedValues 6 = .ok (.ifnonnull 20, 3) := dk_199 0 20 (dk_at dksJ5_sequencedValues_0 6 rfl rfl)
theorem dJ5_sequencedValues_9 : decode cJ5_sequencedValues 9 = .ok (.new 143, 3) := dk_187 0 143 (dk_at dksJ5_sequencedValues_0 9 rfl rfl)
theorem dJ5_sequencedValues_12 : decode cJ5_sequencedValues 12 = .ok (.dup, 1) := dk_89 (dk_at dksJ5_sequencedValues_0 12 rfl rfl)
theorem dJ5_sequencedValues_13 : decode cJ5_sequencedValues 13 = .ok (.aload_n 0, 1) := dk_42 (dk_at dksJ5_sequencedValues_0 13 rfl rfl)
theorem dJ5_sequencedValues_14 : decode cJ5_sequencedValues 14 = .ok (.iconst 0, 1) := dk_3 (dk_at dksJ5_sequencedValues_0 14 rfl rfl)
theorem dJ5_sequencedValues_15 : decode cJ5_sequencedValues 15 = .ok (.invokespecial 145, 3) := dk_183 0 145 (dk_at dksJ5_sequencedValues_0 15 rfl rfl)
theorem dJ5_sequencedValues_18 : decode cJ5_sequencedValues 18 = .ok (.astore_n 2, 1) := dk_77 (dk_at dksJ5_sequencedValues_0 18 rfl rfl)
theorem dJ5_sequencedValues_19 : decode cJ5_sequencedValues 19 = .ok (.aload_n 0, 1) := dk_42 (dk_at dksJ5_sequencedValues_0 19 rfl rfl)
theorem dJ5_sequencedValues_20 : decode cJ5_sequencedValues 20 = .ok (.aload_n 2, 1) := dk_44 (dk_at dksJ5_sequencedValues_0 20 rfl rfl)
theorem dJ5_sequencedValues_21 : decode cJ5_sequencedValues 21 = .ok (.putfield 139, 3) := dk_181 0 139 (dk_at dksJ5_sequencedValues_0 21 rfl rfl)
theorem dJ5_sequencedValues_24 : decode cJ5_sequencedValues 24 = .ok (.aload_n 2, 1) := dk_44 (dk_at dksJ5_sequencedValues_1 0 rfl rfl)
theorem dJ5_sequencedValues_25 : decode cJ5_sequencedValues 25 = .ok (.areturn, 1) := dk_176 (dk_at dksJ5_sequencedValues_1 1 rfl rfl)
theorem dJ5_sequencedValues_26 : decode cJ5_sequencedValues 26 = .ok (.aload_n 1, 1) := dk_43 (dk_at dksJ5_sequencedValues_1 2 rfl rfl)
theorem dJ5_sequencedValues_27 : decode cJ5_sequencedValues 27 = .ok (.checkcast 146, 3) := dk_192 0 146 (dk_at dksJ5_sequencedValues_1 3 rfl rfl)
theorem dJ5_sequencedValues_30 : decode cJ5_sequencedValues 30 = .ok (.areturn, 1) := dk_176 (dk_at dksJ5_sequencedValues_1 6 rfl rfl)
theorem q91 : (Jvm.Cond.initialized "java/util/LinkedHashMap") ∈ lw_all := lw_g (lw_at lw_m1 8 rfl) rfl
theorem q189 : (Jvm.Cond.instantiable "java/util/LinkedHashMap" (12 : Nat)) ∈ lw_all := lw_g (lw_at lw_m1 106 rfl) rfl
theorem q191 : (Jvm.Cond.instanceMethod ({ cls := "java/util/LinkedHashMap", name := "<init>", desc := "()V" } : Jvm.MethodName)) ∈ lw_all := lw_g (lw_at lw_m1 108 rfl) rfl
theorem q192 : (Jvm.Cond.code ({ cls := "java/util/LinkedHashMap", name := "<init>", desc := "()V" } : Jvm.MethodName) prog_62_method_16_code (1 : Nat) (Option.none : Option Jvm.ClassFile.FieldType)) ∈ lw_all := lw_g (lw_at lw_m1 109 rfl) rfl
theorem q193 : (Jvm.Cond.methodLink "java/util/LinkedHashMap" (87 : Nat) ({ cls := "java/util/HashMap", name := "<init>", desc := "()V" } : Jvm.MethodName)) ∈ lw_all := lw_g (lw_at lw_m1 110 rfl) rfl
theorem q201 : (Jvm.Cond.fieldLink "java/util/LinkedHashMap" (7 : Nat) "java/util/LinkedHashMap" "head" "Ljava/util/LinkedHashMap$Entry;") ∈ lw_all := lw_g (lw_at lw_m1 118 rfl) rfl
theorem q204 : (Jvm.Cond.fieldLink "java/util/LinkedHashMap" (11 : Nat) "java/util/LinkedHashMap" "tail" "Ljava/util/LinkedHashMap$Entry;") ∈ lw_all := lw_g (lw_at lw_m1 121 rfl) rfl
theorem q205 : (Jvm.Cond.fieldLink "java/util/LinkedHashMap" (64 : Nat) "java/util/LinkedHashMap" "accessOrder" "Z") ∈ lw_all := lw_g (lw_at lw_m1 122 rfl) rfl
theorem q206 : (Jvm.Cond.fieldLink "java/util/LinkedHashMap" (1 : Nat) "java/util/LinkedHashMap" "putMode" "I") ∈ lw_all := lw_g (lw_at lw_m1 123 rfl) rfl
theorem q208 : (Jvm.Cond.fieldLink "java/util/LinkedHashMap" (151 : Nat) "java/util/LinkedHashMap" "entrySet" "Ljava/util/Set;") ∈ lw_all := lw_g (lw_at lw_m1 125 rfl) rfl
theorem q209 : (Jvm.Cond.sameField "java/util/LinkedHashMap" "java/util/HashMap" "entrySet" "Ljava/util/Set;") ∈ lw_all := lw_g (lw_at lw_m1 126 rfl) rfl
theorem q212 : (Jvm.Cond.sameField "java/util/LinkedHashMap" "java/util/HashMap" "modCount" "I") ∈ lw_all := lw_g (lw_at lw_m1 129 rfl) rfl
theorem q213 : (Jvm.Cond.fieldLink "java/util/LinkedHashMap" (68 : Nat) "java/util/LinkedHashMap" "modCount" "I") ∈ lw_all := lw_g (lw_at lw_m1 130 rfl) rfl
theorem q217 : (Jvm.Cond.fieldLink "java/util/LinkedHashMap" (117 : Nat) "java/util/LinkedHashMap" "keySet" "Ljava/util/Set;") ∈ lw_all := lw_g (lw_at lw_m1 134 rfl) rfl
theorem q218 : (Jvm.Cond.sameField "java/util/LinkedHashMap" "java/util/AbstractMap" "keySet" "Ljava/util/Set;") ∈ lw_all := lw_g (lw_at lw_m1 135 rfl) rfl
theorem q219 : (Jvm.Cond.fieldLink "java/util/LinkedHashMap" (139 : Nat) "java/util/LinkedHashMap" "values" "Ljava/util/Collection;") ∈ lw_all := lw_g (lw_at lw_m1 136 rfl) rfl
theorem q220 : (Jvm.Cond.sameField "java/util/LinkedHashMap" "java/util/AbstractMap" "values" "Ljava/util/Collection;") ∈ lw_all := lw_g (lw_at lw_m1 137 rfl) rfl
theorem q221 : (Jvm.Cond.lays "java/util/LinkedHashMap" "java/util/LinkedHashMap" "head" "Ljava/util/LinkedHashMap$Entry;") ∈ lw_all := lw_g (lw_at lw_m1 138 rfl) rfl
theorem q222 : (Jvm.Cond.soleField "java/util/LinkedHashMap" "head") ∈ lw_all := lw_g (lw_at lw_m1 139 rfl) rfl
theorem q223 : (Jvm.Cond.lays "java/util/LinkedHashMap" "java/util/LinkedHashMap" "tail" "Ljava/util/LinkedHashMap$Entry;") ∈ lw_all := lw_g (lw_at lw_m1 140 rfl) rfl
theorem q224 : (Jvm.Cond.soleField "java/util/LinkedHashMap" "tail") ∈ lw_all := lw_g (lw_at lw_m1 141 rfl) rfl
theorem q225 : (Jvm.Cond.laysFinal "java/util/LinkedHashMap" "java/util/LinkedHashMap" "accessOrder" "Z") ∈ lw_all := lw_g (lw_at lw_m1 142 rfl) rfl
theorem q226 : (Jvm.Cond.soleField "java/util/LinkedHashMap" "accessOrder") ∈ lw_all := lw_g (lw_at lw_m1 143 rfl) rfl
theorem q227 : (Jvm.Cond.lays "java/util/LinkedHashMap" "java/util/LinkedHashMap" "putMode" "I") ∈ lw_all := lw_g (lw_at lw_m1 144 rfl) rfl
theorem q228 : (Jvm.Cond.soleField "java/util/LinkedHashMap" "putMode") ∈ lw_all := lw_g (lw_at lw_m1 145 rfl) rfl
theorem q229 : (Jvm.Cond.lays "java/util/LinkedHashMap" "java/util/HashMap" "table" "[Ljava/util/HashMap$Node;") ∈ lw_all := lw_g (lw_at lw_m1 146 rfl) rfl
theorem q231 : (Jvm.Cond.lays "java/util/LinkedHashMap" "java/util/HashMap" "entrySet" "Ljava/util/Set;") ∈ lw_all := lw_g (lw_at lw_m1 148 rfl) rfl
theorem q233 : (Jvm.Cond.lays "java/util/LinkedHashMap" "java/util/HashMap" "size" "I") ∈ lw_all := lw_g (lw_at lw_m1 150 rfl) rfl
theorem q235 : (Jvm.Cond.lays "java/util/LinkedHashMap" "java/util/HashMap" "modCount" "I") ∈ lw_all := lw_g (lw_at lw_m1 152 rfl) rfl
theorem q237 : (Jvm.Cond.lays "java/util/LinkedHashMap" "java/util/HashMap" "threshold" "I") ∈ lw_all := lw_g (lw_at lw_m1 154 rfl) rfl
theorem q239 : (Jvm.Cond.laysFinal "java/util/LinkedHashMap" "java/util/HashMap" "loadFactor" "F") ∈ lw_all := lw_g (lw_at lw_m1 156 rfl) rfl
theorem q241 : (Jvm.Cond.lays "java/util/LinkedHashMap" "java/util/AbstractMap" "keySet" "Ljava/util/Set;") ∈ lw_all := lw_g (lw_at lw_m1 158 rfl) rfl
theorem q243 : (Jvm.Cond.lays "java/util/LinkedHashMap" "java/util/AbstractMap" "values" "Ljava/util/Collection;") ∈ lw_all := lw_g (lw_at lw_m1 160 rfl) rfl
theorem q245 : (Jvm.Cond.superclass "java/util/LinkedHashMap" "java/util/HashMap") ∈ lw_all := lw_g (lw_at lw_m1 162 rfl) rfl
theorem q330 : (Jvm.Cond.selects "java/util/LinkedHashMap" ({ cls := "java/lang/Object", name := "getClass", desc := "()Ljava/lang/Class;" } : Jvm.MethodName) ({ cls := "java/lang/Object", name := "getClass", desc := "()Ljava/lang/Class;" } : Jvm.MethodName)) ∈ lw_all := lw_g (lw_at lw_m2 7 rfl) rfl
theorem q446 : (Jvm.Cond.instanceMethod ({ cls := "java/util/LinkedHashMap", name := "get", desc := "(Ljava/lang/Object;)Ljava/lang/Object;" } : Jvm.MethodName)) ∈ lw_all := lw_g (lw_at lw_m2 123 rfl) rfl
theorem q447 : (Jvm.Cond.selects "java/util/LinkedHashMap" ({ cls := "java/util/LinkedHashMap", name := "get", desc := "(Ljava/lang/Object;)Ljava/lang/Object;" } : Jvm.MethodName) ({ cls := "java/util/LinkedHashMap", name := "get", desc := "(Ljava/lang/Object;)Ljava/lang/Object;" } : Jvm.MethodName)) ∈ lw_all := lw_g (lw_at lw_m2 124 rfl) rfl
theorem q448 : (Jvm.Cond.code ({ cls := "java/util/LinkedHashMap", name := "get", desc := "(Ljava/lang/Object;)Ljava/lang/Object;" } : Jvm.MethodName) prog_62_method_20_code (3 : Nat) (Option.some (Jvm.ClassFile.FieldType.object "java/lang/Object"))) ∈ lw_all := lw_g (lw_at lw_m2 125 rfl) rfl
theorem q449 : (Jvm.Cond.methodLink "java/util/LinkedHashMap" (99 : Nat) ({ cls := "java/util/LinkedHashMap", name := "getNode", desc := "(Ljava/lang/Object;)Ljava/util/HashMap$Node;" } : Jvm.MethodName)) ∈ lw_all := lw_g (lw_at lw_m2 126 rfl) rfl
theorem q450 : (Jvm.Cond.sameMethod "java/util/LinkedHashMap" "java/util/HashMap" "getNode" "(Ljava/lang/Object;)Ljava/util/HashMap$Node;") ∈ lw_all := lw_g (lw_at lw_m2 127 rfl) rfl
theorem q452 : (Jvm.Cond.selects "java/util/LinkedHashMap" ({ cls := "java/util/LinkedHashMap", name := "getNode", desc := "(Ljava/lang/Object;)Ljava/util/HashMap$Node;" } : Jvm.MethodName) ({ cls := "java/util/HashMap", name := "getNode", desc := "(Ljava/lang/Object;)Ljava/util/HashMap$Node;" } : Jvm.MethodName)) ∈ lw_all := lw_g (lw_at lw_m2 129 rfl) rfl
theorem q1084 : (Jvm.Cond.methodLink "java/util/LinkedHashMap" (103 : Nat) ({ cls := "java/util/LinkedHashMap", name := "afterNodeAccess", desc := "(Ljava/util/HashMap$Node;)V" } : Jvm.MethodName)) ∈ lw_all := lw_g (lw_at lw_m5 41 rfl) rfl
theorem q1085 : (Jvm.Cond.instanceMethod ({ cls := "java/util/LinkedHashMap", name := "afterNodeAccess", desc := "(Ljava/util/HashMap$Node;)V" } : Jvm.MethodName)) ∈ lw_all := lw_g (lw_at lw_m5 42 rfl) rfl
theorem q1086 : (Jvm.Cond.selects "java/util/LinkedHashMap" ({ cls := "java/util/LinkedHashMap", name := "afterNodeAccess", desc := "(Ljava/util/HashMap$Node;)V" } : Jvm.MethodName) ({ cls := "java/util/LinkedHashMap", name := "afterNodeAccess", desc := "(Ljava/util/HashMap$Node;)V" } : Jvm.MethodName)) ∈ lw_all := lw_g (lw_at lw_m5 43 rfl) rfl
theorem q1087 : (Jvm.Cond.code ({ cls := "java/util/LinkedHashMap", name := "afterNodeAccess", desc := "(Ljava/util/HashMap$Node;)V" } : Jvm.MethodName) prog_62_method_10_code (7 : Nat) (Option.none : Option Jvm.ClassFile.FieldType)) ∈ lw_all := lw_g (lw_at lw_m5 44 rfl) rfl
theorem q1088 : (Jvm.Cond.classLink "java/util/LinkedHashMap" (15 : Nat) "java/util/LinkedHashMap$Entry") ∈ lw_all := lw_g (lw_at lw_m5 45 rfl) rfl
theorem q1225 : (Jvm.Cond.sameMethod "java/util/LinkedHashMap" "java/util/HashMap" "putAll" "(Ljava/util/Map;)V") ∈ lw_all := lw_g (lw_at lw_m5 182 rfl) rfl
theorem q1227 : (Jvm.Cond.selects "java/util/LinkedHashMap" ({ cls := "java/util/LinkedHashMap", name := "putAll", desc := "(Ljava/util/Map;)V" } : Jvm.MethodName) ({ cls := "java/util/HashMap", name := "putAll", desc := "(Ljava/util/Map;)V" } : Jvm.MethodName)) ∈ lw_all := lw_g (lw_at lw_m5 184 rfl) rfl
theorem q1233 : (Jvm.Cond.selects "java/util/LinkedHashMap" ({ cls := "java/util/HashMap", name := "putMapEntries", desc := "(Ljava/util/Map;Z)V" } : Jvm.MethodName) ({ cls := "java/util/HashMap", name := "putMapEntries", desc := "(Ljava/util/Map;Z)V" } : Jvm.MethodName)) ∈ lw_all := lw_g (lw_at lw_m5 190 rfl) rfl
theorem q1239 : (Jvm.Cond.castable "java/util/LinkedHashMap" "java/util/Map") ∈ lw_tbl := lw_at lw_m5 196 rfl
theorem q1240 : (Jvm.Cond.selects "java/util/LinkedHashMap" ({ cls := "java/util/Map", name := "size", desc := "()I" } : Jvm.MethodName) ({ cls := "java/util/HashMap", name := "size", desc := "()I" } : Jvm.MethodName)) ∈ lw_all := lw_g (lw_at lw_m5 197 rfl) rfl
theorem q1241 : (Jvm.Cond.unhidden "java/util/LinkedHashMap" "size" "()I") ∈ lw_tbl := lw_at lw_m5 198 rfl
theorem q1280 : (Jvm.Cond.selects "java/util/LinkedHashMap" ({ cls := "java/util/HashMap", name := "resize", desc := "()[Ljava/util/HashMap$Node;" } : Jvm.MethodName) ({ cls := "java/util/HashMap", name := "resize", desc := "()[Ljava/util/HashMap$Node;" } : Jvm.MethodName)) ∈ lw_all := lw_g (lw_at lw_m5 237 rfl) rfl
theorem q1298 : (Jvm.Cond.selects "java/util/LinkedHashMap" ({ cls := "java/util/HashMap", name := "replacementNode", desc := "(Ljava/util/HashMap$Node;Ljava/util/HashMap$Node;)Ljava/util/HashMap$Node;" } : Jvm.MethodName) ({ cls := "java/util/LinkedHashMap", name := "replacementNode", desc := "(Ljava/util/HashMap$Node;Ljava/util/HashMap$Node;)Ljava/util/HashMap$Node;" } : Jvm.MethodName)) ∈ lw_all := lw_g (lw_at lw_m6 15 rfl) rfl
theorem q1299 : (Jvm.Cond.instanceMethod ({ cls := "java/util/LinkedHashMap", name := "replacementNode", desc := "(Ljava/util/HashMap$Node;Ljava/util/HashMap$Node;)Ljava/util/HashMap$Node;" } : Jvm.MethodName)) ∈ lw_all := lw_g (lw_at lw_m6 16 rfl) rfl
theorem q1300 : (Jvm.Cond.code ({ cls := "java/util/LinkedHashMap", name := "replacementNode", desc := "(Ljava/util/HashMap$Node;Ljava/util/HashMap$Node;)Ljava/util/HashMap$Node;" } : Jvm.MethodName) prog_62_method_5_code (5 : Nat) (Option.some (Jvm.ClassFile.FieldType.object "java/util/HashMap$Node"))) ∈ lw_all := lw_g (lw_at lw_m6 17 rfl) rfl
theorem q1302 : (Jvm.Cond.methodLink "java/util/LinkedHashMap" (28 : Nat) ({ cls := "java/util/LinkedHashMap$Entry", name := "<init>", desc := "(ILjava/lang/Object;Ljava/lang/Object;Ljava/util/HashMap$Node;)V" } : Jvm.MethodName)) ∈ lw_all := lw_g (lw_at lw_m6 19 rfl) rfl
theorem q1309 : (Jvm.Cond.fieldLink "java/util/LinkedHashMap" (19 : Nat) "java/util/LinkedHashMap$Entry" "before" "Ljava/util/LinkedHashMap$Entry;") ∈ lw_all := lw_g (lw_at lw_m6 26 rfl) rfl
theorem q1311 : (Jvm.Cond.fieldLink "java/util/LinkedHashMap" (14 : Nat) "java/util/LinkedHashMap$Entry" "after" "Ljava/util/LinkedHashMap$Entry;") ∈ lw_all := lw_g (lw_at lw_m6 28 rfl) rfl
theorem q1317 : (Jvm.Cond.fieldLink "java/util/LinkedHashMap" (36 : Nat) "java/util/LinkedHashMap$Entry" "hash" "I") ∈ lw_all := lw_g (lw_at lw_m6 34 rfl) rfl
theorem q1324 : (Jvm.Cond.fieldLink "java/util/LinkedHashMap" (39 : Nat) "java/util/LinkedHashMap$Entry" "key" "Ljava/lang/Object;") ∈ lw_all := lw_g (lw_at lw_m6 41 rfl) rfl
theorem q1330 : (Jvm.Cond.fieldLink "java/util/LinkedHashMap" (43 : Nat) "java/util/LinkedHashMap$Entry" "value" "Ljava/lang/Object;") ∈ lw_all := lw_g (lw_at lw_m6 47 rfl) rfl
theorem q1332 : (Jvm.Cond.fieldLink "java/util/LinkedHashMap" (107 : Nat) "java/util/HashMap$Node" "value" "Ljava/lang/Object;") ∈ lw_all := lw_g (lw_at lw_m6 49 rfl) rfl
theorem q1352 : (Jvm.Cond.methodLink "java/util/LinkedHashMap" (46 : Nat) ({ cls := "java/util/LinkedHashMap", name := "transferLinks", desc := "(Ljava/util/LinkedHashMap$Entry;Ljava/util/LinkedHashMap$Entry;)V" } : Jvm.MethodName)) ∈ lw_all := lw_g (lw_at lw_m6 69 rfl) rfl
theorem q1353 : (Jvm.Cond.privateMethod ({ cls := "java/util/LinkedHashMap", name := "transferLinks", desc := "(Ljava/util/LinkedHashMap$Entry;Ljava/util/LinkedHashMap$Entry;)V" } : Jvm.MethodName)) ∈ lw_tbl := lw_at lw_m6 70 rfl
theorem q1354 : (Jvm.Cond.instanceMethod ({ cls := "java/util/LinkedHashMap", name := "transferLinks", desc := "(Ljava/util/LinkedHashMap$Entry;Ljava/util/LinkedHashMap$Entry;)V" } : Jvm.MethodName)) ∈ lw_all := lw_g (lw_at lw_m6 71 rfl) rfl
theorem q1355 : (Jvm.Cond.code ({ cls := "java/util/LinkedHashMap", name := "transferLinks", desc := "(Ljava/util/LinkedHashMap$Entry;Ljava/util/LinkedHashMap$Entry;)V" } : Jvm.MethodName) prog_62_method_2_code (5 : Nat) (Option.none : Option Jvm.ClassFile.FieldType)) ∈ lw_all := lw_g (lw_at lw_m6 72 rfl) rfl
theorem q1379 : (Jvm.Cond.selects "java/util/LinkedHashMap" ({ cls := "java/util/Map", name := "entrySet", desc := "()Ljava/util/Set;" } : Jvm.MethodName) ({ cls := "java/util/LinkedHashMap", name := "entrySet", desc := "()Ljava/util/Set;" } : Jvm.MethodName)) ∈ lw_all := lw_g (lw_at lw_m6 96 rfl) rfl
theorem q1380 : (Jvm.Cond.unhidden "java/util/LinkedHashMap" "entrySet" "()Ljava/util/Set;") ∈ lw_tbl := lw_at lw_m6 97 rfl
theorem q1381 : (Jvm.Cond.instanceMethod ({ cls := "java/util/LinkedHashMap", name := "entrySet", desc := "()Ljava/util/Set;" } : Jvm.MethodName)) ∈ lw_all := lw_g (lw_at lw_m6 98 rfl) rfl
theorem q1382 : (Jvm.Cond.publicMethod ({ cls := "java/util/LinkedHashMap", name := "entrySet", desc := "()Ljava/util/Set;" } : Jvm.MethodName)) ∈ lw_tbl := lw_at lw_m6 99 rfl
theorem q1383 : (Jvm.Cond.code ({ cls := "java/util/LinkedHashMap", name := "entrySet", desc := "()Ljava/util/Set;" } : Jvm.MethodName) prog_62_method_32_code (1 : Nat) (Option.some (Jvm.ClassFile.FieldType.object "java/util/Set"))) ∈ lw_all := lw_g (lw_at lw_m6 100 rfl) rfl
theorem q1384 : (Jvm.Cond.methodLink "java/util/LinkedHashMap" (148 : Nat) ({ cls := "java/util/LinkedHashMap", name := "sequencedEntrySet", desc := "()Ljava/util/SequencedSet;" } : Jvm.MethodName)) ∈ lw_all := lw_g (lw_at lw_m6 101 rfl) rfl
theorem q1385 : (Jvm.Cond.instanceMethod ({ cls := "java/util/LinkedHashMap", name := "sequencedEntrySet", desc := "()Ljava/util/SequencedSet;" } : Jvm.MethodName)) ∈ lw_all := lw_g (lw_at lw_m6 102 rfl) rfl
theorem q1386 : (Jvm.Cond.selects "java/util/LinkedHashMap" ({ cls := "java/util/LinkedHashMap", name := "sequencedEntrySet", desc := "()Ljava/util/SequencedSet;" } : Jvm.MethodName) ({ cls := "java/util/LinkedHashMap", name := "sequencedEntrySet", desc := "()Ljava/util/SequencedSet;" } : Jvm.MethodName)) ∈ lw_all := lw_g (lw_at lw_m6 103 rfl) rfl
theorem q1387 : (Jvm.Cond.code ({ cls := "java/util/LinkedHashMap", name := "sequencedEntrySet", desc := "()Ljava/util/SequencedSet;" } : Jvm.MethodName) prog_62_method_33_code (3 : Nat) (Option.some (Jvm.ClassFile.FieldType.object "java/util/SequencedSet"))) ∈ lw_all := lw_g (lw_at lw_m6 104 rfl) rfl
theorem q1388 : (Jvm.Cond.classLink "java/util/LinkedHashMap" (154 : Nat) "java/util/LinkedHashMap$LinkedEntrySet") ∈ lw_all := lw_g (lw_at lw_m6 105 rfl) rfl
theorem q1390 : (Jvm.Cond.methodLink "java/util/LinkedHashMap" (156 : Nat) ({ cls := "java/util/LinkedHashMap$LinkedEntrySet", name := "<init>", desc := "(Ljava/util/LinkedHashMap;Z)V" } : Jvm.MethodName)) ∈ lw_all := lw_g (lw_at lw_m6 107 rfl) rfl
theorem q1404 : (Jvm.Cond.classLink "java/util/LinkedHashMap" (126 : Nat) "java/util/SequencedSet") ∈ lw_all := lw_g (lw_at lw_m6 121 rfl) rfl
theorem q1585 : (Jvm.Cond.selects "java/util/LinkedHashMap" ({ cls := "java/util/HashMap", name := "putVal", desc := "(ILjava/lang/Object;Ljava/lang/Object;ZZ)Ljava/lang/Object;" } : Jvm.MethodName) ({ cls := "java/util/HashMap", name := "putVal", desc := "(ILjava/lang/Object;Ljava/lang/Object;ZZ)Ljava/lang/Object;" } : Jvm.MethodName)) ∈ lw_all := lw_g (lw_at lw_m7 62 rfl) rfl
theorem q1590 : (Jvm.Cond.selects "java/util/LinkedHashMap" ({ cls := "java/util/HashMap", name := "newNode", desc := "(ILjava/lang/Object;Ljava/lang/Object;Ljava/util/HashMap$Node;)Ljava/util/HashMap$Node;" } : Jvm.MethodName) ({ cls := "java/util/LinkedHashMap", name := "newNode", desc := "(ILjava/lang/Object;Ljava/lang/Object;Ljava/util/HashMap$Node;)Ljava/util/HashMap$Node;" } : Jvm.MethodName)) ∈ lw_all := lw_g (lw_at lw_m7 67 rfl) rfl
theorem q1591 : (Jvm.Cond.instanceMethod ({ cls := "java/util/LinkedHashMap", name := "newNode", desc := "(ILjava/lang/Object;Ljava/lang/Object;Ljava/util/HashMap$Node;)Ljava/util/HashMap$Node;" } : Jvm.MethodName)) ∈ lw_all := lw_g (lw_at lw_m7 68 rfl) rfl
theorem q1592 : (Jvm.Cond.code ({ cls := "java/util/LinkedHashMap", name := "newNode", desc := "(ILjava/lang/Object;Ljava/lang/Object;Ljava/util/HashMap$Node;)Ljava/util/HashMap$Node;" } : Jvm.MethodName) prog_62_method_4_code (6 : Nat) (Option.some (Jvm.ClassFile.FieldType.object "java/util/HashMap$Node"))) ∈ lw_all := lw_g (lw_at lw_m7 69 rfl) rfl
theorem q1593 : (Jvm.Cond.methodLink "java/util/LinkedHashMap" (32 : Nat) ({ cls := "java/util/LinkedHashMap", name := "linkNodeAtEnd", desc := "(Ljava/util/LinkedHashMap$Entry;)V" } : Jvm.MethodName)) ∈ lw_all := lw_g (lw_at lw_m7 70 rfl) rfl
theorem q1594 : (Jvm.Cond.privateMethod ({ cls := "java/util/LinkedHashMap", name := "linkNodeAtEnd", desc := "(Ljava/util/LinkedHashMap$Entry;)V" } : Jvm.MethodName)) ∈ lw_tbl := lw_at lw_m7 71 rfl
theorem q1595 : (Jvm.Cond.instanceMethod ({ cls := "java/util/LinkedHashMap", name := "linkNodeAtEnd", desc := "(Ljava/util/LinkedHashMap$Entry;)V" } : Jvm.MethodName)) ∈ lw_all := lw_g (lw_at lw_m7 72 rfl) rfl
theorem q1596 : (Jvm.Cond.code ({ cls := "java/util/LinkedHashMap", name := "linkNodeAtEnd", desc := "(Ljava/util/LinkedHashMap$Entry;)V" } : Jvm.MethodName) prog_62_method_1_code (3 : Nat) (Option.none : Option Jvm.ClassFile.FieldType)) ∈ lw_all := lw_g (lw_at lw_m7 73 rfl) rfl
theorem q1605 : (Jvm.Cond.selects "java/util/LinkedHashMap" ({ cls := "java/util/HashMap", name := "newTreeNode", desc := "(ILjava/lang/Object;Ljava/lang/Object;Ljava/util/HashMap$Node;)Ljava/util/HashMap$TreeNode;" } : Jvm.MethodName) ({ cls := "java/util/LinkedHashMap", name := "newTreeNode", desc := "(ILjava/lang/Object;Ljava/lang/Object;Ljava/util/HashMap$Node;)Ljava/util/HashMap$TreeNode;" } : Jvm.MethodName)) ∈ lw_all := lw_g (lw_at lw_m7 82 rfl) rfl
theorem q1606 : (Jvm.Cond.instanceMethod ({ cls := "java/util/LinkedHashMap", name := "newTreeNode", desc := "(ILjava/lang/Object;Ljava/lang/Object;Ljava/util/HashMap$Node;)Ljava/util/HashMap$TreeNode;" } : Jvm.MethodName)) ∈ lw_all := lw_g (lw_at lw_m7 83 rfl) rfl
theorem q1607 : (Jvm.Cond.code ({ cls := "java/util/LinkedHashMap", name := "newTreeNode", desc := "(ILjava/lang/Object;Ljava/lang/Object;Ljava/util/HashMap$Node;)Ljava/util/HashMap$TreeNode;" } : Jvm.MethodName) prog_62_method_6_code (6 : Nat) (Option.some (Jvm.ClassFile.FieldType.object "java/util/HashMap$TreeNode"))) ∈ lw_all := lw_g (lw_at lw_m7 84 rfl) rfl
theorem q1608 : (Jvm.Cond.classLink "java/util/LinkedHashMap" (50 : Nat) "java/util/HashMap$TreeNode") ∈ lw_all := lw_g (lw_at lw_m7 85 rfl) rfl
theorem q1610 : (Jvm.Cond.methodLink "java/util/LinkedHashMap" (52 : Nat) ({ cls := "java/util/HashMap$TreeNode", name := "<init>", desc := "(ILjava/lang/Object;Ljava/lang/Object;Ljava/util/HashMap$Node;)V" } : Jvm.MethodName)) ∈ lw_all := lw_g (lw_at lw_m7 87 rfl) rfl
theorem q1641 : (Jvm.Cond.selects "java/util/LinkedHashMap" ({ cls := "java/util/HashMap", name := "treeifyBin", desc := "([Ljava/util/HashMap$Node;I)V" } : Jvm.MethodName) ({ cls := "java/util/HashMap", name := "treeifyBin", desc := "([Ljava/util/HashMap$Node;I)V" } : Jvm.MethodName)) ∈ lw_all := lw_g (lw_at lw_m7 118 rfl) rfl
theorem q1646 : (Jvm.Cond.selects "java/util/LinkedHashMap" ({ cls := "java/util/HashMap", name := "replacementTreeNode", desc := "(Ljava/util/HashMap$Node;Ljava/util/HashMap$Node;)Ljava/util/HashMap$TreeNode;" } : Jvm.MethodName) ({ cls := "java/util/LinkedHashMap", name := "replacementTreeNode", desc := "(Ljava/util/HashMap$Node;Ljava/util/HashMap$Node;)Ljava/util/HashMap$TreeNode;" } : Jvm.MethodName)) ∈ lw_all := lw_g (lw_at lw_m7 123 rfl) rfl
theorem q1647 : (Jvm.Cond.instanceMethod ({ cls := "java/util/LinkedHashMap", name := "replacementTreeNode", desc := "(Ljava/util/HashMap$Node;Ljava/util/HashMap$Node;)Ljava/util/HashMap$TreeNode;" } : Jvm.MethodName)) ∈ lw_all := lw_g (lw_at lw_m7 124 rfl) rfl
theorem q1648 : (Jvm.Cond.code ({ cls := "java/util/LinkedHashMap", name := "replacementTreeNode", desc := "(Ljava/util/HashMap$Node;Ljava/util/HashMap$Node;)Ljava/util/HashMap$TreeNode;" } : Jvm.MethodName) prog_62_method_7_code (5 : Nat) (Option.some (Jvm.ClassFile.FieldType.object "java/util/HashMap$TreeNode"))) ∈ lw_all := lw_g (lw_at lw_m7 125 rfl) rfl
theorem q1654 : (Jvm.Cond.selects "java/util/LinkedHashMap" ({ cls := "java/util/HashMap", name := "afterNodeAccess", desc := "(Ljava/util/HashMap$Node;)V" } : Jvm.MethodName) ({ cls := "java/util/LinkedHashMap", name := "afterNodeAccess", desc := "(Ljava/util/HashMap$Node;)V" } : Jvm.MethodName)) ∈ lw_all := lw_g (lw_at lw_m7 131 rfl) rfl
theorem q1659 : (Jvm.Cond.selects "java/util/LinkedHashMap" ({ cls := "java/util/HashMap", name := "afterNodeInsertion", desc := "(Z)V" } : Jvm.MethodName) ({ cls := "java/util/LinkedHashMap", name := "afterNodeInsertion", desc := "(Z)V" } : Jvm.MethodName)) ∈ lw_all := lw_g (lw_at lw_m7 136 rfl) rfl
theorem q1660 : (Jvm.Cond.instanceMethod ({ cls := "java/util/LinkedHashMap", name := "afterNodeInsertion", desc := "(Z)V" } : Jvm.MethodName)) ∈ lw_all := lw_g (lw_at lw_m7 137 rfl) rfl
theorem q1661 : (Jvm.Cond.code ({ cls := "java/util/LinkedHashMap", name := "afterNodeInsertion", desc := "(Z)V" } : Jvm.MethodName) prog_62_method_9_code (4 : Nat) (Option.none : Option Jvm.ClassFile.FieldType)) ∈ lw_all := lw_g (lw_at lw_m7 138 rfl) rfl
theorem q1662 : (Jvm.Cond.methodLink "java/util/LinkedHashMap" (53 : Nat) ({ cls := "java/util/LinkedHashMap", name := "removeEldestEntry", desc := "(Ljava/util/Map$Entry;)Z" } : Jvm.MethodName)) ∈ lw_all := lw_g (lw_at lw_m7 139 rfl) rfl
theorem q1663 : (Jvm.Cond.instanceMethod ({ cls := "java/util/LinkedHashMap", name := "removeEldestEntry", desc := "(Ljava/util/Map$Entry;)Z" } : Jvm.MethodName)) ∈ lw_all := lw_g (lw_at lw_m7 140 rfl) rfl
theorem q1664 : (Jvm.Cond.selects "java/util/LinkedHashMap" ({ cls := "java/util/LinkedHashMap", name := "removeEldestEntry", desc := "(Ljava/util/Map$Entry;)Z" } : Jvm.MethodName) ({ cls := "java/util/LinkedHashMap", name := "removeEldestEntry", desc := "(Ljava/util/Map$Entry;)Z" } : Jvm.MethodName)) ∈ lw_all := lw_g (lw_at lw_m7 141 rfl) rfl
theorem q1665 : (Jvm.Cond.code ({ cls := "java/util/LinkedHashMap", name := "removeEldestEntry", desc := "(Ljava/util/Map$Entry;)Z" } : Jvm.MethodName) prog_62_method_23_code (2 : Nat) (Option.some Jvm.ClassFile.FieldType.boolean)) ∈ lw_all := lw_g (lw_at lw_m7 142 rfl) rfl
theorem q1846 : (Jvm.Cond.instanceMethod ({ cls := "java/util/LinkedHashMap", name := "keySet", desc := "()Ljava/util/Set;" } : Jvm.MethodName)) ∈ lw_all := lw_g (lw_at lw_m8 83 rfl) rfl
theorem q1847 : (Jvm.Cond.selects "java/util/LinkedHashMap" ({ cls := "java/util/LinkedHashMap", name := "keySet", desc := "()Ljava/util/Set;" } : Jvm.MethodName) ({ cls := "java/util/LinkedHashMap", name := "keySet", desc := "()Ljava/util/Set;" } : Jvm.MethodName)) ∈ lw_all := lw_g (lw_at lw_m8 84 rfl) rfl
theorem q1848 : (Jvm.Cond.code ({ cls := "java/util/LinkedHashMap", name := "keySet", desc := "()Ljava/util/Set;" } : Jvm.MethodName) prog_62_method_24_code (1 : Nat) (Option.some (Jvm.ClassFile.FieldType.object "java/util/Set"))) ∈ lw_all := lw_g (lw_at lw_m8 85 rfl) rfl
theorem q1849 : (Jvm.Cond.methodLink "java/util/LinkedHashMap" (113 : Nat) ({ cls := "java/util/LinkedHashMap", name := "sequencedKeySet", desc := "()Ljava/util/SequencedSet;" } : Jvm.MethodName)) ∈ lw_all := lw_g (lw_at lw_m8 86 rfl) rfl
theorem q1850 : (Jvm.Cond.instanceMethod ({ cls := "java/util/LinkedHashMap", name := "sequencedKeySet", desc := "()Ljava/util/SequencedSet;" } : Jvm.MethodName)) ∈ lw_all := lw_g (lw_at lw_m8 87 rfl) rfl
theorem q1851 : (Jvm.Cond.selects "java/util/LinkedHashMap" ({ cls := "java/util/LinkedHashMap", name := "sequencedKeySet", desc := "()Ljava/util/SequencedSet;" } : Jvm.MethodName) ({ cls := "java/util/LinkedHashMap", name := "sequencedKeySet", desc := "()Ljava/util/SequencedSet;" } : Jvm.MethodName)) ∈ lw_all := lw_g (lw_at lw_m8 88 rfl) rfl
theorem q1852 : (Jvm.Cond.code ({ cls := "java/util/LinkedHashMap", name := "sequencedKeySet", desc := "()Ljava/util/SequencedSet;" } : Jvm.MethodName) prog_62_method_25_code (3 : Nat) (Option.some (Jvm.ClassFile.FieldType.object "java/util/SequencedSet"))) ∈ lw_all := lw_g (lw_at lw_m8 89 rfl) rfl
theorem q1853 : (Jvm.Cond.classLink "java/util/LinkedHashMap" (121 : Nat) "java/util/LinkedHashMap$LinkedKeySet") ∈ lw_all := lw_g (lw_at lw_m8 90 rfl) rfl
theorem q1855 : (Jvm.Cond.methodLink "java/util/LinkedHashMap" (123 : Nat) ({ cls := "java/util/LinkedHashMap$LinkedKeySet", name := "<init>", desc := "(Ljava/util/LinkedHashMap;Z)V" } : Jvm.MethodName)) ∈ lw_all := lw_g (lw_at lw_m8 92 rfl) rfl
theorem q1916 : (Jvm.Cond.sameMethod "java/util/LinkedHashMap" "java/util/HashMap" "removeNode" "(ILjava/lang/Object;Ljava/lang/Object;ZZ)Ljava/util/HashMap$Node;") ∈ lw_all := lw_g (lw_at lw_m8 153 rfl) rfl
theorem q1918 : (Jvm.Cond.selects "java/util/LinkedHashMap" ({ cls := "java/util/LinkedHashMap", name := "removeNode", desc := "(ILjava/lang/Object;Ljava/lang/Object;ZZ)Ljava/util/HashMap$Node;" } : Jvm.MethodName) ({ cls := "java/util/HashMap", name := "removeNode", desc := "(ILjava/lang/Object;Ljava/lang/Object;ZZ)Ljava/util/HashMap$Node;" } : Jvm.MethodName)) ∈ lw_all := lw_g (lw_at lw_m8 155 rfl) rfl
theorem q1931 : (Jvm.Cond.selects "java/util/LinkedHashMap" ({ cls := "java/util/HashMap", name := "afterNodeRemoval", desc := "(Ljava/util/HashMap$Node;)V" } : Jvm.MethodName) ({ cls := "java/util/LinkedHashMap", name := "afterNodeRemoval", desc := "(Ljava/util/HashMap$Node;)V" } : Jvm.MethodName)) ∈ lw_all := lw_g (lw_at lw_m8 168 rfl) rfl
theorem q1932 : (Jvm.Cond.instanceMethod ({ cls := "java/util/LinkedHashMap", name := "afterNodeRemoval", desc := "(Ljava/util/HashMap$Node;)V" } : Jvm.MethodName)) ∈ lw_all := lw_g (lw_at lw_m8 169 rfl) rfl
theorem q1933 : (Jvm.Cond.code ({ cls := "java/util/LinkedHashMap", name := "afterNodeRemoval", desc := "(Ljava/util/HashMap$Node;)V" } : Jvm.MethodName) prog_62_method_8_code (5 : Nat) (Option.none : Option Jvm.ClassFile.FieldType)) ∈ lw_all := lw_g (lw_at lw_m8 170 rfl) rfl
theorem q1963 : (Jvm.Cond.sameMethod "java/util/LinkedHashMap" "java/util/HashMap" "put" "(Ljava/lang/Object;Ljava/lang/Object;)Ljava/lang/Object;") ∈ lw_all := lw_g (lw_at lw_m8 200 rfl) rfl
theorem q1965 : (Jvm.Cond.selects "java/util/LinkedHashMap" ({ cls := "java/util/LinkedHashMap", name := "put", desc := "(Ljava/lang/Object;Ljava/lang/Object;)Ljava/lang/Object;" } : Jvm.MethodName) ({ cls := "java/util/HashMap", name := "put", desc := "(Ljava/lang/Object;Ljava/lang/Object;)Ljava/lang/Object;" } : Jvm.MethodName)) ∈ lw_all := lw_g (lw_at lw_m8 202 rfl) rfl
theorem q1990 : (Jvm.Cond.sameMethod "java/util/LinkedHashMap" "java/util/HashMap" "size" "()I") ∈ lw_all := lw_g (lw_at lw_m8 227 rfl) rfl
theorem q1992 : (Jvm.Cond.selects "java/util/LinkedHashMap" ({ cls := "java/util/LinkedHashMap", name := "size", desc := "()I" } : Jvm.MethodName) ({ cls := "java/util/HashMap", name := "size", desc := "()I" } : Jvm.MethodName)) ∈ lw_all := lw_g (lw_at lw_m8 229 rfl) rfl
theorem q2151 : (Jvm.Cond.sameMethod "java/util/LinkedHashMap" "java/util/HashMap" "containsKey" "(Ljava/lang/Object;)Z") ∈ lw_all := lw_g (lw_at lw_m9 148 rfl) rfl
theorem q2153 : (Jvm.Cond.selects "java/util/LinkedHashMap" ({ cls := "java/util/LinkedHashMap", name := "containsKey", desc := "(Ljava/lang/Object;)Z" } : Jvm.MethodName) ({ cls := "java/util/HashMap", name := "containsKey", desc := "(Ljava/lang/Object;)Z" } : Jvm.MethodName)) ∈ lw_all := lw_g (lw_at lw_m9 150 rfl) rfl
theorem q2158 : (Jvm.Cond.sameMethod "java/util/LinkedHashMap" "java/util/HashMap" "remove" "(Ljava/lang/Object;)Ljava/lang/Object;") ∈ lw_all := lw_g (lw_at lw_m9 155 rfl) rfl
theorem q2160 : (Jvm.Cond.selects "java/util/LinkedHashMap" ({ cls := "java/util/LinkedHashMap", name := "remove", desc := "(Ljava/lang/Object;)Ljava/lang/Object;" } : Jvm.MethodName) ({ cls := "java/util/HashMap", name := "remove", desc := "(Ljava/lang/Object;)Ljava/lang/Object;" } : Jvm.MethodName)) ∈ lw_all := lw_g (lw_at lw_m9 157 rfl) rfl
theorem q2398 : (Jvm.Cond.instanceMethod ({ cls := "java/util/LinkedHashMap", name := "values", desc := "()Ljava/util/Collection;" } : Jvm.MethodName)) ∈ lw_all := lw_g (lw_at lw_m10 155 rfl) rfl
theorem q2399 : (Jvm.Cond.selects "java/util/LinkedHashMap" ({ cls := "java/util/LinkedHashMap", name := "values", desc := "()Ljava/util/Collection;" } : Jvm.MethodName) ({ cls := "java/util/LinkedHashMap", name := "values", desc := "()Ljava/util/Collection;" } : Jvm.MethodName)) ∈ lw_all := lw_g (lw_at lw_m10 156 rfl) rfl
theorem q2400 : (Jvm.Cond.code ({ cls := "java/util/LinkedHashMap", name := "values", desc := "()Ljava/util/Collection;" } : Jvm.MethodName) prog_62_method_30_code (1 : Nat) (Option.some (Jvm.ClassFile.FieldType.object "java/util/Collection"))) ∈ lw_all := lw_g (lw_at lw_m10 157 rfl) rfl
theorem q2401 : (Jvm.Cond.methodLink "java/util/LinkedHashMap" (135 : Nat) ({ cls := "java/util/LinkedHashMap", name := "sequencedValues", desc := "()Ljava/util/SequencedCollection;" } : Jvm.MethodName)) ∈ lw_all := lw_g (lw_at lw_m10 158 rfl) rfl
theorem q2402 : (Jvm.Cond.instanceMethod ({ cls := "java/util/LinkedHashMap", name := "sequencedValues", desc := "()Ljava/util/SequencedCollection;" } : Jvm.MethodName)) ∈ lw_all := lw_g (lw_at lw_m10 159 rfl) rfl
theorem q2403 : (Jvm.Cond.selects "java/util/LinkedHashMap" ({ cls := "java/util/LinkedHashMap", name := "sequencedValues", desc := "()Ljava/util/SequencedCollection;" } : Jvm.MethodName) ({ cls := "java/util/LinkedHashMap", name := "sequencedValues", desc := "()Ljava/util/SequencedCollection;" } : Jvm.MethodName)) ∈ lw_all := lw_g (lw_at lw_m10 160 rfl) rfl
theorem q2404 : (Jvm.Cond.code ({ cls := "java/util/LinkedHashMap", name := "sequencedValues", desc := "()Ljava/util/SequencedCollection;" } : Jvm.MethodName) prog_62_method_31_code (3 : Nat) (Option.some (Jvm.ClassFile.FieldType.object "java/util/SequencedCollection"))) ∈ lw_all := lw_g (lw_at lw_m10 161 rfl) rfl
theorem q2405 : (Jvm.Cond.classLink "java/util/LinkedHashMap" (143 : Nat) "java/util/LinkedHashMap$LinkedValues") ∈ lw_all := lw_g (lw_at lw_m10 162 rfl) rfl
theorem q2407 : (Jvm.Cond.methodLink "java/util/LinkedHashMap" (145 : Nat) ({ cls := "java/util/LinkedHashMap$LinkedValues", name := "<init>", desc := "(Ljava/util/LinkedHashMap;Z)V" } : Jvm.MethodName)) ∈ lw_all := lw_g (lw_at lw_m10 164 rfl) rfl
theorem q2418 : (Jvm.Cond.classLink "java/util/LinkedHashMap" (146 : Nat) "java/util/SequencedCollection") ∈ lw_all := lw_g (lw_at lw_m10 175 rfl) rfl
theorem q3100 : (Jvm.Cond.selects "java/util/LinkedHashMap" ({ cls := "java/util/HashMap", name := "getNode", desc := "(Ljava/lang/Object;)Ljava/util/HashMap$Node;" } : Jvm.MethodName) ({ cls := "java/util/HashMap", name := "getNode", desc := "(Ljava/lang/Object;)Ljava/util/HashMap$Node;" } : Jvm.MethodName)) ∈ lw_all := lw_g (lw_at lw_m13 137 rfl) rfl
theorem q3102 : (Jvm.Cond.selects "java/util/LinkedHashMap" ({ cls := "java/util/HashMap", name := "removeNode", desc := "(ILjava/lang/Object;Ljava/lang/Object;ZZ)Ljava/util/HashMap$Node;" } : Jvm.MethodName) ({ cls := "java/util/HashMap", name := "removeNode", desc := "(ILjava/lang/Object;Ljava/lang/Object;ZZ)Ljava/util/HashMap$Node;" } : Jvm.MethodName)) ∈ lw_all := lw_g (lw_at lw_m13 139 rfl) rfl
theorem q3118 : (Jvm.Cond.castable "java/util/LinkedHashMap" "java/lang/Object") ∈ lw_tbl := lw_at lw_m13 155 rfl
theorem in_J5 : ∀ w ∈ wsJ50, w ∈ lw_all := lw_in wsJ50 [229, 231, 233, 235, 237, 239, 241, 243, 221, 223, 225, 227] (by decide +kernel) (by decide +kernel)

