/-! CueStackLaw -/
set_option maxRecDepth 100000
def RX0 : String := "CueStackLaw"
abbrev cX0_addCue : ByteArray := method_3_code
def yX0_addCue : MethodName := ⟨RX0, "addCue", "(LCueStack;I[J)I"⟩
def dkwX0_addCue_0 : List UInt8 := [44, 3, 42, 27, 182, 0, 7, 133, 80, 167, 0, 9, 78, 4, 172, 78, 5, 172, 3, 172]
abbrev dktX0_addCue_0 : List UInt8 := dkwX0_addCue_0 ++ []
theorem dksX0_addCue_0 : cX0_addCue.data.toList.drop 0 = dktX0_addCue_0 := by decide +kernel
theorem dX0_addCue_0 : decode cX0_addCue 0 = .ok (.aload_n 2, 1) := dk_44 (dk_at dksX0_addCue_0 0 rfl rfl)
theorem dX0_addCue_1 : decode cX0_addCue 1 = .ok (.iconst 0, 1) := dk_3 (dk_at dksX0_addCue_0 1 rfl rfl)
theorem dX0_addCue_2 : decode cX0_addCue 2 = .ok (.aload_n 0, 1) := dk_42 (dk_at dksX0_addCue_0 2 rfl rfl)
theorem dX0_addCue_3 : decode cX0_addCue 3 = .ok (.iload_n 1, 1) := dk_27 (dk_at dksX0_addCue_0 3 rfl rfl)
theorem dX0_addCue_4 : decode cX0_addCue 4 = .ok (.invokevirtual 7, 3) := dk_182 0 7 (dk_at dksX0_addCue_0 4 rfl rfl)
theorem dX0_addCue_7 : decode cX0_addCue 7 = .ok (.i2l, 1) := dk_133 (dk_at dksX0_addCue_0 7 rfl rfl)
theorem dX0_addCue_8 : decode cX0_addCue 8 = .ok (.lastore, 1) := dk_80 (dk_at dksX0_addCue_0 8 rfl rfl)
theorem dX0_addCue_9 : decode cX0_addCue 9 = .ok (.goto 9, 3) := dk_167 0 9 (dk_at dksX0_addCue_0 9 rfl rfl)
theorem dX0_addCue_12 : decode cX0_addCue 12 = .ok (.astore_n 3, 1) := dk_78 (dk_at dksX0_addCue_0 12 rfl rfl)
theorem dX0_addCue_13 : decode cX0_addCue 13 = .ok (.iconst 1, 1) := dk_4 (dk_at dksX0_addCue_0 13 rfl rfl)
theorem dX0_addCue_14 : decode cX0_addCue 14 = .ok (.ireturn, 1) := dk_172 (dk_at dksX0_addCue_0 14 rfl rfl)
theorem dX0_addCue_15 : decode cX0_addCue 15 = .ok (.astore_n 3, 1) := dk_78 (dk_at dksX0_addCue_0 15 rfl rfl)
theorem dX0_addCue_16 : decode cX0_addCue 16 = .ok (.iconst 2, 1) := dk_5 (dk_at dksX0_addCue_0 16 rfl rfl)
theorem dX0_addCue_17 : decode cX0_addCue 17 = .ok (.ireturn, 1) := dk_172 (dk_at dksX0_addCue_0 17 rfl rfl)
theorem dX0_addCue_18 : decode cX0_addCue 18 = .ok (.iconst 0, 1) := dk_3 (dk_at dksX0_addCue_0 18 rfl rfl)
theorem dX0_addCue_19 : decode cX0_addCue 19 = .ok (.ireturn, 1) := dk_172 (dk_at dksX0_addCue_0 19 rfl rfl)
abbrev cX0_removeCue : ByteArray := method_4_code
def yX0_removeCue : MethodName := ⟨RX0, "removeCue", "(LCueStack;IZ[J)I"⟩
def dkwX0_removeCue_0 : List UInt8 := [45, 3, 42, 27, 28, 182, 0, 17, 133, 80, 167, 0, 11, 58, 4, 4, 172, 58, 4, 5, 172, 3, 172]
abbrev dktX0_removeCue_0 : List UInt8 := dkwX0_removeCue_0 ++ []
theorem dksX0_removeCue_0 : cX0_removeCue.data.toList.drop 0 = dktX0_removeCue_0 := by decide +kernel
theorem dX0_removeCue_0 : decode cX0_removeCue 0 = .ok (.aload_n 3, 1) := dk_45 (dk_at dksX0_removeCue_0 0 rfl rfl)
theorem dX0_removeCue_1 : decode cX0_removeCue 1 = .ok (.iconst 0, 1) := dk_3 (dk_at dksX0_removeCue_0 1 rfl rfl)
theorem dX0_removeCue_2 : decode cX0_removeCue 2 = .ok (.aload_n 0, 1) := dk_42 (dk_at dksX0_removeCue_0 2 rfl rfl)
theorem dX0_removeCue_3 : decode cX0_removeCue 3 = .ok (.iload_n 1, 1) := dk_27 (dk_at dksX0_removeCue_0 3 rfl rfl)
theorem dX0_removeCue_4 : decode cX0_removeCue 4 = .ok (.iload_n 2, 1) := dk_28 (dk_at dksX0_removeCue_0 4 rfl rfl)
theorem dX0_removeCue_5 : decode cX0_removeCue 5 = .ok (.invokevirtual 17, 3) := dk_182 0 17 (dk_at dksX0_removeCue_0 5 rfl rfl)
theorem dX0_removeCue_8 : decode cX0_removeCue 8 = .ok (.i2l, 1) := dk_133 (dk_at dksX0_removeCue_0 8 rfl rfl)
theorem dX0_removeCue_9 : decode cX0_removeCue 9 = .ok (.lastore, 1) := dk_80 (dk_at dksX0_removeCue_0 9 rfl rfl)
theorem dX0_removeCue_10 : decode cX0_removeCue 10 = .ok (.goto 11, 3) := dk_167 0 11 (dk_at dksX0_removeCue_0 10 rfl rfl)
theorem dX0_removeCue_13 : decode cX0_removeCue 13 = .ok (.astore 4, 2) := dk_58 4 (dk_at dksX0_removeCue_0 13 rfl rfl)
theorem dX0_removeCue_15 : decode cX0_removeCue 15 = .ok (.iconst 1, 1) := dk_4 (dk_at dksX0_removeCue_0 15 rfl rfl)
theorem dX0_removeCue_16 : decode cX0_removeCue 16 = .ok (.ireturn, 1) := dk_172 (dk_at dksX0_removeCue_0 16 rfl rfl)
theorem dX0_removeCue_17 : decode cX0_removeCue 17 = .ok (.astore 4, 2) := dk_58 4 (dk_at dksX0_removeCue_0 17 rfl rfl)
theorem dX0_removeCue_19 : decode cX0_removeCue 19 = .ok (.iconst 2, 1) := dk_5 (dk_at dksX0_removeCue_0 19 rfl rfl)
theorem dX0_removeCue_20 : decode cX0_removeCue 20 = .ok (.ireturn, 1) := dk_172 (dk_at dksX0_removeCue_0 20 rfl rfl)
theorem dX0_removeCue_21 : decode cX0_removeCue 21 = .ok (.iconst 0, 1) := dk_3 (dk_at dksX0_removeCue_0 21 rfl rfl)
theorem dX0_removeCue_22 : decode cX0_removeCue 22 = .ok (.ireturn, 1) := dk_172 (dk_at dksX0_removeCue_0 22 rfl rfl)
abbrev cX0_cueAt : ByteArray := method_5_code
def yX0_cueAt : MethodName := ⟨RX0, "cueAt", "(LCueStack;I[J)I"⟩
def dkwX0_cueAt_0 : List UInt8 := [44, 3, 42, 27, 182, 0, 25, 133, 80, 167, 0, 6, 78, 4, 172, 3, 172]
abbrev dktX0_cueAt_0 : List UInt8 := dkwX0_cueAt_0 ++ []
theorem dksX0_cueAt_0 : cX0_cueAt.data.toList.drop 0 = dktX0_cueAt_0 := by decide +kernel
theorem dX0_cueAt_0 : decode cX0_cueAt 0 = .ok (.aload_n 2, 1) := dk_44 (dk_at dksX0_cueAt_0 0 rfl rfl)
theorem dX0_cueAt_1 : decode cX0_cueAt 1 = .ok (.iconst 0, 1) := dk_3 (dk_at dksX0_cueAt_0 1 rfl rfl)
theorem dX0_cueAt_2 : decode cX0_cueAt 2 = .ok (.aload_n 0, 1) := dk_42 (dk_at dksX0_cueAt_0 2 rfl rfl)
theorem dX0_cueAt_3 : decode cX0_cueAt 3 = .ok (.iload_n 1, 1) := dk_27 (dk_at dksX0_cueAt_0 3 rfl rfl)
theorem dX0_cueAt_4 : decode cX0_cueAt 4 = .ok (.invokevirtual 25, 3) := dk_182 0 25 (dk_at dksX0_cueAt_0 4 rfl rfl)
theorem dX0_cueAt_7 : decode cX0_cueAt 7 = .ok (.i2l, 1) := dk_133 (dk_at dksX0_cueAt_0 7 rfl rfl)
theorem dX0_cueAt_8 : decode cX0_cueAt 8 = .ok (.lastore, 1) := dk_80 (dk_at dksX0_cueAt_0 8 rfl rfl)
theorem dX0_cueAt_9 : decode cX0_cueAt 9 = .ok (.goto 6, 3) := dk_167 0 6 (dk_at dksX0_cueAt_0 9 rfl rfl)
theorem dX0_cueAt_12 : decode cX0_cueAt 12 = .ok (.astore_n 3, 1) := dk_78 (dk_at dksX0_cueAt_0 12 rfl rfl)
theorem dX0_cueAt_13 : decode cX0_cueAt 13 = .ok (.iconst 1, 1) := dk_4 (dk_at dksX0_cueAt_0 13 rfl rfl)
theorem dX0_cueAt_14 : decode cX0_cueAt 14 = .ok (.ireturn, 1) := dk_172 (dk_at dksX0_cueAt_0 14 rfl rfl)
theorem dX0_cueAt_15 : decode cX0_cueAt 15 = .ok (.iconst 0, 1) := dk_3 (dk_at dksX0_cueAt_0 15 rfl rfl)
theorem dX0_cueAt_16 : decode cX0_cueAt 16 = .ok (.ireturn, 1) := dk_172 (dk_at dksX0_cueAt_0 16 rfl rfl)
abbrev cX0_setFollow : ByteArray := method_6_code
def yX0_setFollow : MethodName := ⟨RX0, "setFollow", "(LCueStack;II[J)I"⟩
def dkwX0_setFollow_0 : List UInt8 := [45, 3, 42, 27, 28, 182, 0, 30, 133, 80, 167, 0, 11, 58, 4, 4, 172, 58, 4, 5, 172, 3, 172]
abbrev dktX0_setFollow_0 : List UInt8 := dkwX0_setFollow_0 ++ []
theorem dksX0_setFollow_0 : cX0_setFollow.data.toList.drop 0 = dktX0_setFollow_0 := by decide +kernel
theorem dX0_setFollow_0 : decode cX0_setFollow 0 = .ok (.aload_n 3, 1) := dk_45 (dk_at dksX0_setFollow_0 0 rfl rfl)
theorem dX0_setFollow_1 : decode cX0_setFollow 1 = .ok (.iconst 0, 1) := dk_3 (dk_at dksX0_setFollow_0 1 rfl rfl)
theorem dX0_setFollow_2 : decode cX0_setFollow 2 = .ok (.aload_n 0, 1) := dk_42 (dk_at dksX0_setFollow_0 2 rfl rfl)
theorem dX0_setFollow_3 : decode cX0_setFollow 3 = .ok (.iload_n 1, 1) := dk_27 (dk_at dksX0_setFollow_0 3 rfl rfl)
theorem dX0_setFollow_4 : decode cX0_setFollow 4 = .ok (.iload_n 2, 1) := dk_28 (dk_at dksX0_setFollow_0 4 rfl rfl)
theorem dX0_setFollow_5 : decode cX0_setFollow 5 = .ok (.invokevirtual 30, 3) := dk_182 0 30 (dk_at dksX0_setFollow_0 5 rfl rfl)
theorem dX0_setFollow_8 : decode cX0_setFollow 8 = .ok (.i2l, 1) := dk_133 (dk_at dksX0_setFollow_0 8 rfl rfl)
theorem dX0_setFollow_9 : decode cX0_setFollow 9 = .ok (.lastore, 1) := dk_80 (dk_at dksX0_setFollow_0 9 rfl rfl)
theorem dX0_setFollow_10 : decode cX0_setFollow 10 = .ok (.goto 11, 3) := dk_167 0 11 (dk_at dksX0_setFollow_0 10 rfl rfl)
theorem dX0_setFollow_13 : decode cX0_setFollow 13 = .ok (.astore 4, 2) := dk_58 4 (dk_at dksX0_setFollow_0 13 rfl rfl)
theorem dX0_setFollow_15 : decode cX0_setFollow 15 = .ok (.iconst 1, 1) := dk_4 (dk_at dksX0_setFollow_0 15 rfl rfl)
theorem dX0_setFollow_16 : decode cX0_setFollow 16 = .ok (.ireturn, 1) := dk_172 (dk_at dksX0_setFollow_0 16 rfl rfl)
theorem dX0_setFollow_17 : decode cX0_setFollow 17 = .ok (.astore 4, 2) := dk_58 4 (dk_at dksX0_setFollow_0 17 rfl rfl)
theorem dX0_setFollow_19 : decode cX0_setFollow 19 = .ok (.iconst 2, 1) := dk_5 (dk_at dksX0_setFollow_0 19 rfl rfl)
theorem dX0_setFollow_20 : decode cX0_setFollow 20 = .ok (.ireturn, 1) := dk_172 (dk_at dksX0_setFollow_0 20 rfl rfl)
theorem dX0_setFollow_21 : decode cX0_setFollow 21 = .ok (.iconst 0, 1) := dk_3 (dk_at dksX0_setFollow_0 21 rfl rfl)
theorem dX0_setFollow_22 : decode cX0_setFollow 22 = .ok (.ireturn, 1) := dk_172 (dk_at dksX0_setFollow_0 22 rfl rfl)
abbrev cX0_setBlock : ByteArray := method_7_code
def yX0_setBlock : MethodName := ⟨RX0, "setBlock", "(LCueStack;IZ[J)I"⟩
def dkwX0_setBlock_0 : List UInt8 := [45, 3, 42, 27, 28, 182, 0, 34, 133, 80, 167, 0, 7, 58, 4, 4, 172, 3, 172]
abbrev dktX0_setBlock_0 : List UInt8 := dkwX0_setBlock_0 ++ []
theorem dksX0_setBlock_0 : cX0_setBlock.data.toList.drop 0 = dktX0_setBlock_0 := by decide +kernel
theorem dX0_setBlock_0 : decode cX0_setBlock 0 = .ok (.aload_n 3, 1) := dk_45 (dk_at dksX0_setBlock_0 0 rfl rfl)
theorem dX0_setBlock_1 : decode cX0_setBlock 1 = .ok (.iconst 0, 1) := dk_3 (dk_at dksX0_setBlock_0 1 rfl rfl)
theorem dX0_setBlock_2 : decode cX0_setBlock 2 = .ok (.aload_n 0, 1) := dk_42 (dk_at dksX0_setBlock_0 2 rfl rfl)
theorem dX0_setBlock_3 : decode cX0_setBlock 3 = .ok (.iload_n 1, 1) := dk_27 (dk_at dksX0_setBlock_0 3 rfl rfl)
theorem dX0_setBlock_4 : decode cX0_setBlock 4 = .ok (.iload_n 2, 1) := dk_28 (dk_at dksX0_setBlock_0 4 rfl rfl)
theorem dX0_setBlock_5 : decode cX0_setBlock 5 = .ok (.invokevirtual 34, 3) := dk_182 0 34 (dk_at dksX0_setBlock_0 5 rfl rfl)
theorem dX0_setBlock_8 : decode cX0_setBlock 8 = .ok (.i2l, 1) := dk_133 (dk_at dksX0_setBlock_0 8 rfl rfl)
theorem dX0_setBlock_9 : decode cX0_setBlock 9 = .ok (.lastore, 1) := dk_80 (dk_at dksX0_setBlock_0 9 rfl rfl)
theorem dX0_setBlock_10 : decode cX0_setBlock 10 = .ok (.goto 7, 3) := dk_167 0 7 (dk_at dksX0_setBlock_0 10 rfl rfl)
theorem dX0_setBlock_13 : decode cX0_setBlock 13 = .ok (.astore 4, 2) := dk_58 4 (dk_at dksX0_setBlock_0 13 rfl rfl)
theorem dX0_setBlock_15 : decode cX0_setBlock 15 = .ok (.iconst 1, 1) := dk_4 (dk_at dksX0_setBlock_0 15 rfl rfl)
theorem dX0_setBlock_16 : decode cX0_setBlock 16 = .ok (.ireturn, 1) := dk_172 (dk_at dksX0_setBlock_0 16 rfl rfl)
theorem dX0_setBlock_17 : decode cX0_setBlock 17 = .ok (.iconst 0, 1) := dk_3 (dk_at dksX0_setBlock_0 17 rfl rfl)
theorem dX0_setBlock_18 : decode cX0_setBlock 18 = .ok (.ireturn, 1) := dk_172 (dk_at dksX0_setBlock_0 18 rfl rfl)
abbrev cX0_setProtected : ByteArray := method_8_code
def yX0_setProtected : MethodName := ⟨RX0, "setProtected", "(LCueStack;IZ[J)I"⟩
def dkwX0_setProtected_1 : List UInt8 := [3, 172]
abbrev dktX0_setProtected_1 : List UInt8 := dkwX0_setProtected_1 ++ []
def dkwX0_setProtected_0 : List UInt8 := [45, 3, 42, 27, 28, 182, 0, 37, 153, 0, 7, 10, 167, 0, 4, 9, 80, 167, 0, 7, 58, 4, 4, 172]
abbrev dktX0_setProtected_0 : List UInt8 := dkwX0_setProtected_0 ++ dktX0_setProtected_1
theorem dksX0_setProtected_0 : cX0_setProtected.data.toList.drop 0 = dktX0_setProtected_0 := by decide +kernel
theorem dksX0_setProtected_1 : cX0_setProtected.data.toList.drop 24 = dktX0_setProtected_1 := dk_seg dksX0_setProtected_0 24 rfl rfl
theorem dX0_setProtected_0 : decode cX0_setProtected 0 = .ok (.aload_n 3, 1) := dk_45 (dk_at dksX0_setProtected_0 0 rfl rfl)
theorem dX0_setProtected_1 : decode cX0_setProtected 1 = .ok (.iconst 0, 1) := dk_3 (dk_at dksX0_setProtected_0 1 rfl rfl)
theorem dX0_setProtected_2 : decode cX0_setProtected 2 = .ok (.aload_n 0, 1) := dk_42 (dk_at dksX0_setProtected_0 2 rfl rfl)
theorem dX0_setProtected_3 : decode cX0_setProtected 3 = .ok (.iload_n 1, 1) := dk_27 (dk_at dksX0_setProtected_0 3 rfl rfl)
theorem dX0_setProtected_4 : decode cX0_setProtected 4 = .ok (.iload_n 2, 1) := dk_28 (dk_at dksX0_setProtected_0 4 rfl rfl)
theorem dX0_setProtected_5 : decode cX0_setProtected 5 = .ok (.invokevirtual 37, 3) := dk_182 0 37 (dk_at dksX0_setProtected_0 5 rfl rfl)
theorem dX0_setProtected_8 : decode cX0_setProtected 8 = .ok (.ifCond .eq 7, 3) := dk_153 0 7 (dk_at dksX0_setProtected_0 8 rfl rfl)
theorem dX0_setProtected_11 : decode cX0_setProtected 11 = .ok (.lconst 1, 1) := dk_10 (dk_at dksX0_setProtected_0 11 rfl rfl)
theorem dX0_setProtected_12 : decode cX0_setProtected 12 = .ok (.goto 4, 3) := dk_167 0 4 (dk_at dksX0_setProtected_0 12 rfl rfl)
theorem dX0_setProtected_15 : decode cX0_setProtected 15 = .ok (.lconst 0, 1) := dk_9 (dk_at dksX0_setProtected_0 15 rfl rfl)
theorem dX0_setProtected_16 : decode cX0_setProtected 16 = .ok (.lastore, 1) := dk_80 (dk_at dksX0_setProtected_0 16 rfl rfl)
theorem dX0_setProtected_17 : decode cX0_setProtected 17 = .ok (.goto 7, 3) := dk_167 0 7 (dk_at dksX0_setProtected_0 17 rfl rfl)
theorem dX0_setProtected_20 : decode cX0_setProtected 20 = .ok (.astore 4, 2) := dk_58 4 (dk_at dksX0_setProtected_0 20 rfl rfl)
theorem dX0_setProtected_22 : decode cX0_setProtected 22 = .ok (.iconst 1, 1) := dk_4 (dk_at dksX0_setProtected_0 22 rfl rfl)
theorem dX0_setProtected_23 : decode cX0_setProtected 23 = .ok (.ireturn, 1) := dk_172 (dk_at dksX0_setProtected_0 23 rfl rfl)
theorem dX0_setProtected_24 : decode cX0_setProtected 24 = .ok (.iconst 0, 1) := dk_3 (dk_at dksX0_setProtected_1 0 rfl rfl)
theorem dX0_setProtected_25 : decode cX0_setProtected 25 = .ok (.ireturn, 1) := dk_172 (dk_at dksX0_setProtected_1 1 rfl rfl)
abbrev cX0_setPart : ByteArray := method_9_code
def yX0_setPart : MethodName := ⟨RX0, "setPart", "(LCueStack;IIZI[J)I"⟩
def dkwX0_setPart_1 : List UInt8 := [172, 3, 172]
abbrev dktX0_setPart_1 : List UInt8 := dkwX0_setPart_1 ++ []
def dkwX0_setPart_0 : List UInt8 := [25, 5, 3, 42, 27, 28, 29, 21, 4, 182, 0, 41, 133, 80, 167, 0, 11, 58, 6, 4, 172, 58, 6, 5]
abbrev dktX0_setPart_0 : List UInt8 := dkwX0_setPart_0 ++ dktX0_setPart_1
theorem dksX0_setPart_0 : cX0_setPart.data.toList.drop 0 = dktX0_setPart_0 := by decide +kernel
theorem dksX0_setPart_1 : cX0_setPart.data.toList.drop 24 = dktX0_setPart_1 := dk_seg dksX0_setPart_0 24 rfl rfl
theorem dX0_setPart_0 : decode cX0_setPart 0 = .ok (.aload 5, 2) := dk_25 5 (dk_at dksX0_setPart_0 0 rfl rfl)
theorem dX0_setPart_2 : decode cX0_setPart 2 = .ok (.iconst 0, 1) := dk_3 (dk_at dksX0_setPart_0 2 rfl rfl)
theorem dX0_setPart_3 : decode cX0_setPart 3 = .ok (.aload_n 0, 1) := dk_42 (dk_at dksX0_setPart_0 3 rfl rfl)
theorem dX0_setPart_4 : decode cX0_setPart 4 = .ok (.iload_n 1, 1) := dk_27 (dk_at dksX0_setPart_0 4 rfl rfl)
theorem dX0_setPart_5 : decode cX0_setPart 5 = .ok (.iload_n 2, 1) := dk_28 (dk_at dksX0_setPart_0 5 rfl rfl)
theorem dX0_setPart_6 : decode cX0_setPart 6 = .ok (.iload_n 3, 1) := dk_29 (dk_at dksX0_setPart_0 6 rfl rfl)
theorem dX0_setPart_7 : decode cX0_setPart 7 = .ok (.iload 4, 2) := dk_21 4 (dk_at dksX0_setPart_0 7 rfl rfl)
theorem dX0_setPart_9 : decode cX0_setPart 9 = .ok (.invokevirtual 41, 3) := dk_182 0 41 (dk_at dksX0_setPart_0 9 rfl rfl)
theorem dX0_setPart_12 : decode cX0_setPart 12 = .ok (.i2l, 1) := dk_133 (dk_at dksX0_setPart_0 12 rfl rfl)
theorem dX0_setPart_13 : decode cX0_setPart 13 = .ok (.lastore, 1) := dk_80 (dk_at dksX0_setPart_0 13 rfl rfl)
theorem dX0_setPart_14 : decode cX0_setPart 14 = .ok (.goto 11, 3) := dk_167 0 11 (dk_at dksX0_setPart_0 14 rfl rfl)
theorem dX0_setPart_17 : decode cX0_setPart 17 = .ok (.astore 6, 2) := dk_58 6 (dk_at dksX0_setPart_0 17 rfl rfl)
theorem dX0_setPart_19 : decode cX0_setPart 19 = .ok (.iconst 1, 1) := dk_4 (dk_at dksX0_setPart_0 19 rfl rfl)
theorem dX0_setPart_20 : decode cX0_setPart 20 = .ok (.ireturn, 1) := dk_172 (dk_at dksX0_setPart_0 20 rfl rfl)
theorem dX0_setPart_21 : decode cX0_setPart 21 = .ok (.astore 6, 2) := dk_58 6 (dk_at dksX0_setPart_0 21 rfl rfl)
theorem dX0_setPart_23 : decode cX0_setPart 23 = .ok (.iconst 2, 1) := dk_5 (dk_at dksX0_setPart_0 23 rfl rfl)
theorem dX0_setPart_24 : decode cX0_setPart 24 = .ok (.ireturn, 1) := dk_172 (dk_at dksX0_setPart_1 0 rfl rfl)
theorem dX0_setPart_25 : decode cX0_setPart 25 = .ok (.iconst 0, 1) := dk_3 (dk_at dksX0_setPart_1 1 rfl rfl)
theorem dX0_setPart_26 : decode cX0_setPart 26 = .ok (.ireturn, 1) := dk_172 (dk_at dksX0_setPart_1 2 rfl rfl)
abbrev cX0_cue : ByteArray := method_10_code
def yX0_cue : MethodName := ⟨RX0, "cue", "(LCueStack;II[J)I"⟩
def dkwX0_cue_0 : List UInt8 := [45, 3, 42, 27, 28, 182, 0, 45, 133, 80, 167, 0, 11, 58, 4, 4, 172, 58, 4, 5, 172, 3, 172]
abbrev dktX0_cue_0 : List UInt8 := dkwX0_cue_0 ++ []
theorem dksX0_cue_0 : cX0_cue.data.toList.drop 0 = dktX0_cue_0 := by decide +kernel
theorem dX0_cue_0 : decode cX0_cue 0 = .ok (.aload_n 3, 1) := dk_45 (dk_at dksX0_cue_0 0 rfl rfl)
theorem dX0_cue_1 : decode cX0_cue 1 = .ok (.iconst 0, 1) := dk_3 (dk_at dksX0_cue_0 1 rfl rfl)
theorem dX0_cue_2 : decode cX0_cue 2 = .ok (.aload_n 0, 1) := dk_42 (dk_at dksX0_cue_0 2 rfl rfl)
theorem dX0_cue_3 : decode cX0_cue 3 = .ok (.iload_n 1, 1) := dk_27 (dk_at dksX0_cue_0 3 rfl rfl)
theorem dX0_cue_4 : decode cX0_cue 4 = .ok (.iload_n 2, 1) := dk_28 (dk_at dksX0_cue_0 4 rfl rfl)
theorem dX0_cue_5 : decode cX0_cue 5 = .ok (.invokevirtual 45, 3) := dk_182 0 45 (dk_at dksX0_cue_0 5 rfl rfl)
theorem dX0_cue_8 : decode cX0_cue 8 = .ok (.i2l, 1) := dk_133 (dk_at dksX0_cue_0 8 rfl rfl)
theorem dX0_cue_9 : decode cX0_cue 9 = .ok (.lastore, 1) := dk_80 (dk_at dksX0_cue_0 9 rfl rfl)
theorem dX0_cue_10 : decode cX0_cue 10 = .ok (.goto 11, 3) := dk_167 0 11 (dk_at dksX0_cue_0 10 rfl rfl)
theorem dX0_cue_13 : decode cX0_cue 13 = .ok (.astore 4, 2) := dk_58 4 (dk_at dksX0_cue_0 13 rfl rfl)
theorem dX0_cue_15 : decode cX0_cue 15 = .ok (.iconst 1, 1) := dk_4 (dk_at dksX0_cue_0 15 rfl rfl)
theorem dX0_cue_16 : decode cX0_cue 16 = .ok (.ireturn, 1) := dk_172 (dk_at dksX0_cue_0 16 rfl rfl)
theorem dX0_cue_17 : decode cX0_cue 17 = .ok (.astore 4, 2) := dk_58 4 (dk_at dksX0_cue_0 17 rfl rfl)
theorem dX0_cue_19 : decode cX0_cue 19 = .ok (.iconst 2, 1) := dk_5 (dk_at dksX0_cue_0 19 rfl rfl)
theorem dX0_cue_20 : decode cX0_cue 20 = .ok (.ireturn, 1) := dk_172 (dk_at dksX0_cue_0 20 rfl rfl)
theorem dX0_cue_21 : decode cX0_cue 21 = .ok (.iconst 0, 1) := dk_3 (dk_at dksX0_cue_0 21 rfl rfl)
theorem dX0_cue_22 : decode cX0_cue 22 = .ok (.ireturn, 1) := dk_172 (dk_at dksX0_cue_0 22 rfl rfl)
abbrev cX0_part : ByteArray := method_11_code
def yX0_part : MethodName := ⟨RX0, "part", "(LCueStack;IIZ[J)I"⟩
def dkwX0_part_0 : List UInt8 := [25, 4, 3, 42, 27, 28, 29, 182, 0, 48, 133, 80, 167, 0, 7, 58, 5, 4, 172, 3, 172]
abbrev dktX0_part_0 : List UInt8 := dkwX0_part_0 ++ []
theorem dksX0_part_0 : cX0_part.data.toList.drop 0 = dktX0_part_0 := by decide +kernel
theorem dX0_part_0 : decode cX0_part 0 = .ok (.aload 4, 2) := dk_25 4 (dk_at dksX0_part_0 0 rfl rfl)
theorem dX0_part_2 : decode cX0_part 2 = .ok (.iconst 0, 1) := dk_3 (dk_at dksX0_part_0 2 rfl rfl)
theorem dX0_part_3 : decode cX0_part 3 = .ok (.aload_n 0, 1) := dk_42 (dk_at dksX0_part_0 3 rfl rfl)
theorem dX0_part_4 : decode cX0_part 4 = .ok (.iload_n 1, 1) := dk_27 (dk_at dksX0_part_0 4 rfl rfl)
theorem dX0_part_5 : decode cX0_part 5 = .ok (.iload_n 2, 1) := dk_28 (dk_at dksX0_part_0 5 rfl rfl)
theorem dX0_part_6 : decode cX0_part 6 = .ok (.iload_n 3, 1) := dk_29 (dk_at dksX0_part_0 6 rfl rfl)
theorem dX0_part_7 : decode cX0_part 7 = .ok (.invokevirtual 48, 3) := dk_182 0 48 (dk_at dksX0_part_0 7 rfl rfl)
theorem dX0_part_10 : decode cX0_part 10 = .ok (.i2l, 1) := dk_133 (dk_at dksX0_part_0 10 rfl rfl)
theorem dX0_part_11 : decode cX0_part 11 = .ok (.lastore, 1) := dk_80 (dk_at dksX0_part_0 11 rfl rfl)
theorem dX0_part_12 : decode cX0_part 12 = .ok (.goto 7, 3) := dk_167 0 7 (dk_at dksX0_part_0 12 rfl rfl)
theorem dX0_part_15 : decode cX0_part 15 = .ok (.astore 5, 2) := dk_58 5 (dk_at dksX0_part_0 15 rfl rfl)
theorem dX0_part_17 : decode cX0_part 17 = .ok (.iconst 1, 1) := dk_4 (dk_at dksX0_part_0 17 rfl rfl)
theorem dX0_part_18 : decode cX0_part 18 = .ok (.ireturn, 1) := dk_172 (dk_at dksX0_part_0 18 rfl rfl)
theorem dX0_part_19 : decode cX0_part 19 = .ok (.iconst 0, 1) := dk_3 (dk_at dksX0_part_0 19 rfl rfl)
theorem dX0_part_20 : decode cX0_part 20 = .ok (.ireturn, 1) := dk_172 (dk_at dksX0_part_0 20 rfl rfl)
abbrev cX0_setHome : ByteArray := method_12_code
def yX0_setHome : MethodName := ⟨RX0, "setHome", "(LCueStack;II[J)I"⟩
def dkwX0_setHome_0 : List UInt8 := [45, 3, 42, 27, 28, 182, 0, 52, 133, 80, 167, 0, 11, 58, 4, 4, 172, 58, 4, 5, 172, 3, 172]
abbrev dktX0_setHome_0 : List UInt8 := dkwX0_setHome_0 ++ []
theorem dksX0_setHome_0 : cX0_setHome.data.toList.drop 0 = dktX0_setHome_0 := by decide +kernel
theorem dX0_setHome_0 : decode cX0_setHome 0 = .ok (.aload_n 3, 1) := dk_45 (dk_at dksX0_setHome_0 0 rfl rfl)
theorem dX0_setHome_1 : decode cX0_setHome 1 = .ok (.iconst 0, 1) := dk_3 (dk_at dksX0_setHome_0 1 rfl rfl)
theorem dX0_setHome_2 : decode cX0_setHome 2 = .ok (.aload_n 0, 1) := dk_42 (dk_at dksX0_setHome_0 2 rfl rfl)
theorem dX0_setHome_3 : decode cX0_setHome 3 = .ok (.iload_n 1, 1) := dk_27 (dk_at dksX0_setHome_0 3 rfl rfl)
theorem dX0_setHome_4 : decode cX0_setHome 4 = .ok (.iload_n 2, 1) := dk_28 (dk_at dksX0_setHome_0 4 rfl rfl)
theorem dX0_setHome_5 : decode cX0_setHome 5 = .ok (.invokevirtual 52, 3) := dk_182 0 52 (dk_at dksX0_setHome_0 5 rfl rfl)
theorem dX0_setHome_8 : decode cX0_setHome 8 = .ok (.i2l, 1) := dk_133 (dk_at dksX0_setHome_0 8 rfl rfl)
theorem dX0_setHome_9 : decode cX0_setHome 9 = .ok (.lastore, 1) := dk_80 (dk_at dksX0_setHome_0 9 rfl rfl)
theorem dX0_setHome_10 : decode cX0_setHome 10 = .ok (.goto 11, 3) := dk_167 0 11 (dk_at dksX0_setHome_0 10 rfl rfl)
theorem dX0_setHome_13 : decode cX0_setHome 13 = .ok (.astore 4, 2) := dk_58 4 (dk_at dksX0_setHome_0 13 rfl rfl)
theorem dX0_setHome_15 : decode cX0_setHome 15 = .ok (.iconst 1, 1) := dk_4 (dk_at dksX0_setHome_0 15 rfl rfl)
theorem dX0_setHome_16 : decode cX0_setHome 16 = .ok (.ireturn, 1) := dk_172 (dk_at dksX0_setHome_0 16 rfl rfl)
theorem dX0_setHome_17 : decode cX0_setHome 17 = .ok (.astore 4, 2) := dk_58 4 (dk_at dksX0_setHome_0 17 rfl rfl)
theorem dX0_setHome_19 : decode cX0_setHome 19 = .ok (.iconst 2, 1) := dk_5 (dk_at dksX0_setHome_0 19 rfl rfl)
theorem dX0_setHome_20 : decode cX0_setHome 20 = .ok (.ireturn, 1) := dk_172 (dk_at dksX0_setHome_0 20 rfl rfl)
theorem dX0_setHome_21 : decode cX0_setHome 21 = .ok (.iconst 0, 1) := dk_3 (dk_at dksX0_setHome_0 21 rfl rfl)
theorem dX0_setHome_22 : decode cX0_setHome 22 = .ok (.ireturn, 1) := dk_172 (dk_at dksX0_setHome_0 22 rfl rfl)
abbrev cX0_set : ByteArray := method_13_code
def yX0_set : MethodName := ⟨RX0, "set", "(LCueStack;IIIIZ[J)I"⟩
def dkwX0_set_1 : List UInt8 := [58, 7, 5, 172, 58, 7, 6, 172, 3, 172]
abbrev dktX0_set_1 : List UInt8 := dkwX0_set_1 ++ []
def dkwX0_set_0 : List UInt8 := [25, 6, 3, 42, 27, 28, 29, 21, 4, 21, 5, 182, 0, 55, 133, 80, 167, 0, 15, 58, 7, 4, 172]
abbrev dktX0_set_0 : List UInt8 := dkwX0_set_0 ++ dktX0_set_1
theorem dksX0_set_0 : cX0_set.data.toList.drop 0 = dktX0_set_0 := by decide +kernel
theorem dksX0_set_1 : cX0_set.data.toList.drop 23 = dktX0_set_1 := dk_seg dksX0_set_0 23 rfl rfl
theorem dX0_set_0 : decode cX0_set 0 = .ok (.aload 6, 2) := dk_25 6 (dk_at dksX0_set_0 0 rfl rfl)
theorem dX0_set_2 : decode cX0_set 2 = .ok (.iconst 0, 1) := dk_3 (dk_at dksX0_set_0 2 rfl rfl)
theorem dX0_set_3 : decode cX0_set 3 = .ok (.aload_n 0, 1) := dk_42 (dk_at dksX0_set_0 3 rfl rfl)
theorem dX0_set_4 : decode cX0_set 4 = .ok (.iload_n 1, 1) := dk_27 (dk_at dksX0_set_0 4 rfl rfl)
theorem dX0_set_5 : decode cX0_set 5 = .ok (.iload_n 2, 1) := dk_28 (dk_at dksX0_set_0 5 rfl rfl)
theorem dX0_set_6 : decode cX0_set 6 = .ok (.iload_n 3, 1) := dk_29 (dk_at dksX0_set_0 6 rfl rfl)
theorem dX0_set_7 : decode cX0_set 7 = .ok (.iload 4, 2) := dk_21 4 (dk_at dksX0_set_0 7 rfl rfl)
theorem dX0_set_9 : decode cX0_set 9 = .ok (.iload 5, 2) := dk_21 5 (dk_at dksX0_set_0 9 rfl rfl)
theorem dX0_set_11 : decode cX0_set 11 = .ok (.invokevirtual 55, 3) := dk_182 0 55 (dk_at dksX0_set_0 11 rfl rfl)
theorem dX0_set_14 : decode cX0_set 14 = .ok (.i2l, 1) := dk_133 (dk_at dksX0_set_0 14 rfl rfl)
theorem dX0_set_15 : decode cX0_set 15 = .ok (.lastore, 1) := dk_80 (dk_at dksX0_set_0 15 rfl rfl)
theorem dX0_set_16 : decode cX0_set 16 = .ok (.goto 15, 3) := dk_167 0 15 (dk_at dksX0_set_0 16 rfl rfl)
theorem dX0_set_19 : decode cX0_set 19 = .ok (.astore 7, 2) := dk_58 7 (dk_at dksX0_set_0 19 rfl rfl)
theorem dX0_set_21 : decode cX0_set 21 = .ok (.iconst 1, 1) := dk_4 (dk_at dksX0_set_0 21 rfl rfl)
theorem dX0_set_22 : decode cX0_set 22 = .ok (.ireturn, 1) := dk_172 (dk_at dksX0_set_0 22 rfl rfl)
theorem dX0_set_23 : decode cX0_set 23 = .ok (.astore 7, 2) := dk_58 7 (dk_at dksX0_set_1 0 rfl rfl)
theorem dX0_set_25 : decode cX0_set 25 = .ok (.iconst 2, 1) := dk_5 (dk_at dksX0_set_1 2 rfl rfl)
theorem dX0_set_26 : decode cX0_set 26 = .ok (.ireturn, 1) := dk_172 (dk_at dksX0_set_1 3 rfl rfl)
theorem dX0_set_27 : decode cX0_set 27 = .ok (.astore 7, 2) := dk_58 7 (dk_at dksX0_set_1 4 rfl rfl)
theorem dX0_set_29 : decode cX0_set 29 = .ok (.iconst 3, 1) := dk_6 (dk_at dksX0_set_1 6 rfl rfl)
theorem dX0_set_30 : decode cX0_set 30 = .ok (.ireturn, 1) := dk_172 (dk_at dksX0_set_1 7 rfl rfl)
theorem dX0_set_31 : decode cX0_set 31 = .ok (.iconst 0, 1) := dk_3 (dk_at dksX0_set_1 8 rfl rfl)
theorem dX0_set_32 : decode cX0_set 32 = .ok (.ireturn, 1) := dk_172 (dk_at dksX0_set_1 9 rfl rfl)
abbrev cX0_release : ByteArray := method_14_code
def yX0_release : MethodName := ⟨RX0, "release", "(LCueStack;IIIZ[J)I"⟩
def dkwX0_release_1 : List UInt8 := [172, 3, 172]
abbrev dktX0_release_1 : List UInt8 := dkwX0_release_1 ++ []
def dkwX0_release_0 : List UInt8 := [25, 5, 3, 42, 27, 28, 29, 21, 4, 182, 0, 59, 133, 80, 167, 0, 11, 58, 6, 4, 172, 58, 6, 5]
abbrev dktX0_release_0 : List UInt8 := dkwX0_release_0 ++ dktX0_release_1
theorem dksX0_release_0 : cX0_release.data.toList.drop 0 = dktX0_release_0 := by decide +kernel
theorem dksX0_release_1 : cX0_release.data.toList.drop 24 = dktX0_release_1 := dk_seg dksX0_release_0 24 rfl rfl
theorem dX0_release_0 : decode cX0_release 0 = .ok (.aload 5, 2) := dk_25 5 (dk_at dksX0_release_0 0 rfl rfl)
theorem dX0_release_2 : decode cX0_release 2 = .ok (.iconst 0, 1) := dk_3 (dk_at dksX0_release_0 2 rfl rfl)
theorem dX0_release_3 : decode cX0_release 3 = .ok (.aload_n 0, 1) := dk_42 (dk_at dksX0_release_0 3 rfl rfl)
theorem dX0_release_4 : decode cX0_release 4 = .ok (.iload_n 1, 1) := dk_27 (dk_at dksX0_release_0 4 rfl rfl)
theorem dX0_release_5 : decode cX0_release 5 = .ok (.iload_n 2, 1) := dk_28 (dk_at dksX0_release_0 5 rfl rfl)
theorem dX0_release_6 : decode cX0_release 6 = .ok (.iload_n 3, 1) := dk_29 (dk_at dksX0_release_0 6 rfl rfl)
theorem dX0_release_7 : decode cX0_release 7 = .ok (.iload 4, 2) := dk_21 4 (dk_at dksX0_release_0 7 rfl rfl)
theorem dX0_release_9 : decode cX0_release 9 = .ok (.invokevirtual 59, 3) := dk_182 0 59 (dk_at dksX0_release_0 9 rfl rfl)
theorem dX0_release_12 : decode cX0_release 12 = .ok (.i2l, 1) := dk_133 (dk_at dksX0_release_0 12 rfl rfl)
theorem dX0_release_13 : decode cX0_release 13 = .ok (.lastore, 1) := dk_80 (dk_at dksX0_release_0 13 rfl rfl)
theorem dX0_release_14 : decode cX0_release 14 = .ok (.goto 11, 3) := dk_167 0 11 (dk_at dksX0_release_0 14 rfl rfl)
theorem dX0_release_17 : decode cX0_release 17 = .ok (.astore 6, 2) := dk_58 6 (dk_at dksX0_release_0 17 rfl rfl)
theorem dX0_release_19 : decode cX0_release 19 = .ok (.iconst 1, 1) := dk_4 (dk_at dksX0_release_0 19 rfl rfl)
theorem dX0_release_20 : decode cX0_release 20 = .ok (.ireturn, 1) := dk_172 (dk_at dksX0_release_0 20 rfl rfl)
theorem dX0_release_21 : decode cX0_release 21 = .ok (.astore 6, 2) := dk_58 6 (dk_at dksX0_release_0 21 rfl rfl)
theorem dX0_release_23 : decode cX0_release 23 = .ok (.iconst 2, 1) := dk_5 (dk_at dksX0_release_0 23 rfl rfl)
theorem dX0_release_24 : decode cX0_release 24 = .ok (.ireturn, 1) := dk_172 (dk_at dksX0_release_1 0 rfl rfl)
theorem dX0_release_25 : decode cX0_release 25 = .ok (.iconst 0, 1) := dk_3 (dk_at dksX0_release_1 1 rfl rfl)
theorem dX0_release_26 : decode cX0_release 26 = .ok (.ireturn, 1) := dk_172 (dk_at dksX0_release_1 2 rfl rfl)
abbrev cX0_unset : ByteArray := method_15_code
def yX0_unset : MethodName := ⟨RX0, "unset", "(LCueStack;IIZ[J)I"⟩
def dkwX0_unset_1 : List UInt8 := [172]
abbrev dktX0_unset_1 : List UInt8 := dkwX0_unset_1 ++ []
def dkwX0_unset_0 : List UInt8 := [25, 4, 3, 42, 27, 28, 29, 182, 0, 63, 133, 80, 167, 0, 11, 58, 5, 4, 172, 58, 5, 5, 172, 3]
abbrev dktX0_unset_0 : List UInt8 := dkwX0_unset_0 ++ dktX0_unset_1
theorem dksX0_unset_0 : cX0_unset.data.toList.drop 0 = dktX0_unset_0 := by decide +kernel
theorem dksX0_unset_1 : cX0_unset.data.toList.drop 24 = dktX0_unset_1 := dk_seg dksX0_unset_0 24 rfl rfl
theorem dX0_unset_0 : decode cX0_unset 0 = .ok (.aload 4, 2) := dk_25 4 (dk_at dksX0_unset_0 0 rfl rfl)
theorem dX0_unset_2 : decode cX0_unset 2 = .ok (.iconst 0, 1) := dk_3 (dk_at dksX0_unset_0 2 rfl rfl)
theorem dX0_unset_3 : decode cX0_unset 3 = .ok (.aload_n 0, 1) := dk_42 (dk_at dksX0_unset_0 3 rfl rfl)
theorem dX0_unset_4 : decode cX0_unset 4 = .ok (.iload_n 1, 1) := dk_27 (dk_at dksX0_unset_0 4 rfl rfl)
theorem dX0_unset_5 : decode cX0_unset 5 = .ok (.iload_n 2, 1) := dk_28 (dk_at dksX0_unset_0 5 rfl rfl)
theorem dX0_unset_6 : decode cX0_unset 6 = .ok (.iload_n 3, 1) := dk_29 (dk_at dksX0_unset_0 6 rfl rfl)
theorem dX0_unset_7 : decode cX0_unset 7 = .ok (.invokevirtual 63, 3) := dk_182 0 63 (dk_at dksX0_unset_0 7 rfl rfl)
theorem dX0_unset_10 : decode cX0_unset 10 = .ok (.i2l, 1) := dk_133 (dk_at dksX0_unset_0 10 rfl rfl)
theorem dX0_unset_11 : decode cX0_unset 11 = .ok (.lastore, 1) := dk_80 (dk_at dksX0_unset_0 11 rfl rfl)
theorem dX0_unset_12 : decode cX0_unset 12 = .ok (.goto 11, 3) := dk_167 0 11 (dk_at dksX0_unset_0 12 rfl rfl)
theorem dX0_unset_15 : decode cX0_unset 15 = .ok (.astore 5, 2) := dk_58 5 (dk_at dksX0_unset_0 15 rfl rfl)
theorem dX0_unset_17 : decode cX0_unset 17 = .ok (.iconst 1, 1) := dk_4 (dk_at dksX0_unset_0 17 rfl rfl)
theorem dX0_unset_18 : decode cX0_unset 18 = .ok (.ireturn, 1) := dk_172 (dk_at dksX0_unset_0 18 rfl rfl)
theorem dX0_unset_19 : decode cX0_unset 19 = .ok (.astore 5, 2) := dk_58 5 (dk_at dksX0_unset_0 19 rfl rfl)
theorem dX0_unset_21 : decode cX0_unset 21 = .ok (.iconst 2, 1) := dk_5 (dk_at dksX0_unset_0 21 rfl rfl)
theorem dX0_unset_22 : decode cX0_unset 22 = .ok (.ireturn, 1) := dk_172 (dk_at dksX0_unset_0 22 rfl rfl)
theorem dX0_unset_23 : decode cX0_unset 23 = .ok (.iconst 0, 1) := dk_3 (dk_at dksX0_unset_0 23 rfl rfl)
theorem dX0_unset_24 : decode cX0_unset 24 = .ok (.ireturn, 1) := dk_172 (dk_at dksX0_unset_1 0 rfl rfl)
abbrev cX0_instruction : ByteArray := method_16_code
def yX0_instruction : MethodName := ⟨RX0, "instruction", "(LCueStack;II[J)I"⟩
def dkwX0_instruction_0 : List UInt8 := [45, 3, 42, 27, 28, 182, 0, 66, 133, 80, 167, 0, 11, 58, 4, 4, 172, 58, 4, 5, 172, 3, 172]
abbrev dktX0_instruction_0 : List UInt8 := dkwX0_instruction_0 ++ []
theorem dksX0_instruction_0 : cX0_instruction.data.toList.drop 0 = dktX0_instruction_0 := by decide +kernel
theorem dX0_instruction_0 : decode cX0_instruction 0 = .ok (.aload_n 3, 1) := dk_45 (dk_at dksX0_instruction_0 0 rfl rfl)
theorem dX0_instruction_1 : decode cX0_instruction 1 = .ok (.iconst 0, 1) := dk_3 (dk_at dksX0_instruction_0 1 rfl rfl)
theorem dX0_instruction_2 : decode cX0_instruction 2 = .ok (.aload_n 0, 1) := dk_42 (dk_at dksX0_instruction_0 2 rfl rfl)
theorem dX0_instruction_3 : decode cX0_instruction 3 = .ok (.iload_n 1, 1) := dk_27 (dk_at dksX0_instruction_0 3 rfl rfl)
theorem dX0_instruction_4 : decode cX0_instruction 4 = .ok (.iload_n 2, 1) := dk_28 (dk_at dksX0_instruction_0 4 rfl rfl)
theorem dX0_instruction_5 : decode cX0_instruction 5 = .ok (.invokevirtual 66, 3) := dk_182 0 66 (dk_at dksX0_instruction_0 5 rfl rfl)
theorem dX0_instruction_8 : decode cX0_instruction 8 = .ok (.i2l, 1) := dk_133 (dk_at dksX0_instruction_0 8 rfl rfl)
theorem dX0_instruction_9 : decode cX0_instruction 9 = .ok (.lastore, 1) := dk_80 (dk_at dksX0_instruction_0 9 rfl rfl)
theorem dX0_instruction_10 : decode cX0_instruction 10 = .ok (.goto 11, 3) := dk_167 0 11 (dk_at dksX0_instruction_0 10 rfl rfl)
theorem dX0_instruction_13 : decode cX0_instruction 13 = .ok (.astore 4, 2) := dk_58 4 (dk_at dksX0_instruction_0 13 rfl rfl)
theorem dX0_instruction_15 : decode cX0_instruction 15 = .ok (.iconst 1, 1) := dk_4 (dk_at dksX0_instruction_0 15 rfl rfl)
theorem dX0_instruction_16 : decode cX0_instruction 16 = .ok (.ireturn, 1) := dk_172 (dk_at dksX0_instruction_0 16 rfl rfl)
theorem dX0_instruction_17 : decode cX0_instruction 17 = .ok (.astore 4, 2) := dk_58 4 (dk_at dksX0_instruction_0 17 rfl rfl)
theorem dX0_instruction_19 : decode cX0_instruction 19 = .ok (.iconst 2, 1) := dk_5 (dk_at dksX0_instruction_0 19 rfl rfl)
theorem dX0_instruction_20 : decode cX0_instruction 20 = .ok (.ireturn, 1) := dk_172 (dk_at dksX0_instruction_0 20 rfl rfl)
theorem dX0_instruction_21 : decode cX0_instruction 21 = .ok (.iconst 0, 1) := dk_3 (dk_at dksX0_instruction_0 21 rfl rfl)
theorem dX0_instruction_22 : decode cX0_instruction 22 = .ok (.ireturn, 1) := dk_172 (dk_at dksX0_instruction_0 22 rfl rfl)
abbrev cX0_level : ByteArray := method_17_code
def yX0_level : MethodName := ⟨RX0, "level", "(LCueStack;II[J)I"⟩
def dkwX0_level_0 : List UInt8 := [45, 3, 42, 27, 28, 182, 0, 69, 133, 80, 167, 0, 7, 58, 4, 4, 172, 3, 172]
abbrev dktX0_level_0 : List UInt8 := dkwX0_level_0 ++ []
theorem dksX0_level_0 : cX0_level.data.toList.drop 0 = dktX0_level_0 := by decide +kernel
theorem dX0_level_0 : decode cX0_level 0 = .ok (.aload_n 3, 1) := dk_45 (dk_at dksX0_level_0 0 rfl rfl)
theorem dX0_level_1 : decode cX0_level 1 = .ok (.iconst 0, 1) := dk_3 (dk_at dksX0_level_0 1 rfl rfl)
theorem dX0_level_2 : decode cX0_level 2 = .ok (.aload_n 0, 1) := dk_42 (dk_at dksX0_level_0 2 rfl rfl)
theorem dX0_level_3 : decode cX0_level 3 = .ok (.iload_n 1, 1) := dk_27 (dk_at dksX0_level_0 3 rfl rfl)
theorem dX0_level_4 : decode cX0_level 4 = .ok (.iload_n 2, 1) := dk_28 (dk_at dksX0_level_0 4 rfl rfl)
theorem dX0_level_5 : decode cX0_level 5 = .ok (.invokevirtual 69, 3) := dk_182 0 69 (dk_at dksX0_level_0 5 rfl rfl)
theorem dX0_level_8 : decode cX0_level 8 = .ok (.i2l, 1) := dk_133 (dk_at dksX0_level_0 8 rfl rfl)
theorem dX0_level_9 : decode cX0_level 9 = .ok (.lastore, 1) := dk_80 (dk_at dksX0_level_0 9 rfl rfl)
theorem dX0_level_10 : decode cX0_level 10 = .ok (.goto 7, 3) := dk_167 0 7 (dk_at dksX0_level_0 10 rfl rfl)
theorem dX0_level_13 : decode cX0_level 13 = .ok (.astore 4, 2) := dk_58 4 (dk_at dksX0_level_0 13 rfl rfl)
theorem dX0_level_15 : decode cX0_level 15 = .ok (.iconst 1, 1) := dk_4 (dk_at dksX0_level_0 15 rfl rfl)
theorem dX0_level_16 : decode cX0_level 16 = .ok (.ireturn, 1) := dk_172 (dk_at dksX0_level_0 16 rfl rfl)
theorem dX0_level_17 : decode cX0_level 17 = .ok (.iconst 0, 1) := dk_3 (dk_at dksX0_level_0 17 rfl rfl)
theorem dX0_level_18 : decode cX0_level 18 = .ok (.ireturn, 1) := dk_172 (dk_at dksX0_level_0 18 rfl rfl)
abbrev cX0_levelAgain : ByteArray := method_18_code
def yX0_levelAgain : MethodName := ⟨RX0, "levelAgain", "(LCueStack;II[J)I"⟩
def dkwX0_levelAgain_0 : List UInt8 := [45, 3, 42, 27, 28, 182, 0, 72, 133, 80, 167, 0, 7, 58, 4, 4, 172, 3, 172]
abbrev dktX0_levelAgain_0 : List UInt8 := dkwX0_levelAgain_0 ++ []
theorem dksX0_levelAgain_0 : cX0_levelAgain.data.toList.drop 0 = dktX0_levelAgain_0 := by decide +kernel
theorem dX0_levelAgain_0 : decode cX0_levelAgain 0 = .ok (.aload_n 3, 1) := dk_45 (dk_at dksX0_levelAgain_0 0 rfl rfl)
theorem dX0_levelAgain_1 : decode cX0_levelAgain 1 = .ok (.iconst 0, 1) := dk_3 (dk_at dksX0_levelAgain_0 1 rfl rfl)
theorem dX0_levelAgain_2 : decode cX0_levelAgain 2 = .ok (.aload_n 0, 1) := dk_42 (dk_at dksX0_levelAgain_0 2 rfl rfl)
theorem dX0_levelAgain_3 : decode cX0_levelAgain 3 = .ok (.iload_n 1, 1) := dk_27 (dk_at dksX0_levelAgain_0 3 rfl rfl)
theorem dX0_levelAgain_4 : decode cX0_levelAgain 4 = .ok (.iload_n 2, 1) := dk_28 (dk_at dksX0_levelAgain_0 4 rfl rfl)
theorem dX0_levelAgain_5 : decode cX0_levelAgain 5 = .ok (.invokevirtual 72, 3) := dk_182 0 72 (dk_at dksX0_levelAgain_0 5 rfl rfl)
theorem dX0_levelAgain_8 : decode cX0_levelAgain 8 = .ok (.i2l, 1) := dk_133 (dk_at dksX0_levelAgain_0 8 rfl rfl)
theorem dX0_levelAgain_9 : decode cX0_levelAgain 9 = .ok (.lastore, 1) := dk_80 (dk_at dksX0_levelAgain_0 9 rfl rfl)
theorem dX0_levelAgain_10 : decode cX0_levelAgain 10 = .ok (.goto 7, 3) := dk_167 0 7 (dk_at dksX0_levelAgain_0 10 rfl rfl)
theorem dX0_levelAgain_13 : decode cX0_levelAgain 13 = .ok (.astore 4, 2) := dk_58 4 (dk_at dksX0_levelAgain_0 13 rfl rfl)
theorem dX0_levelAgain_15 : decode cX0_levelAgain 15 = .ok (.iconst 1, 1) := dk_4 (dk_at dksX0_levelAgain_0 15 rfl rfl)
theorem dX0_levelAgain_16 : decode cX0_levelAgain 16 = .ok (.ireturn, 1) := dk_172 (dk_at dksX0_levelAgain_0 16 rfl rfl)
theorem dX0_levelAgain_17 : decode cX0_levelAgain 17 = .ok (.iconst 0, 1) := dk_3 (dk_at dksX0_levelAgain_0 17 rfl rfl)
theorem dX0_levelAgain_18 : decode cX0_levelAgain 18 = .ok (.ireturn, 1) := dk_172 (dk_at dksX0_levelAgain_0 18 rfl rfl)
abbrev cX0_source : ByteArray := method_19_code
def yX0_source : MethodName := ⟨RX0, "source", "(LCueStack;II[J)I"⟩
def dkwX0_source_0 : List UInt8 := [45, 3, 42, 27, 28, 182, 0, 75, 133, 80, 167, 0, 7, 58, 4, 4, 172, 3, 172]
abbrev dktX0_source_0 : List UInt8 := dkwX0_source_0 ++ []
theorem dksX0_source_0 : cX0_source.data.toList.drop 0 = dktX0_source_0 := by decide +kernel
theorem dX0_source_0 : decode cX0_source 0 = .ok (.aload_n 3, 1) := dk_45 (dk_at dksX0_source_0 0 rfl rfl)
theorem dX0_source_1 : decode cX0_source 1 = .ok (.iconst 0, 1) := dk_3 (dk_at dksX0_source_0 1 rfl rfl)
theorem dX0_source_2 : decode cX0_source 2 = .ok (.aload_n 0, 1) := dk_42 (dk_at dksX0_source_0 2 rfl rfl)
theorem dX0_source_3 : decode cX0_source 3 = .ok (.iload_n 1, 1) := dk_27 (dk_at dksX0_source_0 3 rfl rfl)
theorem dX0_source_4 : decode cX0_source 4 = .ok (.iload_n 2, 1) := dk_28 (dk_at dksX0_source_0 4 rfl rfl)
theorem dX0_source_5 : decode cX0_source 5 = .ok (.invokevirtual 75, 3) := dk_182 0 75 (dk_at dksX0_source_0 5 rfl rfl)
theorem dX0_source_8 : decode cX0_source 8 = .ok (.i2l, 1) := dk_133 (dk_at dksX0_source_0 8 rfl rfl)
theorem dX0_source_9 : decode cX0_source 9 = .ok (.lastore, 1) := dk_80 (dk_at dksX0_source_0 9 rfl rfl)
theorem dX0_source_10 : decode cX0_source 10 = .ok (.goto 7, 3) := dk_167 0 7 (dk_at dksX0_source_0 10 rfl rfl)
theorem dX0_source_13 : decode cX0_source 13 = .ok (.astore 4, 2) := dk_58 4 (dk_at dksX0_source_0 13 rfl rfl)
theorem dX0_source_15 : decode cX0_source 15 = .ok (.iconst 1, 1) := dk_4 (dk_at dksX0_source_0 15 rfl rfl)
theorem dX0_source_16 : decode cX0_source 16 = .ok (.ireturn, 1) := dk_172 (dk_at dksX0_source_0 16 rfl rfl)
theorem dX0_source_17 : decode cX0_source 17 = .ok (.iconst 0, 1) := dk_3 (dk_at dksX0_source_0 17 rfl rfl)
theorem dX0_source_18 : decode cX0_source 18 = .ok (.ireturn, 1) := dk_172 (dk_at dksX0_source_0 18 rfl rfl)
abbrev cX0_sum : ByteArray := method_20_code
def yX0_sum : MethodName := ⟨RX0, "sum", "(LCueStack;I[J)I"⟩
def dkwX0_sum_0 : List UInt8 := [44, 3, 42, 27, 182, 0, 78, 133, 80, 167, 0, 6, 78, 4, 172, 3, 172]
abbrev dktX0_sum_0 : List UInt8 := dkwX0_sum_0 ++ []
theorem dksX0_sum_0 : cX0_sum.data.toList.drop 0 = dktX0_sum_0 := by decide +kernel
theorem dX0_sum_0 : decode cX0_sum 0 = .ok (.aload_n 2, 1) := dk_44 (dk_at dksX0_sum_0 0 rfl rfl)
theorem dX0_sum_1 : decode cX0_sum 1 = .ok (.iconst 0, 1) := dk_3 (dk_at dksX0_sum_0 1 rfl rfl)
theorem dX0_sum_2 : decode cX0_sum 2 = .ok (.aload_n 0, 1) := dk_42 (dk_at dksX0_sum_0 2 rfl rfl)
theorem dX0_sum_3 : decode cX0_sum 3 = .ok (.iload_n 1, 1) := dk_27 (dk_at dksX0_sum_0 3 rfl rfl)
theorem dX0_sum_4 : decode cX0_sum 4 = .ok (.invokevirtual 78, 3) := dk_182 0 78 (dk_at dksX0_sum_0 4 rfl rfl)
theorem dX0_sum_7 : decode cX0_sum 7 = .ok (.i2l, 1) := dk_133 (dk_at dksX0_sum_0 7 rfl rfl)
theorem dX0_sum_8 : decode cX0_sum 8 = .ok (.lastore, 1) := dk_80 (dk_at dksX0_sum_0 8 rfl rfl)
theorem dX0_sum_9 : decode cX0_sum 9 = .ok (.goto 6, 3) := dk_167 0 6 (dk_at dksX0_sum_0 9 rfl rfl)
theorem dX0_sum_12 : decode cX0_sum 12 = .ok (.astore_n 3, 1) := dk_78 (dk_at dksX0_sum_0 12 rfl rfl)
theorem dX0_sum_13 : decode cX0_sum 13 = .ok (.iconst 1, 1) := dk_4 (dk_at dksX0_sum_0 13 rfl rfl)
theorem dX0_sum_14 : decode cX0_sum 14 = .ok (.ireturn, 1) := dk_172 (dk_at dksX0_sum_0 14 rfl rfl)
theorem dX0_sum_15 : decode cX0_sum 15 = .ok (.iconst 0, 1) := dk_3 (dk_at dksX0_sum_0 15 rfl rfl)
theorem dX0_sum_16 : decode cX0_sum 16 = .ok (.ireturn, 1) := dk_172 (dk_at dksX0_sum_0 16 rfl rfl)
abbrev cX0_apart : ByteArray := method_21_code
def yX0_apart : MethodName := ⟨RX0, "apart", "(LCueStack;II[J)I"⟩
def dkwX0_apart_0 : List UInt8 := [45, 3, 42, 27, 28, 182, 0, 81, 133, 80, 167, 0, 7, 58, 4, 4, 172, 3, 172]
abbrev dktX0_apart_0 : List UInt8 := dkwX0_apart_0 ++ []
theorem dksX0_apart_0 : cX0_apart.data.toList.drop 0 = dktX0_apart_0 := by decide +kernel
theorem dX0_apart_0 : decode cX0_apart 0 = .ok (.aload_n 3, 1) := dk_45 (dk_at dksX0_apart_0 0 rfl rfl)
theorem dX0_apart_1 : decode cX0_apart 1 = .ok (.iconst 0, 1) := dk_3 (dk_at dksX0_apart_0 1 rfl rfl)
theorem dX0_apart_2 : decode cX0_apart 2 = .ok (.aload_n 0, 1) := dk_42 (dk_at dksX0_apart_0 2 rfl rfl)
theorem dX0_apart_3 : decode cX0_apart 3 = .ok (.iload_n 1, 1) := dk_27 (dk_at dksX0_apart_0 3 rfl rfl)
theorem dX0_apart_4 : decode cX0_apart 4 = .ok (.iload_n 2, 1) := dk_28 (dk_at dksX0_apart_0 4 rfl rfl)
theorem dX0_apart_5 : decode cX0_apart 5 = .ok (.invokevirtual 81, 3) := dk_182 0 81 (dk_at dksX0_apart_0 5 rfl rfl)
theorem dX0_apart_8 : decode cX0_apart 8 = .ok (.i2l, 1) := dk_133 (dk_at dksX0_apart_0 8 rfl rfl)
theorem dX0_apart_9 : decode cX0_apart 9 = .ok (.lastore, 1) := dk_80 (dk_at dksX0_apart_0 9 rfl rfl)
theorem dX0_apart_10 : decode cX0_apart 10 = .ok (.goto 7, 3) := dk_167 0 7 (dk_at dksX0_apart_0 10 rfl rfl)
theorem dX0_apart_13 : decode cX0_apart 13 = .ok (.astore 4, 2) := dk_58 4 (dk_at dksX0_apart_0 13 rfl rfl)
theorem dX0_apart_15 : decode cX0_apart 15 = .ok (.iconst 1, 1) := dk_4 (dk_at dksX0_apart_0 15 rfl rfl)
theorem dX0_apart_16 : decode cX0_apart 16 = .ok (.ireturn, 1) := dk_172 (dk_at dksX0_apart_0 16 rfl rfl)
theorem dX0_apart_17 : decode cX0_apart 17 = .ok (.iconst 0, 1) := dk_3 (dk_at dksX0_apart_0 17 rfl rfl)
theorem dX0_apart_18 : decode cX0_apart 18 = .ok (.ireturn, 1) := dk_172 (dk_at dksX0_apart_0 18 rfl rfl)
abbrev cX0_reason : ByteArray := method_22_code
def yX0_reason : MethodName := ⟨RX0, "reason", "(LCueStack;[J)I"⟩
def dkwX0_reason_0 : List UInt8 := [43, 3, 42, 182, 0, 84, 133, 80, 167, 0, 6, 77, 4, 172, 3, 172]
abbrev dktX0_reason_0 : List UInt8 := dkwX0_reason_0 ++ []
theorem dksX0_reason_0 : cX0_reason.data.toList.drop 0 = dktX0_reason_0 := by decide +kernel
theorem dX0_reason_0 : decode cX0_reason 0 = .ok (.aload_n 1, 1) := dk_43 (dk_at dksX0_reason_0 0 rfl rfl)
theorem dX0_reason_1 : decode cX0_reason 1 = .ok (.iconst 0, 1) := dk_3 (dk_at dksX0_reason_0 1 rfl rfl)
theorem dX0_reason_2 : decode cX0_reason 2 = .ok (.aload_n 0, 1) := dk_42 (dk_at dksX0_reason_0 2 rfl rfl)
theorem dX0_reason_3 : decode cX0_reason 3 = .ok (.invokevirtual 84, 3) := dk_182 0 84 (dk_at dksX0_reason_0 3 rfl rfl)
theorem dX0_reason_6 : decode cX0_reason 6 = .ok (.i2l, 1) := dk_133 (dk_at dksX0_reason_0 6 rfl rfl)
theorem dX0_reason_7 : decode cX0_reason 7 = .ok (.lastore, 1) := dk_80 (dk_at dksX0_reason_0 7 rfl rfl)
theorem dX0_reason_8 : decode cX0_reason 8 = .ok (.goto 6, 3) := dk_167 0 6 (dk_at dksX0_reason_0 8 rfl rfl)
theorem dX0_reason_11 : decode cX0_reason 11 = .ok (.astore_n 2, 1) := dk_77 (dk_at dksX0_reason_0 11 rfl rfl)
theorem dX0_reason_12 : decode cX0_reason 12 = .ok (.iconst 1, 1) := dk_4 (dk_at dksX0_reason_0 12 rfl rfl)
theorem dX0_reason_13 : decode cX0_reason 13 = .ok (.ireturn, 1) := dk_172 (dk_at dksX0_reason_0 13 rfl rfl)
theorem dX0_reason_14 : decode cX0_reason 14 = .ok (.iconst 0, 1) := dk_3 (dk_at dksX0_reason_0 14 rfl rfl)
theorem dX0_reason_15 : decode cX0_reason 15 = .ok (.ireturn, 1) := dk_172 (dk_at dksX0_reason_0 15 rfl rfl)
abbrev cX0_go : ByteArray := method_23_code
def yX0_go : MethodName := ⟨RX0, "go", "(LCueStack;[J)I"⟩
def dkwX0_go_0 : List UInt8 := [43, 3, 42, 182, 0, 88, 133, 80, 167, 0, 6, 77, 4, 172, 3, 172]
abbrev dktX0_go_0 : List UInt8 := dkwX0_go_0 ++ []
theorem dksX0_go_0 : cX0_go.data.toList.drop 0 = dktX0_go_0 := by decide +kernel
theorem dX0_go_0 : decode cX0_go 0 = .ok (.aload_n 1, 1) := dk_43 (dk_at dksX0_go_0 0 rfl rfl)
theorem dX0_go_1 : decode cX0_go 1 = .ok (.iconst 0, 1) := dk_3 (dk_at dksX0_go_0 1 rfl rfl)
theorem dX0_go_2 : decode cX0_go 2 = .ok (.aload_n 0, 1) := dk_42 (dk_at dksX0_go_0 2 rfl rfl)
theorem dX0_go_3 : decode cX0_go 3 = .ok (.invokevirtual 88, 3) := dk_182 0 88 (dk_at dksX0_go_0 3 rfl rfl)
theorem dX0_go_6 : decode cX0_go 6 = .ok (.i2l, 1) := dk_133 (dk_at dksX0_go_0 6 rfl rfl)
theorem dX0_go_7 : decode cX0_go 7 = .ok (.lastore, 1) := dk_80 (dk_at dksX0_go_0 7 rfl rfl)
theorem dX0_go_8 : decode cX0_go 8 = .ok (.goto 6, 3) := dk_167 0 6 (dk_at dksX0_go_0 8 rfl rfl)
theorem dX0_go_11 : decode cX0_go 11 = .ok (.astore_n 2, 1) := dk_77 (dk_at dksX0_go_0 11 rfl rfl)
theorem dX0_go_12 : decode cX0_go 12 = .ok (.iconst 1, 1) := dk_4 (dk_at dksX0_go_0 12 rfl rfl)
theorem dX0_go_13 : decode cX0_go 13 = .ok (.ireturn, 1) := dk_172 (dk_at dksX0_go_0 13 rfl rfl)
theorem dX0_go_14 : decode cX0_go 14 = .ok (.iconst 0, 1) := dk_3 (dk_at dksX0_go_0 14 rfl rfl)
theorem dX0_go_15 : decode cX0_go 15 = .ok (.ireturn, 1) := dk_172 (dk_at dksX0_go_0 15 rfl rfl)
abbrev cX0_back : ByteArray := method_24_code
def yX0_back : MethodName := ⟨RX0, "back", "(LCueStack;[J)I"⟩
def dkwX0_back_0 : List UInt8 := [43, 3, 42, 182, 0, 91, 133, 80, 167, 0, 6, 77, 4, 172, 3, 172]
abbrev dktX0_back_0 : List UInt8 := dkwX0_back_0 ++ []
theorem dksX0_back_0 : cX0_back.data.toList.drop 0 = dktX0_back_0 := by decide +kernel
theorem dX0_back_0 : decode cX0_back 0 = .ok (.aload_n 1, 1) := dk_43 (dk_at dksX0_back_0 0 rfl rfl)
theorem dX0_back_1 : decode cX0_back 1 = .ok (.iconst 0, 1) := dk_3 (dk_at dksX0_back_0 1 rfl rfl)
theorem dX0_back_2 : decode cX0_back 2 = .ok (.aload_n 0, 1) := dk_42 (dk_at dksX0_back_0 2 rfl rfl)
theorem dX0_back_3 : decode cX0_back 3 = .ok (.invokevirtual 91, 3) := dk_182 0 91 (dk_at dksX0_back_0 3 rfl rfl)
theorem dX0_back_6 : decode cX0_back 6 = .ok (.i2l, 1) := dk_133 (dk_at dksX0_back_0 6 rfl rfl)
theorem dX0_back_7 : decode cX0_back 7 = .ok (.lastore, 1) := dk_80 (dk_at dksX0_back_0 7 rfl rfl)
theorem dX0_back_8 : decode cX0_back 8 = .ok (.goto 6, 3) := dk_167 0 6 (dk_at dksX0_back_0 8 rfl rfl)
theorem dX0_back_11 : decode cX0_back 11 = .ok (.astore_n 2, 1) := dk_77 (dk_at dksX0_back_0 11 rfl rfl)
theorem dX0_back_12 : decode cX0_back 12 = .ok (.iconst 1, 1) := dk_4 (dk_at dksX0_back_0 12 rfl rfl)
theorem dX0_back_13 : decode cX0_back 13 = .ok (.ireturn, 1) := dk_172 (dk_at dksX0_back_0 13 rfl rfl)
theorem dX0_back_14 : decode cX0_back 14 = .ok (.iconst 0, 1) := dk_3 (dk_at dksX0_back_0 14 rfl rfl)
theorem dX0_back_15 : decode cX0_back 15 = .ok (.ireturn, 1) := dk_172 (dk_at dksX0_back_0 15 rfl rfl)
abbrev cX0_jump : ByteArray := method_25_code
def yX0_jump : MethodName := ⟨RX0, "jump", "(LCueStack;I[J)I"⟩
def dkwX0_jump_0 : List UInt8 := [44, 3, 42, 27, 182, 0, 94, 133, 80, 167, 0, 6, 78, 4, 172, 3, 172]
abbrev dktX0_jump_0 : List UInt8 := dkwX0_jump_0 ++ []
theorem dksX0_jump_0 : cX0_jump.data.toList.drop 0 = dktX0_jump_0 := by decide +kernel
theorem dX0_jump_0 : decode cX0_jump 0 = .ok (.aload_n 2, 1) := dk_44 (dk_at dksX0_jump_0 0 rfl rfl)
theorem dX0_jump_1 : decode cX0_jump 1 = .ok (.iconst 0, 1) := dk_3 (dk_at dksX0_jump_0 1 rfl rfl)
theorem dX0_jump_2 : decode cX0_jump 2 = .ok (.aload_n 0, 1) := dk_42 (dk_at dksX0_jump_0 2 rfl rfl)
theorem dX0_jump_3 : decode cX0_jump 3 = .ok (.iload_n 1, 1) := dk_27 (dk_at dksX0_jump_0 3 rfl rfl)
theorem dX0_jump_4 : decode cX0_jump 4 = .ok (.invokevirtual 94, 3) := dk_182 0 94 (dk_at dksX0_jump_0 4 rfl rfl)
theorem dX0_jump_7 : decode cX0_jump 7 = .ok (.i2l, 1) := dk_133 (dk_at dksX0_jump_0 7 rfl rfl)
theorem dX0_jump_8 : decode cX0_jump 8 = .ok (.lastore, 1) := dk_80 (dk_at dksX0_jump_0 8 rfl rfl)
theorem dX0_jump_9 : decode cX0_jump 9 = .ok (.goto 6, 3) := dk_167 0 6 (dk_at dksX0_jump_0 9 rfl rfl)
theorem dX0_jump_12 : decode cX0_jump 12 = .ok (.astore_n 3, 1) := dk_78 (dk_at dksX0_jump_0 12 rfl rfl)
theorem dX0_jump_13 : decode cX0_jump 13 = .ok (.iconst 1, 1) := dk_4 (dk_at dksX0_jump_0 13 rfl rfl)
theorem dX0_jump_14 : decode cX0_jump 14 = .ok (.ireturn, 1) := dk_172 (dk_at dksX0_jump_0 14 rfl rfl)
theorem dX0_jump_15 : decode cX0_jump 15 = .ok (.iconst 0, 1) := dk_3 (dk_at dksX0_jump_0 15 rfl rfl)
theorem dX0_jump_16 : decode cX0_jump 16 = .ok (.ireturn, 1) := dk_172 (dk_at dksX0_jump_0 16 rfl rfl)
abbrev cX0_pass : ByteArray := method_26_code
def yX0_pass : MethodName := ⟨RX0, "pass", "(LCueStack;I[J)I"⟩
def dkwX0_pass_0 : List UInt8 := [44, 3, 42, 27, 182, 0, 97, 133, 80, 167, 0, 9, 78, 4, 172, 78, 5, 172, 3, 172]
abbrev dktX0_pass_0 : List UInt8 := dkwX0_pass_0 ++ []
theorem dksX0_pass_0 : cX0_pass.data.toList.drop 0 = dktX0_pass_0 := by decide +kernel
theorem dX0_pass_0 : decode cX0_pass 0 = .ok (.aload_n 2, 1) := dk_44 (dk_at dksX0_pass_0 0 rfl rfl)
theorem dX0_pass_1 : decode cX0_pass 1 = .ok (.iconst 0, 1) := dk_3 (dk_at dksX0_pass_0 1 rfl rfl)
theorem dX0_pass_2 : decode cX0_pass 2 = .ok (.aload_n 0, 1) := dk_42 (dk_at dksX0_pass_0 2 rfl rfl)
theorem dX0_pass_3 : decode cX0_pass 3 = .ok (.iload_n 1, 1) := dk_27 (dk_at dksX0_pass_0 3 rfl rfl)
theorem dX0_pass_4 : decode cX0_pass 4 = .ok (.invokevirtual 97, 3) := dk_182 0 97 (dk_at dksX0_pass_0 4 rfl rfl)
theorem dX0_pass_7 : decode cX0_pass 7 = .ok (.i2l, 1) := dk_133 (dk_at dksX0_pass_0 7 rfl rfl)
theorem dX0_pass_8 : decode cX0_pass 8 = .ok (.lastore, 1) := dk_80 (dk_at dksX0_pass_0 8 rfl rfl)
theorem dX0_pass_9 : decode cX0_pass 9 = .ok (.goto 9, 3) := dk_167 0 9 (dk_at dksX0_pass_0 9 rfl rfl)
theorem dX0_pass_12 : decode cX0_pass 12 = .ok (.astore_n 3, 1) := dk_78 (dk_at dksX0_pass_0 12 rfl rfl)
theorem dX0_pass_13 : decode cX0_pass 13 = .ok (.iconst 1, 1) := dk_4 (dk_at dksX0_pass_0 13 rfl rfl)
theorem dX0_pass_14 : decode cX0_pass 14 = .ok (.ireturn, 1) := dk_172 (dk_at dksX0_pass_0 14 rfl rfl)
theorem dX0_pass_15 : decode cX0_pass 15 = .ok (.astore_n 3, 1) := dk_78 (dk_at dksX0_pass_0 15 rfl rfl)
theorem dX0_pass_16 : decode cX0_pass 16 = .ok (.iconst 2, 1) := dk_5 (dk_at dksX0_pass_0 16 rfl rfl)
theorem dX0_pass_17 : decode cX0_pass 17 = .ok (.ireturn, 1) := dk_172 (dk_at dksX0_pass_0 17 rfl rfl)
theorem dX0_pass_18 : decode cX0_pass 18 = .ok (.iconst 0, 1) := dk_3 (dk_at dksX0_pass_0 18 rfl rfl)
theorem dX0_pass_19 : decode cX0_pass 19 = .ok (.ireturn, 1) := dk_172 (dk_at dksX0_pass_0 19 rfl rfl)
abbrev cX0_now : ByteArray := method_27_code
def yX0_now : MethodName := ⟨RX0, "now", "(LCueStack;I[J)I"⟩
def dkwX0_now_0 : List UInt8 := [44, 3, 42, 27, 182, 0, 100, 133, 80, 167, 0, 6, 78, 4, 172, 3, 172]
abbrev dktX0_now_0 : List UInt8 := dkwX0_now_0 ++ []
theorem dksX0_now_0 : cX0_now.data.toList.drop 0 = dktX0_now_0 := by decide +kernel
theorem dX0_now_0 : decode cX0_now 0 = .ok (.aload_n 2, 1) := dk_44 (dk_at dksX0_now_0 0 rfl rfl)
theorem dX0_now_1 : decode cX0_now 1 = .ok (.iconst 0, 1) := dk_3 (dk_at dksX0_now_0 1 rfl rfl)
theorem dX0_now_2 : decode cX0_now 2 = .ok (.aload_n 0, 1) := dk_42 (dk_at dksX0_now_0 2 rfl rfl)
theorem dX0_now_3 : decode cX0_now 3 = .ok (.iload_n 1, 1) := dk_27 (dk_at dksX0_now_0 3 rfl rfl)
theorem dX0_now_4 : decode cX0_now 4 = .ok (.invokevirtual 100, 3) := dk_182 0 100 (dk_at dksX0_now_0 4 rfl rfl)
theorem dX0_now_7 : decode cX0_now 7 = .ok (.i2l, 1) := dk_133 (dk_at dksX0_now_0 7 rfl rfl)
theorem dX0_now_8 : decode cX0_now 8 = .ok (.lastore, 1) := dk_80 (dk_at dksX0_now_0 8 rfl rfl)
theorem dX0_now_9 : decode cX0_now 9 = .ok (.goto 6, 3) := dk_167 0 6 (dk_at dksX0_now_0 9 rfl rfl)
theorem dX0_now_12 : decode cX0_now 12 = .ok (.astore_n 3, 1) := dk_78 (dk_at dksX0_now_0 12 rfl rfl)
theorem dX0_now_13 : decode cX0_now 13 = .ok (.iconst 1, 1) := dk_4 (dk_at dksX0_now_0 13 rfl rfl)
theorem dX0_now_14 : decode cX0_now 14 = .ok (.ireturn, 1) := dk_172 (dk_at dksX0_now_0 14 rfl rfl)
theorem dX0_now_15 : decode cX0_now 15 = .ok (.iconst 0, 1) := dk_3 (dk_at dksX0_now_0 15 rfl rfl)
theorem dX0_now_16 : decode cX0_now 16 = .ok (.ireturn, 1) := dk_172 (dk_at dksX0_now_0 16 rfl rfl)
abbrev cX0_target : ByteArray := method_28_code
def yX0_target : MethodName := ⟨RX0, "target", "(LCueStack;I[J)I"⟩
def dkwX0_target_0 : List UInt8 := [44, 3, 42, 27, 182, 0, 103, 133, 80, 167, 0, 6, 78, 4, 172, 3, 172]
abbrev dktX0_target_0 : List UInt8 := dkwX0_target_0 ++ []
theorem dksX0_target_0 : cX0_target.data.toList.drop 0 = dktX0_target_0 := by decide +kernel
theorem dX0_target_0 : decode cX0_target 0 = .ok (.aload_n 2, 1) := dk_44 (dk_at dksX0_target_0 0 rfl rfl)
theorem dX0_target_1 : decode cX0_target 1 = .ok (.iconst 0, 1) := dk_3 (dk_at dksX0_target_0 1 rfl rfl)
theorem dX0_target_2 : decode cX0_target 2 = .ok (.aload_n 0, 1) := dk_42 (dk_at dksX0_target_0 2 rfl rfl)
theorem dX0_target_3 : decode cX0_target 3 = .ok (.iload_n 1, 1) := dk_27 (dk_at dksX0_target_0 3 rfl rfl)
theorem dX0_target_4 : decode cX0_target 4 = .ok (.invokevirtual 103, 3) := dk_182 0 103 (dk_at dksX0_target_0 4 rfl rfl)
theorem dX0_target_7 : decode cX0_target 7 = .ok (.i2l, 1) := dk_133 (dk_at dksX0_target_0 7 rfl rfl)
theorem dX0_target_8 : decode cX0_target 8 = .ok (.lastore, 1) := dk_80 (dk_at dksX0_target_0 8 rfl rfl)
theorem dX0_target_9 : decode cX0_target 9 = .ok (.goto 6, 3) := dk_167 0 6 (dk_at dksX0_target_0 9 rfl rfl)
theorem dX0_target_12 : decode cX0_target 12 = .ok (.astore_n 3, 1) := dk_78 (dk_at dksX0_target_0 12 rfl rfl)
theorem dX0_target_13 : decode cX0_target 13 = .ok (.iconst 1, 1) := dk_4 (dk_at dksX0_target_0 13 rfl rfl)
theorem dX0_target_14 : decode cX0_target 14 = .ok (.ireturn, 1) := dk_172 (dk_at dksX0_target_0 14 rfl rfl)
theorem dX0_target_15 : decode cX0_target 15 = .ok (.iconst 0, 1) := dk_3 (dk_at dksX0_target_0 15 rfl rfl)
theorem dX0_target_16 : decode cX0_target 16 = .ok (.ireturn, 1) := dk_172 (dk_at dksX0_target_0 16 rfl rfl)
abbrev cX0_playing : ByteArray := method_29_code
def yX0_playing : MethodName := ⟨RX0, "playing", "(LCueStack;I[J)I"⟩
def dkwX0_playing_0 : List UInt8 := [44, 3, 42, 27, 182, 0, 106, 133, 80, 167, 0, 6, 78, 4, 172, 3, 172]
abbrev dktX0_playing_0 : List UInt8 := dkwX0_playing_0 ++ []
theorem dksX0_playing_0 : cX0_playing.data.toList.drop 0 = dktX0_playing_0 := by decide +kernel
theorem dX0_playing_0 : decode cX0_playing 0 = .ok (.aload_n 2, 1) := dk_44 (dk_at dksX0_playing_0 0 rfl rfl)
theorem dX0_playing_1 : decode cX0_playing 1 = .ok (.iconst 0, 1) := dk_3 (dk_at dksX0_playing_0 1 rfl rfl)
theorem dX0_playing_2 : decode cX0_playing 2 = .ok (.aload_n 0, 1) := dk_42 (dk_at dksX0_playing_0 2 rfl rfl)
theorem dX0_playing_3 : decode cX0_playing 3 = .ok (.iload_n 1, 1) := dk_27 (dk_at dksX0_playing_0 3 rfl rfl)
theorem dX0_playing_4 : decode cX0_playing 4 = .ok (.invokevirtual 106, 3) := dk_182 0 106 (dk_at dksX0_playing_0 4 rfl rfl)
theorem dX0_playing_7 : decode cX0_playing 7 = .ok (.i2l, 1) := dk_133 (dk_at dksX0_playing_0 7 rfl rfl)
theorem dX0_playing_8 : decode cX0_playing 8 = .ok (.lastore, 1) := dk_80 (dk_at dksX0_playing_0 8 rfl rfl)
theorem dX0_playing_9 : decode cX0_playing 9 = .ok (.goto 6, 3) := dk_167 0 6 (dk_at dksX0_playing_0 9 rfl rfl)
theorem dX0_playing_12 : decode cX0_playing 12 = .ok (.astore_n 3, 1) := dk_78 (dk_at dksX0_playing_0 12 rfl rfl)
theorem dX0_playing_13 : decode cX0_playing 13 = .ok (.iconst 1, 1) := dk_4 (dk_at dksX0_playing_0 13 rfl rfl)
theorem dX0_playing_14 : decode cX0_playing 14 = .ok (.ireturn, 1) := dk_172 (dk_at dksX0_playing_0 14 rfl rfl)
theorem dX0_playing_15 : decode cX0_playing 15 = .ok (.iconst 0, 1) := dk_3 (dk_at dksX0_playing_0 15 rfl rfl)
theorem dX0_playing_16 : decode cX0_playing 16 = .ok (.ireturn, 1) := dk_172 (dk_at dksX0_playing_0 16 rfl rfl)
abbrev cX0_chain : ByteArray := method_30_code
def yX0_chain : MethodName := ⟨RX0, "chain", "(LCueStack;I[J)I"⟩
def dkwX0_chain_0 : List UInt8 := [44, 3, 42, 27, 182, 0, 109, 133, 80, 167, 0, 6, 78, 4, 172, 3, 172]
abbrev dktX0_chain_0 : List UInt8 := dkwX0_chain_0 ++ []
theorem dksX0_chain_0 : cX0_chain.data.toList.drop 0 = dktX0_chain_0 := by decide +kernel
theorem dX0_chain_0 : decode cX0_chain 0 = .ok (.aload_n 2, 1) := dk_44 (dk_at dksX0_chain_0 0 rfl rfl)
theorem dX0_chain_1 : decode cX0_chain 1 = .ok (.iconst 0, 1) := dk_3 (dk_at dksX0_chain_0 1 rfl rfl)
theorem dX0_chain_2 : decode cX0_chain 2 = .ok (.aload_n 0, 1) := dk_42 (dk_at dksX0_chain_0 2 rfl rfl)
theorem dX0_chain_3 : decode cX0_chain 3 = .ok (.iload_n 1, 1) := dk_27 (dk_at dksX0_chain_0 3 rfl rfl)
theorem dX0_chain_4 : decode cX0_chain 4 = .ok (.invokevirtual 109, 3) := dk_182 0 109 (dk_at dksX0_chain_0 4 rfl rfl)
theorem dX0_chain_7 : decode cX0_chain 7 = .ok (.i2l, 1) := dk_133 (dk_at dksX0_chain_0 7 rfl rfl)
theorem dX0_chain_8 : decode cX0_chain 8 = .ok (.lastore, 1) := dk_80 (dk_at dksX0_chain_0 8 rfl rfl)
theorem dX0_chain_9 : decode cX0_chain 9 = .ok (.goto 6, 3) := dk_167 0 6 (dk_at dksX0_chain_0 9 rfl rfl)
theorem dX0_chain_12 : decode cX0_chain 12 = .ok (.astore_n 3, 1) := dk_78 (dk_at dksX0_chain_0 12 rfl rfl)
theorem dX0_chain_13 : decode cX0_chain 13 = .ok (.iconst 1, 1) := dk_4 (dk_at dksX0_chain_0 13 rfl rfl)
theorem dX0_chain_14 : decode cX0_chain 14 = .ok (.ireturn, 1) := dk_172 (dk_at dksX0_chain_0 14 rfl rfl)
theorem dX0_chain_15 : decode cX0_chain 15 = .ok (.iconst 0, 1) := dk_3 (dk_at dksX0_chain_0 15 rfl rfl)
theorem dX0_chain_16 : decode cX0_chain 16 = .ok (.ireturn, 1) := dk_172 (dk_at dksX0_chain_0 16 rfl rfl)
abbrev cX0_account : ByteArray := method_31_code
def yX0_account : MethodName := ⟨RX0, "account", "(LCueStack;I[J)I"⟩
def dkwX0_account_0 : List UInt8 := [44, 3, 42, 27, 182, 0, 112, 133, 80, 167, 0, 6, 78, 4, 172, 3, 172]
abbrev dktX0_account_0 : List UInt8 := dkwX0_account_0 ++ []
theorem dksX0_account_0 : cX0_account.data.toList.drop 0 = dktX0_account_0 := by decide +kernel
theorem dX0_account_0 : decode cX0_account 0 = .ok (.aload_n 2, 1) := dk_44 (dk_at dksX0_account_0 0 rfl rfl)
theorem dX0_account_1 : decode cX0_account 1 = .ok (.iconst 0, 1) := dk_3 (dk_at dksX0_account_0 1 rfl rfl)
theorem dX0_account_2 : decode cX0_account 2 = .ok (.aload_n 0, 1) := dk_42 (dk_at dksX0_account_0 2 rfl rfl)
theorem dX0_account_3 : decode cX0_account 3 = .ok (.iload_n 1, 1) := dk_27 (dk_at dksX0_account_0 3 rfl rfl)
theorem dX0_account_4 : decode cX0_account 4 = .ok (.invokevirtual 112, 3) := dk_182 0 112 (dk_at dksX0_account_0 4 rfl rfl)
theorem dX0_account_7 : decode cX0_account 7 = .ok (.i2l, 1) := dk_133 (dk_at dksX0_account_0 7 rfl rfl)
theorem dX0_account_8 : decode cX0_account 8 = .ok (.lastore, 1) := dk_80 (dk_at dksX0_account_0 8 rfl rfl)
theorem dX0_account_9 : decode cX0_account 9 = .ok (.goto 6, 3) := dk_167 0 6 (dk_at dksX0_account_0 9 rfl rfl)
theorem dX0_account_12 : decode cX0_account 12 = .ok (.astore_n 3, 1) := dk_78 (dk_at dksX0_account_0 12 rfl rfl)
theorem dX0_account_13 : decode cX0_account 13 = .ok (.iconst 1, 1) := dk_4 (dk_at dksX0_account_0 13 rfl rfl)
theorem dX0_account_14 : decode cX0_account 14 = .ok (.ireturn, 1) := dk_172 (dk_at dksX0_account_0 14 rfl rfl)
theorem dX0_account_15 : decode cX0_account 15 = .ok (.iconst 0, 1) := dk_3 (dk_at dksX0_account_0 15 rfl rfl)
theorem dX0_account_16 : decode cX0_account 16 = .ok (.ireturn, 1) := dk_172 (dk_at dksX0_account_0 16 rfl rfl)
abbrev cX0_append : ByteArray := method_32_code
def yX0_append : MethodName := ⟨RX0, "append", "(LCueStack;C[J)I"⟩
def dkwX0_append_0 : List UInt8 := [44, 3, 42, 27, 182, 0, 115, 133, 80, 167, 0, 9, 78, 4, 172, 78, 5, 172, 3, 172]
abbrev dktX0_append_0 : List UInt8 := dkwX0_append_0 ++ []
theorem dksX0_append_0 : cX0_append.data.toList.drop 0 = dktX0_append_0 := by decide +kernel
theorem dX0_append_0 : decode cX0_append 0 = .ok (.aload_n 2, 1) := dk_44 (dk_at dksX0_append_0 0 rfl rfl)
theorem dX0_append_1 : decode cX0_append 1 = .ok (.iconst 0, 1) := dk_3 (dk_at dksX0_append_0 1 rfl rfl)
theorem dX0_append_2 : decode cX0_append 2 = .ok (.aload_n 0, 1) := dk_42 (dk_at dksX0_append_0 2 rfl rfl)
theorem dX0_append_3 : decode cX0_append 3 = .ok (.iload_n 1, 1) := dk_27 (dk_at dksX0_append_0 3 rfl rfl)
theorem dX0_append_4 : decode cX0_append 4 = .ok (.invokevirtual 115, 3) := dk_182 0 115 (dk_at dksX0_append_0 4 rfl rfl)
theorem dX0_append_7 : decode cX0_append 7 = .ok (.i2l, 1) := dk_133 (dk_at dksX0_append_0 7 rfl rfl)
theorem dX0_append_8 : decode cX0_append 8 = .ok (.lastore, 1) := dk_80 (dk_at dksX0_append_0 8 rfl rfl)
theorem dX0_append_9 : decode cX0_append 9 = .ok (.goto 9, 3) := dk_167 0 9 (dk_at dksX0_append_0 9 rfl rfl)
theorem dX0_append_12 : decode cX0_append 12 = .ok (.astore_n 3, 1) := dk_78 (dk_at dksX0_append_0 12 rfl rfl)
theorem dX0_append_13 : decode cX0_append 13 = .ok (.iconst 1, 1) := dk_4 (dk_at dksX0_append_0 13 rfl rfl)
theorem dX0_append_14 : decode cX0_append 14 = .ok (.ireturn, 1) := dk_172 (dk_at dksX0_append_0 14 rfl rfl)
theorem dX0_append_15 : decode cX0_append 15 = .ok (.astore_n 3, 1) := dk_78 (dk_at dksX0_append_0 15 rfl rfl)
theorem dX0_append_16 : decode cX0_append 16 = .ok (.iconst 2, 1) := dk_5 (dk_at dksX0_append_0 16 rfl rfl)
theorem dX0_append_17 : decode cX0_append 17 = .ok (.ireturn, 1) := dk_172 (dk_at dksX0_append_0 17 rfl rfl)
theorem dX0_append_18 : decode cX0_append 18 = .ok (.iconst 0, 1) := dk_3 (dk_at dksX0_append_0 18 rfl rfl)
theorem dX0_append_19 : decode cX0_append 19 = .ok (.ireturn, 1) := dk_172 (dk_at dksX0_append_0 19 rfl rfl)
abbrev cX0_read : ByteArray := method_33_code
def yX0_read : MethodName := ⟨RX0, "read", "(LCueStack;[J)I"⟩
def dkwX0_read_0 : List UInt8 := [43, 3, 42, 182, 0, 119, 133, 80, 167, 0, 9, 77, 4, 172, 77, 5, 172, 3, 172]
abbrev dktX0_read_0 : List UInt8 := dkwX0_read_0 ++ []
theorem dksX0_read_0 : cX0_read.data.toList.drop 0 = dktX0_read_0 := by decide +kernel
theorem dX0_read_0 : decode cX0_read 0 = .ok (.aload_n 1, 1) := dk_43 (dk_at dksX0_read_0 0 rfl rfl)
theorem dX0_read_1 : decode cX0_read 1 = .ok (.iconst 0, 1) := dk_3 (dk_at dksX0_read_0 1 rfl rfl)
theorem dX0_read_2 : decode cX0_read 2 = .ok (.aload_n 0, 1) := dk_42 (dk_at dksX0_read_0 2 rfl rfl)
theorem dX0_read_3 : decode cX0_read 3 = .ok (.invokevirtual 119, 3) := dk_182 0 119 (dk_at dksX0_read_0 3 rfl rfl)
theorem dX0_read_6 : decode cX0_read 6 = .ok (.i2l, 1) := dk_133 (dk_at dksX0_read_0 6 rfl rfl)
theorem dX0_read_7 : decode cX0_read 7 = .ok (.lastore, 1) := dk_80 (dk_at dksX0_read_0 7 rfl rfl)
theorem dX0_read_8 : decode cX0_read 8 = .ok (.goto 9, 3) := dk_167 0 9 (dk_at dksX0_read_0 8 rfl rfl)
theorem dX0_read_11 : decode cX0_read 11 = .ok (.astore_n 2, 1) := dk_77 (dk_at dksX0_read_0 11 rfl rfl)
theorem dX0_read_12 : decode cX0_read 12 = .ok (.iconst 1, 1) := dk_4 (dk_at dksX0_read_0 12 rfl rfl)
theorem dX0_read_13 : decode cX0_read 13 = .ok (.ireturn, 1) := dk_172 (dk_at dksX0_read_0 13 rfl rfl)
theorem dX0_read_14 : decode cX0_read 14 = .ok (.astore_n 2, 1) := dk_77 (dk_at dksX0_read_0 14 rfl rfl)
theorem dX0_read_15 : decode cX0_read 15 = .ok (.iconst 2, 1) := dk_5 (dk_at dksX0_read_0 15 rfl rfl)
theorem dX0_read_16 : decode cX0_read 16 = .ok (.ireturn, 1) := dk_172 (dk_at dksX0_read_0 16 rfl rfl)
theorem dX0_read_17 : decode cX0_read 17 = .ok (.iconst 0, 1) := dk_3 (dk_at dksX0_read_0 17 rfl rfl)
theorem dX0_read_18 : decode cX0_read 18 = .ok (.ireturn, 1) := dk_172 (dk_at dksX0_read_0 18 rfl rfl)
abbrev cX0_errorPosition : ByteArray := method_34_code
def yX0_errorPosition : MethodName := ⟨RX0, "errorPosition", "(LCueStack;[J)I"⟩
def dkwX0_errorPosition_0 : List UInt8 := [43, 3, 42, 182, 0, 122, 133, 80, 167, 0, 6, 77, 4, 172, 3, 172]
abbrev dktX0_errorPosition_0 : List UInt8 := dkwX0_errorPosition_0 ++ []
theorem dksX0_errorPosition_0 : cX0_errorPosition.data.toList.drop 0 = dktX0_errorPosition_0 := by decide +kernel
theorem dX0_errorPosition_0 : decode cX0_errorPosition 0 = .ok (.aload_n 1, 1) := dk_43 (dk_at dksX0_errorPosition_0 0 rfl rfl)
theorem dX0_errorPosition_1 : decode cX0_errorPosition 1 = .ok (.iconst 0, 1) := dk_3 (dk_at dksX0_errorPosition_0 1 rfl rfl)
theorem dX0_errorPosition_2 : decode cX0_errorPosition 2 = .ok (.aload_n 0, 1) := dk_42 (dk_at dksX0_errorPosition_0 2 rfl rfl)
theorem dX0_errorPosition_3 : decode cX0_errorPosition 3 = .ok (.invokevirtual 122, 3) := dk_182 0 122 (dk_at dksX0_errorPosition_0 3 rfl rfl)
theorem dX0_errorPosition_6 : decode cX0_errorPosition 6 = .ok (.i2l, 1) := dk_133 (dk_at dksX0_errorPosition_0 6 rfl rfl)
theorem dX0_errorPosition_7 : decode cX0_errorPosition 7 = .ok (.lastore, 1) := dk_80 (dk_at dksX0_errorPosition_0 7 rfl rfl)
theorem dX0_errorPosition_8 : decode cX0_errorPosition 8 = .ok (.goto 6, 3) := dk_167 0 6 (dk_at dksX0_errorPosition_0 8 rfl rfl)
theorem dX0_errorPosition_11 : decode cX0_errorPosition 11 = .ok (.astore_n 2, 1) := dk_77 (dk_at dksX0_errorPosition_0 11 rfl rfl)
theorem dX0_errorPosition_12 : decode cX0_errorPosition 12 = .ok (.iconst 1, 1) := dk_4 (dk_at dksX0_errorPosition_0 12 rfl rfl)
theorem dX0_errorPosition_13 : decode cX0_errorPosition 13 = .ok (.ireturn, 1) := dk_172 (dk_at dksX0_errorPosition_0 13 rfl rfl)
theorem dX0_errorPosition_14 : decode cX0_errorPosition 14 = .ok (.iconst 0, 1) := dk_3 (dk_at dksX0_errorPosition_0 14 rfl rfl)
theorem dX0_errorPosition_15 : decode cX0_errorPosition 15 = .ok (.ireturn, 1) := dk_172 (dk_at dksX0_errorPosition_0 15 rfl rfl)
abbrev cX0_undo : ByteArray := method_35_code
def yX0_undo : MethodName := ⟨RX0, "undo", "(LCueStack;[J)I"⟩
def dkwX0_undo_0 : List UInt8 := [43, 3, 42, 182, 0, 125, 133, 80, 167, 0, 6, 77, 4, 172, 3, 172]
abbrev dktX0_undo_0 : List UInt8 := dkwX0_undo_0 ++ []
theorem dksX0_undo_0 : cX0_undo.data.toList.drop 0 = dktX0_undo_0 := by decide +kernel
theorem dX0_undo_0 : decode cX0_undo 0 = .ok (.aload_n 1, 1) := dk_43 (dk_at dksX0_undo_0 0 rfl rfl)
theorem dX0_undo_1 : decode cX0_undo 1 = .ok (.iconst 0, 1) := dk_3 (dk_at dksX0_undo_0 1 rfl rfl)
theorem dX0_undo_2 : decode cX0_undo 2 = .ok (.aload_n 0, 1) := dk_42 (dk_at dksX0_undo_0 2 rfl rfl)
theorem dX0_undo_3 : decode cX0_undo 3 = .ok (.invokevirtual 125, 3) := dk_182 0 125 (dk_at dksX0_undo_0 3 rfl rfl)
theorem dX0_undo_6 : decode cX0_undo 6 = .ok (.i2l, 1) := dk_133 (dk_at dksX0_undo_0 6 rfl rfl)
theorem dX0_undo_7 : decode cX0_undo 7 = .ok (.lastore, 1) := dk_80 (dk_at dksX0_undo_0 7 rfl rfl)
theorem dX0_undo_8 : decode cX0_undo 8 = .ok (.goto 6, 3) := dk_167 0 6 (dk_at dksX0_undo_0 8 rfl rfl)
theorem dX0_undo_11 : decode cX0_undo 11 = .ok (.astore_n 2, 1) := dk_77 (dk_at dksX0_undo_0 11 rfl rfl)
theorem dX0_undo_12 : decode cX0_undo 12 = .ok (.iconst 1, 1) := dk_4 (dk_at dksX0_undo_0 12 rfl rfl)
theorem dX0_undo_13 : decode cX0_undo 13 = .ok (.ireturn, 1) := dk_172 (dk_at dksX0_undo_0 13 rfl rfl)
theorem dX0_undo_14 : decode cX0_undo 14 = .ok (.iconst 0, 1) := dk_3 (dk_at dksX0_undo_0 14 rfl rfl)
theorem dX0_undo_15 : decode cX0_undo 15 = .ok (.ireturn, 1) := dk_172 (dk_at dksX0_undo_0 15 rfl rfl)
abbrev cX0_restore : ByteArray := method_36_code
def yX0_restore : MethodName := ⟨RX0, "restore", "(LCueStack;[J)I"⟩
def dkwX0_restore_0 : List UInt8 := [43, 3, 42, 182, 0, 128, 133, 80, 167, 0, 6, 77, 4, 172, 3, 172]
abbrev dktX0_restore_0 : List UInt8 := dkwX0_restore_0 ++ []
theorem dksX0_restore_0 : cX0_restore.data.toList.drop 0 = dktX0_restore_0 := by decide +kernel
theorem dX0_restore_0 : decode cX0_restore 0 = .ok (.aload_n 1, 1) := dk_43 (dk_at dksX0_restore_0 0 rfl rfl)
theorem dX0_restore_1 : decode cX0_restore 1 = .ok (.iconst 0, 1) := dk_3 (dk_at dksX0_restore_0 1 rfl rfl)
theorem dX0_restore_2 : decode cX0_restore 2 = .ok (.aload_n 0, 1) := dk_42 (dk_at dksX0_restore_0 2 rfl rfl)
theorem dX0_restore_3 : decode cX0_restore 3 = .ok (.invokevirtual 128, 3) := dk_182 0 128 (dk_at dksX0_restore_0 3 rfl rfl)
theorem dX0_restore_6 : decode cX0_restore 6 = .ok (.i2l, 1) := dk_133 (dk_at dksX0_restore_0 6 rfl rfl)
theorem dX0_restore_7 : decode cX0_restore 7 = .ok (.lastore, 1) := dk_80 (dk_at dksX0_restore_0 7 rfl rfl)
theorem dX0_restore_8 : decode cX0_restore 8 = .ok (.goto 6, 3) := dk_167 0 6 (dk_at dksX0_restore_0 8 rfl rfl)
theorem dX0_restore_11 : decode cX0_restore 11 = .ok (.astore_n 2, 1) := dk_77 (dk_at dksX0_restore_0 11 rfl rfl)
theorem dX0_restore_12 : decode cX0_restore 12 = .ok (.iconst 1, 1) := dk_4 (dk_at dksX0_restore_0 12 rfl rfl)
theorem dX0_restore_13 : decode cX0_restore 13 = .ok (.ireturn, 1) := dk_172 (dk_at dksX0_restore_0 13 rfl rfl)
theorem dX0_restore_14 : decode cX0_restore 14 = .ok (.iconst 0, 1) := dk_3 (dk_at dksX0_restore_0 14 rfl rfl)
theorem dX0_restore_15 : decode cX0_restore 15 = .ok (.ireturn, 1) := dk_172 (dk_at dksX0_restore_0 15 rfl rfl)
theorem q83 : (Jvm.Cond.initialized "CueStackLaw") ∈ lw_all := lw_g (lw_at lw_m1 0 rfl) rfl
theorem q145 : (Jvm.Cond.classLink "CueStackLaw" (8 : Nat) "CueStack") ∈ lw_all := lw_g (lw_at lw_m1 62 rfl) rfl
theorem q147 : (Jvm.Cond.methodLink "CueStackLaw" (131 : Nat) ({ cls := "CueStack", name := "<init>", desc := "()V" } : Jvm.MethodName)) ∈ lw_all := lw_g (lw_at lw_m1 64 rfl) rfl
theorem q1140 : (Jvm.Cond.methodLink "CueStackLaw" (135 : Nat) ({ cls := "CueStack", name := "clear", desc := "()I" } : Jvm.MethodName)) ∈ lw_all := lw_g (lw_at lw_m5 97 rfl) rfl
theorem q1156 : (Jvm.Cond.methodLink "CueStackLaw" (239 : Nat) ({ cls := "CueStack", name := "meanLevel", desc := "()D" } : Jvm.MethodName)) ∈ lw_all := lw_g (lw_at lw_m5 113 rfl) rfl
theorem q1171 : (Jvm.Cond.methodLink "CueStackLaw" (257 : Nat) ({ cls := "CueStack", name := "save", desc := "()I" } : Jvm.MethodName)) ∈ lw_all := lw_g (lw_at lw_m5 128 rfl) rfl
theorem q1678 : (Jvm.Cond.methodLink "CueStackLaw" (139 : Nat) ({ cls := "CueStackLaw", name := "addCue", desc := "(LCueStack;I[J)I" } : Jvm.MethodName)) ∈ lw_all := lw_g (lw_at lw_m7 155 rfl) rfl
theorem q1679 : (Jvm.Cond.static ({ cls := "CueStackLaw", name := "addCue", desc := "(LCueStack;I[J)I" } : Jvm.MethodName)) ∈ lw_all := lw_g (lw_at lw_m7 156 rfl) rfl
theorem q1680 : (Jvm.Cond.codeWith ({ cls := "CueStackLaw", name := "addCue", desc := "(LCueStack;I[J)I" } : Jvm.MethodName) method_3_code (4 : Nat) (Option.some Jvm.ClassFile.FieldType.int) [((0 : Nat), (9 : Nat), (12 : Nat), (13 : Nat)), ((0 : Nat), (9 : Nat), (15 : Nat), (15 : Nat))]) ∈ lw_all := lw_g (lw_at lw_m7 157 rfl) rfl
theorem q1681 : (Jvm.Cond.classLink "CueStackLaw" (13 : Nat) "java/lang/IllegalArgumentException") ∈ lw_all := lw_g (lw_at lw_m7 158 rfl) rfl
theorem q1682 : (Jvm.Cond.classLink "CueStackLaw" (15 : Nat) "java/lang/IllegalStateException") ∈ lw_all := lw_g (lw_at lw_m7 159 rfl) rfl
theorem q1683 : (Jvm.Cond.methodLink "CueStackLaw" (7 : Nat) ({ cls := "CueStack", name := "addCue", desc := "(I)I" } : Jvm.MethodName)) ∈ lw_all := lw_g (lw_at lw_m7 160 rfl) rfl
theorem q1804 : (Jvm.Cond.methodLink "CueStackLaw" (148 : Nat) ({ cls := "CueStackLaw", name := "removeCue", desc := "(LCueStack;IZ[J)I" } : Jvm.MethodName)) ∈ lw_all := lw_g (lw_at lw_m8 41 rfl) rfl
theorem q1805 : (Jvm.Cond.static ({ cls := "CueStackLaw", name := "removeCue", desc := "(LCueStack;IZ[J)I" } : Jvm.MethodName)) ∈ lw_all := lw_g (lw_at lw_m8 42 rfl) rfl
theorem q1806 : (Jvm.Cond.codeWith ({ cls := "CueStackLaw", name := "removeCue", desc := "(LCueStack;IZ[J)I" } : Jvm.MethodName) method_4_code (5 : Nat) (Option.some Jvm.ClassFile.FieldType.int) [((0 : Nat), (10 : Nat), (13 : Nat), (21 : Nat)), ((0 : Nat), (10 : Nat), (17 : Nat), (23 : Nat))]) ∈ lw_all := lw_g (lw_at lw_m8 43 rfl) rfl
theorem q1807 : (Jvm.Cond.classLink "CueStackLaw" (21 : Nat) "java/lang/IndexOutOfBoundsException") ∈ lw_all := lw_g (lw_at lw_m8 44 rfl) rfl
theorem q1823 : (Jvm.Cond.classLink "CueStackLaw" (23 : Nat) "java/lang/UnsupportedOperationException") ∈ lw_all := lw_g (lw_at lw_m8 60 rfl) rfl
theorem q1824 : (Jvm.Cond.methodLink "CueStackLaw" (17 : Nat) ({ cls := "CueStack", name := "removeCue", desc := "(IZ)I" } : Jvm.MethodName)) ∈ lw_all := lw_g (lw_at lw_m8 61 rfl) rfl
theorem q2012 : (Jvm.Cond.methodLink "CueStackLaw" (152 : Nat) ({ cls := "CueStackLaw", name := "cueAt", desc := "(LCueStack;I[J)I" } : Jvm.MethodName)) ∈ lw_all := lw_g (lw_at lw_m9 9 rfl) rfl
theorem q2013 : (Jvm.Cond.static ({ cls := "CueStackLaw", name := "cueAt", desc := "(LCueStack;I[J)I" } : Jvm.MethodName)) ∈ lw_all := lw_g (lw_at lw_m9 10 rfl) rfl
theorem q2014 : (Jvm.Cond.codeWith ({ cls := "CueStackLaw", name := "cueAt", desc := "(LCueStack;I[J)I" } : Jvm.MethodName) method_5_code (4 : Nat) (Option.some Jvm.ClassFile.FieldType.int) [((0 : Nat), (9 : Nat), (12 : Nat), (28 : Nat))]) ∈ lw_all := lw_g (lw_at lw_m9 11 rfl) rfl
theorem q2015 : (Jvm.Cond.classLink "CueStackLaw" (28 : Nat) "java/util/NoSuchElementException") ∈ lw_all := lw_g (lw_at lw_m9 12 rfl) rfl
theorem q2016 : (Jvm.Cond.methodLink "CueStackLaw" (25 : Nat) ({ cls := "CueStack", name := "cueAt", desc := "(I)I" } : Jvm.MethodName)) ∈ lw_all := lw_g (lw_at lw_m9 13 rfl) rfl
theorem q2027 : (Jvm.Cond.methodLink "CueStackLaw" (155 : Nat) ({ cls := "CueStackLaw", name := "setFollow", desc := "(LCueStack;II[J)I" } : Jvm.MethodName)) ∈ lw_all := lw_g (lw_at lw_m9 24 rfl) rfl
theorem q2028 : (Jvm.Cond.static ({ cls := "CueStackLaw", name := "setFollow", desc := "(LCueStack;II[J)I" } : Jvm.MethodName)) ∈ lw_all := lw_g (lw_at lw_m9 25 rfl) rfl
theorem q2029 : (Jvm.Cond.codeWith ({ cls := "CueStackLaw", name := "setFollow", desc := "(LCueStack;II[J)I" } : Jvm.MethodName) method_6_code (5 : Nat) (Option.some Jvm.ClassFile.FieldType.int) [((0 : Nat), (10 : Nat), (13 : Nat), (21 : Nat)), ((0 : Nat), (10 : Nat), (17 : Nat), (13 : Nat))]) ∈ lw_all := lw_g (lw_at lw_m9 26 rfl) rfl
theorem q2030 : (Jvm.Cond.methodLink "CueStackLaw" (30 : Nat) ({ cls := "CueStack", name := "setFollow", desc := "(II)I" } : Jvm.MethodName)) ∈ lw_all := lw_g (lw_at lw_m9 27 rfl) rfl
theorem q2039 : (Jvm.Cond.methodLink "CueStackLaw" (159 : Nat) ({ cls := "CueStackLaw", name := "setBlock", desc := "(LCueStack;IZ[J)I" } : Jvm.MethodName)) ∈ lw_all := lw_g (lw_at lw_m9 36 rfl) rfl
theorem q2040 : (Jvm.Cond.static ({ cls := "CueStackLaw", name := "setBlock", desc := "(LCueStack;IZ[J)I" } : Jvm.MethodName)) ∈ lw_all := lw_g (lw_at lw_m9 37 rfl) rfl
theorem q2041 : (Jvm.Cond.codeWith ({ cls := "CueStackLaw", name := "setBlock", desc := "(LCueStack;IZ[J)I" } : Jvm.MethodName) method_7_code (5 : Nat) (Option.some Jvm.ClassFile.FieldType.int) [((0 : Nat), (10 : Nat), (13 : Nat), (21 : Nat))]) ∈ lw_all := lw_g (lw_at lw_m9 38 rfl) rfl
theorem q2042 : (Jvm.Cond.methodLink "CueStackLaw" (34 : Nat) ({ cls := "CueStack", name := "setBlock", desc := "(IZ)I" } : Jvm.MethodName)) ∈ lw_all := lw_g (lw_at lw_m9 39 rfl) rfl
theorem q2066 : (Jvm.Cond.methodLink "CueStackLaw" (162 : Nat) ({ cls := "CueStackLaw", name := "setProtected", desc := "(LCueStack;IZ[J)I" } : Jvm.MethodName)) ∈ lw_all := lw_g (lw_at lw_m9 63 rfl) rfl
theorem q2067 : (Jvm.Cond.static ({ cls := "CueStackLaw", name := "setProtected", desc := "(LCueStack;IZ[J)I" } : Jvm.MethodName)) ∈ lw_all := lw_g (lw_at lw_m9 64 rfl) rfl
theorem q2068 : (Jvm.Cond.codeWith ({ cls := "CueStackLaw", name := "setProtected", desc := "(LCueStack;IZ[J)I" } : Jvm.MethodName) method_8_code (5 : Nat) (Option.some Jvm.ClassFile.FieldType.int) [((0 : Nat), (17 : Nat), (20 : Nat), (21 : Nat))]) ∈ lw_all := lw_g (lw_at lw_m9 65 rfl) rfl
theorem q2069 : (Jvm.Cond.methodLink "CueStackLaw" (37 : Nat) ({ cls := "CueStack", name := "setProtected", desc := "(IZ)Z" } : Jvm.MethodName)) ∈ lw_all := lw_g (lw_at lw_m9 66 rfl) rfl
theorem q2073 : (Jvm.Cond.methodLink "CueStackLaw" (165 : Nat) ({ cls := "CueStackLaw", name := "setPart", desc := "(LCueStack;IIZI[J)I" } : Jvm.MethodName)) ∈ lw_all := lw_g (lw_at lw_m9 70 rfl) rfl
theorem q2074 : (Jvm.Cond.static ({ cls := "CueStackLaw", name := "setPart", desc := "(LCueStack;IIZI[J)I" } : Jvm.MethodName)) ∈ lw_all := lw_g (lw_at lw_m9 71 rfl) rfl
theorem q2075 : (Jvm.Cond.codeWith ({ cls := "CueStackLaw", name := "setPart", desc := "(LCueStack;IIZI[J)I" } : Jvm.MethodName) method_9_code (7 : Nat) (Option.some Jvm.ClassFile.FieldType.int) [((0 : Nat), (14 : Nat), (17 : Nat), (21 : Nat)), ((0 : Nat), (14 : Nat), (21 : Nat), (13 : Nat))]) ∈ lw_all := lw_g (lw_at lw_m9 72 rfl) rfl
theorem q2076 : (Jvm.Cond.methodLink "CueStackLaw" (41 : Nat) ({ cls := "CueStack", name := "setPart", desc := "(IIZI)I" } : Jvm.MethodName)) ∈ lw_all := lw_g (lw_at lw_m9 73 rfl) rfl
theorem q2088 : (Jvm.Cond.methodLink "CueStackLaw" (169 : Nat) ({ cls := "CueStackLaw", name := "cue", desc := "(LCueStack;II[J)I" } : Jvm.MethodName)) ∈ lw_all := lw_g (lw_at lw_m9 85 rfl) rfl
theorem q2089 : (Jvm.Cond.static ({ cls := "CueStackLaw", name := "cue", desc := "(LCueStack;II[J)I" } : Jvm.MethodName)) ∈ lw_all := lw_g (lw_at lw_m9 86 rfl) rfl
theorem q2090 : (Jvm.Cond.codeWith ({ cls := "CueStackLaw", name := "cue", desc := "(LCueStack;II[J)I" } : Jvm.MethodName) method_10_code (5 : Nat) (Option.some Jvm.ClassFile.FieldType.int) [((0 : Nat), (10 : Nat), (13 : Nat), (21 : Nat)), ((0 : Nat), (10 : Nat), (17 : Nat), (13 : Nat))]) ∈ lw_all := lw_g (lw_at lw_m9 87 rfl) rfl
theorem q2091 : (Jvm.Cond.methodLink "CueStackLaw" (45 : Nat) ({ cls := "CueStack", name := "cue", desc := "(II)I" } : Jvm.MethodName)) ∈ lw_all := lw_g (lw_at lw_m9 88 rfl) rfl
theorem q2115 : (Jvm.Cond.methodLink "CueStackLaw" (172 : Nat) ({ cls := "CueStackLaw", name := "part", desc := "(LCueStack;IIZ[J)I" } : Jvm.MethodName)) ∈ lw_all := lw_g (lw_at lw_m9 112 rfl) rfl
theorem q2116 : (Jvm.Cond.static ({ cls := "CueStackLaw", name := "part", desc := "(LCueStack;IIZ[J)I" } : Jvm.MethodName)) ∈ lw_all := lw_g (lw_at lw_m9 113 rfl) rfl
theorem q2117 : (Jvm.Cond.codeWith ({ cls := "CueStackLaw", name := "part", desc := "(LCueStack;IIZ[J)I" } : Jvm.MethodName) method_11_code (6 : Nat) (Option.some Jvm.ClassFile.FieldType.int) [((0 : Nat), (12 : Nat), (15 : Nat), (21 : Nat))]) ∈ lw_all := lw_g (lw_at lw_m9 114 rfl) rfl
theorem q2118 : (Jvm.Cond.methodLink "CueStackLaw" (48 : Nat) ({ cls := "CueStack", name := "part", desc := "(IIZ)I" } : Jvm.MethodName)) ∈ lw_all := lw_g (lw_at lw_m9 115 rfl) rfl
theorem q2119 : (Jvm.Cond.methodLink "CueStackLaw" (176 : Nat) ({ cls := "CueStackLaw", name := "setHome", desc := "(LCueStack;II[J)I" } : Jvm.MethodName)) ∈ lw_all := lw_g (lw_at lw_m9 116 rfl) rfl
theorem q2120 : (Jvm.Cond.static ({ cls := "CueStackLaw", name := "setHome", desc := "(LCueStack;II[J)I" } : Jvm.MethodName)) ∈ lw_all := lw_g (lw_at lw_m9 117 rfl) rfl
theorem q2121 : (Jvm.Cond.codeWith ({ cls := "CueStackLaw", name := "setHome", desc := "(LCueStack;II[J)I" } : Jvm.MethodName) method_12_code (5 : Nat) (Option.some Jvm.ClassFile.FieldType.int) [((0 : Nat), (10 : Nat), (13 : Nat), (21 : Nat)), ((0 : Nat), (10 : Nat), (17 : Nat), (13 : Nat))]) ∈ lw_all := lw_g (lw_at lw_m9 118 rfl) rfl
theorem q2122 : (Jvm.Cond.methodLink "CueStackLaw" (52 : Nat) ({ cls := "CueStack", name := "setHome", desc := "(II)I" } : Jvm.MethodName)) ∈ lw_all := lw_g (lw_at lw_m9 119 rfl) rfl
theorem q2129 : (Jvm.Cond.methodLink "CueStackLaw" (179 : Nat) ({ cls := "CueStackLaw", name := "set", desc := "(LCueStack;IIIIZ[J)I" } : Jvm.MethodName)) ∈ lw_all := lw_g (lw_at lw_m9 126 rfl) rfl
theorem q2130 : (Jvm.Cond.static ({ cls := "CueStackLaw", name := "set", desc := "(LCueStack;IIIIZ[J)I" } : Jvm.MethodName)) ∈ lw_all := lw_g (lw_at lw_m9 127 rfl) rfl
theorem q2131 : (Jvm.Cond.codeWith ({ cls := "CueStackLaw", name := "set", desc := "(LCueStack;IIIIZ[J)I" } : Jvm.MethodName) method_13_code (8 : Nat) (Option.some Jvm.ClassFile.FieldType.int) [((0 : Nat), (16 : Nat), (19 : Nat), (21 : Nat)), ((0 : Nat), (16 : Nat), (23 : Nat), (13 : Nat)), ((0 : Nat), (16 : Nat), (27 : Nat), (23 : Nat))]) ∈ lw_all := lw_g (lw_at lw_m9 128 rfl) rfl
theorem q2132 : (Jvm.Cond.methodLink "CueStackLaw" (55 : Nat) ({ cls := "CueStack", name := "set", desc := "(IIIIZ)I" } : Jvm.MethodName)) ∈ lw_all := lw_g (lw_at lw_m9 129 rfl) rfl
theorem q2165 : (Jvm.Cond.methodLink "CueStackLaw" (183 : Nat) ({ cls := "CueStackLaw", name := "release", desc := "(LCueStack;IIIZ[J)I" } : Jvm.MethodName)) ∈ lw_all := lw_g (lw_at lw_m9 162 rfl) rfl
theorem q2166 : (Jvm.Cond.static ({ cls := "CueStackLaw", name := "release", desc := "(LCueStack;IIIZ[J)I" } : Jvm.MethodName)) ∈ lw_all := lw_g (lw_at lw_m9 163 rfl) rfl
theorem q2167 : (Jvm.Cond.codeWith ({ cls := "CueStackLaw", name := "release", desc := "(LCueStack;IIIZ[J)I" } : Jvm.MethodName) method_14_code (7 : Nat) (Option.some Jvm.ClassFile.FieldType.int) [((0 : Nat), (14 : Nat), (17 : Nat), (21 : Nat)), ((0 : Nat), (14 : Nat), (21 : Nat), (23 : Nat))]) ∈ lw_all := lw_g (lw_at lw_m9 164 rfl) rfl
theorem q2168 : (Jvm.Cond.methodLink "CueStackLaw" (59 : Nat) ({ cls := "CueStack", name := "release", desc := "(IIIZ)I" } : Jvm.MethodName)) ∈ lw_all := lw_g (lw_at lw_m9 165 rfl) rfl
theorem q2180 : (Jvm.Cond.methodLink "CueStackLaw" (187 : Nat) ({ cls := "CueStackLaw", name := "unset", desc := "(LCueStack;IIZ[J)I" } : Jvm.MethodName)) ∈ lw_all := lw_g (lw_at lw_m9 177 rfl) rfl
theorem q2181 : (Jvm.Cond.static ({ cls := "CueStackLaw", name := "unset", desc := "(LCueStack;IIZ[J)I" } : Jvm.MethodName)) ∈ lw_all := lw_g (lw_at lw_m9 178 rfl) rfl
theorem q2182 : (Jvm.Cond.codeWith ({ cls := "CueStackLaw", name := "unset", desc := "(LCueStack;IIZ[J)I" } : Jvm.MethodName) method_15_code (6 : Nat) (Option.some Jvm.ClassFile.FieldType.int) [((0 : Nat), (12 : Nat), (15 : Nat), (21 : Nat)), ((0 : Nat), (12 : Nat), (19 : Nat), (23 : Nat))]) ∈ lw_all := lw_g (lw_at lw_m9 179 rfl) rfl
theorem q2183 : (Jvm.Cond.methodLink "CueStackLaw" (63 : Nat) ({ cls := "CueStack", name := "unset", desc := "(IIZ)I" } : Jvm.MethodName)) ∈ lw_all := lw_g (lw_at lw_m9 180 rfl) rfl
theorem q2187 : (Jvm.Cond.methodLink "CueStackLaw" (190 : Nat) ({ cls := "CueStackLaw", name := "instruction", desc := "(LCueStack;II[J)I" } : Jvm.MethodName)) ∈ lw_all := lw_g (lw_at lw_m9 184 rfl) rfl
theorem q2188 : (Jvm.Cond.static ({ cls := "CueStackLaw", name := "instruction", desc := "(LCueStack;II[J)I" } : Jvm.MethodName)) ∈ lw_all := lw_g (lw_at lw_m9 185 rfl) rfl
theorem q2189 : (Jvm.Cond.codeWith ({ cls := "CueStackLaw", name := "instruction", desc := "(LCueStack;II[J)I" } : Jvm.MethodName) method_16_code (5 : Nat) (Option.some Jvm.ClassFile.FieldType.int) [((0 : Nat), (10 : Nat), (13 : Nat), (28 : Nat)), ((0 : Nat), (10 : Nat), (17 : Nat), (13 : Nat))]) ∈ lw_all := lw_g (lw_at lw_m9 186 rfl) rfl
theorem q2190 : (Jvm.Cond.methodLink "CueStackLaw" (66 : Nat) ({ cls := "CueStack", name := "instruction", desc := "(II)I" } : Jvm.MethodName)) ∈ lw_all := lw_g (lw_at lw_m9 187 rfl) rfl
theorem q2215 : (Jvm.Cond.methodLink "CueStackLaw" (193 : Nat) ({ cls := "CueStackLaw", name := "level", desc := "(LCueStack;II[J)I" } : Jvm.MethodName)) ∈ lw_all := lw_g (lw_at lw_m9 212 rfl) rfl
theorem q2216 : (Jvm.Cond.static ({ cls := "CueStackLaw", name := "level", desc := "(LCueStack;II[J)I" } : Jvm.MethodName)) ∈ lw_all := lw_g (lw_at lw_m9 213 rfl) rfl
theorem q2217 : (Jvm.Cond.codeWith ({ cls := "CueStackLaw", name := "level", desc := "(LCueStack;II[J)I" } : Jvm.MethodName) method_17_code (5 : Nat) (Option.some Jvm.ClassFile.FieldType.int) [((0 : Nat), (10 : Nat), (13 : Nat), (21 : Nat))]) ∈ lw_all := lw_g (lw_at lw_m9 214 rfl) rfl
theorem q2218 : (Jvm.Cond.methodLink "CueStackLaw" (69 : Nat) ({ cls := "CueStack", name := "level", desc := "(II)I" } : Jvm.MethodName)) ∈ lw_all := lw_g (lw_at lw_m9 215 rfl) rfl
theorem q2230 : (Jvm.Cond.methodLink "CueStackLaw" (196 : Nat) ({ cls := "CueStackLaw", name := "levelAgain", desc := "(LCueStack;II[J)I" } : Jvm.MethodName)) ∈ lw_all := lw_g (lw_at lw_m9 227 rfl) rfl
theorem q2231 : (Jvm.Cond.static ({ cls := "CueStackLaw", name := "levelAgain", desc := "(LCueStack;II[J)I" } : Jvm.MethodName)) ∈ lw_all := lw_g (lw_at lw_m9 228 rfl) rfl
theorem q2232 : (Jvm.Cond.codeWith ({ cls := "CueStackLaw", name := "levelAgain", desc := "(LCueStack;II[J)I" } : Jvm.MethodName) method_18_code (5 : Nat) (Option.some Jvm.ClassFile.FieldType.int) [((0 : Nat), (10 : Nat), (13 : Nat), (21 : Nat))]) ∈ lw_all := lw_g (lw_at lw_m9 229 rfl) rfl
theorem q2233 : (Jvm.Cond.methodLink "CueStackLaw" (72 : Nat) ({ cls := "CueStack", name := "levelAgain", desc := "(II)I" } : Jvm.MethodName)) ∈ lw_all := lw_g (lw_at lw_m9 230 rfl) rfl
theorem q2237 : (Jvm.Cond.methodLink "CueStackLaw" (199 : Nat) ({ cls := "CueStackLaw", name := "source", desc := "(LCueStack;II[J)I" } : Jvm.MethodName)) ∈ lw_all := lw_g (lw_at lw_m9 234 rfl) rfl
theorem q2238 : (Jvm.Cond.static ({ cls := "CueStackLaw", name := "source", desc := "(LCueStack;II[J)I" } : Jvm.MethodName)) ∈ lw_all := lw_g (lw_at lw_m9 235 rfl) rfl
theorem q2239 : (Jvm.Cond.codeWith ({ cls := "CueStackLaw", name := "source", desc := "(LCueStack;II[J)I" } : Jvm.MethodName) method_19_code (5 : Nat) (Option.some Jvm.ClassFile.FieldType.int) [((0 : Nat), (10 : Nat), (13 : Nat), (21 : Nat))]) ∈ lw_all := lw_g (lw_at lw_m9 236 rfl) rfl
theorem q2240 : (Jvm.Cond.methodLink "CueStackLaw" (75 : Nat) ({ cls := "CueStack", name := "source", desc := "(II)I" } : Jvm.MethodName)) ∈ lw_all := lw_g (lw_at lw_m9 237 rfl) rfl
theorem q2251 : (Jvm.Cond.methodLink "CueStackLaw" (202 : Nat) ({ cls := "CueStackLaw", name := "sum", desc := "(LCueStack;I[J)I" } : Jvm.MethodName)) ∈ lw_all := lw_g (lw_at lw_m10 8 rfl) rfl
theorem q2252 : (Jvm.Cond.static ({ cls := "CueStackLaw", name := "sum", desc := "(LCueStack;I[J)I" } : Jvm.MethodName)) ∈ lw_all := lw_g (lw_at lw_m10 9 rfl) rfl
theorem q2253 : (Jvm.Cond.codeWith ({ cls := "CueStackLaw", name := "sum", desc := "(LCueStack;I[J)I" } : Jvm.MethodName) method_20_code (4 : Nat) (Option.some Jvm.ClassFile.FieldType.int) [((0 : Nat), (9 : Nat), (12 : Nat), (21 : Nat))]) ∈ lw_all := lw_g (lw_at lw_m10 10 rfl) rfl
theorem q2254 : (Jvm.Cond.methodLink "CueStackLaw" (78 : Nat) ({ cls := "CueStack", name := "sum", desc := "(I)I" } : Jvm.MethodName)) ∈ lw_all := lw_g (lw_at lw_m10 11 rfl) rfl
theorem q2258 : (Jvm.Cond.methodLink "CueStackLaw" (205 : Nat) ({ cls := "CueStackLaw", name := "apart", desc := "(LCueStack;II[J)I" } : Jvm.MethodName)) ∈ lw_all := lw_g (lw_at lw_m10 15 rfl) rfl
theorem q2259 : (Jvm.Cond.static ({ cls := "CueStackLaw", name := "apart", desc := "(LCueStack;II[J)I" } : Jvm.MethodName)) ∈ lw_all := lw_g (lw_at lw_m10 16 rfl) rfl
theorem q2260 : (Jvm.Cond.codeWith ({ cls := "CueStackLaw", name := "apart", desc := "(LCueStack;II[J)I" } : Jvm.MethodName) method_21_code (5 : Nat) (Option.some Jvm.ClassFile.FieldType.int) [((0 : Nat), (10 : Nat), (13 : Nat), (21 : Nat))]) ∈ lw_all := lw_g (lw_at lw_m10 17 rfl) rfl
theorem q2261 : (Jvm.Cond.methodLink "CueStackLaw" (81 : Nat) ({ cls := "CueStack", name := "apart", desc := "(II)I" } : Jvm.MethodName)) ∈ lw_all := lw_g (lw_at lw_m10 18 rfl) rfl
theorem q2268 : (Jvm.Cond.methodLink "CueStackLaw" (208 : Nat) ({ cls := "CueStackLaw", name := "reason", desc := "(LCueStack;[J)I" } : Jvm.MethodName)) ∈ lw_all := lw_g (lw_at lw_m10 25 rfl) rfl
theorem q2269 : (Jvm.Cond.static ({ cls := "CueStackLaw", name := "reason", desc := "(LCueStack;[J)I" } : Jvm.MethodName)) ∈ lw_all := lw_g (lw_at lw_m10 26 rfl) rfl
theorem q2270 : (Jvm.Cond.codeWith ({ cls := "CueStackLaw", name := "reason", desc := "(LCueStack;[J)I" } : Jvm.MethodName) method_22_code (3 : Nat) (Option.some Jvm.ClassFile.FieldType.int) [((0 : Nat), (8 : Nat), (11 : Nat), (28 : Nat))]) ∈ lw_all := lw_g (lw_at lw_m10 27 rfl) rfl
theorem q2271 : (Jvm.Cond.methodLink "CueStackLaw" (84 : Nat) ({ cls := "CueStack", name := "reason", desc := "()I" } : Jvm.MethodName)) ∈ lw_all := lw_g (lw_at lw_m10 28 rfl) rfl
theorem q2275 : (Jvm.Cond.methodLink "CueStackLaw" (212 : Nat) ({ cls := "CueStackLaw", name := "go", desc := "(LCueStack;[J)I" } : Jvm.MethodName)) ∈ lw_all := lw_g (lw_at lw_m10 32 rfl) rfl
theorem q2276 : (Jvm.Cond.static ({ cls := "CueStackLaw", name := "go", desc := "(LCueStack;[J)I" } : Jvm.MethodName)) ∈ lw_all := lw_g (lw_at lw_m10 33 rfl) rfl
theorem q2277 : (Jvm.Cond.codeWith ({ cls := "CueStackLaw", name := "go", desc := "(LCueStack;[J)I" } : Jvm.MethodName) method_23_code (3 : Nat) (Option.some Jvm.ClassFile.FieldType.int) [((0 : Nat), (8 : Nat), (11 : Nat), (23 : Nat))]) ∈ lw_all := lw_g (lw_at lw_m10 34 rfl) rfl
theorem q2278 : (Jvm.Cond.methodLink "CueStackLaw" (88 : Nat) ({ cls := "CueStack", name := "go", desc := "()I" } : Jvm.MethodName)) ∈ lw_all := lw_g (lw_at lw_m10 35 rfl) rfl
theorem q2308 : (Jvm.Cond.methodLink "CueStackLaw" (215 : Nat) ({ cls := "CueStackLaw", name := "back", desc := "(LCueStack;[J)I" } : Jvm.MethodName)) ∈ lw_all := lw_g (lw_at lw_m10 65 rfl) rfl
theorem q2309 : (Jvm.Cond.static ({ cls := "CueStackLaw", name := "back", desc := "(LCueStack;[J)I" } : Jvm.MethodName)) ∈ lw_all := lw_g (lw_at lw_m10 66 rfl) rfl
theorem q2310 : (Jvm.Cond.codeWith ({ cls := "CueStackLaw", name := "back", desc := "(LCueStack;[J)I" } : Jvm.MethodName) method_24_code (3 : Nat) (Option.some Jvm.ClassFile.FieldType.int) [((0 : Nat), (8 : Nat), (11 : Nat), (23 : Nat))]) ∈ lw_all := lw_g (lw_at lw_m10 67 rfl) rfl
theorem q2311 : (Jvm.Cond.methodLink "CueStackLaw" (91 : Nat) ({ cls := "CueStack", name := "back", desc := "()I" } : Jvm.MethodName)) ∈ lw_all := lw_g (lw_at lw_m10 68 rfl) rfl
theorem q2315 : (Jvm.Cond.methodLink "CueStackLaw" (218 : Nat) ({ cls := "CueStackLaw", name := "jump", desc := "(LCueStack;I[J)I" } : Jvm.MethodName)) ∈ lw_all := lw_g (lw_at lw_m10 72 rfl) rfl
theorem q2316 : (Jvm.Cond.static ({ cls := "CueStackLaw", name := "jump", desc := "(LCueStack;I[J)I" } : Jvm.MethodName)) ∈ lw_all := lw_g (lw_at lw_m10 73 rfl) rfl
theorem q2317 : (Jvm.Cond.codeWith ({ cls := "CueStackLaw", name := "jump", desc := "(LCueStack;I[J)I" } : Jvm.MethodName) method_25_code (4 : Nat) (Option.some Jvm.ClassFile.FieldType.int) [((0 : Nat), (9 : Nat), (12 : Nat), (21 : Nat))]) ∈ lw_all := lw_g (lw_at lw_m10 74 rfl) rfl
theorem q2318 : (Jvm.Cond.methodLink "CueStackLaw" (94 : Nat) ({ cls := "CueStack", name := "jump", desc := "(I)I" } : Jvm.MethodName)) ∈ lw_all := lw_g (lw_at lw_m10 75 rfl) rfl
theorem q2323 : (Jvm.Cond.methodLink "CueStackLaw" (221 : Nat) ({ cls := "CueStackLaw", name := "pass", desc := "(LCueStack;I[J)I" } : Jvm.MethodName)) ∈ lw_all := lw_g (lw_at lw_m10 80 rfl) rfl
theorem q2324 : (Jvm.Cond.static ({ cls := "CueStackLaw", name := "pass", desc := "(LCueStack;I[J)I" } : Jvm.MethodName)) ∈ lw_all := lw_g (lw_at lw_m10 81 rfl) rfl
theorem q2325 : (Jvm.Cond.codeWith ({ cls := "CueStackLaw", name := "pass", desc := "(LCueStack;I[J)I" } : Jvm.MethodName) method_26_code (4 : Nat) (Option.some Jvm.ClassFile.FieldType.int) [((0 : Nat), (9 : Nat), (12 : Nat), (13 : Nat)), ((0 : Nat), (9 : Nat), (15 : Nat), (15 : Nat))]) ∈ lw_all := lw_g (lw_at lw_m10 82 rfl) rfl
theorem q2326 : (Jvm.Cond.methodLink "CueStackLaw" (97 : Nat) ({ cls := "CueStack", name := "pass", desc := "(I)I" } : Jvm.MethodName)) ∈ lw_all := lw_g (lw_at lw_m10 83 rfl) rfl
theorem q2345 : (Jvm.Cond.methodLink "CueStackLaw" (224 : Nat) ({ cls := "CueStackLaw", name := "now", desc := "(LCueStack;I[J)I" } : Jvm.MethodName)) ∈ lw_all := lw_g (lw_at lw_m10 102 rfl) rfl
theorem q2346 : (Jvm.Cond.static ({ cls := "CueStackLaw", name := "now", desc := "(LCueStack;I[J)I" } : Jvm.MethodName)) ∈ lw_all := lw_g (lw_at lw_m10 103 rfl) rfl
theorem q2347 : (Jvm.Cond.codeWith ({ cls := "CueStackLaw", name := "now", desc := "(LCueStack;I[J)I" } : Jvm.MethodName) method_27_code (4 : Nat) (Option.some Jvm.ClassFile.FieldType.int) [((0 : Nat), (9 : Nat), (12 : Nat), (21 : Nat))]) ∈ lw_all := lw_g (lw_at lw_m10 104 rfl) rfl
theorem q2348 : (Jvm.Cond.methodLink "CueStackLaw" (100 : Nat) ({ cls := "CueStack", name := "now", desc := "(I)I" } : Jvm.MethodName)) ∈ lw_all := lw_g (lw_at lw_m10 105 rfl) rfl
theorem q2352 : (Jvm.Cond.methodLink "CueStackLaw" (227 : Nat) ({ cls := "CueStackLaw", name := "target", desc := "(LCueStack;I[J)I" } : Jvm.MethodName)) ∈ lw_all := lw_g (lw_at lw_m10 109 rfl) rfl
theorem q2353 : (Jvm.Cond.static ({ cls := "CueStackLaw", name := "target", desc := "(LCueStack;I[J)I" } : Jvm.MethodName)) ∈ lw_all := lw_g (lw_at lw_m10 110 rfl) rfl
theorem q2354 : (Jvm.Cond.codeWith ({ cls := "CueStackLaw", name := "target", desc := "(LCueStack;I[J)I" } : Jvm.MethodName) method_28_code (4 : Nat) (Option.some Jvm.ClassFile.FieldType.int) [((0 : Nat), (9 : Nat), (12 : Nat), (21 : Nat))]) ∈ lw_all := lw_g (lw_at lw_m10 111 rfl) rfl
theorem q2355 : (Jvm.Cond.methodLink "CueStackLaw" (103 : Nat) ({ cls := "CueStack", name := "target", desc := "(I)I" } : Jvm.MethodName)) ∈ lw_all := lw_g (lw_at lw_m10 112 rfl) rfl
theorem q2359 : (Jvm.Cond.methodLink "CueStackLaw" (230 : Nat) ({ cls := "CueStackLaw", name := "playing", desc := "(LCueStack;I[J)I" } : Jvm.MethodName)) ∈ lw_all := lw_g (lw_at lw_m10 116 rfl) rfl
theorem q2360 : (Jvm.Cond.static ({ cls := "CueStackLaw", name := "playing", desc := "(LCueStack;I[J)I" } : Jvm.MethodName)) ∈ lw_all := lw_g (lw_at lw_m10 117 rfl) rfl
theorem q2361 : (Jvm.Cond.codeWith ({ cls := "CueStackLaw", name := "playing", desc := "(LCueStack;I[J)I" } : Jvm.MethodName) method_29_code (4 : Nat) (Option.some Jvm.ClassFile.FieldType.int) [((0 : Nat), (9 : Nat), (12 : Nat), (13 : Nat))]) ∈ lw_all := lw_g (lw_at lw_m10 118 rfl) rfl
theorem q2362 : (Jvm.Cond.methodLink "CueStackLaw" (106 : Nat) ({ cls := "CueStack", name := "playing", desc := "(I)I" } : Jvm.MethodName)) ∈ lw_all := lw_g (lw_at lw_m10 119 rfl) rfl
theorem q2379 : (Jvm.Cond.methodLink "CueStackLaw" (233 : Nat) ({ cls := "CueStackLaw", name := "chain", desc := "(LCueStack;I[J)I" } : Jvm.MethodName)) ∈ lw_all := lw_g (lw_at lw_m10 136 rfl) rfl
theorem q2380 : (Jvm.Cond.static ({ cls := "CueStackLaw", name := "chain", desc := "(LCueStack;I[J)I" } : Jvm.MethodName)) ∈ lw_all := lw_g (lw_at lw_m10 137 rfl) rfl
theorem q2381 : (Jvm.Cond.codeWith ({ cls := "CueStackLaw", name := "chain", desc := "(LCueStack;I[J)I" } : Jvm.MethodName) method_30_code (4 : Nat) (Option.some Jvm.ClassFile.FieldType.int) [((0 : Nat), (9 : Nat), (12 : Nat), (21 : Nat))]) ∈ lw_all := lw_g (lw_at lw_m10 138 rfl) rfl
theorem q2382 : (Jvm.Cond.methodLink "CueStackLaw" (109 : Nat) ({ cls := "CueStack", name := "chain", desc := "(I)I" } : Jvm.MethodName)) ∈ lw_all := lw_g (lw_at lw_m10 139 rfl) rfl
theorem q2386 : (Jvm.Cond.methodLink "CueStackLaw" (236 : Nat) ({ cls := "CueStackLaw", name := "account", desc := "(LCueStack;I[J)I" } : Jvm.MethodName)) ∈ lw_all := lw_g (lw_at lw_m10 143 rfl) rfl
theorem q2387 : (Jvm.Cond.static ({ cls := "CueStackLaw", name := "account", desc := "(LCueStack;I[J)I" } : Jvm.MethodName)) ∈ lw_all := lw_g (lw_at lw_m10 144 rfl) rfl
theorem q2388 : (Jvm.Cond.codeWith ({ cls := "CueStackLaw", name := "account", desc := "(LCueStack;I[J)I" } : Jvm.MethodName) method_31_code (4 : Nat) (Option.some Jvm.ClassFile.FieldType.int) [((0 : Nat), (9 : Nat), (12 : Nat), (13 : Nat))]) ∈ lw_all := lw_g (lw_at lw_m10 145 rfl) rfl
theorem q2389 : (Jvm.Cond.methodLink "CueStackLaw" (112 : Nat) ({ cls := "CueStack", name := "account", desc := "(I)I" } : Jvm.MethodName)) ∈ lw_all := lw_g (lw_at lw_m10 146 rfl) rfl
theorem q2479 : (Jvm.Cond.methodLink "CueStackLaw" (244 : Nat) ({ cls := "CueStackLaw", name := "append", desc := "(LCueStack;C[J)I" } : Jvm.MethodName)) ∈ lw_all := lw_g (lw_at lw_m10 236 rfl) rfl
theorem q2480 : (Jvm.Cond.static ({ cls := "CueStackLaw", name := "append", desc := "(LCueStack;C[J)I" } : Jvm.MethodName)) ∈ lw_all := lw_g (lw_at lw_m10 237 rfl) rfl
theorem q2481 : (Jvm.Cond.codeWith ({ cls := "CueStackLaw", name := "append", desc := "(LCueStack;C[J)I" } : Jvm.MethodName) method_32_code (4 : Nat) (Option.some Jvm.ClassFile.FieldType.int) [((0 : Nat), (9 : Nat), (12 : Nat), (13 : Nat)), ((0 : Nat), (9 : Nat), (15 : Nat), (15 : Nat))]) ∈ lw_all := lw_g (lw_at lw_m10 238 rfl) rfl
theorem q2482 : (Jvm.Cond.methodLink "CueStackLaw" (115 : Nat) ({ cls := "CueStack", name := "append", desc := "(C)I" } : Jvm.MethodName)) ∈ lw_all := lw_g (lw_at lw_m10 239 rfl) rfl
theorem q2486 : (Jvm.Cond.methodLink "CueStackLaw" (248 : Nat) ({ cls := "CueStackLaw", name := "read", desc := "(LCueStack;[J)I" } : Jvm.MethodName)) ∈ lw_all := lw_g (lw_at lw_m11 3 rfl) rfl
theorem q2487 : (Jvm.Cond.static ({ cls := "CueStackLaw", name := "read", desc := "(LCueStack;[J)I" } : Jvm.MethodName)) ∈ lw_all := lw_g (lw_at lw_m11 4 rfl) rfl
theorem q2488 : (Jvm.Cond.codeWith ({ cls := "CueStackLaw", name := "read", desc := "(LCueStack;[J)I" } : Jvm.MethodName) method_33_code (3 : Nat) (Option.some Jvm.ClassFile.FieldType.int) [((0 : Nat), (8 : Nat), (11 : Nat), (13 : Nat)), ((0 : Nat), (8 : Nat), (14 : Nat), (15 : Nat))]) ∈ lw_all := lw_g (lw_at lw_m11 5 rfl) rfl
theorem q2489 : (Jvm.Cond.methodLink "CueStackLaw" (119 : Nat) ({ cls := "CueStack", name := "read", desc := "()I" } : Jvm.MethodName)) ∈ lw_all := lw_g (lw_at lw_m11 6 rfl) rfl
theorem q2603 : (Jvm.Cond.methodLink "CueStackLaw" (251 : Nat) ({ cls := "CueStackLaw", name := "errorPosition", desc := "(LCueStack;[J)I" } : Jvm.MethodName)) ∈ lw_all := lw_g (lw_at lw_m11 120 rfl) rfl
theorem q2604 : (Jvm.Cond.static ({ cls := "CueStackLaw", name := "errorPosition", desc := "(LCueStack;[J)I" } : Jvm.MethodName)) ∈ lw_all := lw_g (lw_at lw_m11 121 rfl) rfl
theorem q2605 : (Jvm.Cond.codeWith ({ cls := "CueStackLaw", name := "errorPosition", desc := "(LCueStack;[J)I" } : Jvm.MethodName) method_34_code (3 : Nat) (Option.some Jvm.ClassFile.FieldType.int) [((0 : Nat), (8 : Nat), (11 : Nat), (28 : Nat))]) ∈ lw_all := lw_g (lw_at lw_m11 122 rfl) rfl
theorem q2606 : (Jvm.Cond.methodLink "CueStackLaw" (122 : Nat) ({ cls := "CueStack", name := "errorPosition", desc := "()I" } : Jvm.MethodName)) ∈ lw_all := lw_g (lw_at lw_m11 123 rfl) rfl
theorem q2610 : (Jvm.Cond.methodLink "CueStackLaw" (254 : Nat) ({ cls := "CueStackLaw", name := "undo", desc := "(LCueStack;[J)I" } : Jvm.MethodName)) ∈ lw_all := lw_g (lw_at lw_m11 127 rfl) rfl
theorem q2611 : (Jvm.Cond.static ({ cls := "CueStackLaw", name := "undo", desc := "(LCueStack;[J)I" } : Jvm.MethodName)) ∈ lw_all := lw_g (lw_at lw_m11 128 rfl) rfl
theorem q2612 : (Jvm.Cond.codeWith ({ cls := "CueStackLaw", name := "undo", desc := "(LCueStack;[J)I" } : Jvm.MethodName) method_35_code (3 : Nat) (Option.some Jvm.ClassFile.FieldType.int) [((0 : Nat), (8 : Nat), (11 : Nat), (28 : Nat))]) ∈ lw_all := lw_g (lw_at lw_m11 129 rfl) rfl
theorem q2613 : (Jvm.Cond.methodLink "CueStackLaw" (125 : Nat) ({ cls := "CueStack", name := "undo", desc := "()I" } : Jvm.MethodName)) ∈ lw_all := lw_g (lw_at lw_m11 130 rfl) rfl
theorem q2626 : (Jvm.Cond.methodLink "CueStackLaw" (261 : Nat) ({ cls := "CueStackLaw", name := "restore", desc := "(LCueStack;[J)I" } : Jvm.MethodName)) ∈ lw_all := lw_g (lw_at lw_m11 143 rfl) rfl
theorem q2627 : (Jvm.Cond.static ({ cls := "CueStackLaw", name := "restore", desc := "(LCueStack;[J)I" } : Jvm.MethodName)) ∈ lw_all := lw_g (lw_at lw_m11 144 rfl) rfl
theorem q2628 : (Jvm.Cond.codeWith ({ cls := "CueStackLaw", name := "restore", desc := "(LCueStack;[J)I" } : Jvm.MethodName) method_36_code (3 : Nat) (Option.some Jvm.ClassFile.FieldType.int) [((0 : Nat), (8 : Nat), (11 : Nat), (15 : Nat))]) ∈ lw_all := lw_g (lw_at lw_m11 145 rfl) rfl
theorem q2629 : (Jvm.Cond.methodLink "CueStackLaw" (128 : Nat) ({ cls := "CueStack", name := "restore", desc := "()I" } : Jvm.MethodName)) ∈ lw_all := lw_g (lw_at lw_m11 146 rfl) rfl
theorem q2633 : (Jvm.Cond.classLink "CueStackLaw" (132 : Nat) "CueStackModel") ∈ lw_all := lw_g (lw_at lw_m11 150 rfl) rfl
theorem q2635 : (Jvm.Cond.methodLink "CueStackLaw" (134 : Nat) ({ cls := "CueStackModel", name := "<init>", desc := "()V" } : Jvm.MethodName)) ∈ lw_all := lw_g (lw_at lw_m11 152 rfl) rfl
theorem q2695 : (Jvm.Cond.methodLink "CueStackLaw" (145 : Nat) ({ cls := "CueStackModel", name := "thrown", desc := "()I" } : Jvm.MethodName)) ∈ lw_all := lw_g (lw_at lw_m11 212 rfl) rfl
theorem q2699 : (Jvm.Cond.methodLink "CueStackLaw" (138 : Nat) ({ cls := "CueStackModel", name := "clear", desc := "()I" } : Jvm.MethodName)) ∈ lw_all := lw_g (lw_at lw_m11 216 rfl) rfl
theorem q2703 : (Jvm.Cond.methodLink "CueStackLaw" (144 : Nat) ({ cls := "CueStackModel", name := "addCue", desc := "(I)I" } : Jvm.MethodName)) ∈ lw_all := lw_g (lw_at lw_m11 220 rfl) rfl
theorem q2734 : (Jvm.Cond.methodLink "CueStackLaw" (154 : Nat) ({ cls := "CueStackModel", name := "cueAt", desc := "(I)I" } : Jvm.MethodName)) ∈ lw_all := lw_g (lw_at lw_m12 11 rfl) rfl
theorem q2738 : (Jvm.Cond.methodLink "CueStackLaw" (158 : Nat) ({ cls := "CueStackModel", name := "setFollow", desc := "(II)I" } : Jvm.MethodName)) ∈ lw_all := lw_g (lw_at lw_m12 15 rfl) rfl
theorem q2746 : (Jvm.Cond.methodLink "CueStackLaw" (161 : Nat) ({ cls := "CueStackModel", name := "setBlock", desc := "(IZ)I" } : Jvm.MethodName)) ∈ lw_all := lw_g (lw_at lw_m12 23 rfl) rfl
theorem q2766 : (Jvm.Cond.methodLink "CueStackLaw" (164 : Nat) ({ cls := "CueStackModel", name := "setProtected", desc := "(IZ)Z" } : Jvm.MethodName)) ∈ lw_all := lw_g (lw_at lw_m12 43 rfl) rfl
theorem q2770 : (Jvm.Cond.methodLink "CueStackLaw" (168 : Nat) ({ cls := "CueStackModel", name := "setPart", desc := "(IIZI)I" } : Jvm.MethodName)) ∈ lw_all := lw_g (lw_at lw_m12 47 rfl) rfl
theorem q2781 : (Jvm.Cond.methodLink "CueStackLaw" (175 : Nat) ({ cls := "CueStackModel", name := "part", desc := "(IIZ)I" } : Jvm.MethodName)) ∈ lw_all := lw_g (lw_at lw_m12 58 rfl) rfl
theorem q2785 : (Jvm.Cond.methodLink "CueStackLaw" (171 : Nat) ({ cls := "CueStackModel", name := "cue", desc := "(II)I" } : Jvm.MethodName)) ∈ lw_all := lw_g (lw_at lw_m12 62 rfl) rfl
theorem q2806 : (Jvm.Cond.methodLink "CueStackLaw" (178 : Nat) ({ cls := "CueStackModel", name := "setHome", desc := "(II)I" } : Jvm.MethodName)) ∈ lw_all := lw_g (lw_at lw_m12 83 rfl) rfl
theorem q2813 : (Jvm.Cond.methodLink "CueStackLaw" (182 : Nat) ({ cls := "CueStackModel", name := "set", desc := "(IIIIZ)I" } : Jvm.MethodName)) ∈ lw_all := lw_g (lw_at lw_m12 90 rfl) rfl
theorem q2845 : (Jvm.Cond.methodLink "CueStackLaw" (186 : Nat) ({ cls := "CueStackModel", name := "release", desc := "(IIIZ)I" } : Jvm.MethodName)) ∈ lw_all := lw_g (lw_at lw_m12 122 rfl) rfl
theorem q2849 : (Jvm.Cond.methodLink "CueStackLaw" (189 : Nat) ({ cls := "CueStackModel", name := "unset", desc := "(IIZ)I" } : Jvm.MethodName)) ∈ lw_all := lw_g (lw_at lw_m12 126 rfl) rfl
theorem q2861 : (Jvm.Cond.methodLink "CueStackLaw" (151 : Nat) ({ cls := "CueStackModel", name := "removeCue", desc := "(IZ)I" } : Jvm.MethodName)) ∈ lw_all := lw_g (lw_at lw_m12 138 rfl) rfl
theorem q2869 : (Jvm.Cond.methodLink "CueStackLaw" (192 : Nat) ({ cls := "CueStackModel", name := "instruction", desc := "(II)I" } : Jvm.MethodName)) ∈ lw_all := lw_g (lw_at lw_m12 146 rfl) rfl
theorem q2873 : (Jvm.Cond.methodLink "CueStackLaw" (195 : Nat) ({ cls := "CueStackModel", name := "level", desc := "(II)I" } : Jvm.MethodName)) ∈ lw_all := lw_g (lw_at lw_m12 150 rfl) rfl
theorem q2877 : (Jvm.Cond.methodLink "CueStackLaw" (198 : Nat) ({ cls := "CueStackModel", name := "levelAgain", desc := "(II)I" } : Jvm.MethodName)) ∈ lw_all := lw_g (lw_at lw_m12 154 rfl) rfl
theorem q2882 : (Jvm.Cond.methodLink "CueStackLaw" (201 : Nat) ({ cls := "CueStackModel", name := "source", desc := "(II)I" } : Jvm.MethodName)) ∈ lw_all := lw_g (lw_at lw_m12 159 rfl) rfl
theorem q2886 : (Jvm.Cond.methodLink "CueStackLaw" (204 : Nat) ({ cls := "CueStackModel", name := "sum", desc := "(I)I" } : Jvm.MethodName)) ∈ lw_all := lw_g (lw_at lw_m12 163 rfl) rfl
theorem q2890 : (Jvm.Cond.methodLink "CueStackLaw" (207 : Nat) ({ cls := "CueStackModel", name := "apart", desc := "(II)I" } : Jvm.MethodName)) ∈ lw_all := lw_g (lw_at lw_m12 167 rfl) rfl
theorem q2894 : (Jvm.Cond.methodLink "CueStackLaw" (211 : Nat) ({ cls := "CueStackModel", name := "reason", desc := "()I" } : Jvm.MethodName)) ∈ lw_all := lw_g (lw_at lw_m12 171 rfl) rfl
theorem q2898 : (Jvm.Cond.methodLink "CueStackLaw" (214 : Nat) ({ cls := "CueStackModel", name := "go", desc := "()I" } : Jvm.MethodName)) ∈ lw_all := lw_g (lw_at lw_m12 175 rfl) rfl
theorem q2929 : (Jvm.Cond.methodLink "CueStackLaw" (217 : Nat) ({ cls := "CueStackModel", name := "back", desc := "()I" } : Jvm.MethodName)) ∈ lw_all := lw_g (lw_at lw_m12 206 rfl) rfl
theorem q2933 : (Jvm.Cond.methodLink "CueStackLaw" (220 : Nat) ({ cls := "CueStackModel", name := "jump", desc := "(I)I" } : Jvm.MethodName)) ∈ lw_all := lw_g (lw_at lw_m12 210 rfl) rfl
theorem q2937 : (Jvm.Cond.methodLink "CueStackLaw" (223 : Nat) ({ cls := "CueStackModel", name := "pass", desc := "(I)I" } : Jvm.MethodName)) ∈ lw_all := lw_g (lw_at lw_m12 214 rfl) rfl
theorem q2950 : (Jvm.Cond.methodLink "CueStackLaw" (226 : Nat) ({ cls := "CueStackModel", name := "now", desc := "(I)I" } : Jvm.MethodName)) ∈ lw_all := lw_g (lw_at lw_m12 227 rfl) rfl
theorem q2954 : (Jvm.Cond.methodLink "CueStackLaw" (229 : Nat) ({ cls := "CueStackModel", name := "target", desc := "(I)I" } : Jvm.MethodName)) ∈ lw_all := lw_g (lw_at lw_m12 231 rfl) rfl
theorem q2958 : (Jvm.Cond.methodLink "CueStackLaw" (232 : Nat) ({ cls := "CueStackModel", name := "playing", desc := "(I)I" } : Jvm.MethodName)) ∈ lw_all := lw_g (lw_at lw_m12 235 rfl) rfl
theorem q2970 : (Jvm.Cond.methodLink "CueStackLaw" (235 : Nat) ({ cls := "CueStackModel", name := "chain", desc := "(I)I" } : Jvm.MethodName)) ∈ lw_all := lw_g (lw_at lw_m13 7 rfl) rfl
theorem q2974 : (Jvm.Cond.methodLink "CueStackLaw" (238 : Nat) ({ cls := "CueStackModel", name := "account", desc := "(I)I" } : Jvm.MethodName)) ∈ lw_all := lw_g (lw_at lw_m13 11 rfl) rfl
theorem q2986 : (Jvm.Cond.methodLink "CueStackLaw" (243 : Nat) ({ cls := "CueStackModel", name := "meanLevel", desc := "()D" } : Jvm.MethodName)) ∈ lw_all := lw_g (lw_at lw_m13 23 rfl) rfl
theorem q2991 : (Jvm.Cond.methodLink "CueStackLaw" (247 : Nat) ({ cls := "CueStackModel", name := "append", desc := "(C)I" } : Jvm.MethodName)) ∈ lw_all := lw_g (lw_at lw_m13 28 rfl) rfl
theorem q2995 : (Jvm.Cond.methodLink "CueStackLaw" (250 : Nat) ({ cls := "CueStackModel", name := "read", desc := "()I" } : Jvm.MethodName)) ∈ lw_all := lw_g (lw_at lw_m13 32 rfl) rfl
theorem q3072 : (Jvm.Cond.methodLink "CueStackLaw" (253 : Nat) ({ cls := "CueStackModel", name := "errorPosition", desc := "()I" } : Jvm.MethodName)) ∈ lw_all := lw_g (lw_at lw_m13 109 rfl) rfl
theorem q3076 : (Jvm.Cond.methodLink "CueStackLaw" (256 : Nat) ({ cls := "CueStackModel", name := "undo", desc := "()I" } : Jvm.MethodName)) ∈ lw_all := lw_g (lw_at lw_m13 113 rfl) rfl
theorem q3080 : (Jvm.Cond.methodLink "CueStackLaw" (260 : Nat) ({ cls := "CueStackModel", name := "save", desc := "()I" } : Jvm.MethodName)) ∈ lw_all := lw_g (lw_at lw_m13 117 rfl) rfl
theorem q3084 : (Jvm.Cond.methodLink "CueStackLaw" (263 : Nat) ({ cls := "CueStackModel", name := "restore", desc := "()I" } : Jvm.MethodName)) ∈ lw_all := lw_g (lw_at lw_m13 121 rfl) rfl

