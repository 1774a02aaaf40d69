/-! GrantworksLaw -/
set_option maxRecDepth 100000
def RX0 : String := "GrantworksLaw"
abbrev cX0_tell : ByteArray := method_3_code
def yX0_tell : MethodName := ⟨RX0, "tell", "(LGrantworks;III[J)I"⟩
def dkwX0_tell_1 : List UInt8 := [172]
abbrev dktX0_tell_1 : List UInt8 := dkwX0_tell_1 ++ []
def dkwX0_tell_0 : List UInt8 := [25, 4, 3, 42, 27, 28, 29, 182, 0, 7, 133, 80, 167, 0, 11, 58, 5, 4, 172, 58, 5, 5, 172, 3]
abbrev dktX0_tell_0 : List UInt8 := dkwX0_tell_0 ++ dktX0_tell_1
theorem dksX0_tell_0 : cX0_tell.data.toList.drop 0 = dktX0_tell_0 := by decide +kernel
theorem dksX0_tell_1 : cX0_tell.data.toList.drop 24 = dktX0_tell_1 := dk_seg dksX0_tell_0 24 rfl rfl
theorem dX0_tell_0 : decode cX0_tell 0 = .ok (.aload 4, 2) := dk_25 4 (dk_at dksX0_tell_0 0 rfl rfl)
theorem dX0_tell_2 : decode cX0_tell 2 = .ok (.iconst 0, 1) := dk_3 (dk_at dksX0_tell_0 2 rfl rfl)
theorem dX0_tell_3 : decode cX0_tell 3 = .ok (.aload_n 0, 1) := dk_42 (dk_at dksX0_tell_0 3 rfl rfl)
theorem dX0_tell_4 : decode cX0_tell 4 = .ok (.iload_n 1, 1) := dk_27 (dk_at dksX0_tell_0 4 rfl rfl)
theorem dX0_tell_5 : decode cX0_tell 5 = .ok (.iload_n 2, 1) := dk_28 (dk_at dksX0_tell_0 5 rfl rfl)
theorem dX0_tell_6 : decode cX0_tell 6 = .ok (.iload_n 3, 1) := dk_29 (dk_at dksX0_tell_0 6 rfl rfl)
theorem dX0_tell_7 : decode cX0_tell 7 = .ok (.invokevirtual 7, 3) := dk_182 0 7 (dk_at dksX0_tell_0 7 rfl rfl)
theorem dX0_tell_10 : decode cX0_tell 10 = .ok (.i2l, 1) := dk_133 (dk_at dksX0_tell_0 10 rfl rfl)
theorem dX0_tell_11 : decode cX0_tell 11 = .ok (.lastore, 1) := dk_80 (dk_at dksX0_tell_0 11 rfl rfl)
theorem dX0_tell_12 : decode cX0_tell 12 = .ok (.goto 11, 3) := dk_167 0 11 (dk_at dksX0_tell_0 12 rfl rfl)
theorem dX0_tell_15 : decode cX0_tell 15 = .ok (.astore 5, 2) := dk_58 5 (dk_at dksX0_tell_0 15 rfl rfl)
theorem dX0_tell_17 : decode cX0_tell 17 = .ok (.iconst 1, 1) := dk_4 (dk_at dksX0_tell_0 17 rfl rfl)
theorem dX0_tell_18 : decode cX0_tell 18 = .ok (.ireturn, 1) := dk_172 (dk_at dksX0_tell_0 18 rfl rfl)
theorem dX0_tell_19 : decode cX0_tell 19 = .ok (.astore 5, 2) := dk_58 5 (dk_at dksX0_tell_0 19 rfl rfl)
theorem dX0_tell_21 : decode cX0_tell 21 = .ok (.iconst 2, 1) := dk_5 (dk_at dksX0_tell_0 21 rfl rfl)
theorem dX0_tell_22 : decode cX0_tell 22 = .ok (.ireturn, 1) := dk_172 (dk_at dksX0_tell_0 22 rfl rfl)
theorem dX0_tell_23 : decode cX0_tell 23 = .ok (.iconst 0, 1) := dk_3 (dk_at dksX0_tell_0 23 rfl rfl)
theorem dX0_tell_24 : decode cX0_tell 24 = .ok (.ireturn, 1) := dk_172 (dk_at dksX0_tell_1 0 rfl rfl)
abbrev cX0_call : ByteArray := method_4_code
def yX0_call : MethodName := ⟨RX0, "call", "(LGrantworks;IIII[J)I"⟩
def dkwX0_call_1 : List UInt8 := [172, 3, 172]
abbrev dktX0_call_1 : List UInt8 := dkwX0_call_1 ++ []
def dkwX0_call_0 : List UInt8 := [25, 5, 3, 42, 27, 28, 29, 21, 4, 182, 0, 17, 133, 80, 167, 0, 11, 58, 6, 4, 172, 58, 6, 5]
abbrev dktX0_call_0 : List UInt8 := dkwX0_call_0 ++ dktX0_call_1
theorem dksX0_call_0 : cX0_call.data.toList.drop 0 = dktX0_call_0 := by decide +kernel
theorem dksX0_call_1 : cX0_call.data.toList.drop 24 = dktX0_call_1 := dk_seg dksX0_call_0 24 rfl rfl
theorem dX0_call_0 : decode cX0_call 0 = .ok (.aload 5, 2) := dk_25 5 (dk_at dksX0_call_0 0 rfl rfl)
theorem dX0_call_2 : decode cX0_call 2 = .ok (.iconst 0, 1) := dk_3 (dk_at dksX0_call_0 2 rfl rfl)
theorem dX0_call_3 : decode cX0_call 3 = .ok (.aload_n 0, 1) := dk_42 (dk_at dksX0_call_0 3 rfl rfl)
theorem dX0_call_4 : decode cX0_call 4 = .ok (.iload_n 1, 1) := dk_27 (dk_at dksX0_call_0 4 rfl rfl)
theorem dX0_call_5 : decode cX0_call 5 = .ok (.iload_n 2, 1) := dk_28 (dk_at dksX0_call_0 5 rfl rfl)
theorem dX0_call_6 : decode cX0_call 6 = .ok (.iload_n 3, 1) := dk_29 (dk_at dksX0_call_0 6 rfl rfl)
theorem dX0_call_7 : decode cX0_call 7 = .ok (.iload 4, 2) := dk_21 4 (dk_at dksX0_call_0 7 rfl rfl)
theorem dX0_call_9 : decode cX0_call 9 = .ok (.invokevirtual 17, 3) := dk_182 0 17 (dk_at dksX0_call_0 9 rfl rfl)
theorem dX0_call_12 : decode cX0_call 12 = .ok (.i2l, 1) := dk_133 (dk_at dksX0_call_0 12 rfl rfl)
theorem dX0_call_13 : decode cX0_call 13 = .ok (.lastore, 1) := dk_80 (dk_at dksX0_call_0 13 rfl rfl)
theorem dX0_call_14 : decode cX0_call 14 = .ok (.goto 11, 3) := dk_167 0 11 (dk_at dksX0_call_0 14 rfl rfl)
theorem dX0_call_17 : decode cX0_call 17 = .ok (.astore 6, 2) := dk_58 6 (dk_at dksX0_call_0 17 rfl rfl)
theorem dX0_call_19 : decode cX0_call 19 = .ok (.iconst 1, 1) := dk_4 (dk_at dksX0_call_0 19 rfl rfl)
theorem dX0_call_20 : decode cX0_call 20 = .ok (.ireturn, 1) := dk_172 (dk_at dksX0_call_0 20 rfl rfl)
theorem dX0_call_21 : decode cX0_call 21 = .ok (.astore 6, 2) := dk_58 6 (dk_at dksX0_call_0 21 rfl rfl)
theorem dX0_call_23 : decode cX0_call 23 = .ok (.iconst 2, 1) := dk_5 (dk_at dksX0_call_0 23 rfl rfl)
theorem dX0_call_24 : decode cX0_call 24 = .ok (.ireturn, 1) := dk_172 (dk_at dksX0_call_1 0 rfl rfl)
theorem dX0_call_25 : decode cX0_call 25 = .ok (.iconst 0, 1) := dk_3 (dk_at dksX0_call_1 1 rfl rfl)
theorem dX0_call_26 : decode cX0_call 26 = .ok (.ireturn, 1) := dk_172 (dk_at dksX0_call_1 2 rfl rfl)
abbrev cX0_apply : ByteArray := method_5_code
def yX0_apply : MethodName := ⟨RX0, "apply", "(LGrantworks;IIIIII[J)I"⟩
def dkwX0_apply_1 : List UInt8 := [172, 58, 8, 5, 172, 58, 8, 6, 172, 3, 172]
abbrev dktX0_apply_1 : List UInt8 := dkwX0_apply_1 ++ []
def dkwX0_apply_0 : List UInt8 := [25, 7, 3, 42, 27, 28, 29, 21, 4, 21, 5, 21, 6, 182, 0, 21, 133, 80, 167, 0, 15, 58, 8, 4]
abbrev dktX0_apply_0 : List UInt8 := dkwX0_apply_0 ++ dktX0_apply_1
theorem dksX0_apply_0 : cX0_apply.data.toList.drop 0 = dktX0_apply_0 := by decide +kernel
theorem dksX0_apply_1 : cX0_apply.data.toList.drop 24 = dktX0_apply_1 := dk_seg dksX0_apply_0 24 rfl rfl
theorem dX0_apply_0 : decode cX0_apply 0 = .ok (.aload 7, 2) := dk_25 7 (dk_at dksX0_apply_0 0 rfl rfl)
theorem dX0_apply_2 : decode cX0_apply 2 = .ok (.iconst 0, 1) := dk_3 (dk_at dksX0_apply_0 2 rfl rfl)
theorem dX0_apply_3 : decode cX0_apply 3 = .ok (.aload_n 0, 1) := dk_42 (dk_at dksX0_apply_0 3 rfl rfl)
theorem dX0_apply_4 : decode cX0_apply 4 = .ok (.iload_n 1, 1) := dk_27 (dk_at dksX0_apply_0 4 rfl rfl)
theorem dX0_apply_5 : decode cX0_apply 5 = .ok (.iload_n 2, 1) := dk_28 (dk_at dksX0_apply_0 5 rfl rfl)
theorem dX0_apply_6 : decode cX0_apply 6 = .ok (.iload_n 3, 1) := dk_29 (dk_at dksX0_apply_0 6 rfl rfl)
theorem dX0_apply_7 : decode cX0_apply 7 = .ok (.iload 4, 2) := dk_21 4 (dk_at dksX0_apply_0 7 rfl rfl)
theorem dX0_apply_9 : decode cX0_apply 9 = .ok (.iload 5, 2) := dk_21 5 (dk_at dksX0_apply_0 9 rfl rfl)
theorem dX0_apply_11 : decode cX0_apply 11 = .ok (.iload 6, 2) := dk_21 6 (dk_at dksX0_apply_0 11 rfl rfl)
theorem dX0_apply_13 : decode cX0_apply 13 = .ok (.invokevirtual 21, 3) := dk_182 0 21 (dk_at dksX0_apply_0 13 rfl rfl)
theorem dX0_apply_16 : decode cX0_apply 16 = .ok (.i2l, 1) := dk_133 (dk_at dksX0_apply_0 16 rfl rfl)
theorem dX0_apply_17 : decode cX0_apply 17 = .ok (.lastore, 1) := dk_80 (dk_at dksX0_apply_0 17 rfl rfl)
theorem dX0_apply_18 : decode cX0_apply 18 = .ok (.goto 15, 3) := dk_167 0 15 (dk_at dksX0_apply_0 18 rfl rfl)
theorem dX0_apply_21 : decode cX0_apply 21 = .ok (.astore 8, 2) := dk_58 8 (dk_at dksX0_apply_0 21 rfl rfl)
theorem dX0_apply_23 : decode cX0_apply 23 = .ok (.iconst 1, 1) := dk_4 (dk_at dksX0_apply_0 23 rfl rfl)
theorem dX0_apply_24 : decode cX0_apply 24 = .ok (.ireturn, 1) := dk_172 (dk_at dksX0_apply_1 0 rfl rfl)
theorem dX0_apply_25 : decode cX0_apply 25 = .ok (.astore 8, 2) := dk_58 8 (dk_at dksX0_apply_1 1 rfl rfl)
theorem dX0_apply_27 : decode cX0_apply 27 = .ok (.iconst 2, 1) := dk_5 (dk_at dksX0_apply_1 3 rfl rfl)
theorem dX0_apply_28 : decode cX0_apply 28 = .ok (.ireturn, 1) := dk_172 (dk_at dksX0_apply_1 4 rfl rfl)
theorem dX0_apply_29 : decode cX0_apply 29 = .ok (.astore 8, 2) := dk_58 8 (dk_at dksX0_apply_1 5 rfl rfl)
theorem dX0_apply_31 : decode cX0_apply 31 = .ok (.iconst 3, 1) := dk_6 (dk_at dksX0_apply_1 7 rfl rfl)
theorem dX0_apply_32 : decode cX0_apply 32 = .ok (.ireturn, 1) := dk_172 (dk_at dksX0_apply_1 8 rfl rfl)
theorem dX0_apply_33 : decode cX0_apply 33 = .ok (.iconst 0, 1) := dk_3 (dk_at dksX0_apply_1 9 rfl rfl)
theorem dX0_apply_34 : decode cX0_apply 34 = .ok (.ireturn, 1) := dk_172 (dk_at dksX0_apply_1 10 rfl rfl)
abbrev cX0_revise : ByteArray := method_6_code
def yX0_revise : MethodName := ⟨RX0, "revise", "(LGrantworks;IIII[J)I"⟩
def dkwX0_revise_1 : List UInt8 := [172, 58, 6, 6, 172, 3, 172]
abbrev dktX0_revise_1 : List UInt8 := dkwX0_revise_1 ++ []
def dkwX0_revise_0 : List UInt8 := [25, 5, 3, 42, 27, 28, 29, 21, 4, 182, 0, 27, 133, 80, 167, 0, 15, 58, 6, 4, 172, 58, 6, 5]
abbrev dktX0_revise_0 : List UInt8 := dkwX0_revise_0 ++ dktX0_revise_1
theorem dksX0_revise_0 : cX0_revise.data.toList.drop 0 = dktX0_revise_0 := by decide +kernel
theorem dksX0_revise_1 : cX0_revise.data.toList.drop 24 = dktX0_revise_1 := dk_seg dksX0_revise_0 24 rfl rfl
theorem dX0_revise_0 : decode cX0_revise 0 = .ok (.aload 5, 2) := dk_25 5 (dk_at dksX0_revise_0 0 rfl rfl)
theorem dX0_revise_2 : decode cX0_revise 2 = .ok (.iconst 0, 1) := dk_3 (dk_at dksX0_revise_0 2 rfl rfl)
theorem dX0_revise_3 : decode cX0_revise 3 = .ok (.aload_n 0, 1) := dk_42 (dk_at dksX0_revise_0 3 rfl rfl)
theorem dX0_revise_4 : decode cX0_revise 4 = .ok (.iload_n 1, 1) := dk_27 (dk_at dksX0_revise_0 4 rfl rfl)
theorem dX0_revise_5 : decode cX0_revise 5 = .ok (.iload_n 2, 1) := dk_28 (dk_at dksX0_revise_0 5 rfl rfl)
theorem dX0_revise_6 : decode cX0_revise 6 = .ok (.iload_n 3, 1) := dk_29 (dk_at dksX0_revise_0 6 rfl rfl)
theorem dX0_revise_7 : decode cX0_revise 7 = .ok (.iload 4, 2) := dk_21 4 (dk_at dksX0_revise_0 7 rfl rfl)
theorem dX0_revise_9 : decode cX0_revise 9 = .ok (.invokevirtual 27, 3) := dk_182 0 27 (dk_at dksX0_revise_0 9 rfl rfl)
theorem dX0_revise_12 : decode cX0_revise 12 = .ok (.i2l, 1) := dk_133 (dk_at dksX0_revise_0 12 rfl rfl)
theorem dX0_revise_13 : decode cX0_revise 13 = .ok (.lastore, 1) := dk_80 (dk_at dksX0_revise_0 13 rfl rfl)
theorem dX0_revise_14 : decode cX0_revise 14 = .ok (.goto 15, 3) := dk_167 0 15 (dk_at dksX0_revise_0 14 rfl rfl)
theorem dX0_revise_17 : decode cX0_revise 17 = .ok (.astore 6, 2) := dk_58 6 (dk_at dksX0_revise_0 17 rfl rfl)
theorem dX0_revise_19 : decode cX0_revise 19 = .ok (.iconst 1, 1) := dk_4 (dk_at dksX0_revise_0 19 rfl rfl)
theorem dX0_revise_20 : decode cX0_revise 20 = .ok (.ireturn, 1) := dk_172 (dk_at dksX0_revise_0 20 rfl rfl)
theorem dX0_revise_21 : decode cX0_revise 21 = .ok (.astore 6, 2) := dk_58 6 (dk_at dksX0_revise_0 21 rfl rfl)
theorem dX0_revise_23 : decode cX0_revise 23 = .ok (.iconst 2, 1) := dk_5 (dk_at dksX0_revise_0 23 rfl rfl)
theorem dX0_revise_24 : decode cX0_revise 24 = .ok (.ireturn, 1) := dk_172 (dk_at dksX0_revise_1 0 rfl rfl)
theorem dX0_revise_25 : decode cX0_revise 25 = .ok (.astore 6, 2) := dk_58 6 (dk_at dksX0_revise_1 1 rfl rfl)
theorem dX0_revise_27 : decode cX0_revise 27 = .ok (.iconst 3, 1) := dk_6 (dk_at dksX0_revise_1 3 rfl rfl)
theorem dX0_revise_28 : decode cX0_revise 28 = .ok (.ireturn, 1) := dk_172 (dk_at dksX0_revise_1 4 rfl rfl)
theorem dX0_revise_29 : decode cX0_revise 29 = .ok (.iconst 0, 1) := dk_3 (dk_at dksX0_revise_1 5 rfl rfl)
theorem dX0_revise_30 : decode cX0_revise 30 = .ok (.ireturn, 1) := dk_172 (dk_at dksX0_revise_1 6 rfl rfl)
abbrev cX0_reviewer : ByteArray := method_7_code
def yX0_reviewer : MethodName := ⟨RX0, "reviewer", "(LGrantworks;II[J)I"⟩
def dkwX0_reviewer_0 : List UInt8 := [45, 3, 42, 27, 28, 182, 0, 30, 133, 80, 167, 0, 11, 58, 4, 4, 172, 58, 4, 5, 172, 3, 172]
abbrev dktX0_reviewer_0 : List UInt8 := dkwX0_reviewer_0 ++ []
theorem dksX0_reviewer_0 : cX0_reviewer.data.toList.drop 0 = dktX0_reviewer_0 := by decide +kernel
theorem dX0_reviewer_0 : decode cX0_reviewer 0 = .ok (.aload_n 3, 1) := dk_45 (dk_at dksX0_reviewer_0 0 rfl rfl)
theorem dX0_reviewer_1 : decode cX0_reviewer 1 = .ok (.iconst 0, 1) := dk_3 (dk_at dksX0_reviewer_0 1 rfl rfl)
theorem dX0_reviewer_2 : decode cX0_reviewer 2 = .ok (.aload_n 0, 1) := dk_42 (dk_at dksX0_reviewer_0 2 rfl rfl)
theorem dX0_reviewer_3 : decode cX0_reviewer 3 = .ok (.iload_n 1, 1) := dk_27 (dk_at dksX0_reviewer_0 3 rfl rfl)
theorem dX0_reviewer_4 : decode cX0_reviewer 4 = .ok (.iload_n 2, 1) := dk_28 (dk_at dksX0_reviewer_0 4 rfl rfl)
theorem dX0_reviewer_5 : decode cX0_reviewer 5 = .ok (.invokevirtual 30, 3) := dk_182 0 30 (dk_at dksX0_reviewer_0 5 rfl rfl)
theorem dX0_reviewer_8 : decode cX0_reviewer 8 = .ok (.i2l, 1) := dk_133 (dk_at dksX0_reviewer_0 8 rfl rfl)
theorem dX0_reviewer_9 : decode cX0_reviewer 9 = .ok (.lastore, 1) := dk_80 (dk_at dksX0_reviewer_0 9 rfl rfl)
theorem dX0_reviewer_10 : decode cX0_reviewer 10 = .ok (.goto 11, 3) := dk_167 0 11 (dk_at dksX0_reviewer_0 10 rfl rfl)
theorem dX0_reviewer_13 : decode cX0_reviewer 13 = .ok (.astore 4, 2) := dk_58 4 (dk_at dksX0_reviewer_0 13 rfl rfl)
theorem dX0_reviewer_15 : decode cX0_reviewer 15 = .ok (.iconst 1, 1) := dk_4 (dk_at dksX0_reviewer_0 15 rfl rfl)
theorem dX0_reviewer_16 : decode cX0_reviewer 16 = .ok (.ireturn, 1) := dk_172 (dk_at dksX0_reviewer_0 16 rfl rfl)
theorem dX0_reviewer_17 : decode cX0_reviewer 17 = .ok (.astore 4, 2) := dk_58 4 (dk_at dksX0_reviewer_0 17 rfl rfl)
theorem dX0_reviewer_19 : decode cX0_reviewer 19 = .ok (.iconst 2, 1) := dk_5 (dk_at dksX0_reviewer_0 19 rfl rfl)
theorem dX0_reviewer_20 : decode cX0_reviewer 20 = .ok (.ireturn, 1) := dk_172 (dk_at dksX0_reviewer_0 20 rfl rfl)
theorem dX0_reviewer_21 : decode cX0_reviewer 21 = .ok (.iconst 0, 1) := dk_3 (dk_at dksX0_reviewer_0 21 rfl rfl)
theorem dX0_reviewer_22 : decode cX0_reviewer 22 = .ok (.ireturn, 1) := dk_172 (dk_at dksX0_reviewer_0 22 rfl rfl)
abbrev cX0_conflict : ByteArray := method_8_code
def yX0_conflict : MethodName := ⟨RX0, "conflict", "(LGrantworks;IIZ[J)I"⟩
def dkwX0_conflict_1 : List UInt8 := [4, 172, 58, 5, 5, 172, 3, 172]
abbrev dktX0_conflict_1 : List UInt8 := dkwX0_conflict_1 ++ []
def dkwX0_conflict_0 : List UInt8 := [25, 4, 3, 42, 27, 28, 29, 182, 0, 34, 153, 0, 7, 10, 167, 0, 4, 9, 80, 167, 0, 11, 58, 5]
abbrev dktX0_conflict_0 : List UInt8 := dkwX0_conflict_0 ++ dktX0_conflict_1
theorem dksX0_conflict_0 : cX0_conflict.data.toList.drop 0 = dktX0_conflict_0 := by decide +kernel
theorem dksX0_conflict_1 : cX0_conflict.data.toList.drop 24 = dktX0_conflict_1 := dk_seg dksX0_conflict_0 24 rfl rfl
theorem dX0_conflict_0 : decode cX0_conflict 0 = .ok (.aload 4, 2) := dk_25 4 (dk_at dksX0_conflict_0 0 rfl rfl)
theorem dX0_conflict_2 : decode cX0_conflict 2 = .ok (.iconst 0, 1) := dk_3 (dk_at dksX0_conflict_0 2 rfl rfl)
theorem dX0_conflict_3 : decode cX0_conflict 3 = .ok (.aload_n 0, 1) := dk_42 (dk_at dksX0_conflict_0 3 rfl rfl)
theorem dX0_conflict_4 : decode cX0_conflict 4 = .ok (.iload_n 1, 1) := dk_27 (dk_at dksX0_conflict_0 4 rfl rfl)
theorem dX0_conflict_5 : decode cX0_conflict 5 = .ok (.iload_n 2, 1) := dk_28 (dk_at dksX0_conflict_0 5 rfl rfl)
theorem dX0_conflict_6 : decode cX0_conflict 6 = .ok (.iload_n 3, 1) := dk_29 (dk_at dksX0_conflict_0 6 rfl rfl)
theorem dX0_conflict_7 : decode cX0_conflict 7 = .ok (.invokevirtual 34, 3) := dk_182 0 34 (dk_at dksX0_conflict_0 7 rfl rfl)
theorem dX0_conflict_10 : decode cX0_conflict 10 = .ok (.ifCond .eq 7, 3) := dk_153 0 7 (dk_at dksX0_conflict_0 10 rfl rfl)
theorem dX0_conflict_13 : decode cX0_conflict 13 = .ok (.lconst 1, 1) := dk_10 (dk_at dksX0_conflict_0 13 rfl rfl)
theorem dX0_conflict_14 : decode cX0_conflict 14 = .ok (.goto 4, 3) := dk_167 0 4 (dk_at dksX0_conflict_0 14 rfl rfl)
theorem dX0_conflict_17 : decode cX0_conflict 17 = .ok (.lconst 0, 1) := dk_9 (dk_at dksX0_conflict_0 17 rfl rfl)
theorem dX0_conflict_18 : decode cX0_conflict 18 = .ok (.lastore, 1) := dk_80 (dk_at dksX0_conflict_0 18 rfl rfl)
theorem dX0_conflict_19 : decode cX0_conflict 19 = .ok (.goto 11, 3) := dk_167 0 11 (dk_at dksX0_conflict_0 19 rfl rfl)
theorem dX0_conflict_22 : decode cX0_conflict 22 = .ok (.astore 5, 2) := dk_58 5 (dk_at dksX0_conflict_0 22 rfl rfl)
theorem dX0_conflict_24 : decode cX0_conflict 24 = .ok (.iconst 1, 1) := dk_4 (dk_at dksX0_conflict_1 0 rfl rfl)
theorem dX0_conflict_25 : decode cX0_conflict 25 = .ok (.ireturn, 1) := dk_172 (dk_at dksX0_conflict_1 1 rfl rfl)
theorem dX0_conflict_26 : decode cX0_conflict 26 = .ok (.astore 5, 2) := dk_58 5 (dk_at dksX0_conflict_1 2 rfl rfl)
theorem dX0_conflict_28 : decode cX0_conflict 28 = .ok (.iconst 2, 1) := dk_5 (dk_at dksX0_conflict_1 4 rfl rfl)
theorem dX0_conflict_29 : decode cX0_conflict 29 = .ok (.ireturn, 1) := dk_172 (dk_at dksX0_conflict_1 5 rfl rfl)
theorem dX0_conflict_30 : decode cX0_conflict 30 = .ok (.iconst 0, 1) := dk_3 (dk_at dksX0_conflict_1 6 rfl rfl)
theorem dX0_conflict_31 : decode cX0_conflict 31 = .ok (.ireturn, 1) := dk_172 (dk_at dksX0_conflict_1 7 rfl rfl)
abbrev cX0_seat : ByteArray := method_9_code
def yX0_seat : MethodName := ⟨RX0, "seat", "(LGrantworks;IIZ[J)I"⟩
def dkwX0_seat_1 : List UInt8 := [4, 172, 3, 172]
abbrev dktX0_seat_1 : List UInt8 := dkwX0_seat_1 ++ []
def dkwX0_seat_0 : List UInt8 := [25, 4, 3, 42, 27, 28, 29, 182, 0, 38, 153, 0, 7, 10, 167, 0, 4, 9, 80, 167, 0, 7, 58, 5]
abbrev dktX0_seat_0 : List UInt8 := dkwX0_seat_0 ++ dktX0_seat_1
theorem dksX0_seat_0 : cX0_seat.data.toList.drop 0 = dktX0_seat_0 := by decide +kernel
theorem dksX0_seat_1 : cX0_seat.data.toList.drop 24 = dktX0_seat_1 := dk_seg dksX0_seat_0 24 rfl rfl
theorem dX0_seat_0 : decode cX0_seat 0 = .ok (.aload 4, 2) := dk_25 4 (dk_at dksX0_seat_0 0 rfl rfl)
theorem dX0_seat_2 : decode cX0_seat 2 = .ok (.iconst 0, 1) := dk_3 (dk_at dksX0_seat_0 2 rfl rfl)
theorem dX0_seat_3 : decode cX0_seat 3 = .ok (.aload_n 0, 1) := dk_42 (dk_at dksX0_seat_0 3 rfl rfl)
theorem dX0_seat_4 : decode cX0_seat 4 = .ok (.iload_n 1, 1) := dk_27 (dk_at dksX0_seat_0 4 rfl rfl)
theorem dX0_seat_5 : decode cX0_seat 5 = .ok (.iload_n 2, 1) := dk_28 (dk_at dksX0_seat_0 5 rfl rfl)
theorem dX0_seat_6 : decode cX0_seat 6 = .ok (.iload_n 3, 1) := dk_29 (dk_at dksX0_seat_0 6 rfl rfl)
theorem dX0_seat_7 : decode cX0_seat 7 = .ok (.invokevirtual 38, 3) := dk_182 0 38 (dk_at dksX0_seat_0 7 rfl rfl)
theorem dX0_seat_10 : decode cX0_seat 10 = .ok (.ifCond .eq 7, 3) := dk_153 0 7 (dk_at dksX0_seat_0 10 rfl rfl)
theorem dX0_seat_13 : decode cX0_seat 13 = .ok (.lconst 1, 1) := dk_10 (dk_at dksX0_seat_0 13 rfl rfl)
theorem dX0_seat_14 : decode cX0_seat 14 = .ok (.goto 4, 3) := dk_167 0 4 (dk_at dksX0_seat_0 14 rfl rfl)
theorem dX0_seat_17 : decode cX0_seat 17 = .ok (.lconst 0, 1) := dk_9 (dk_at dksX0_seat_0 17 rfl rfl)
theorem dX0_seat_18 : decode cX0_seat 18 = .ok (.lastore, 1) := dk_80 (dk_at dksX0_seat_0 18 rfl rfl)
theorem dX0_seat_19 : decode cX0_seat 19 = .ok (.goto 7, 3) := dk_167 0 7 (dk_at dksX0_seat_0 19 rfl rfl)
theorem dX0_seat_22 : decode cX0_seat 22 = .ok (.astore 5, 2) := dk_58 5 (dk_at dksX0_seat_0 22 rfl rfl)
theorem dX0_seat_24 : decode cX0_seat 24 = .ok (.iconst 1, 1) := dk_4 (dk_at dksX0_seat_1 0 rfl rfl)
theorem dX0_seat_25 : decode cX0_seat 25 = .ok (.ireturn, 1) := dk_172 (dk_at dksX0_seat_1 1 rfl rfl)
theorem dX0_seat_26 : decode cX0_seat 26 = .ok (.iconst 0, 1) := dk_3 (dk_at dksX0_seat_1 2 rfl rfl)
theorem dX0_seat_27 : decode cX0_seat 27 = .ok (.ireturn, 1) := dk_172 (dk_at dksX0_seat_1 3 rfl rfl)
abbrev cX0_review : ByteArray := method_10_code
def yX0_review : MethodName := ⟨RX0, "review", "(LGrantworks;III[J)I"⟩
def dkwX0_review_1 : List UInt8 := [58, 5, 6, 172, 3, 172]
abbrev dktX0_review_1 : List UInt8 := dkwX0_review_1 ++ []
def dkwX0_review_0 : List UInt8 := [25, 4, 3, 42, 27, 28, 29, 182, 0, 41, 133, 80, 167, 0, 15, 58, 5, 4, 172, 58, 5, 5, 172]
abbrev dktX0_review_0 : List UInt8 := dkwX0_review_0 ++ dktX0_review_1
theorem dksX0_review_0 : cX0_review.data.toList.drop 0 = dktX0_review_0 := by decide +kernel
theorem dksX0_review_1 : cX0_review.data.toList.drop 23 = dktX0_review_1 := dk_seg dksX0_review_0 23 rfl rfl
theorem dX0_review_0 : decode cX0_review 0 = .ok (.aload 4, 2) := dk_25 4 (dk_at dksX0_review_0 0 rfl rfl)
theorem dX0_review_2 : decode cX0_review 2 = .ok (.iconst 0, 1) := dk_3 (dk_at dksX0_review_0 2 rfl rfl)
theorem dX0_review_3 : decode cX0_review 3 = .ok (.aload_n 0, 1) := dk_42 (dk_at dksX0_review_0 3 rfl rfl)
theorem dX0_review_4 : decode cX0_review 4 = .ok (.iload_n 1, 1) := dk_27 (dk_at dksX0_review_0 4 rfl rfl)
theorem dX0_review_5 : decode cX0_review 5 = .ok (.iload_n 2, 1) := dk_28 (dk_at dksX0_review_0 5 rfl rfl)
theorem dX0_review_6 : decode cX0_review 6 = .ok (.iload_n 3, 1) := dk_29 (dk_at dksX0_review_0 6 rfl rfl)
theorem dX0_review_7 : decode cX0_review 7 = .ok (.invokevirtual 41, 3) := dk_182 0 41 (dk_at dksX0_review_0 7 rfl rfl)
theorem dX0_review_10 : decode cX0_review 10 = .ok (.i2l, 1) := dk_133 (dk_at dksX0_review_0 10 rfl rfl)
theorem dX0_review_11 : decode cX0_review 11 = .ok (.lastore, 1) := dk_80 (dk_at dksX0_review_0 11 rfl rfl)
theorem dX0_review_12 : decode cX0_review 12 = .ok (.goto 15, 3) := dk_167 0 15 (dk_at dksX0_review_0 12 rfl rfl)
theorem dX0_review_15 : decode cX0_review 15 = .ok (.astore 5, 2) := dk_58 5 (dk_at dksX0_review_0 15 rfl rfl)
theorem dX0_review_17 : decode cX0_review 17 = .ok (.iconst 1, 1) := dk_4 (dk_at dksX0_review_0 17 rfl rfl)
theorem dX0_review_18 : decode cX0_review 18 = .ok (.ireturn, 1) := dk_172 (dk_at dksX0_review_0 18 rfl rfl)
theorem dX0_review_19 : decode cX0_review 19 = .ok (.astore 5, 2) := dk_58 5 (dk_at dksX0_review_0 19 rfl rfl)
theorem dX0_review_21 : decode cX0_review 21 = .ok (.iconst 2, 1) := dk_5 (dk_at dksX0_review_0 21 rfl rfl)
theorem dX0_review_22 : decode cX0_review 22 = .ok (.ireturn, 1) := dk_172 (dk_at dksX0_review_0 22 rfl rfl)
theorem dX0_review_23 : decode cX0_review 23 = .ok (.astore 5, 2) := dk_58 5 (dk_at dksX0_review_1 0 rfl rfl)
theorem dX0_review_25 : decode cX0_review 25 = .ok (.iconst 3, 1) := dk_6 (dk_at dksX0_review_1 2 rfl rfl)
theorem dX0_review_26 : decode cX0_review 26 = .ok (.ireturn, 1) := dk_172 (dk_at dksX0_review_1 3 rfl rfl)
theorem dX0_review_27 : decode cX0_review 27 = .ok (.iconst 0, 1) := dk_3 (dk_at dksX0_review_1 4 rfl rfl)
theorem dX0_review_28 : decode cX0_review 28 = .ok (.ireturn, 1) := dk_172 (dk_at dksX0_review_1 5 rfl rfl)
abbrev cX0_alike : ByteArray := method_11_code
def yX0_alike : MethodName := ⟨RX0, "alike", "(LGrantworks;II[J)I"⟩
def dkwX0_alike_0 : List UInt8 := [45, 3, 42, 27, 28, 182, 0, 44, 133, 80, 167, 0, 7, 58, 4, 4, 172, 3, 172]
abbrev dktX0_alike_0 : List UInt8 := dkwX0_alike_0 ++ []
theorem dksX0_alike_0 : cX0_alike.data.toList.drop 0 = dktX0_alike_0 := by decide +kernel
theorem dX0_alike_0 : decode cX0_alike 0 = .ok (.aload_n 3, 1) := dk_45 (dk_at dksX0_alike_0 0 rfl rfl)
theorem dX0_alike_1 : decode cX0_alike 1 = .ok (.iconst 0, 1) := dk_3 (dk_at dksX0_alike_0 1 rfl rfl)
theorem dX0_alike_2 : decode cX0_alike 2 = .ok (.aload_n 0, 1) := dk_42 (dk_at dksX0_alike_0 2 rfl rfl)
theorem dX0_alike_3 : decode cX0_alike 3 = .ok (.iload_n 1, 1) := dk_27 (dk_at dksX0_alike_0 3 rfl rfl)
theorem dX0_alike_4 : decode cX0_alike 4 = .ok (.iload_n 2, 1) := dk_28 (dk_at dksX0_alike_0 4 rfl rfl)
theorem dX0_alike_5 : decode cX0_alike 5 = .ok (.invokevirtual 44, 3) := dk_182 0 44 (dk_at dksX0_alike_0 5 rfl rfl)
theorem dX0_alike_8 : decode cX0_alike 8 = .ok (.i2l, 1) := dk_133 (dk_at dksX0_alike_0 8 rfl rfl)
theorem dX0_alike_9 : decode cX0_alike 9 = .ok (.lastore, 1) := dk_80 (dk_at dksX0_alike_0 9 rfl rfl)
theorem dX0_alike_10 : decode cX0_alike 10 = .ok (.goto 7, 3) := dk_167 0 7 (dk_at dksX0_alike_0 10 rfl rfl)
theorem dX0_alike_13 : decode cX0_alike 13 = .ok (.astore 4, 2) := dk_58 4 (dk_at dksX0_alike_0 13 rfl rfl)
theorem dX0_alike_15 : decode cX0_alike 15 = .ok (.iconst 1, 1) := dk_4 (dk_at dksX0_alike_0 15 rfl rfl)
theorem dX0_alike_16 : decode cX0_alike 16 = .ok (.ireturn, 1) := dk_172 (dk_at dksX0_alike_0 16 rfl rfl)
theorem dX0_alike_17 : decode cX0_alike 17 = .ok (.iconst 0, 1) := dk_3 (dk_at dksX0_alike_0 17 rfl rfl)
theorem dX0_alike_18 : decode cX0_alike 18 = .ok (.ireturn, 1) := dk_172 (dk_at dksX0_alike_0 18 rfl rfl)
abbrev cX0_award : ByteArray := method_12_code
def yX0_award : MethodName := ⟨RX0, "award", "(LGrantworks;I[J)I"⟩
def dkwX0_award_0 : List UInt8 := [44, 3, 42, 27, 182, 0, 47, 133, 80, 167, 0, 9, 78, 4, 172, 78, 5, 172, 3, 172]
abbrev dktX0_award_0 : List UInt8 := dkwX0_award_0 ++ []
theorem dksX0_award_0 : cX0_award.data.toList.drop 0 = dktX0_award_0 := by decide +kernel
theorem dX0_award_0 : decode cX0_award 0 = .ok (.aload_n 2, 1) := dk_44 (dk_at dksX0_award_0 0 rfl rfl)
theorem dX0_award_1 : decode cX0_award 1 = .ok (.iconst 0, 1) := dk_3 (dk_at dksX0_award_0 1 rfl rfl)
theorem dX0_award_2 : decode cX0_award 2 = .ok (.aload_n 0, 1) := dk_42 (dk_at dksX0_award_0 2 rfl rfl)
theorem dX0_award_3 : decode cX0_award 3 = .ok (.iload_n 1, 1) := dk_27 (dk_at dksX0_award_0 3 rfl rfl)
theorem dX0_award_4 : decode cX0_award 4 = .ok (.invokevirtual 47, 3) := dk_182 0 47 (dk_at dksX0_award_0 4 rfl rfl)
theorem dX0_award_7 : decode cX0_award 7 = .ok (.i2l, 1) := dk_133 (dk_at dksX0_award_0 7 rfl rfl)
theorem dX0_award_8 : decode cX0_award 8 = .ok (.lastore, 1) := dk_80 (dk_at dksX0_award_0 8 rfl rfl)
theorem dX0_award_9 : decode cX0_award 9 = .ok (.goto 9, 3) := dk_167 0 9 (dk_at dksX0_award_0 9 rfl rfl)
theorem dX0_award_12 : decode cX0_award 12 = .ok (.astore_n 3, 1) := dk_78 (dk_at dksX0_award_0 12 rfl rfl)
theorem dX0_award_13 : decode cX0_award 13 = .ok (.iconst 1, 1) := dk_4 (dk_at dksX0_award_0 13 rfl rfl)
theorem dX0_award_14 : decode cX0_award 14 = .ok (.ireturn, 1) := dk_172 (dk_at dksX0_award_0 14 rfl rfl)
theorem dX0_award_15 : decode cX0_award 15 = .ok (.astore_n 3, 1) := dk_78 (dk_at dksX0_award_0 15 rfl rfl)
theorem dX0_award_16 : decode cX0_award 16 = .ok (.iconst 2, 1) := dk_5 (dk_at dksX0_award_0 16 rfl rfl)
theorem dX0_award_17 : decode cX0_award 17 = .ok (.ireturn, 1) := dk_172 (dk_at dksX0_award_0 17 rfl rfl)
theorem dX0_award_18 : decode cX0_award 18 = .ok (.iconst 0, 1) := dk_3 (dk_at dksX0_award_0 18 rfl rfl)
theorem dX0_award_19 : decode cX0_award 19 = .ok (.ireturn, 1) := dk_172 (dk_at dksX0_award_0 19 rfl rfl)
abbrev cX0_report : ByteArray := method_13_code
def yX0_report : MethodName := ⟨RX0, "report", "(LGrantworks;II[J)I"⟩
def dkwX0_report_1 : List UInt8 := [172, 3, 172]
abbrev dktX0_report_1 : List UInt8 := dkwX0_report_1 ++ []
def dkwX0_report_0 : List UInt8 := [45, 3, 42, 27, 28, 182, 0, 51, 133, 80, 167, 0, 15, 58, 4, 4, 172, 58, 4, 5, 172, 58, 4, 6]
abbrev dktX0_report_0 : List UInt8 := dkwX0_report_0 ++ dktX0_report_1
theorem dksX0_report_0 : cX0_report.data.toList.drop 0 = dktX0_report_0 := by decide +kernel
theorem dksX0_report_1 : cX0_report.data.toList.drop 24 = dktX0_report_1 := dk_seg dksX0_report_0 24 rfl rfl
theorem dX0_report_0 : decode cX0_report 0 = .ok (.aload_n 3, 1) := dk_45 (dk_at dksX0_report_0 0 rfl rfl)
theorem dX0_report_1 : decode cX0_report 1 = .ok (.iconst 0, 1) := dk_3 (dk_at dksX0_report_0 1 rfl rfl)
theorem dX0_report_2 : decode cX0_report 2 = .ok (.aload_n 0, 1) := dk_42 (dk_at dksX0_report_0 2 rfl rfl)
theorem dX0_report_3 : decode cX0_report 3 = .ok (.iload_n 1, 1) := dk_27 (dk_at dksX0_report_0 3 rfl rfl)
theorem dX0_report_4 : decode cX0_report 4 = .ok (.iload_n 2, 1) := dk_28 (dk_at dksX0_report_0 4 rfl rfl)
theorem dX0_report_5 : decode cX0_report 5 = .ok (.invokevirtual 51, 3) := dk_182 0 51 (dk_at dksX0_report_0 5 rfl rfl)
theorem dX0_report_8 : decode cX0_report 8 = .ok (.i2l, 1) := dk_133 (dk_at dksX0_report_0 8 rfl rfl)
theorem dX0_report_9 : decode cX0_report 9 = .ok (.lastore, 1) := dk_80 (dk_at dksX0_report_0 9 rfl rfl)
theorem dX0_report_10 : decode cX0_report 10 = .ok (.goto 15, 3) := dk_167 0 15 (dk_at dksX0_report_0 10 rfl rfl)
theorem dX0_report_13 : decode cX0_report 13 = .ok (.astore 4, 2) := dk_58 4 (dk_at dksX0_report_0 13 rfl rfl)
theorem dX0_report_15 : decode cX0_report 15 = .ok (.iconst 1, 1) := dk_4 (dk_at dksX0_report_0 15 rfl rfl)
theorem dX0_report_16 : decode cX0_report 16 = .ok (.ireturn, 1) := dk_172 (dk_at dksX0_report_0 16 rfl rfl)
theorem dX0_report_17 : decode cX0_report 17 = .ok (.astore 4, 2) := dk_58 4 (dk_at dksX0_report_0 17 rfl rfl)
theorem dX0_report_19 : decode cX0_report 19 = .ok (.iconst 2, 1) := dk_5 (dk_at dksX0_report_0 19 rfl rfl)
theorem dX0_report_20 : decode cX0_report 20 = .ok (.ireturn, 1) := dk_172 (dk_at dksX0_report_0 20 rfl rfl)
theorem dX0_report_21 : decode cX0_report 21 = .ok (.astore 4, 2) := dk_58 4 (dk_at dksX0_report_0 21 rfl rfl)
theorem dX0_report_23 : decode cX0_report 23 = .ok (.iconst 3, 1) := dk_6 (dk_at dksX0_report_0 23 rfl rfl)
theorem dX0_report_24 : decode cX0_report 24 = .ok (.ireturn, 1) := dk_172 (dk_at dksX0_report_1 0 rfl rfl)
theorem dX0_report_25 : decode cX0_report 25 = .ok (.iconst 0, 1) := dk_3 (dk_at dksX0_report_1 1 rfl rfl)
theorem dX0_report_26 : decode cX0_report 26 = .ok (.ireturn, 1) := dk_172 (dk_at dksX0_report_1 2 rfl rfl)
abbrev cX0_end : ByteArray := method_14_code
def yX0_end : MethodName := ⟨RX0, "end", "(LGrantworks;IZ[J)I"⟩
def dkwX0_end_0 : List UInt8 := [45, 3, 42, 27, 28, 182, 0, 54, 133, 80, 167, 0, 11, 58, 4, 4, 172, 58, 4, 5, 172, 3, 172]
abbrev dktX0_end_0 : List UInt8 := dkwX0_end_0 ++ []
theorem dksX0_end_0 : cX0_end.data.toList.drop 0 = dktX0_end_0 := by decide +kernel
theorem dX0_end_0 : decode cX0_end 0 = .ok (.aload_n 3, 1) := dk_45 (dk_at dksX0_end_0 0 rfl rfl)
theorem dX0_end_1 : decode cX0_end 1 = .ok (.iconst 0, 1) := dk_3 (dk_at dksX0_end_0 1 rfl rfl)
theorem dX0_end_2 : decode cX0_end 2 = .ok (.aload_n 0, 1) := dk_42 (dk_at dksX0_end_0 2 rfl rfl)
theorem dX0_end_3 : decode cX0_end 3 = .ok (.iload_n 1, 1) := dk_27 (dk_at dksX0_end_0 3 rfl rfl)
theorem dX0_end_4 : decode cX0_end 4 = .ok (.iload_n 2, 1) := dk_28 (dk_at dksX0_end_0 4 rfl rfl)
theorem dX0_end_5 : decode cX0_end 5 = .ok (.invokevirtual 54, 3) := dk_182 0 54 (dk_at dksX0_end_0 5 rfl rfl)
theorem dX0_end_8 : decode cX0_end 8 = .ok (.i2l, 1) := dk_133 (dk_at dksX0_end_0 8 rfl rfl)
theorem dX0_end_9 : decode cX0_end 9 = .ok (.lastore, 1) := dk_80 (dk_at dksX0_end_0 9 rfl rfl)
theorem dX0_end_10 : decode cX0_end 10 = .ok (.goto 11, 3) := dk_167 0 11 (dk_at dksX0_end_0 10 rfl rfl)
theorem dX0_end_13 : decode cX0_end 13 = .ok (.astore 4, 2) := dk_58 4 (dk_at dksX0_end_0 13 rfl rfl)
theorem dX0_end_15 : decode cX0_end 15 = .ok (.iconst 1, 1) := dk_4 (dk_at dksX0_end_0 15 rfl rfl)
theorem dX0_end_16 : decode cX0_end 16 = .ok (.ireturn, 1) := dk_172 (dk_at dksX0_end_0 16 rfl rfl)
theorem dX0_end_17 : decode cX0_end 17 = .ok (.astore 4, 2) := dk_58 4 (dk_at dksX0_end_0 17 rfl rfl)
theorem dX0_end_19 : decode cX0_end 19 = .ok (.iconst 2, 1) := dk_5 (dk_at dksX0_end_0 19 rfl rfl)
theorem dX0_end_20 : decode cX0_end 20 = .ok (.ireturn, 1) := dk_172 (dk_at dksX0_end_0 20 rfl rfl)
theorem dX0_end_21 : decode cX0_end 21 = .ok (.iconst 0, 1) := dk_3 (dk_at dksX0_end_0 21 rfl rfl)
theorem dX0_end_22 : decode cX0_end 22 = .ok (.ireturn, 1) := dk_172 (dk_at dksX0_end_0 22 rfl rfl)
abbrev cX0_pass : ByteArray := method_15_code
def yX0_pass : MethodName := ⟨RX0, "pass", "(LGrantworks;I[J)I"⟩
def dkwX0_pass_0 : List UInt8 := [44, 3, 42, 27, 182, 0, 58, 133, 80, 167, 0, 9, 78, 4, 172, 78, 5, 172, 3, 172]
abbrev dktX0_pass_0 : List UInt8 := dkwX0_pass_0 ++ []
theorem dksX0_pass_0 : cX0_pass.data.toList.drop 0 = dktX0_pass_0 := by decide +kernel
theorem dX0_pass_0 : decode cX0_pass 0 = .ok (.aload_n 2, 1) := dk_44 (dk_at dksX0_pass_0 0 rfl rfl)
theorem dX0_pass_1 : decode cX0_pass 1 = .ok (.iconst 0, 1) := dk_3 (dk_at dksX0_pass_0 1 rfl rfl)
theorem dX0_pass_2 : decode cX0_pass 2 = .ok (.aload_n 0, 1) := dk_42 (dk_at dksX0_pass_0 2 rfl rfl)
theorem dX0_pass_3 : decode cX0_pass 3 = .ok (.iload_n 1, 1) := dk_27 (dk_at dksX0_pass_0 3 rfl rfl)
theorem dX0_pass_4 : decode cX0_pass 4 = .ok (.invokevirtual 58, 3) := dk_182 0 58 (dk_at dksX0_pass_0 4 rfl rfl)
theorem dX0_pass_7 : decode cX0_pass 7 = .ok (.i2l, 1) := dk_133 (dk_at dksX0_pass_0 7 rfl rfl)
theorem dX0_pass_8 : decode cX0_pass 8 = .ok (.lastore, 1) := dk_80 (dk_at dksX0_pass_0 8 rfl rfl)
theorem dX0_pass_9 : decode cX0_pass 9 = .ok (.goto 9, 3) := dk_167 0 9 (dk_at dksX0_pass_0 9 rfl rfl)
theorem dX0_pass_12 : decode cX0_pass 12 = .ok (.astore_n 3, 1) := dk_78 (dk_at dksX0_pass_0 12 rfl rfl)
theorem dX0_pass_13 : decode cX0_pass 13 = .ok (.iconst 1, 1) := dk_4 (dk_at dksX0_pass_0 13 rfl rfl)
theorem dX0_pass_14 : decode cX0_pass 14 = .ok (.ireturn, 1) := dk_172 (dk_at dksX0_pass_0 14 rfl rfl)
theorem dX0_pass_15 : decode cX0_pass 15 = .ok (.astore_n 3, 1) := dk_78 (dk_at dksX0_pass_0 15 rfl rfl)
theorem dX0_pass_16 : decode cX0_pass 16 = .ok (.iconst 2, 1) := dk_5 (dk_at dksX0_pass_0 16 rfl rfl)
theorem dX0_pass_17 : decode cX0_pass 17 = .ok (.ireturn, 1) := dk_172 (dk_at dksX0_pass_0 17 rfl rfl)
theorem dX0_pass_18 : decode cX0_pass 18 = .ok (.iconst 0, 1) := dk_3 (dk_at dksX0_pass_0 18 rfl rfl)
theorem dX0_pass_19 : decode cX0_pass 19 = .ok (.ireturn, 1) := dk_172 (dk_at dksX0_pass_0 19 rfl rfl)
abbrev cX0_about : ByteArray := method_16_code
def yX0_about : MethodName := ⟨RX0, "about", "(LGrantworks;II[J)I"⟩
def dkwX0_about_0 : List UInt8 := [45, 3, 42, 27, 28, 182, 0, 61, 133, 80, 167, 0, 11, 58, 4, 4, 172, 58, 4, 5, 172, 3, 172]
abbrev dktX0_about_0 : List UInt8 := dkwX0_about_0 ++ []
theorem dksX0_about_0 : cX0_about.data.toList.drop 0 = dktX0_about_0 := by decide +kernel
theorem dX0_about_0 : decode cX0_about 0 = .ok (.aload_n 3, 1) := dk_45 (dk_at dksX0_about_0 0 rfl rfl)
theorem dX0_about_1 : decode cX0_about 1 = .ok (.iconst 0, 1) := dk_3 (dk_at dksX0_about_0 1 rfl rfl)
theorem dX0_about_2 : decode cX0_about 2 = .ok (.aload_n 0, 1) := dk_42 (dk_at dksX0_about_0 2 rfl rfl)
theorem dX0_about_3 : decode cX0_about 3 = .ok (.iload_n 1, 1) := dk_27 (dk_at dksX0_about_0 3 rfl rfl)
theorem dX0_about_4 : decode cX0_about 4 = .ok (.iload_n 2, 1) := dk_28 (dk_at dksX0_about_0 4 rfl rfl)
theorem dX0_about_5 : decode cX0_about 5 = .ok (.invokevirtual 61, 3) := dk_182 0 61 (dk_at dksX0_about_0 5 rfl rfl)
theorem dX0_about_8 : decode cX0_about 8 = .ok (.i2l, 1) := dk_133 (dk_at dksX0_about_0 8 rfl rfl)
theorem dX0_about_9 : decode cX0_about 9 = .ok (.lastore, 1) := dk_80 (dk_at dksX0_about_0 9 rfl rfl)
theorem dX0_about_10 : decode cX0_about 10 = .ok (.goto 11, 3) := dk_167 0 11 (dk_at dksX0_about_0 10 rfl rfl)
theorem dX0_about_13 : decode cX0_about 13 = .ok (.astore 4, 2) := dk_58 4 (dk_at dksX0_about_0 13 rfl rfl)
theorem dX0_about_15 : decode cX0_about 15 = .ok (.iconst 1, 1) := dk_4 (dk_at dksX0_about_0 15 rfl rfl)
theorem dX0_about_16 : decode cX0_about 16 = .ok (.ireturn, 1) := dk_172 (dk_at dksX0_about_0 16 rfl rfl)
theorem dX0_about_17 : decode cX0_about 17 = .ok (.astore 4, 2) := dk_58 4 (dk_at dksX0_about_0 17 rfl rfl)
theorem dX0_about_19 : decode cX0_about 19 = .ok (.iconst 2, 1) := dk_5 (dk_at dksX0_about_0 19 rfl rfl)
theorem dX0_about_20 : decode cX0_about 20 = .ok (.ireturn, 1) := dk_172 (dk_at dksX0_about_0 20 rfl rfl)
theorem dX0_about_21 : decode cX0_about 21 = .ok (.iconst 0, 1) := dk_3 (dk_at dksX0_about_0 21 rfl rfl)
theorem dX0_about_22 : decode cX0_about 22 = .ok (.ireturn, 1) := dk_172 (dk_at dksX0_about_0 22 rfl rfl)
abbrev cX0_account : ByteArray := method_17_code
def yX0_account : MethodName := ⟨RX0, "account", "(LGrantworks;III[J)I"⟩
def dkwX0_account_0 : List UInt8 := [25, 4, 3, 42, 27, 28, 29, 182, 0, 64, 133, 80, 167, 0, 7, 58, 5, 4, 172, 3, 172]
abbrev dktX0_account_0 : List UInt8 := dkwX0_account_0 ++ []
theorem dksX0_account_0 : cX0_account.data.toList.drop 0 = dktX0_account_0 := by decide +kernel
theorem dX0_account_0 : decode cX0_account 0 = .ok (.aload 4, 2) := dk_25 4 (dk_at dksX0_account_0 0 rfl rfl)
theorem dX0_account_2 : decode cX0_account 2 = .ok (.iconst 0, 1) := dk_3 (dk_at dksX0_account_0 2 rfl rfl)
theorem dX0_account_3 : decode cX0_account 3 = .ok (.aload_n 0, 1) := dk_42 (dk_at dksX0_account_0 3 rfl rfl)
theorem dX0_account_4 : decode cX0_account 4 = .ok (.iload_n 1, 1) := dk_27 (dk_at dksX0_account_0 4 rfl rfl)
theorem dX0_account_5 : decode cX0_account 5 = .ok (.iload_n 2, 1) := dk_28 (dk_at dksX0_account_0 5 rfl rfl)
theorem dX0_account_6 : decode cX0_account 6 = .ok (.iload_n 3, 1) := dk_29 (dk_at dksX0_account_0 6 rfl rfl)
theorem dX0_account_7 : decode cX0_account 7 = .ok (.invokevirtual 64, 3) := dk_182 0 64 (dk_at dksX0_account_0 7 rfl rfl)
theorem dX0_account_10 : decode cX0_account 10 = .ok (.i2l, 1) := dk_133 (dk_at dksX0_account_0 10 rfl rfl)
theorem dX0_account_11 : decode cX0_account 11 = .ok (.lastore, 1) := dk_80 (dk_at dksX0_account_0 11 rfl rfl)
theorem dX0_account_12 : decode cX0_account 12 = .ok (.goto 7, 3) := dk_167 0 7 (dk_at dksX0_account_0 12 rfl rfl)
theorem dX0_account_15 : decode cX0_account 15 = .ok (.astore 5, 2) := dk_58 5 (dk_at dksX0_account_0 15 rfl rfl)
theorem dX0_account_17 : decode cX0_account 17 = .ok (.iconst 1, 1) := dk_4 (dk_at dksX0_account_0 17 rfl rfl)
theorem dX0_account_18 : decode cX0_account 18 = .ok (.ireturn, 1) := dk_172 (dk_at dksX0_account_0 18 rfl rfl)
theorem dX0_account_19 : decode cX0_account 19 = .ok (.iconst 0, 1) := dk_3 (dk_at dksX0_account_0 19 rfl rfl)
theorem dX0_account_20 : decode cX0_account 20 = .ok (.ireturn, 1) := dk_172 (dk_at dksX0_account_0 20 rfl rfl)
abbrev cX0_waiting : ByteArray := method_18_code
def yX0_waiting : MethodName := ⟨RX0, "waiting", "(LGrantworks;II[J)I"⟩
def dkwX0_waiting_0 : List UInt8 := [45, 3, 42, 27, 28, 182, 0, 67, 133, 80, 167, 0, 11, 58, 4, 4, 172, 58, 4, 5, 172, 3, 172]
abbrev dktX0_waiting_0 : List UInt8 := dkwX0_waiting_0 ++ []
theorem dksX0_waiting_0 : cX0_waiting.data.toList.drop 0 = dktX0_waiting_0 := by decide +kernel
theorem dX0_waiting_0 : decode cX0_waiting 0 = .ok (.aload_n 3, 1) := dk_45 (dk_at dksX0_waiting_0 0 rfl rfl)
theorem dX0_waiting_1 : decode cX0_waiting 1 = .ok (.iconst 0, 1) := dk_3 (dk_at dksX0_waiting_0 1 rfl rfl)
theorem dX0_waiting_2 : decode cX0_waiting 2 = .ok (.aload_n 0, 1) := dk_42 (dk_at dksX0_waiting_0 2 rfl rfl)
theorem dX0_waiting_3 : decode cX0_waiting 3 = .ok (.iload_n 1, 1) := dk_27 (dk_at dksX0_waiting_0 3 rfl rfl)
theorem dX0_waiting_4 : decode cX0_waiting 4 = .ok (.iload_n 2, 1) := dk_28 (dk_at dksX0_waiting_0 4 rfl rfl)
theorem dX0_waiting_5 : decode cX0_waiting 5 = .ok (.invokevirtual 67, 3) := dk_182 0 67 (dk_at dksX0_waiting_0 5 rfl rfl)
theorem dX0_waiting_8 : decode cX0_waiting 8 = .ok (.i2l, 1) := dk_133 (dk_at dksX0_waiting_0 8 rfl rfl)
theorem dX0_waiting_9 : decode cX0_waiting 9 = .ok (.lastore, 1) := dk_80 (dk_at dksX0_waiting_0 9 rfl rfl)
theorem dX0_waiting_10 : decode cX0_waiting 10 = .ok (.goto 11, 3) := dk_167 0 11 (dk_at dksX0_waiting_0 10 rfl rfl)
theorem dX0_waiting_13 : decode cX0_waiting 13 = .ok (.astore 4, 2) := dk_58 4 (dk_at dksX0_waiting_0 13 rfl rfl)
theorem dX0_waiting_15 : decode cX0_waiting 15 = .ok (.iconst 1, 1) := dk_4 (dk_at dksX0_waiting_0 15 rfl rfl)
theorem dX0_waiting_16 : decode cX0_waiting 16 = .ok (.ireturn, 1) := dk_172 (dk_at dksX0_waiting_0 16 rfl rfl)
theorem dX0_waiting_17 : decode cX0_waiting 17 = .ok (.astore 4, 2) := dk_58 4 (dk_at dksX0_waiting_0 17 rfl rfl)
theorem dX0_waiting_19 : decode cX0_waiting 19 = .ok (.iconst 2, 1) := dk_5 (dk_at dksX0_waiting_0 19 rfl rfl)
theorem dX0_waiting_20 : decode cX0_waiting 20 = .ok (.ireturn, 1) := dk_172 (dk_at dksX0_waiting_0 20 rfl rfl)
theorem dX0_waiting_21 : decode cX0_waiting 21 = .ok (.iconst 0, 1) := dk_3 (dk_at dksX0_waiting_0 21 rfl rfl)
theorem dX0_waiting_22 : decode cX0_waiting 22 = .ok (.ireturn, 1) := dk_172 (dk_at dksX0_waiting_0 22 rfl rfl)
abbrev cX0_ledger : ByteArray := method_19_code
def yX0_ledger : MethodName := ⟨RX0, "ledger", "(LGrantworks;II[J)I"⟩
def dkwX0_ledger_0 : List UInt8 := [45, 3, 42, 27, 28, 182, 0, 72, 133, 80, 167, 0, 11, 58, 4, 4, 172, 58, 4, 5, 172, 3, 172]
abbrev dktX0_ledger_0 : List UInt8 := dkwX0_ledger_0 ++ []
theorem dksX0_ledger_0 : cX0_ledger.data.toList.drop 0 = dktX0_ledger_0 := by decide +kernel
theorem dX0_ledger_0 : decode cX0_ledger 0 = .ok (.aload_n 3, 1) := dk_45 (dk_at dksX0_ledger_0 0 rfl rfl)
theorem dX0_ledger_1 : decode cX0_ledger 1 = .ok (.iconst 0, 1) := dk_3 (dk_at dksX0_ledger_0 1 rfl rfl)
theorem dX0_ledger_2 : decode cX0_ledger 2 = .ok (.aload_n 0, 1) := dk_42 (dk_at dksX0_ledger_0 2 rfl rfl)
theorem dX0_ledger_3 : decode cX0_ledger 3 = .ok (.iload_n 1, 1) := dk_27 (dk_at dksX0_ledger_0 3 rfl rfl)
theorem dX0_ledger_4 : decode cX0_ledger 4 = .ok (.iload_n 2, 1) := dk_28 (dk_at dksX0_ledger_0 4 rfl rfl)
theorem dX0_ledger_5 : decode cX0_ledger 5 = .ok (.invokevirtual 72, 3) := dk_182 0 72 (dk_at dksX0_ledger_0 5 rfl rfl)
theorem dX0_ledger_8 : decode cX0_ledger 8 = .ok (.i2l, 1) := dk_133 (dk_at dksX0_ledger_0 8 rfl rfl)
theorem dX0_ledger_9 : decode cX0_ledger 9 = .ok (.lastore, 1) := dk_80 (dk_at dksX0_ledger_0 9 rfl rfl)
theorem dX0_ledger_10 : decode cX0_ledger 10 = .ok (.goto 11, 3) := dk_167 0 11 (dk_at dksX0_ledger_0 10 rfl rfl)
theorem dX0_ledger_13 : decode cX0_ledger 13 = .ok (.astore 4, 2) := dk_58 4 (dk_at dksX0_ledger_0 13 rfl rfl)
theorem dX0_ledger_15 : decode cX0_ledger 15 = .ok (.iconst 1, 1) := dk_4 (dk_at dksX0_ledger_0 15 rfl rfl)
theorem dX0_ledger_16 : decode cX0_ledger 16 = .ok (.ireturn, 1) := dk_172 (dk_at dksX0_ledger_0 16 rfl rfl)
theorem dX0_ledger_17 : decode cX0_ledger 17 = .ok (.astore 4, 2) := dk_58 4 (dk_at dksX0_ledger_0 17 rfl rfl)
theorem dX0_ledger_19 : decode cX0_ledger 19 = .ok (.iconst 2, 1) := dk_5 (dk_at dksX0_ledger_0 19 rfl rfl)
theorem dX0_ledger_20 : decode cX0_ledger 20 = .ok (.ireturn, 1) := dk_172 (dk_at dksX0_ledger_0 20 rfl rfl)
theorem dX0_ledger_21 : decode cX0_ledger 21 = .ok (.iconst 0, 1) := dk_3 (dk_at dksX0_ledger_0 21 rfl rfl)
theorem dX0_ledger_22 : decode cX0_ledger 22 = .ok (.ireturn, 1) := dk_172 (dk_at dksX0_ledger_0 22 rfl rfl)
abbrev cX0_count : ByteArray := method_20_code
def yX0_count : MethodName := ⟨RX0, "count", "(LGrantworks;I[J)I"⟩
def dkwX0_count_0 : List UInt8 := [44, 3, 42, 27, 182, 0, 75, 133, 80, 167, 0, 6, 78, 4, 172, 3, 172]
abbrev dktX0_count_0 : List UInt8 := dkwX0_count_0 ++ []
theorem dksX0_count_0 : cX0_count.data.toList.drop 0 = dktX0_count_0 := by decide +kernel
theorem dX0_count_0 : decode cX0_count 0 = .ok (.aload_n 2, 1) := dk_44 (dk_at dksX0_count_0 0 rfl rfl)
theorem dX0_count_1 : decode cX0_count 1 = .ok (.iconst 0, 1) := dk_3 (dk_at dksX0_count_0 1 rfl rfl)
theorem dX0_count_2 : decode cX0_count 2 = .ok (.aload_n 0, 1) := dk_42 (dk_at dksX0_count_0 2 rfl rfl)
theorem dX0_count_3 : decode cX0_count 3 = .ok (.iload_n 1, 1) := dk_27 (dk_at dksX0_count_0 3 rfl rfl)
theorem dX0_count_4 : decode cX0_count 4 = .ok (.invokevirtual 75, 3) := dk_182 0 75 (dk_at dksX0_count_0 4 rfl rfl)
theorem dX0_count_7 : decode cX0_count 7 = .ok (.i2l, 1) := dk_133 (dk_at dksX0_count_0 7 rfl rfl)
theorem dX0_count_8 : decode cX0_count 8 = .ok (.lastore, 1) := dk_80 (dk_at dksX0_count_0 8 rfl rfl)
theorem dX0_count_9 : decode cX0_count 9 = .ok (.goto 6, 3) := dk_167 0 6 (dk_at dksX0_count_0 9 rfl rfl)
theorem dX0_count_12 : decode cX0_count 12 = .ok (.astore_n 3, 1) := dk_78 (dk_at dksX0_count_0 12 rfl rfl)
theorem dX0_count_13 : decode cX0_count 13 = .ok (.iconst 1, 1) := dk_4 (dk_at dksX0_count_0 13 rfl rfl)
theorem dX0_count_14 : decode cX0_count 14 = .ok (.ireturn, 1) := dk_172 (dk_at dksX0_count_0 14 rfl rfl)
theorem dX0_count_15 : decode cX0_count 15 = .ok (.iconst 0, 1) := dk_3 (dk_at dksX0_count_0 15 rfl rfl)
theorem dX0_count_16 : decode cX0_count 16 = .ok (.ireturn, 1) := dk_172 (dk_at dksX0_count_0 16 rfl rfl)
theorem q41 : (Jvm.Cond.initialized "GrantworksLaw") ∈ lw_all := lw_g (lw_at lw_m1 0 rfl) rfl
theorem q64 : (Jvm.Cond.classLink "GrantworksLaw" (8 : Nat) "Grantworks") ∈ lw_all := lw_g (lw_at lw_m1 23 rfl) rfl
theorem q66 : (Jvm.Cond.methodLink "GrantworksLaw" (78 : Nat) ({ cls := "Grantworks", name := "<init>", desc := "()V" } : Jvm.MethodName)) ∈ lw_all := lw_g (lw_at lw_m1 25 rfl) rfl
theorem q175 : (Jvm.Cond.methodLink "GrantworksLaw" (149 : Nat) ({ cls := "Grantworks", name := "ledgerErrors", desc := "()I" } : Jvm.MethodName)) ∈ lw_all := lw_g (lw_at lw_m1 134 rfl) rfl
theorem q262 : (Jvm.Cond.methodLink "GrantworksLaw" (153 : Nat) ({ cls := "Grantworks", name := "paidShare", desc := "()D" } : Jvm.MethodName)) ∈ lw_all := lw_g (lw_at lw_m1 221 rfl) rfl
theorem q266 : (Jvm.Cond.methodLink "GrantworksLaw" (82 : Nat) ({ cls := "GrantworksLaw", name := "tell", desc := "(LGrantworks;III[J)I" } : Jvm.MethodName)) ∈ lw_all := lw_g (lw_at lw_m1 225 rfl) rfl
theorem q267 : (Jvm.Cond.static ({ cls := "GrantworksLaw", name := "tell", desc := "(LGrantworks;III[J)I" } : Jvm.MethodName)) ∈ lw_all := lw_g (lw_at lw_m1 226 rfl) rfl
theorem q268 : (Jvm.Cond.codeWith ({ cls := "GrantworksLaw", name := "tell", desc := "(LGrantworks;III[J)I" } : Jvm.MethodName) method_3_code (6 : Nat) (Option.some Jvm.ClassFile.FieldType.int) [((0 : Nat), (12 : Nat), (15 : Nat), (13 : Nat)), ((0 : Nat), (12 : Nat), (19 : Nat), (15 : Nat))]) ∈ lw_all := lw_g (lw_at lw_m1 227 rfl) rfl
theorem q269 : (Jvm.Cond.classLink "GrantworksLaw" (13 : Nat) "java/lang/IllegalArgumentException") ∈ lw_all := lw_g (lw_at lw_m1 228 rfl) rfl
theorem q270 : (Jvm.Cond.classLink "GrantworksLaw" (15 : Nat) "java/lang/IllegalStateException") ∈ lw_all := lw_g (lw_at lw_m1 229 rfl) rfl
theorem q271 : (Jvm.Cond.methodLink "GrantworksLaw" (7 : Nat) ({ cls := "Grantworks", name := "tell", desc := "(III)I" } : Jvm.MethodName)) ∈ lw_all := lw_g (lw_at lw_m1 230 rfl) rfl
theorem q472 : (Jvm.Cond.methodLink "GrantworksLaw" (92 : Nat) ({ cls := "GrantworksLaw", name := "call", desc := "(LGrantworks;IIII[J)I" } : Jvm.MethodName)) ∈ lw_all := lw_g (lw_at lw_m2 191 rfl) rfl
theorem q473 : (Jvm.Cond.static ({ cls := "GrantworksLaw", name := "call", desc := "(LGrantworks;IIII[J)I" } : Jvm.MethodName)) ∈ lw_all := lw_g (lw_at lw_m2 192 rfl) rfl
theorem q474 : (Jvm.Cond.codeWith ({ cls := "GrantworksLaw", name := "call", desc := "(LGrantworks;IIII[J)I" } : Jvm.MethodName) method_4_code (7 : Nat) (Option.some Jvm.ClassFile.FieldType.int) [((0 : Nat), (14 : Nat), (17 : Nat), (13 : Nat)), ((0 : Nat), (14 : Nat), (21 : Nat), (15 : Nat))]) ∈ lw_all := lw_g (lw_at lw_m2 193 rfl) rfl
theorem q475 : (Jvm.Cond.methodLink "GrantworksLaw" (17 : Nat) ({ cls := "Grantworks", name := "call", desc := "(IIII)I" } : Jvm.MethodName)) ∈ lw_all := lw_g (lw_at lw_m2 194 rfl) rfl
theorem q481 : (Jvm.Cond.methodLink "GrantworksLaw" (96 : Nat) ({ cls := "GrantworksLaw", name := "apply", desc := "(LGrantworks;IIIIII[J)I" } : Jvm.MethodName)) ∈ lw_all := lw_g (lw_at lw_m2 200 rfl) rfl
theorem q482 : (Jvm.Cond.static ({ cls := "GrantworksLaw", name := "apply", desc := "(LGrantworks;IIIIII[J)I" } : Jvm.MethodName)) ∈ lw_all := lw_g (lw_at lw_m2 201 rfl) rfl
theorem q483 : (Jvm.Cond.codeWith ({ cls := "GrantworksLaw", name := "apply", desc := "(LGrantworks;IIIIII[J)I" } : Jvm.MethodName) method_5_code (9 : Nat) (Option.some Jvm.ClassFile.FieldType.int) [((0 : Nat), (18 : Nat), (21 : Nat), (25 : Nat)), ((0 : Nat), (18 : Nat), (25 : Nat), (13 : Nat)), ((0 : Nat), (18 : Nat), (29 : Nat), (15 : Nat))]) ∈ lw_all := lw_g (lw_at lw_m2 202 rfl) rfl
theorem q484 : (Jvm.Cond.classLink "GrantworksLaw" (25 : Nat) "java/lang/IndexOutOfBoundsException") ∈ lw_all := lw_g (lw_at lw_m2 203 rfl) rfl
theorem q517 : (Jvm.Cond.methodLink "GrantworksLaw" (21 : Nat) ({ cls := "Grantworks", name := "apply", desc := "(IIIIII)I" } : Jvm.MethodName)) ∈ lw_all := lw_g (lw_at lw_m2 236 rfl) rfl
theorem q607 : (Jvm.Cond.methodLink "GrantworksLaw" (100 : Nat) ({ cls := "GrantworksLaw", name := "revise", desc := "(LGrantworks;IIII[J)I" } : Jvm.MethodName)) ∈ lw_all := lw_g (lw_at lw_m3 86 rfl) rfl
theorem q608 : (Jvm.Cond.static ({ cls := "GrantworksLaw", name := "revise", desc := "(LGrantworks;IIII[J)I" } : Jvm.MethodName)) ∈ lw_all := lw_g (lw_at lw_m3 87 rfl) rfl
theorem q609 : (Jvm.Cond.codeWith ({ cls := "GrantworksLaw", name := "revise", desc := "(LGrantworks;IIII[J)I" } : Jvm.MethodName) method_6_code (7 : Nat) (Option.some Jvm.ClassFile.FieldType.int) [((0 : Nat), (14 : Nat), (17 : Nat), (25 : Nat)), ((0 : Nat), (14 : Nat), (21 : Nat), (13 : Nat)), ((0 : Nat), (14 : Nat), (25 : Nat), (15 : Nat))]) ∈ lw_all := lw_g (lw_at lw_m3 88 rfl) rfl
theorem q610 : (Jvm.Cond.methodLink "GrantworksLaw" (27 : Nat) ({ cls := "Grantworks", name := "revise", desc := "(IIII)I" } : Jvm.MethodName)) ∈ lw_all := lw_g (lw_at lw_m3 89 rfl) rfl
theorem q620 : (Jvm.Cond.methodLink "GrantworksLaw" (103 : Nat) ({ cls := "GrantworksLaw", name := "reviewer", desc := "(LGrantworks;II[J)I" } : Jvm.MethodName)) ∈ lw_all := lw_g (lw_at lw_m3 99 rfl) rfl
theorem q621 : (Jvm.Cond.static ({ cls := "GrantworksLaw", name := "reviewer", desc := "(LGrantworks;II[J)I" } : Jvm.MethodName)) ∈ lw_all := lw_g (lw_at lw_m3 100 rfl) rfl
theorem q622 : (Jvm.Cond.codeWith ({ cls := "GrantworksLaw", name := "reviewer", desc := "(LGrantworks;II[J)I" } : Jvm.MethodName) method_7_code (5 : Nat) (Option.some Jvm.ClassFile.FieldType.int) [((0 : Nat), (10 : Nat), (13 : Nat), (13 : Nat)), ((0 : Nat), (10 : Nat), (17 : Nat), (15 : Nat))]) ∈ lw_all := lw_g (lw_at lw_m3 101 rfl) rfl
theorem q623 : (Jvm.Cond.methodLink "GrantworksLaw" (30 : Nat) ({ cls := "Grantworks", name := "reviewer", desc := "(II)I" } : Jvm.MethodName)) ∈ lw_all := lw_g (lw_at lw_m3 102 rfl) rfl
theorem q627 : (Jvm.Cond.methodLink "GrantworksLaw" (107 : Nat) ({ cls := "GrantworksLaw", name := "conflict", desc := "(LGrantworks;IIZ[J)I" } : Jvm.MethodName)) ∈ lw_all := lw_g (lw_at lw_m3 106 rfl) rfl
theorem q628 : (Jvm.Cond.static ({ cls := "GrantworksLaw", name := "conflict", desc := "(LGrantworks;IIZ[J)I" } : Jvm.MethodName)) ∈ lw_all := lw_g (lw_at lw_m3 107 rfl) rfl
theorem q629 : (Jvm.Cond.codeWith ({ cls := "GrantworksLaw", name := "conflict", desc := "(LGrantworks;IIZ[J)I" } : Jvm.MethodName) method_8_code (6 : Nat) (Option.some Jvm.ClassFile.FieldType.int) [((0 : Nat), (19 : Nat), (22 : Nat), (25 : Nat)), ((0 : Nat), (19 : Nat), (26 : Nat), (13 : Nat))]) ∈ lw_all := lw_g (lw_at lw_m3 108 rfl) rfl
theorem q630 : (Jvm.Cond.methodLink "GrantworksLaw" (34 : Nat) ({ cls := "Grantworks", name := "conflict", desc := "(IIZ)Z" } : Jvm.MethodName)) ∈ lw_all := lw_g (lw_at lw_m3 109 rfl) rfl
theorem q638 : (Jvm.Cond.methodLink "GrantworksLaw" (111 : Nat) ({ cls := "GrantworksLaw", name := "seat", desc := "(LGrantworks;IIZ[J)I" } : Jvm.MethodName)) ∈ lw_all := lw_g (lw_at lw_m3 117 rfl) rfl
theorem q639 : (Jvm.Cond.static ({ cls := "GrantworksLaw", name := "seat", desc := "(LGrantworks;IIZ[J)I" } : Jvm.MethodName)) ∈ lw_all := lw_g (lw_at lw_m3 118 rfl) rfl
theorem q640 : (Jvm.Cond.codeWith ({ cls := "GrantworksLaw", name := "seat", desc := "(LGrantworks;IIZ[J)I" } : Jvm.MethodName) method_9_code (6 : Nat) (Option.some Jvm.ClassFile.FieldType.int) [((0 : Nat), (19 : Nat), (22 : Nat), (25 : Nat))]) ∈ lw_all := lw_g (lw_at lw_m3 119 rfl) rfl
theorem q641 : (Jvm.Cond.methodLink "GrantworksLaw" (38 : Nat) ({ cls := "Grantworks", name := "seat", desc := "(IIZ)Z" } : Jvm.MethodName)) ∈ lw_all := lw_g (lw_at lw_m3 120 rfl) rfl
theorem q645 : (Jvm.Cond.methodLink "GrantworksLaw" (114 : Nat) ({ cls := "GrantworksLaw", name := "review", desc := "(LGrantworks;III[J)I" } : Jvm.MethodName)) ∈ lw_all := lw_g (lw_at lw_m3 124 rfl) rfl
theorem q646 : (Jvm.Cond.static ({ cls := "GrantworksLaw", name := "review", desc := "(LGrantworks;III[J)I" } : Jvm.MethodName)) ∈ lw_all := lw_g (lw_at lw_m3 125 rfl) rfl
theorem q647 : (Jvm.Cond.codeWith ({ cls := "GrantworksLaw", name := "review", desc := "(LGrantworks;III[J)I" } : Jvm.MethodName) method_10_code (6 : Nat) (Option.some Jvm.ClassFile.FieldType.int) [((0 : Nat), (12 : Nat), (15 : Nat), (25 : Nat)), ((0 : Nat), (12 : Nat), (19 : Nat), (13 : Nat)), ((0 : Nat), (12 : Nat), (23 : Nat), (15 : Nat))]) ∈ lw_all := lw_g (lw_at lw_m3 126 rfl) rfl
theorem q648 : (Jvm.Cond.methodLink "GrantworksLaw" (41 : Nat) ({ cls := "Grantworks", name := "review", desc := "(III)I" } : Jvm.MethodName)) ∈ lw_all := lw_g (lw_at lw_m3 127 rfl) rfl
theorem q657 : (Jvm.Cond.methodLink "GrantworksLaw" (117 : Nat) ({ cls := "GrantworksLaw", name := "alike", desc := "(LGrantworks;II[J)I" } : Jvm.MethodName)) ∈ lw_all := lw_g (lw_at lw_m3 136 rfl) rfl
theorem q658 : (Jvm.Cond.static ({ cls := "GrantworksLaw", name := "alike", desc := "(LGrantworks;II[J)I" } : Jvm.MethodName)) ∈ lw_all := lw_g (lw_at lw_m3 137 rfl) rfl
theorem q659 : (Jvm.Cond.codeWith ({ cls := "GrantworksLaw", name := "alike", desc := "(LGrantworks;II[J)I" } : Jvm.MethodName) method_11_code (5 : Nat) (Option.some Jvm.ClassFile.FieldType.int) [((0 : Nat), (10 : Nat), (13 : Nat), (25 : Nat))]) ∈ lw_all := lw_g (lw_at lw_m3 138 rfl) rfl
theorem q660 : (Jvm.Cond.methodLink "GrantworksLaw" (44 : Nat) ({ cls := "Grantworks", name := "alike", desc := "(II)I" } : Jvm.MethodName)) ∈ lw_all := lw_g (lw_at lw_m3 139 rfl) rfl
theorem q675 : (Jvm.Cond.methodLink "GrantworksLaw" (120 : Nat) ({ cls := "GrantworksLaw", name := "award", desc := "(LGrantworks;I[J)I" } : Jvm.MethodName)) ∈ lw_all := lw_g (lw_at lw_m3 154 rfl) rfl
theorem q676 : (Jvm.Cond.static ({ cls := "GrantworksLaw", name := "award", desc := "(LGrantworks;I[J)I" } : Jvm.MethodName)) ∈ lw_all := lw_g (lw_at lw_m3 155 rfl) rfl
theorem q677 : (Jvm.Cond.codeWith ({ cls := "GrantworksLaw", name := "award", desc := "(LGrantworks;I[J)I" } : Jvm.MethodName) method_12_code (4 : Nat) (Option.some Jvm.ClassFile.FieldType.int) [((0 : Nat), (9 : Nat), (12 : Nat), (25 : Nat)), ((0 : Nat), (9 : Nat), (15 : Nat), (15 : Nat))]) ∈ lw_all := lw_g (lw_at lw_m3 156 rfl) rfl
theorem q678 : (Jvm.Cond.methodLink "GrantworksLaw" (47 : Nat) ({ cls := "Grantworks", name := "award", desc := "(I)I" } : Jvm.MethodName)) ∈ lw_all := lw_g (lw_at lw_m3 157 rfl) rfl
theorem q698 : (Jvm.Cond.methodLink "GrantworksLaw" (124 : Nat) ({ cls := "GrantworksLaw", name := "report", desc := "(LGrantworks;II[J)I" } : Jvm.MethodName)) ∈ lw_all := lw_g (lw_at lw_m3 177 rfl) rfl
theorem q699 : (Jvm.Cond.static ({ cls := "GrantworksLaw", name := "report", desc := "(LGrantworks;II[J)I" } : Jvm.MethodName)) ∈ lw_all := lw_g (lw_at lw_m3 178 rfl) rfl
theorem q700 : (Jvm.Cond.codeWith ({ cls := "GrantworksLaw", name := "report", desc := "(LGrantworks;II[J)I" } : Jvm.MethodName) method_13_code (5 : Nat) (Option.some Jvm.ClassFile.FieldType.int) [((0 : Nat), (10 : Nat), (13 : Nat), (25 : Nat)), ((0 : Nat), (10 : Nat), (17 : Nat), (15 : Nat)), ((0 : Nat), (10 : Nat), (21 : Nat), (13 : Nat))]) ∈ lw_all := lw_g (lw_at lw_m3 179 rfl) rfl
theorem q701 : (Jvm.Cond.methodLink "GrantworksLaw" (51 : Nat) ({ cls := "Grantworks", name := "report", desc := "(II)I" } : Jvm.MethodName)) ∈ lw_all := lw_g (lw_at lw_m3 180 rfl) rfl
theorem q751 : (Jvm.Cond.methodLink "GrantworksLaw" (127 : Nat) ({ cls := "GrantworksLaw", name := "end", desc := "(LGrantworks;IZ[J)I" } : Jvm.MethodName)) ∈ lw_all := lw_g (lw_at lw_m3 230 rfl) rfl
theorem q752 : (Jvm.Cond.static ({ cls := "GrantworksLaw", name := "end", desc := "(LGrantworks;IZ[J)I" } : Jvm.MethodName)) ∈ lw_all := lw_g (lw_at lw_m3 231 rfl) rfl
theorem q753 : (Jvm.Cond.codeWith ({ cls := "GrantworksLaw", name := "end", desc := "(LGrantworks;IZ[J)I" } : Jvm.MethodName) method_14_code (5 : Nat) (Option.some Jvm.ClassFile.FieldType.int) [((0 : Nat), (10 : Nat), (13 : Nat), (25 : Nat)), ((0 : Nat), (10 : Nat), (17 : Nat), (15 : Nat))]) ∈ lw_all := lw_g (lw_at lw_m3 232 rfl) rfl
theorem q754 : (Jvm.Cond.methodLink "GrantworksLaw" (54 : Nat) ({ cls := "Grantworks", name := "end", desc := "(IZ)I" } : Jvm.MethodName)) ∈ lw_all := lw_g (lw_at lw_m3 233 rfl) rfl
theorem q779 : (Jvm.Cond.methodLink "GrantworksLaw" (131 : Nat) ({ cls := "GrantworksLaw", name := "pass", desc := "(LGrantworks;I[J)I" } : Jvm.MethodName)) ∈ lw_all := lw_g (lw_at lw_m4 18 rfl) rfl
theorem q780 : (Jvm.Cond.static ({ cls := "GrantworksLaw", name := "pass", desc := "(LGrantworks;I[J)I" } : Jvm.MethodName)) ∈ lw_all := lw_g (lw_at lw_m4 19 rfl) rfl
theorem q781 : (Jvm.Cond.codeWith ({ cls := "GrantworksLaw", name := "pass", desc := "(LGrantworks;I[J)I" } : Jvm.MethodName) method_15_code (4 : Nat) (Option.some Jvm.ClassFile.FieldType.int) [((0 : Nat), (9 : Nat), (12 : Nat), (13 : Nat)), ((0 : Nat), (9 : Nat), (15 : Nat), (15 : Nat))]) ∈ lw_all := lw_g (lw_at lw_m4 20 rfl) rfl
theorem q782 : (Jvm.Cond.methodLink "GrantworksLaw" (58 : Nat) ({ cls := "Grantworks", name := "pass", desc := "(I)I" } : Jvm.MethodName)) ∈ lw_all := lw_g (lw_at lw_m4 21 rfl) rfl
theorem q787 : (Jvm.Cond.methodLink "GrantworksLaw" (134 : Nat) ({ cls := "GrantworksLaw", name := "about", desc := "(LGrantworks;II[J)I" } : Jvm.MethodName)) ∈ lw_all := lw_g (lw_at lw_m4 26 rfl) rfl
theorem q788 : (Jvm.Cond.static ({ cls := "GrantworksLaw", name := "about", desc := "(LGrantworks;II[J)I" } : Jvm.MethodName)) ∈ lw_all := lw_g (lw_at lw_m4 27 rfl) rfl
theorem q789 : (Jvm.Cond.codeWith ({ cls := "GrantworksLaw", name := "about", desc := "(LGrantworks;II[J)I" } : Jvm.MethodName) method_16_code (5 : Nat) (Option.some Jvm.ClassFile.FieldType.int) [((0 : Nat), (10 : Nat), (13 : Nat), (25 : Nat)), ((0 : Nat), (10 : Nat), (17 : Nat), (13 : Nat))]) ∈ lw_all := lw_g (lw_at lw_m4 28 rfl) rfl
theorem q790 : (Jvm.Cond.methodLink "GrantworksLaw" (61 : Nat) ({ cls := "Grantworks", name := "about", desc := "(II)I" } : Jvm.MethodName)) ∈ lw_all := lw_g (lw_at lw_m4 29 rfl) rfl
theorem q806 : (Jvm.Cond.methodLink "GrantworksLaw" (137 : Nat) ({ cls := "GrantworksLaw", name := "account", desc := "(LGrantworks;III[J)I" } : Jvm.MethodName)) ∈ lw_all := lw_g (lw_at lw_m4 45 rfl) rfl
theorem q807 : (Jvm.Cond.static ({ cls := "GrantworksLaw", name := "account", desc := "(LGrantworks;III[J)I" } : Jvm.MethodName)) ∈ lw_all := lw_g (lw_at lw_m4 46 rfl) rfl
theorem q808 : (Jvm.Cond.codeWith ({ cls := "GrantworksLaw", name := "account", desc := "(LGrantworks;III[J)I" } : Jvm.MethodName) method_17_code (6 : Nat) (Option.some Jvm.ClassFile.FieldType.int) [((0 : Nat), (12 : Nat), (15 : Nat), (13 : Nat))]) ∈ lw_all := lw_g (lw_at lw_m4 47 rfl) rfl
theorem q809 : (Jvm.Cond.methodLink "GrantworksLaw" (64 : Nat) ({ cls := "Grantworks", name := "account", desc := "(III)I" } : Jvm.MethodName)) ∈ lw_all := lw_g (lw_at lw_m4 48 rfl) rfl
theorem q814 : (Jvm.Cond.methodLink "GrantworksLaw" (140 : Nat) ({ cls := "GrantworksLaw", name := "waiting", desc := "(LGrantworks;II[J)I" } : Jvm.MethodName)) ∈ lw_all := lw_g (lw_at lw_m4 53 rfl) rfl
theorem q815 : (Jvm.Cond.static ({ cls := "GrantworksLaw", name := "waiting", desc := "(LGrantworks;II[J)I" } : Jvm.MethodName)) ∈ lw_all := lw_g (lw_at lw_m4 54 rfl) rfl
theorem q816 : (Jvm.Cond.codeWith ({ cls := "GrantworksLaw", name := "waiting", desc := "(LGrantworks;II[J)I" } : Jvm.MethodName) method_18_code (5 : Nat) (Option.some Jvm.ClassFile.FieldType.int) [((0 : Nat), (10 : Nat), (13 : Nat), (25 : Nat)), ((0 : Nat), (10 : Nat), (17 : Nat), (70 : Nat))]) ∈ lw_all := lw_g (lw_at lw_m4 55 rfl) rfl
theorem q817 : (Jvm.Cond.classLink "GrantworksLaw" (70 : Nat) "java/util/NoSuchElementException") ∈ lw_all := lw_g (lw_at lw_m4 56 rfl) rfl
theorem q818 : (Jvm.Cond.methodLink "GrantworksLaw" (67 : Nat) ({ cls := "Grantworks", name := "waiting", desc := "(II)I" } : Jvm.MethodName)) ∈ lw_all := lw_g (lw_at lw_m4 57 rfl) rfl
theorem q841 : (Jvm.Cond.methodLink "GrantworksLaw" (143 : Nat) ({ cls := "GrantworksLaw", name := "ledger", desc := "(LGrantworks;II[J)I" } : Jvm.MethodName)) ∈ lw_all := lw_g (lw_at lw_m4 80 rfl) rfl
theorem q842 : (Jvm.Cond.static ({ cls := "GrantworksLaw", name := "ledger", desc := "(LGrantworks;II[J)I" } : Jvm.MethodName)) ∈ lw_all := lw_g (lw_at lw_m4 81 rfl) rfl
theorem q843 : (Jvm.Cond.codeWith ({ cls := "GrantworksLaw", name := "ledger", desc := "(LGrantworks;II[J)I" } : Jvm.MethodName) method_19_code (5 : Nat) (Option.some Jvm.ClassFile.FieldType.int) [((0 : Nat), (10 : Nat), (13 : Nat), (70 : Nat)), ((0 : Nat), (10 : Nat), (17 : Nat), (13 : Nat))]) ∈ lw_all := lw_g (lw_at lw_m4 82 rfl) rfl
theorem q844 : (Jvm.Cond.methodLink "GrantworksLaw" (72 : Nat) ({ cls := "Grantworks", name := "ledger", desc := "(II)I" } : Jvm.MethodName)) ∈ lw_all := lw_g (lw_at lw_m4 83 rfl) rfl
theorem q854 : (Jvm.Cond.methodLink "GrantworksLaw" (146 : Nat) ({ cls := "GrantworksLaw", name := "count", desc := "(LGrantworks;I[J)I" } : Jvm.MethodName)) ∈ lw_all := lw_g (lw_at lw_m4 93 rfl) rfl
theorem q855 : (Jvm.Cond.static ({ cls := "GrantworksLaw", name := "count", desc := "(LGrantworks;I[J)I" } : Jvm.MethodName)) ∈ lw_all := lw_g (lw_at lw_m4 94 rfl) rfl
theorem q856 : (Jvm.Cond.codeWith ({ cls := "GrantworksLaw", name := "count", desc := "(LGrantworks;I[J)I" } : Jvm.MethodName) method_20_code (4 : Nat) (Option.some Jvm.ClassFile.FieldType.int) [((0 : Nat), (9 : Nat), (12 : Nat), (13 : Nat))]) ∈ lw_all := lw_g (lw_at lw_m4 95 rfl) rfl
theorem q857 : (Jvm.Cond.methodLink "GrantworksLaw" (75 : Nat) ({ cls := "Grantworks", name := "count", desc := "(I)I" } : Jvm.MethodName)) ∈ lw_all := lw_g (lw_at lw_m4 96 rfl) rfl
theorem q862 : (Jvm.Cond.classLink "GrantworksLaw" (79 : Nat) "GrantworksModel") ∈ lw_all := lw_g (lw_at lw_m4 101 rfl) rfl
theorem q864 : (Jvm.Cond.methodLink "GrantworksLaw" (81 : Nat) ({ cls := "GrantworksModel", name := "<init>", desc := "()V" } : Jvm.MethodName)) ∈ lw_all := lw_g (lw_at lw_m4 103 rfl) rfl
theorem q974 : (Jvm.Cond.methodLink "GrantworksLaw" (88 : Nat) ({ cls := "GrantworksModel", name := "thrown", desc := "()I" } : Jvm.MethodName)) ∈ lw_all := lw_g (lw_at lw_m4 213 rfl) rfl
theorem q978 : (Jvm.Cond.methodLink "GrantworksLaw" (87 : Nat) ({ cls := "GrantworksModel", name := "tell", desc := "(III)I" } : Jvm.MethodName)) ∈ lw_all := lw_g (lw_at lw_m4 217 rfl) rfl
theorem q1015 : (Jvm.Cond.methodLink "GrantworksLaw" (95 : Nat) ({ cls := "GrantworksModel", name := "call", desc := "(IIII)I" } : Jvm.MethodName)) ∈ lw_all := lw_g (lw_at lw_m5 14 rfl) rfl
theorem q1019 : (Jvm.Cond.methodLink "GrantworksLaw" (99 : Nat) ({ cls := "GrantworksModel", name := "apply", desc := "(IIIIII)I" } : Jvm.MethodName)) ∈ lw_all := lw_g (lw_at lw_m5 18 rfl) rfl
theorem q1039 : (Jvm.Cond.methodLink "GrantworksLaw" (102 : Nat) ({ cls := "GrantworksModel", name := "revise", desc := "(IIII)I" } : Jvm.MethodName)) ∈ lw_all := lw_g (lw_at lw_m5 38 rfl) rfl
theorem q1047 : (Jvm.Cond.methodLink "GrantworksLaw" (106 : Nat) ({ cls := "GrantworksModel", name := "reviewer", desc := "(II)I" } : Jvm.MethodName)) ∈ lw_all := lw_g (lw_at lw_m5 46 rfl) rfl
theorem q1051 : (Jvm.Cond.methodLink "GrantworksLaw" (110 : Nat) ({ cls := "GrantworksModel", name := "conflict", desc := "(IIZ)Z" } : Jvm.MethodName)) ∈ lw_all := lw_g (lw_at lw_m5 50 rfl) rfl
theorem q1059 : (Jvm.Cond.methodLink "GrantworksLaw" (113 : Nat) ({ cls := "GrantworksModel", name := "seat", desc := "(IIZ)Z" } : Jvm.MethodName)) ∈ lw_all := lw_g (lw_at lw_m5 58 rfl) rfl
theorem q1063 : (Jvm.Cond.methodLink "GrantworksLaw" (116 : Nat) ({ cls := "GrantworksModel", name := "review", desc := "(III)I" } : Jvm.MethodName)) ∈ lw_all := lw_g (lw_at lw_m5 62 rfl) rfl
theorem q1067 : (Jvm.Cond.methodLink "GrantworksLaw" (119 : Nat) ({ cls := "GrantworksModel", name := "alike", desc := "(II)I" } : Jvm.MethodName)) ∈ lw_all := lw_g (lw_at lw_m5 66 rfl) rfl
theorem q1076 : (Jvm.Cond.methodLink "GrantworksLaw" (123 : Nat) ({ cls := "GrantworksModel", name := "award", desc := "(I)I" } : Jvm.MethodName)) ∈ lw_all := lw_g (lw_at lw_m5 75 rfl) rfl
theorem q1096 : (Jvm.Cond.methodLink "GrantworksLaw" (126 : Nat) ({ cls := "GrantworksModel", name := "report", desc := "(II)I" } : Jvm.MethodName)) ∈ lw_all := lw_g (lw_at lw_m5 95 rfl) rfl
theorem q1100 : (Jvm.Cond.methodLink "GrantworksLaw" (130 : Nat) ({ cls := "GrantworksModel", name := "end", desc := "(IZ)I" } : Jvm.MethodName)) ∈ lw_all := lw_g (lw_at lw_m5 99 rfl) rfl
theorem q1104 : (Jvm.Cond.methodLink "GrantworksLaw" (133 : Nat) ({ cls := "GrantworksModel", name := "pass", desc := "(I)I" } : Jvm.MethodName)) ∈ lw_all := lw_g (lw_at lw_m5 103 rfl) rfl
theorem q1108 : (Jvm.Cond.methodLink "GrantworksLaw" (136 : Nat) ({ cls := "GrantworksModel", name := "about", desc := "(II)I" } : Jvm.MethodName)) ∈ lw_all := lw_g (lw_at lw_m5 107 rfl) rfl
theorem q1116 : (Jvm.Cond.methodLink "GrantworksLaw" (139 : Nat) ({ cls := "GrantworksModel", name := "account", desc := "(III)I" } : Jvm.MethodName)) ∈ lw_all := lw_g (lw_at lw_m5 115 rfl) rfl
theorem q1120 : (Jvm.Cond.methodLink "GrantworksLaw" (142 : Nat) ({ cls := "GrantworksModel", name := "waiting", desc := "(II)I" } : Jvm.MethodName)) ∈ lw_all := lw_g (lw_at lw_m5 119 rfl) rfl
theorem q1124 : (Jvm.Cond.methodLink "GrantworksLaw" (145 : Nat) ({ cls := "GrantworksModel", name := "ledger", desc := "(II)I" } : Jvm.MethodName)) ∈ lw_all := lw_g (lw_at lw_m5 123 rfl) rfl
theorem q1128 : (Jvm.Cond.methodLink "GrantworksLaw" (148 : Nat) ({ cls := "GrantworksModel", name := "count", desc := "(I)I" } : Jvm.MethodName)) ∈ lw_all := lw_g (lw_at lw_m5 127 rfl) rfl
theorem q1132 : (Jvm.Cond.methodLink "GrantworksLaw" (152 : Nat) ({ cls := "GrantworksModel", name := "ledgerErrors", desc := "()I" } : Jvm.MethodName)) ∈ lw_all := lw_g (lw_at lw_m5 131 rfl) rfl
theorem q1136 : (Jvm.Cond.methodLink "GrantworksLaw" (157 : Nat) ({ cls := "GrantworksModel", name := "paidShare", desc := "()D" } : Jvm.MethodName)) ∈ lw_all := lw_g (lw_at lw_m5 135 rfl) rfl
/-! the law's own entry -/
set_option maxRecDepth 100000
abbrev cL_law : ByteArray := code
def dkwL_law_65 : List UInt8 := [3, 172, 167, 0, 3, 132, 4, 7, 167, 249, 214, 4, 172]
abbrev dktL_law_65 : List UInt8 := dkwL_law_65 ++ []
def dkwL_law_64 : List UInt8 := [24, 5, 24, 7, 151, 153, 0, 21, 24, 5, 24, 5, 151, 153, 0, 11, 24, 7, 24, 7, 151, 154, 0, 5]
abbrev dktL_law_64 : List UInt8 := dkwL_law_64 ++ dktL_law_65
def dkwL_law_63 : List UInt8 := [182, 0, 149, 44, 182, 0, 152, 159, 0, 46, 3, 172, 43, 182, 0, 153, 57, 5, 44, 182, 0, 157, 57, 7]
abbrev dktL_law_63 : List UInt8 := dkwL_law_63 ++ dktL_law_64
def dkwL_law_62 : List UInt8 := [172, 21, 5, 154, 0, 15, 45, 3, 47, 21, 6, 133, 148, 153, 0, 5, 3, 172, 167, 0, 57, 43]
abbrev dktL_law_62 : List UInt8 := dkwL_law_62 ++ dktL_law_63
def dkwL_law_61 : List UInt8 := [54, 5, 44, 42, 21, 4, 4, 96, 46, 182, 0, 148, 54, 6, 44, 182, 0, 88, 21, 5, 159, 0, 5, 3]
abbrev dktL_law_61 : List UInt8 := dkwL_law_61 ++ dktL_law_62
def dkwL_law_60 : List UInt8 := [21, 6, 133, 148, 153, 0, 5, 3, 172, 167, 0, 113, 43, 42, 21, 4, 4, 96, 46, 45, 184, 0, 146]
abbrev dktL_law_60 : List UInt8 := dkwL_law_60 ++ dktL_law_61
def dkwL_law_59 : List UInt8 := [182, 0, 145, 54, 6, 44, 182, 0, 88, 21, 5, 159, 0, 5, 3, 172, 21, 5, 154, 0, 15, 45, 3, 47]
abbrev dktL_law_59 : List UInt8 := dkwL_law_59 ++ dktL_law_60
def dkwL_law_58 : List UInt8 := [5, 96, 46, 45, 184, 0, 143, 54, 5, 44, 42, 21, 4, 4, 96, 46, 42, 21, 4, 5, 96, 46]
abbrev dktL_law_58 : List UInt8 := dkwL_law_58 ++ dktL_law_59
def dkwL_law_57 : List UInt8 := [3, 47, 21, 6, 133, 148, 153, 0, 5, 3, 172, 167, 0, 181, 43, 42, 21, 4, 4, 96, 46, 42, 21, 4]
abbrev dktL_law_57 : List UInt8 := dkwL_law_57 ++ dktL_law_58
def dkwL_law_56 : List UInt8 := [96, 46, 182, 0, 142, 54, 6, 44, 182, 0, 88, 21, 5, 159, 0, 5, 3, 172, 21, 5, 154, 0, 15, 45]
abbrev dktL_law_56 : List UInt8 := dkwL_law_56 ++ dktL_law_57
def dkwL_law_55 : List UInt8 := [46, 42, 21, 4, 5, 96, 46, 45, 184, 0, 140, 54, 5, 44, 42, 21, 4, 4, 96, 46, 42, 21, 4, 5]
abbrev dktL_law_55 : List UInt8 := dkwL_law_55 ++ dktL_law_56
def dkwL_law_54 : List UInt8 := [154, 0, 15, 45, 3, 47, 21, 6, 133, 148, 153, 0, 5, 3, 172, 167, 0, 249, 43, 42, 21, 4, 4, 96]
abbrev dktL_law_54 : List UInt8 := dkwL_law_54 ++ dktL_law_55
def dkwL_law_53 : List UInt8 := [42, 21, 4, 6, 96, 46, 182, 0, 139, 54, 6, 44, 182, 0, 88, 21, 5, 159, 0, 5, 3, 172, 21, 5]
abbrev dktL_law_53 : List UInt8 := dkwL_law_53 ++ dktL_law_54
def dkwL_law_52 : List UInt8 := [21, 4, 6, 96, 46, 45, 184, 0, 137, 54, 5, 44, 42, 21, 4, 4, 96, 46, 42, 21, 4, 5, 96, 46]
abbrev dktL_law_52 : List UInt8 := dkwL_law_52 ++ dktL_law_53
def dkwL_law_51 : List UInt8 := [148, 153, 0, 5, 3, 172, 167, 1, 73, 43, 42, 21, 4, 4, 96, 46, 42, 21, 4, 5, 96, 46, 42]
abbrev dktL_law_51 : List UInt8 := dkwL_law_51 ++ dktL_law_52
def dkwL_law_50 : List UInt8 := [54, 6, 44, 182, 0, 88, 21, 5, 159, 0, 5, 3, 172, 21, 5, 154, 0, 15, 45, 3, 47, 21, 6, 133]
abbrev dktL_law_50 : List UInt8 := dkwL_law_50 ++ dktL_law_51
def dkwL_law_49 : List UInt8 := [46, 45, 184, 0, 134, 54, 5, 44, 42, 21, 4, 4, 96, 46, 42, 21, 4, 5, 96, 46, 182, 0, 136]
abbrev dktL_law_49 : List UInt8 := dkwL_law_49 ++ dktL_law_50
def dkwL_law_48 : List UInt8 := [21, 6, 133, 148, 153, 0, 5, 3, 172, 167, 1, 141, 43, 42, 21, 4, 4, 96, 46, 42, 21, 4, 5, 96]
abbrev dktL_law_48 : List UInt8 := dkwL_law_48 ++ dktL_law_49
def dkwL_law_47 : List UInt8 := [182, 0, 133, 54, 6, 44, 182, 0, 88, 21, 5, 159, 0, 5, 3, 172, 21, 5, 154, 0, 15, 45, 3, 47]
abbrev dktL_law_47 : List UInt8 := dkwL_law_47 ++ dktL_law_48
def dkwL_law_46 : List UInt8 := [167, 1, 197, 43, 42, 21, 4, 4, 96, 46, 45, 184, 0, 131, 54, 5, 44, 42, 21, 4, 4, 96, 46]
abbrev dktL_law_46 : List UInt8 := dkwL_law_46 ++ dktL_law_47
def dkwL_law_45 : List UInt8 := [21, 5, 159, 0, 5, 3, 172, 21, 5, 154, 0, 15, 45, 3, 47, 21, 6, 133, 148, 153, 0, 5, 3, 172]
abbrev dktL_law_45 : List UInt8 := dkwL_law_45 ++ dktL_law_46
def dkwL_law_44 : List UInt8 := [42, 21, 4, 5, 96, 46, 153, 0, 7, 4, 167, 0, 4, 3, 182, 0, 130, 54, 6, 44, 182, 0, 88]
abbrev dktL_law_44 : List UInt8 := dkwL_law_44 ++ dktL_law_45
def dkwL_law_43 : List UInt8 := [5, 96, 46, 153, 0, 7, 4, 167, 0, 4, 3, 45, 184, 0, 127, 54, 5, 44, 42, 21, 4, 4, 96, 46]
abbrev dktL_law_43 : List UInt8 := dkwL_law_43 ++ dktL_law_44
def dkwL_law_42 : List UInt8 := [3, 47, 21, 6, 133, 148, 153, 0, 5, 3, 172, 167, 2, 25, 43, 42, 21, 4, 4, 96, 46, 42, 21, 4]
abbrev dktL_law_42 : List UInt8 := dkwL_law_42 ++ dktL_law_43
def dkwL_law_41 : List UInt8 := [96, 46, 182, 0, 126, 54, 6, 44, 182, 0, 88, 21, 5, 159, 0, 5, 3, 172, 21, 5, 154, 0, 15, 45]
abbrev dktL_law_41 : List UInt8 := dkwL_law_41 ++ dktL_law_42
def dkwL_law_40 : List UInt8 := [46, 42, 21, 4, 5, 96, 46, 45, 184, 0, 124, 54, 5, 44, 42, 21, 4, 4, 96, 46, 42, 21, 4, 5]
abbrev dktL_law_40 : List UInt8 := dkwL_law_40 ++ dktL_law_41
def dkwL_law_39 : List UInt8 := [154, 0, 15, 45, 3, 47, 21, 6, 133, 148, 153, 0, 5, 3, 172, 167, 2, 93, 43, 42, 21, 4, 4, 96]
abbrev dktL_law_39 : List UInt8 := dkwL_law_39 ++ dktL_law_40
def dkwL_law_38 : List UInt8 := [21, 4, 4, 96, 46, 182, 0, 123, 54, 6, 44, 182, 0, 88, 21, 5, 159, 0, 5, 3, 172, 21, 5]
abbrev dktL_law_38 : List UInt8 := dkwL_law_38 ++ dktL_law_39
def dkwL_law_37 : List UInt8 := [148, 153, 0, 5, 3, 172, 167, 2, 149, 43, 42, 21, 4, 4, 96, 46, 45, 184, 0, 120, 54, 5, 44, 42]
abbrev dktL_law_37 : List UInt8 := dkwL_law_37 ++ dktL_law_38
def dkwL_law_36 : List UInt8 := [54, 6, 44, 182, 0, 88, 21, 5, 159, 0, 5, 3, 172, 21, 5, 154, 0, 15, 45, 3, 47, 21, 6, 133]
abbrev dktL_law_36 : List UInt8 := dkwL_law_36 ++ dktL_law_37
def dkwL_law_35 : List UInt8 := [46, 45, 184, 0, 117, 54, 5, 44, 42, 21, 4, 4, 96, 46, 42, 21, 4, 5, 96, 46, 182, 0, 119]
abbrev dktL_law_35 : List UInt8 := dkwL_law_35 ++ dktL_law_36
def dkwL_law_34 : List UInt8 := [21, 6, 133, 148, 153, 0, 5, 3, 172, 167, 2, 217, 43, 42, 21, 4, 4, 96, 46, 42, 21, 4, 5, 96]
abbrev dktL_law_34 : List UInt8 := dkwL_law_34 ++ dktL_law_35
def dkwL_law_33 : List UInt8 := [182, 0, 116, 54, 6, 44, 182, 0, 88, 21, 5, 159, 0, 5, 3, 172, 21, 5, 154, 0, 15, 45, 3, 47]
abbrev dktL_law_33 : List UInt8 := dkwL_law_33 ++ dktL_law_34
def dkwL_law_32 : List UInt8 := [184, 0, 114, 54, 5, 44, 42, 21, 4, 4, 96, 46, 42, 21, 4, 5, 96, 46, 42, 21, 4, 6, 96, 46]
abbrev dktL_law_32 : List UInt8 := dkwL_law_32 ++ dktL_law_33
def dkwL_law_31 : List UInt8 := [167, 3, 41, 43, 42, 21, 4, 4, 96, 46, 42, 21, 4, 5, 96, 46, 42, 21, 4, 6, 96, 46, 45]
abbrev dktL_law_31 : List UInt8 := dkwL_law_31 ++ dktL_law_32
def dkwL_law_30 : List UInt8 := [154, 0, 22, 45, 3, 47, 21, 6, 153, 0, 7, 10, 167, 0, 4, 9, 148, 153, 0, 5, 3, 172]
abbrev dktL_law_30 : List UInt8 := dkwL_law_30 ++ dktL_law_31
def dkwL_law_29 : List UInt8 := [4, 167, 0, 4, 3, 182, 0, 113, 54, 6, 44, 182, 0, 88, 21, 5, 159, 0, 5, 3, 172, 21, 5]
abbrev dktL_law_29 : List UInt8 := dkwL_law_29 ++ dktL_law_30
def dkwL_law_28 : List UInt8 := [54, 5, 44, 42, 21, 4, 4, 96, 46, 42, 21, 4, 5, 96, 46, 42, 21, 4, 6, 96, 46, 153, 0, 7]
abbrev dktL_law_28 : List UInt8 := dkwL_law_28 ++ dktL_law_29
def dkwL_law_27 : List UInt8 := [42, 21, 4, 5, 96, 46, 42, 21, 4, 6, 96, 46, 153, 0, 7, 4, 167, 0, 4, 3, 45, 184, 0, 111]
abbrev dktL_law_27 : List UInt8 := dkwL_law_27 ++ dktL_law_28
def dkwL_law_26 : List UInt8 := [153, 0, 7, 10, 167, 0, 4, 9, 148, 153, 0, 5, 3, 172, 167, 3, 144, 43, 42, 21, 4, 4, 96, 46]
abbrev dktL_law_26 : List UInt8 := dkwL_law_26 ++ dktL_law_27
def dkwL_law_25 : List UInt8 := [54, 6, 44, 182, 0, 88, 21, 5, 159, 0, 5, 3, 172, 21, 5, 154, 0, 22, 45, 3, 47, 21, 6]
abbrev dktL_law_25 : List UInt8 := dkwL_law_25 ++ dktL_law_26
def dkwL_law_24 : List UInt8 := [42, 21, 4, 5, 96, 46, 42, 21, 4, 6, 96, 46, 153, 0, 7, 4, 167, 0, 4, 3, 182, 0, 110]
abbrev dktL_law_24 : List UInt8 := dkwL_law_24 ++ dktL_law_25
def dkwL_law_23 : List UInt8 := [6, 96, 46, 153, 0, 7, 4, 167, 0, 4, 3, 45, 184, 0, 107, 54, 5, 44, 42, 21, 4, 4, 96, 46]
abbrev dktL_law_23 : List UInt8 := dkwL_law_23 ++ dktL_law_24
def dkwL_law_22 : List UInt8 := [153, 0, 5, 3, 172, 167, 3, 247, 43, 42, 21, 4, 4, 96, 46, 42, 21, 4, 5, 96, 46, 42, 21, 4]
abbrev dktL_law_22 : List UInt8 := dkwL_law_22 ++ dktL_law_23
def dkwL_law_21 : List UInt8 := [182, 0, 88, 21, 5, 159, 0, 5, 3, 172, 21, 5, 154, 0, 15, 45, 3, 47, 21, 6, 133, 148]
abbrev dktL_law_21 : List UInt8 := dkwL_law_21 ++ dktL_law_22
def dkwL_law_20 : List UInt8 := [184, 0, 103, 54, 5, 44, 42, 21, 4, 4, 96, 46, 42, 21, 4, 5, 96, 46, 182, 0, 106, 54, 6, 44]
abbrev dktL_law_20 : List UInt8 := dkwL_law_20 ++ dktL_law_21
def dkwL_law_19 : List UInt8 := [153, 0, 5, 3, 172, 167, 4, 59, 43, 42, 21, 4, 4, 96, 46, 42, 21, 4, 5, 96, 46, 45]
abbrev dktL_law_19 : List UInt8 := dkwL_law_19 ++ dktL_law_20
def dkwL_law_18 : List UInt8 := [182, 0, 88, 21, 5, 159, 0, 5, 3, 172, 21, 5, 154, 0, 15, 45, 3, 47, 21, 6, 133, 148]
abbrev dktL_law_18 : List UInt8 := dkwL_law_18 ++ dktL_law_19
def dkwL_law_17 : List UInt8 := [21, 4, 5, 96, 46, 42, 21, 4, 6, 96, 46, 42, 21, 4, 7, 96, 46, 182, 0, 102, 54, 6, 44]
abbrev dktL_law_17 : List UInt8 := dkwL_law_17 ++ dktL_law_18
def dkwL_law_16 : List UInt8 := [6, 96, 46, 42, 21, 4, 7, 96, 46, 45, 184, 0, 100, 54, 5, 44, 42, 21, 4, 4, 96, 46, 42]
abbrev dktL_law_16 : List UInt8 := dkwL_law_16 ++ dktL_law_17
def dkwL_law_15 : List UInt8 := [153, 0, 5, 3, 172, 167, 4, 151, 43, 42, 21, 4, 4, 96, 46, 42, 21, 4, 5, 96, 46, 42, 21, 4]
abbrev dktL_law_15 : List UInt8 := dkwL_law_15 ++ dktL_law_16
def dkwL_law_14 : List UInt8 := [44, 182, 0, 88, 21, 5, 159, 0, 5, 3, 172, 21, 5, 154, 0, 15, 45, 3, 47, 21, 6, 133, 148]
abbrev dktL_law_14 : List UInt8 := dkwL_law_14 ++ dktL_law_15
def dkwL_law_13 : List UInt8 := [42, 21, 4, 7, 96, 46, 42, 21, 4, 8, 96, 46, 42, 21, 4, 16, 6, 96, 46, 182, 0, 99, 54, 6]
abbrev dktL_law_13 : List UInt8 := dkwL_law_13 ++ dktL_law_14
def dkwL_law_12 : List UInt8 := [184, 0, 96, 54, 5, 44, 42, 21, 4, 4, 96, 46, 42, 21, 4, 5, 96, 46, 42, 21, 4, 6, 96, 46]
abbrev dktL_law_12 : List UInt8 := dkwL_law_12 ++ dktL_law_13
def dkwL_law_11 : List UInt8 := [6, 96, 46, 42, 21, 4, 7, 96, 46, 42, 21, 4, 8, 96, 46, 42, 21, 4, 16, 6, 96, 46, 45]
abbrev dktL_law_11 : List UInt8 := dkwL_law_11 ++ dktL_law_12
def dkwL_law_10 : List UInt8 := [153, 0, 5, 3, 172, 167, 5, 13, 43, 42, 21, 4, 4, 96, 46, 42, 21, 4, 5, 96, 46, 42, 21, 4]
abbrev dktL_law_10 : List UInt8 := dkwL_law_10 ++ dktL_law_11
def dkwL_law_9 : List UInt8 := [182, 0, 88, 21, 5, 159, 0, 5, 3, 172, 21, 5, 154, 0, 15, 45, 3, 47, 21, 6, 133, 148]
abbrev dktL_law_9 : List UInt8 := dkwL_law_9 ++ dktL_law_10
def dkwL_law_8 : List UInt8 := [42, 21, 4, 5, 96, 46, 42, 21, 4, 6, 96, 46, 42, 21, 4, 7, 96, 46, 182, 0, 95, 54, 6, 44]
abbrev dktL_law_8 : List UInt8 := dkwL_law_8 ++ dktL_law_9
def dkwL_law_7 : List UInt8 := [21, 4, 6, 96, 46, 42, 21, 4, 7, 96, 46, 45, 184, 0, 92, 54, 5, 44, 42, 21, 4, 4, 96, 46]
abbrev dktL_law_7 : List UInt8 := dkwL_law_7 ++ dktL_law_8
def dkwL_law_6 : List UInt8 := [148, 153, 0, 5, 3, 172, 167, 5, 105, 43, 42, 21, 4, 4, 96, 46, 42, 21, 4, 5, 96, 46, 42]
abbrev dktL_law_6 : List UInt8 := dkwL_law_6 ++ dktL_law_7
def dkwL_law_5 : List UInt8 := [54, 6, 44, 182, 0, 88, 21, 5, 159, 0, 5, 3, 172, 21, 5, 154, 0, 15, 45, 3, 47, 21, 6, 133]
abbrev dktL_law_5 : List UInt8 := dkwL_law_5 ++ dktL_law_6
def dkwL_law_4 : List UInt8 := [54, 5, 44, 42, 21, 4, 4, 96, 46, 42, 21, 4, 5, 96, 46, 42, 21, 4, 6, 96, 46, 182, 0, 87]
abbrev dktL_law_4 : List UInt8 := dkwL_law_4 ++ dktL_law_5
def dkwL_law_3 : List UInt8 := [43, 42, 21, 4, 4, 96, 46, 42, 21, 4, 5, 96, 46, 42, 21, 4, 6, 96, 46, 45, 184, 0, 82]
abbrev dktL_law_3 : List UInt8 := dkwL_law_3 ++ dktL_law_4
def dkwL_law_2 : List UInt8 := [170, 0, 0, 0, 0, 0, 6, 22, 0, 0, 0, 0, 0, 0, 0, 19, 0, 0, 0, 96, 0, 0, 0, 176, 0, 0, 1, 12, 0, 0, 1, 130, 0, 0, 1, 222, 0, 0, 2, 34, 0, 0, 2, 137, 0, 0, 2, 240, 0, 0, 3, 64, 0, 0, 3, 132, 0, 0, 3, 188, 0, 0, 4, 0, 0, 0, 4, 84, 0, 0, 4, 140, 0, 0, 4, 208, 0, 0, 5, 32, 0, 0, 5, 100, 0, 0, 5, 168, 0, 0, 5, 224, 0, 0, 5, 237]
abbrev dktL_law_2 : List UInt8 := dkwL_law_2 ++ dktL_law_3
def dkwL_law_1 : List UInt8 := [21, 4, 42, 190, 16, 7, 100, 163, 6, 38, 42, 21, 4, 46, 16, 31, 126]
abbrev dktL_law_1 : List UInt8 := dkwL_law_1 ++ dktL_law_2
def dkwL_law_0 : List UInt8 := [187, 0, 8, 89, 183, 0, 78, 76, 187, 0, 79, 89, 183, 0, 81, 77, 4, 188, 11, 78, 3, 54, 4]
abbrev dktL_law_0 : List UInt8 := dkwL_law_0 ++ dktL_law_1
theorem dksL_law_0 : cL_law.data.toList.drop 0 = dktL_law_0 := by decide +kernel
theorem dksL_law_1 : cL_law.data.toList.drop 23 = dktL_law_1 := dk_seg dksL_law_0 23 rfl rfl
theorem dksL_law_2 : cL_law.data.toList.drop 40 = dktL_law_2 := dk_seg dksL_law_1 17 rfl rfl
theorem dksL_law_3 : cL_law.data.toList.drop 136 = dktL_law_3 := dk_seg dksL_law_2 96 rfl rfl
theorem dksL_law_4 : cL_law.data.toList.drop 159 = dktL_law_4 := dk_seg dksL_law_3 23 rfl rfl
theorem dksL_law_5 : cL_law.data.toList.drop 183 = dktL_law_5 := dk_seg dksL_law_4 24 rfl rfl
theorem dksL_law_6 : cL_law.data.toList.drop 207 = dktL_law_6 := dk_seg dksL_law_5 24 rfl rfl
theorem dksL_law_7 : cL_law.data.toList.drop 230 = dktL_law_7 := dk_seg dksL_law_6 23 rfl rfl
theorem dksL_law_8 : cL_law.data.toList.drop 254 = dktL_law_8 := dk_seg dksL_law_7 24 rfl rfl
theorem dksL_law_9 : cL_law.data.toList.drop 278 = dktL_law_9 := dk_seg dksL_law_8 24 rfl rfl
theorem dksL_law_10 : cL_law.data.toList.drop 300 = dktL_law_10 := dk_seg dksL_law_9 22 rfl rfl
theorem dksL_law_11 : cL_law.data.toList.drop 324 = dktL_law_11 := dk_seg dksL_law_10 24 rfl rfl
theorem dksL_law_12 : cL_law.data.toList.drop 347 = dktL_law_12 := dk_seg dksL_law_11 23 rfl rfl
theorem dksL_law_13 : cL_law.data.toList.drop 371 = dktL_law_13 := dk_seg dksL_law_12 24 rfl rfl
theorem dksL_law_14 : cL_law.data.toList.drop 395 = dktL_law_14 := dk_seg dksL_law_13 24 rfl rfl
theorem dksL_law_15 : cL_law.data.toList.drop 418 = dktL_law_15 := dk_seg dksL_law_14 23 rfl rfl
theorem dksL_law_16 : cL_law.data.toList.drop 442 = dktL_law_16 := dk_seg dksL_law_15 24 rfl rfl
theorem dksL_law_17 : cL_law.data.toList.drop 465 = dktL_law_17 := dk_seg dksL_law_16 23 rfl rfl
theorem dksL_law_18 : cL_law.data.toList.drop 488 = dktL_law_18 := dk_seg dksL_law_17 23 rfl rfl
theorem dksL_law_19 : cL_law.data.toList.drop 510 = dktL_law_19 := dk_seg dksL_law_18 22 rfl rfl
theorem dksL_law_20 : cL_law.data.toList.drop 532 = dktL_law_20 := dk_seg dksL_law_19 22 rfl rfl
theorem dksL_law_21 : cL_law.data.toList.drop 556 = dktL_law_21 := dk_seg dksL_law_20 24 rfl rfl
theorem dksL_law_22 : cL_law.data.toList.drop 578 = dktL_law_22 := dk_seg dksL_law_21 22 rfl rfl
theorem dksL_law_23 : cL_law.data.toList.drop 602 = dktL_law_23 := dk_seg dksL_law_22 24 rfl rfl
theorem dksL_law_24 : cL_law.data.toList.drop 626 = dktL_law_24 := dk_seg dksL_law_23 24 rfl rfl
theorem dksL_law_25 : cL_law.data.toList.drop 649 = dktL_law_25 := dk_seg dksL_law_24 23 rfl rfl
theorem dksL_law_26 : cL_law.data.toList.drop 672 = dktL_law_26 := dk_seg dksL_law_25 23 rfl rfl
theorem dksL_law_27 : cL_law.data.toList.drop 696 = dktL_law_27 := dk_seg dksL_law_26 24 rfl rfl
theorem dksL_law_28 : cL_law.data.toList.drop 720 = dktL_law_28 := dk_seg dksL_law_27 24 rfl rfl
theorem dksL_law_29 : cL_law.data.toList.drop 744 = dktL_law_29 := dk_seg dksL_law_28 24 rfl rfl
theorem dksL_law_30 : cL_law.data.toList.drop 767 = dktL_law_30 := dk_seg dksL_law_29 23 rfl rfl
theorem dksL_law_31 : cL_law.data.toList.drop 789 = dktL_law_31 := dk_seg dksL_law_30 22 rfl rfl
theorem dksL_law_32 : cL_law.data.toList.drop 812 = dktL_law_32 := dk_seg dksL_law_31 23 rfl rfl
theorem dksL_law_33 : cL_law.data.toList.drop 836 = dktL_law_33 := dk_seg dksL_law_32 24 rfl rfl
theorem dksL_law_34 : cL_law.data.toList.drop 860 = dktL_law_34 := dk_seg dksL_law_33 24 rfl rfl
theorem dksL_law_35 : cL_law.data.toList.drop 884 = dktL_law_35 := dk_seg dksL_law_34 24 rfl rfl
theorem dksL_law_36 : cL_law.data.toList.drop 907 = dktL_law_36 := dk_seg dksL_law_35 23 rfl rfl
theorem dksL_law_37 : cL_law.data.toList.drop 931 = dktL_law_37 := dk_seg dksL_law_36 24 rfl rfl
theorem dksL_law_38 : cL_law.data.toList.drop 955 = dktL_law_38 := dk_seg dksL_law_37 24 rfl rfl
theorem dksL_law_39 : cL_law.data.toList.drop 978 = dktL_law_39 := dk_seg dksL_law_38 23 rfl rfl
theorem dksL_law_40 : cL_law.data.toList.drop 1002 = dktL_law_40 := dk_seg dksL_law_39 24 rfl rfl
theorem dksL_law_41 : cL_law.data.toList.drop 1026 = dktL_law_41 := dk_seg dksL_law_40 24 rfl rfl
theorem dksL_law_42 : cL_law.data.toList.drop 1050 = dktL_law_42 := dk_seg dksL_law_41 24 rfl rfl
theorem dksL_law_43 : cL_law.data.toList.drop 1074 = dktL_law_43 := dk_seg dksL_law_42 24 rfl rfl
theorem dksL_law_44 : cL_law.data.toList.drop 1098 = dktL_law_44 := dk_seg dksL_law_43 24 rfl rfl
theorem dksL_law_45 : cL_law.data.toList.drop 1121 = dktL_law_45 := dk_seg dksL_law_44 23 rfl rfl
theorem dksL_law_46 : cL_law.data.toList.drop 1145 = dktL_law_46 := dk_seg dksL_law_45 24 rfl rfl
theorem dksL_law_47 : cL_law.data.toList.drop 1168 = dktL_law_47 := dk_seg dksL_law_46 23 rfl rfl
theorem dksL_law_48 : cL_law.data.toList.drop 1192 = dktL_law_48 := dk_seg dksL_law_47 24 rfl rfl
theorem dksL_law_49 : cL_law.data.toList.drop 1216 = dktL_law_49 := dk_seg dksL_law_48 24 rfl rfl
theorem dksL_law_50 : cL_law.data.toList.drop 1239 = dktL_law_50 := dk_seg dksL_law_49 23 rfl rfl
theorem dksL_law_51 : cL_law.data.toList.drop 1263 = dktL_law_51 := dk_seg dksL_law_50 24 rfl rfl
theorem dksL_law_52 : cL_law.data.toList.drop 1286 = dktL_law_52 := dk_seg dksL_law_51 23 rfl rfl
theorem dksL_law_53 : cL_law.data.toList.drop 1310 = dktL_law_53 := dk_seg dksL_law_52 24 rfl rfl
theorem dksL_law_54 : cL_law.data.toList.drop 1334 = dktL_law_54 := dk_seg dksL_law_53 24 rfl rfl
theorem dksL_law_55 : cL_law.data.toList.drop 1358 = dktL_law_55 := dk_seg dksL_law_54 24 rfl rfl
theorem dksL_law_56 : cL_law.data.toList.drop 1382 = dktL_law_56 := dk_seg dksL_law_55 24 rfl rfl
theorem dksL_law_57 : cL_law.data.toList.drop 1406 = dktL_law_57 := dk_seg dksL_law_56 24 rfl rfl
theorem dksL_law_58 : cL_law.data.toList.drop 1430 = dktL_law_58 := dk_seg dksL_law_57 24 rfl rfl
theorem dksL_law_59 : cL_law.data.toList.drop 1452 = dktL_law_59 := dk_seg dksL_law_58 22 rfl rfl
theorem dksL_law_60 : cL_law.data.toList.drop 1476 = dktL_law_60 := dk_seg dksL_law_59 24 rfl rfl
theorem dksL_law_61 : cL_law.data.toList.drop 1499 = dktL_law_61 := dk_seg dksL_law_60 23 rfl rfl
theorem dksL_law_62 : cL_law.data.toList.drop 1523 = dktL_law_62 := dk_seg dksL_law_61 24 rfl rfl
theorem dksL_law_63 : cL_law.data.toList.drop 1545 = dktL_law_63 := dk_seg dksL_law_62 22 rfl rfl
theorem dksL_law_64 : cL_law.data.toList.drop 1569 = dktL_law_64 := dk_seg dksL_law_63 24 rfl rfl
theorem dksL_law_65 : cL_law.data.toList.drop 1593 = dktL_law_65 := dk_seg dksL_law_64 24 rfl rfl
theorem dL_law_0 : decode cL_law 0 = .ok (.new 8, 3) := dk_187 0 8 (dk_at dksL_law_0 0 rfl rfl)
theorem dL_law_3 : decode cL_law 3 = .ok (.dup, 1) := dk_89 (dk_at dksL_law_0 3 rfl rfl)
theorem dL_law_4 : decode cL_law 4 = .ok (.invokespecial 78, 3) := dk_183 0 78 (dk_at dksL_law_0 4 rfl rfl)
theorem dL_law_7 : decode cL_law 7 = .ok (.astore_n 1, 1) := dk_76 (dk_at dksL_law_0 7 rfl rfl)
theorem dL_law_8 : decode cL_law 8 = .ok (.new 79, 3) := dk_187 0 79 (dk_at dksL_law_0 8 rfl rfl)
theorem dL_law_11 : decode cL_law 11 = .ok (.dup, 1) := dk_89 (dk_at dksL_law_0 11 rfl rfl)
theorem dL_law_12 : decode cL_law 12 = .ok (.invokespecial 81, 3) := dk_183 0 81 (dk_at dksL_law_0 12 rfl rfl)
theorem dL_law_15 : decode cL_law 15 = .ok (.astore_n 2, 1) := dk_77 (dk_at dksL_law_0 15 rfl rfl)
theorem dL_law_16 : decode cL_law 16 = .ok (.iconst 1, 1) := dk_4 (dk_at dksL_law_0 16 rfl rfl)
theorem dL_law_17 : decode cL_law 17 = .ok (.newarray .long, 2) := dk_188_11 (dk_at dksL_law_0 17 rfl rfl)
theorem dL_law_19 : decode cL_law 19 = .ok (.astore_n 3, 1) := dk_78 (dk_at dksL_law_0 19 rfl rfl)
theorem dL_law_20 : decode cL_law 20 = .ok (.iconst 0, 1) := dk_3 (dk_at dksL_law_0 20 rfl rfl)
theorem dL_law_21 : decode cL_law 21 = .ok (.istore 4, 2) := dk_54 4 (dk_at dksL_law_0 21 rfl rfl)
theorem dL_law_23 : decode cL_law 23 = .ok (.iload 4, 2) := dk_21 4 (dk_at dksL_law_1 0 rfl rfl)
theorem dL_law_25 : decode cL_law 25 = .ok (.aload_n 0, 1) := dk_42 (dk_at dksL_law_1 2 rfl rfl)
theorem dL_law_26 : decode cL_law 26 = .ok (.arraylength, 1) := dk_190 (dk_at dksL_law_1 3 rfl rfl)
theorem dL_law_27 : decode cL_law 27 = .ok (.bipush 7, 2) := dk_16 7 (dk_at dksL_law_1 4 rfl rfl)
theorem dL_law_29 : decode cL_law 29 = .ok (.isub, 1) := dk_100 (dk_at dksL_law_1 6 rfl rfl)
theorem dL_law_30 : decode cL_law 30 = .ok (.if_icmp .gt 1574, 3) := dk_163 6 38 (dk_at dksL_law_1 7 rfl rfl)
theorem dL_law_33 : decode cL_law 33 = .ok (.aload_n 0, 1) := dk_42 (dk_at dksL_law_1 10 rfl rfl)
theorem dL_law_34 : decode cL_law 34 = .ok (.iload 4, 2) := dk_21 4 (dk_at dksL_law_1 11 rfl rfl)
theorem dL_law_36 : decode cL_law 36 = .ok (.iaload, 1) := dk_46 (dk_at dksL_law_1 13 rfl rfl)
theorem dL_law_37 : decode cL_law 37 = .ok (.bipush 31, 2) := dk_16 31 (dk_at dksL_law_1 14 rfl rfl)
theorem dL_law_39 : decode cL_law 39 = .ok (.iand, 1) := dk_126 (dk_at dksL_law_1 16 rfl rfl)
theorem dL_law_40 : decode cL_law 40 = .ok (.tableswitch 1558 0 19 #[96, 176, 268, 386, 478, 546, 649, 752, 832, 900, 956, 1024, 1108, 1164, 1232, 1312, 1380, 1448, 1504, 1517], 96) := by decide +kernel
theorem dL_law_136 : decode cL_law 136 = .ok (.aload_n 1, 1) := dk_43 (dk_at dksL_law_3 0 rfl rfl)
theorem dL_law_137 : decode cL_law 137 = .ok (.aload_n 0, 1) := dk_42 (dk_at dksL_law_3 1 rfl rfl)
theorem dL_law_138 : decode cL_law 138 = .ok (.iload 4, 2) := dk_21 4 (dk_at dksL_law_3 2 rfl rfl)
theorem dL_law_140 : decode cL_law 140 = .ok (.iconst 1, 1) := dk_4 (dk_at dksL_law_3 4 rfl rfl)
theorem dL_law_141 : decode cL_law 141 = .ok (.iadd, 1) := dk_96 (dk_at dksL_law_3 5 rfl rfl)
theorem dL_law_142 : decode cL_law 142 = .ok (.iaload, 1) := dk_46 (dk_at dksL_law_3 6 rfl rfl)
theorem dL_law_143 : decode cL_law 143 = .ok (.aload_n 0, 1) := dk_42 (dk_at dksL_law_3 7 rfl rfl)
theorem dL_law_144 : decode cL_law 144 = .ok (.iload 4, 2) := dk_21 4 (dk_at dksL_law_3 8 rfl rfl)
theorem dL_law_146 : decode cL_law 146 = .ok (.iconst 2, 1) := dk_5 (dk_at dksL_law_3 10 rfl rfl)
theorem dL_law_147 : decode cL_law 147 = .ok (.iadd, 1) := dk_96 (dk_at dksL_law_3 11 rfl rfl)
theorem dL_law_148 : decode cL_law 148 = .ok (.iaload, 1) := dk_46 (dk_at dksL_law_3 12 rfl rfl)
theorem dL_law_149 : decode cL_law 149 = .ok (.aload_n 0, 1) := dk_42 (dk_at dksL_law_3 13 rfl rfl)
theorem dL_law_150 : decode cL_law 150 = .ok (.iload 4, 2) := dk_21 4 (dk_at dksL_law_3 14 rfl rfl)
theorem dL_law_152 : decode cL_law 152 = .ok (.iconst 3, 1) := dk_6 (dk_at dksL_law_3 16 rfl rfl)
theorem dL_law_153 : decode cL_law 153 = .ok (.iadd, 1) := dk_96 (dk_at dksL_law_3 17 rfl rfl)
theorem dL_law_154 : decode cL_law 154 = .ok (.iaload, 1) := dk_46 (dk_at dksL_law_3 18 rfl rfl)
theorem dL_law_155 : decode cL_law 155 = .ok (.aload_n 3, 1) := dk_45 (dk_at dksL_law_3 19 rfl rfl)
theorem dL_law_156 : decode cL_law 156 = .ok (.invokestatic 82, 3) := dk_184 0 82 (dk_at dksL_law_3 20 rfl rfl)
theorem dL_law_159 : decode cL_law 159 = .ok (.istore 5, 2) := dk_54 5 (dk_at dksL_law_4 0 rfl rfl)
theorem dL_law_161 : decode cL_law 161 = .ok (.aload_n 2, 1) := dk_44 (dk_at dksL_law_4 2 rfl rfl)
theorem dL_law_162 : decode cL_law 162 = .ok (.aload_n 0, 1) := dk_42 (dk_at dksL_law_4 3 rfl rfl)
theorem dL_law_163 : decode cL_law 163 = .ok (.iload 4, 2) := dk_21 4 (dk_at dksL_law_4 4 rfl rfl)
theorem dL_law_165 : decode cL_law 165 = .ok (.iconst 1, 1) := dk_4 (dk_at dksL_law_4 6 rfl rfl)
theorem dL_law_166 : decode cL_law 166 = .ok (.iadd, 1) := dk_96 (dk_at dksL_law_4 7 rfl rfl)
theorem dL_law_167 : decode cL_law 167 = .ok (.iaload, 1) := dk_46 (dk_at dksL_law_4 8 rfl rfl)
theorem dL_law_168 : decode cL_law 168 = .ok (.aload_n 0, 1) := dk_42 (dk_at dksL_law_4 9 rfl rfl)
theorem dL_law_169 : decode cL_law 169 = .ok (.iload 4, 2) := dk_21 4 (dk_at dksL_law_4 10 rfl rfl)
theorem dL_law_171 : decode cL_law 171 = .ok (.iconst 2, 1) := dk_5 (dk_at dksL_law_4 12 rfl rfl)
theorem dL_law_172 : decode cL_law 172 = .ok (.iadd, 1) := dk_96 (dk_at dksL_law_4 13 rfl rfl)
theorem dL_law_173 : decode cL_law 173 = .ok (.iaload, 1) := dk_46 (dk_at dksL_law_4 14 rfl rfl)
theorem dL_law_174 : decode cL_law 174 = .ok (.aload_n 0, 1) := dk_42 (dk_at dksL_law_4 15 rfl rfl)
theorem dL_law_175 : decode cL_law 175 = .ok (.iload 4, 2) := dk_21 4 (dk_at dksL_law_4 16 rfl rfl)
theorem dL_law_177 : decode cL_law 177 = .ok (.iconst 3, 1) := dk_6 (dk_at dksL_law_4 18 rfl rfl)
theorem dL_law_178 : decode cL_law 178 = .ok (.iadd, 1) := dk_96 (dk_at dksL_law_4 19 rfl rfl)
theorem dL_law_179 : decode cL_law 179 = .ok (.iaload, 1) := dk_46 (dk_at dksL_law_4 20 rfl rfl)
theorem dL_law_180 : decode cL_law 180 = .ok (.invokevirtual 87, 3) := dk_182 0 87 (dk_at dksL_law_4 21 rfl rfl)
theorem dL_law_183 : decode cL_law 183 = .ok (.istore 6, 2) := dk_54 6 (dk_at dksL_law_5 0 rfl rfl)
theorem dL_law_185 : decode cL_law 185 = .ok (.aload_n 2, 1) := dk_44 (dk_at dksL_law_5 2 rfl rfl)
theorem dL_law_186 : decode cL_law 186 = .ok (.invokevirtual 88, 3) := dk_182 0 88 (dk_at dksL_law_5 3 rfl rfl)
theorem dL_law_189 : decode cL_law 189 = .ok (.iload 5, 2) := dk_21 5 (dk_at dksL_law_5 6 rfl rfl)
theorem dL_law_191 : decode cL_law 191 = .ok (.if_icmp .eq 5, 3) := dk_159 0 5 (dk_at dksL_law_5 8 rfl rfl)
theorem dL_law_194 : decode cL_law 194 = .ok (.iconst 0, 1) := dk_3 (dk_at dksL_law_5 11 rfl rfl)
theorem dL_law_195 : decode cL_law 195 = .ok (.ireturn, 1) := dk_172 (dk_at dksL_law_5 12 rfl rfl)
theorem dL_law_196 : decode cL_law 196 = .ok (.iload 5, 2) := dk_21 5 (dk_at dksL_law_5 13 rfl rfl)
theorem dL_law_198 : decode cL_law 198 = .ok (.ifCond .ne 15, 3) := dk_154 0 15 (dk_at dksL_law_5 15 rfl rfl)
theorem dL_law_201 : decode cL_law 201 = .ok (.aload_n 3, 1) := dk_45 (dk_at dksL_law_5 18 rfl rfl)
theorem dL_law_202 : decode cL_law 202 = .ok (.iconst 0, 1) := dk_3 (dk_at dksL_law_5 19 rfl rfl)
theorem dL_law_203 : decode cL_law 203 = .ok (.laload, 1) := dk_47 (dk_at dksL_law_5 20 rfl rfl)
theorem dL_law_204 : decode cL_law 204 = .ok (.iload 6, 2) := dk_21 6 (dk_at dksL_law_5 21 rfl rfl)
theorem dL_law_206 : decode cL_law 206 = .ok (.i2l, 1) := dk_133 (dk_at dksL_law_5 23 rfl rfl)
theorem dL_law_207 : decode cL_law 207 = .ok (.lcmp, 1) := dk_148 (dk_at dksL_law_6 0 rfl rfl)
theorem dL_law_208 : decode cL_law 208 = .ok (.ifCond .eq 5, 3) := dk_153 0 5 (dk_at dksL_law_6 1 rfl rfl)
theorem dL_law_211 : decode cL_law 211 = .ok (.iconst 0, 1) := dk_3 (dk_at dksL_law_6 4 rfl rfl)
theorem dL_law_212 : decode cL_law 212 = .ok (.ireturn, 1) := dk_172 (dk_at dksL_law_6 5 rfl rfl)
theorem dL_law_213 : decode cL_law 213 = .ok (.goto 1385, 3) := dk_167 5 105 (dk_at dksL_law_6 6 rfl rfl)
theorem dL_law_216 : decode cL_law 216 = .ok (.aload_n 1, 1) := dk_43 (dk_at dksL_law_6 9 rfl rfl)
theorem dL_law_217 : decode cL_law 217 = .ok (.aload_n 0, 1) := dk_42 (dk_at dksL_law_6 10 rfl rfl)
theorem dL_law_218 : decode cL_law 218 = .ok (.iload 4, 2) := dk_21 4 (dk_at dksL_law_6 11 rfl rfl)
theorem dL_law_220 : decode cL_law 220 = .ok (.iconst 1, 1) := dk_4 (dk_at dksL_law_6 13 rfl rfl)
theorem dL_law_221 : decode cL_law 221 = .ok (.iadd, 1) := dk_96 (dk_at dksL_law_6 14 rfl rfl)
theorem dL_law_222 : decode cL_law 222 = .ok (.iaload, 1) := dk_46 (dk_at dksL_law_6 15 rfl rfl)
theorem dL_law_223 : decode cL_law 223 = .ok (.aload_n 0, 1) := dk_42 (dk_at dksL_law_6 16 rfl rfl)
theorem dL_law_224 : decode cL_law 224 = .ok (.iload 4, 2) := dk_21 4 (dk_at dksL_law_6 17 rfl rfl)
theorem dL_law_226 : decode cL_law 226 = .ok (.iconst 2, 1) := dk_5 (dk_at dksL_law_6 19 rfl rfl)
theorem dL_law_227 : decode cL_law 227 = .ok (.iadd, 1) := dk_96 (dk_at dksL_law_6 20 rfl rfl)
theorem dL_law_228 : decode cL_law 228 = .ok (.iaload, 1) := dk_46 (dk_at dksL_law_6 21 rfl rfl)
theorem dL_law_229 : decode cL_law 229 = .ok (.aload_n 0, 1) := dk_42 (dk_at dksL_law_6 22 rfl rfl)
theorem dL_law_230 : decode cL_law 230 = .ok (.iload 4, 2) := dk_21 4 (dk_at dksL_law_7 0 rfl rfl)
theorem dL_law_232 : decode cL_law 232 = .ok (.iconst 3, 1) := dk_6 (dk_at dksL_law_7 2 rfl rfl)
theorem dL_law_233 : decode cL_law 233 = .ok (.iadd, 1) := dk_96 (dk_at dksL_law_7 3 rfl rfl)
theorem dL_law_234 : decode cL_law 234 = .ok (.iaload, 1) := dk_46 (dk_at dksL_law_7 4 rfl rfl)
theorem dL_law_235 : decode cL_law 235 = .ok (.aload_n 0, 1) := dk_42 (dk_at dksL_law_7 5 rfl rfl)
theorem dL_law_236 : decode cL_law 236 = .ok (.iload 4, 2) := dk_21 4 (dk_at dksL_law_7 6 rfl rfl)
theorem dL_law_238 : decode cL_law 238 = .ok (.iconst 4, 1) := dk_7 (dk_at dksL_law_7 8 rfl rfl)
theorem dL_law_239 : decode cL_law 239 = .ok (.iadd, 1) := dk_96 (dk_at dksL_law_7 9 rfl rfl)
theorem dL_law_240 : decode cL_law 240 = .ok (.iaload, 1) := dk_46 (dk_at dksL_law_7 10 rfl rfl)
theorem dL_law_241 : decode cL_law 241 = .ok (.aload_n 3, 1) := dk_45 (dk_at dksL_law_7 11 rfl rfl)
theorem dL_law_242 : decode cL_law 242 = .ok (.invokestatic 92, 3) := dk_184 0 92 (dk_at dksL_law_7 12 rfl rfl)
theorem dL_law_245 : decode cL_law 245 = .ok (.istore 5, 2) := dk_54 5 (dk_at dksL_law_7 15 rfl rfl)
theorem dL_law_247 : decode cL_law 247 = .ok (.aload_n 2, 1) := dk_44 (dk_at dksL_law_7 17 rfl rfl)
theorem dL_law_248 : decode cL_law 248 = .ok (.aload_n 0, 1) := dk_42 (dk_at dksL_law_7 18 rfl rfl)
theorem dL_law_249 : decode cL_law 249 = .ok (.iload 4, 2) := dk_21 4 (dk_at dksL_law_7 19 rfl rfl)
theorem dL_law_251 : decode cL_law 251 = .ok (.iconst 1, 1) := dk_4 (dk_at dksL_law_7 21 rfl rfl)
theorem dL_law_252 : decode cL_law 252 = .ok (.iadd, 1) := dk_96 (dk_at dksL_law_7 22 rfl rfl)
theorem dL_law_253 : decode cL_law 253 = .ok (.iaload, 1) := dk_46 (dk_at dksL_law_7 23 rfl rfl)
theorem dL_law_254 : decode cL_law 254 = .ok (.aload_n 0, 1) := dk_42 (dk_at dksL_law_8 0 rfl rfl)
theorem dL_law_255 : decode cL_law 255 = .ok (.iload 4, 2) := dk_21 4 (dk_at dksL_law_8 1 rfl rfl)
theorem dL_law_257 : decode cL_law 257 = .ok (.iconst 2, 1) := dk_5 (dk_at dksL_law_8 3 rfl rfl)
theorem dL_law_258 : decode cL_law 258 = .ok (.iadd, 1) := dk_96 (dk_at dksL_law_8 4 rfl rfl)
theorem dL_law_259 : decode cL_law 259 = .ok (.iaload, 1) := dk_46 (dk_at dksL_law_8 5 rfl rfl)
theorem dL_law_260 : decode cL_law 260 = .ok (.aload_n 0, 1) := dk_42 (dk_at dksL_law_8 6 rfl rfl)
theorem dL_law_261 : decode cL_law 261 = .ok (.iload 4, 2) := dk_21 4 (dk_at dksL_law_8 7 rfl rfl)
theorem dL_law_263 : decode cL_law 263 = .ok (.iconst 3, 1) := dk_6 (dk_at dksL_law_8 9 rfl rfl)
theorem dL_law_264 : decode cL_law 264 = .ok (.iadd, 1) := dk_96 (dk_at dksL_law_8 10 rfl rfl)
theorem dL_law_265 : decode cL_law 265 = .ok (.iaload, 1) := dk_46 (dk_at dksL_law_8 11 rfl rfl)
theorem dL_law_266 : decode cL_law 266 = .ok (.aload_n 0, 1) := dk_42 (dk_at dksL_law_8 12 rfl rfl)
theorem dL_law_267 : decode cL_law 267 = .ok (.iload 4, 2) := dk_21 4 (dk_at dksL_law_8 13 rfl rfl)
theorem dL_law_269 : decode cL_law 269 = .ok (.iconst 4, 1) := dk_7 (dk_at dksL_law_8 15 rfl rfl)
theorem dL_law_270 : decode cL_law 270 = .ok (.iadd, 1) := dk_96 (dk_at dksL_law_8 16 rfl rfl)
theorem dL_law_271 : decode cL_law 271 = .ok (.iaload, 1) := dk_46 (dk_at dksL_law_8 17 rfl rfl)
theorem dL_law_272 : decode cL_law 272 = .ok (.invokevirtual 95, 3) := dk_182 0 95 (dk_at dksL_law_8 18 rfl rfl)
theorem dL_law_275 : decode cL_law 275 = .ok (.istore 6, 2) := dk_54 6 (dk_at dksL_law_8 21 rfl rfl)
theorem dL_law_277 : decode cL_law 277 = .ok (.aload_n 2, 1) := dk_44 (dk_at dksL_law_8 23 rfl rfl)
theorem dL_law_278 : decode cL_law 278 = .ok (.invokevirtual 88, 3) := dk_182 0 88 (dk_at dksL_law_9 0 rfl rfl)
theorem dL_law_281 : decode cL_law 281 = .ok (.iload 5, 2) := dk_21 5 (dk_at dksL_law_9 3 rfl rfl)
theorem dL_law_283 : decode cL_law 283 = .ok (.if_icmp .eq 5, 3) := dk_159 0 5 (dk_at dksL_law_9 5 rfl rfl)
theorem dL_law_286 : decode cL_law 286 = .ok (.iconst 0, 1) := dk_3 (dk_at dksL_law_9 8 rfl rfl)
theorem dL_law_287 : decode cL_law 287 = .ok (.ireturn, 1) := dk_172 (dk_at dksL_law_9 9 rfl rfl)
theorem dL_law_288 : decode cL_law 288 = .ok (.iload 5, 2) := dk_21 5 (dk_at dksL_law_9 10 rfl rfl)
theorem dL_law_290 : decode cL_law 290 = .ok (.ifCond .ne 15, 3) := dk_154 0 15 (dk_at dksL_law_9 12 rfl rfl)
theorem dL_law_293 : decode cL_law 293 = .ok (.aload_n 3, 1) := dk_45 (dk_at dksL_law_9 15 rfl rfl)
theorem dL_law_294 : decode cL_law 294 = .ok (.iconst 0, 1) := dk_3 (dk_at dksL_law_9 16 rfl rfl)
theorem dL_law_295 : decode cL_law 295 = .ok (.laload, 1) := dk_47 (dk_at dksL_law_9 17 rfl rfl)
theorem dL_law_296 : decode cL_law 296 = .ok (.iload 6, 2) := dk_21 6 (dk_at dksL_law_9 18 rfl rfl)
theorem dL_law_298 : decode cL_law 298 = .ok (.i2l, 1) := dk_133 (dk_at dksL_law_9 20 rfl rfl)
theorem dL_law_299 : decode cL_law 299 = .ok (.lcmp, 1) := dk_148 (dk_at dksL_law_9 21 rfl rfl)
theorem dL_law_300 : decode cL_law 300 = .ok (.ifCond .eq 5, 3) := dk_153 0 5 (dk_at dksL_law_10 0 rfl rfl)
theorem dL_law_303 : decode cL_law 303 = .ok (.iconst 0, 1) := dk_3 (dk_at dksL_law_10 3 rfl rfl)
theorem dL_law_304 : decode cL_law 304 = .ok (.ireturn, 1) := dk_172 (dk_at dksL_law_10 4 rfl rfl)
theorem dL_law_305 : decode cL_law 305 = .ok (.goto 1293, 3) := dk_167 5 13 (dk_at dksL_law_10 5 rfl rfl)
theorem dL_law_308 : decode cL_law 308 = .ok (.aload_n 1, 1) := dk_43 (dk_at dksL_law_10 8 rfl rfl)
theorem dL_law_309 : decode cL_law 309 = .ok (.aload_n 0, 1) := dk_42 (dk_at dksL_law_10 9 rfl rfl)
theorem dL_law_310 : decode cL_law 310 = .ok (.iload 4, 2) := dk_21 4 (dk_at dksL_law_10 10 rfl rfl)
theorem dL_law_312 : decode cL_law 312 = .ok (.iconst 1, 1) := dk_4 (dk_at dksL_law_10 12 rfl rfl)
theorem dL_law_313 : decode cL_law 313 = .ok (.iadd, 1) := dk_96 (dk_at dksL_law_10 13 rfl rfl)
theorem dL_law_314 : decode cL_law 314 = .ok (.iaload, 1) := dk_46 (dk_at dksL_law_10 14 rfl rfl)
theorem dL_law_315 : decode cL_law 315 = .ok (.aload_n 0, 1) := dk_42 (dk_at dksL_law_10 15 rfl rfl)
theorem dL_law_316 : decode cL_law 316 = .ok (.iload 4, 2) := dk_21 4 (dk_at dksL_law_10 16 rfl rfl)
theorem dL_law_318 : decode cL_law 318 = .ok (.iconst 2, 1) := dk_5 (dk_at dksL_law_10 18 rfl rfl)
theorem dL_law_319 : decode cL_law 319 = .ok (.iadd, 1) := dk_96 (dk_at dksL_law_10 19 rfl rfl)
theorem dL_law_320 : decode cL_law 320 = .ok (.iaload, 1) := dk_46 (dk_at dksL_law_10 20 rfl rfl)
theorem dL_law_321 : decode cL_law 321 = .ok (.aload_n 0, 1) := dk_42 (dk_at dksL_law_10 21 rfl rfl)
theorem dL_law_322 : decode cL_law 322 = .ok (.iload 4, 2) := dk_21 4 (dk_at dksL_law_10 22 rfl rfl)
theorem dL_law_324 : decode cL_law 324 = .ok (.iconst 3, 1) := dk_6 (dk_at dksL_law_11 0 rfl rfl)
theorem dL_law_325 : decode cL_law 325 = .ok (.iadd, 1) := dk_96 (dk_at dksL_law_11 1 rfl rfl)
theorem dL_law_326 : decode cL_law 326 = .ok (.iaload, 1) := dk_46 (dk_at dksL_law_11 2 rfl rfl)
theorem dL_law_327 : decode cL_law 327 = .ok (.aload_n 0, 1) := dk_42 (dk_at dksL_law_11 3 rfl rfl)
theorem dL_law_328 : decode cL_law 328 = .ok (.iload 4, 2) := dk_21 4 (dk_at dksL_law_11 4 rfl rfl)
theorem dL_law_330 : decode cL_law 330 = .ok (.iconst 4, 1) := dk_7 (dk_at dksL_law_11 6 rfl rfl)
theorem dL_law_331 : decode cL_law 331 = .ok (.iadd, 1) := dk_96 (dk_at dksL_law_11 7 rfl rfl)
theorem dL_law_332 : decode cL_law 332 = .ok (.iaload, 1) := dk_46 (dk_at dksL_law_11 8 rfl rfl)
theorem dL_law_333 : decode cL_law 333 = .ok (.aload_n 0, 1) := dk_42 (dk_at dksL_law_11 9 rfl rfl)
theorem dL_law_334 : decode cL_law 334 = .ok (.iload 4, 2) := dk_21 4 (dk_at dksL_law_11 10 rfl rfl)
theorem dL_law_336 : decode cL_law 336 = .ok (.iconst 5, 1) := dk_8 (dk_at dksL_law_11 12 rfl rfl)
theorem dL_law_337 : decode cL_law 337 = .ok (.iadd, 1) := dk_96 (dk_at dksL_law_11 13 rfl rfl)
theorem dL_law_338 : decode cL_law 338 = .ok (.iaload, 1) := dk_46 (dk_at dksL_law_11 14 rfl rfl)
theorem dL_law_339 : decode cL_law 339 = .ok (.aload_n 0, 1) := dk_42 (dk_at dksL_law_11 15 rfl rfl)
theorem dL_law_340 : decode cL_law 340 = .ok (.iload 4, 2) := dk_21 4 (dk_at dksL_law_11 16 rfl rfl)
theorem dL_law_342 : decode cL_law 342 = .ok (.bipush 6, 2) := dk_16 6 (dk_at dksL_law_11 18 rfl rfl)
theorem dL_law_344 : decode cL_law 344 = .ok (.iadd, 1) := dk_96 (dk_at dksL_law_11 20 rfl rfl)
theorem dL_law_345 : decode cL_law 345 = .ok (.iaload, 1) := dk_46 (dk_at dksL_law_11 21 rfl rfl)
theorem dL_law_346 : decode cL_law 346 = .ok (.aload_n 3, 1) := dk_45 (dk_at dksL_law_11 22 rfl rfl)
theorem dL_law_347 : decode cL_law 347 = .ok (.invokestatic 96, 3) := dk_184 0 96 (dk_at dksL_law_12 0 rfl rfl)
theorem dL_law_350 : decode cL_law 350 = .ok (.istore 5, 2) := dk_54 5 (dk_at dksL_law_12 3 rfl rfl)
theorem dL_law_352 : decode cL_law 352 = .ok (.aload_n 2, 1) := dk_44 (dk_at dksL_law_12 5 rfl rfl)
theorem dL_law_353 : decode cL_law 353 = .ok (.aload_n 0, 1) := dk_42 (dk_at dksL_law_12 6 rfl rfl)
theorem dL_law_354 : decode cL_law 354 = .ok (.iload 4, 2) := dk_21 4 (dk_at dksL_law_12 7 rfl rfl)
theorem dL_law_356 : decode cL_law 356 = .ok (.iconst 1, 1) := dk_4 (dk_at dksL_law_12 9 rfl rfl)
theorem dL_law_357 : decode cL_law 357 = .ok (.iadd, 1) := dk_96 (dk_at dksL_law_12 10 rfl rfl)
theorem dL_law_358 : decode cL_law 358 = .ok (.iaload, 1) := dk_46 (dk_at dksL_law_12 11 rfl rfl)
theorem dL_law_359 : decode cL_law 359 = .ok (.aload_n 0, 1) := dk_42 (dk_at dksL_law_12 12 rfl rfl)
theorem dL_law_360 : decode cL_law 360 = .ok (.iload 4, 2) := dk_21 4 (dk_at dksL_law_12 13 rfl rfl)
theorem dL_law_362 : decode cL_law 362 = .ok (.iconst 2, 1) := dk_5 (dk_at dksL_law_12 15 rfl rfl)
theorem dL_law_363 : decode cL_law 363 = .ok (.iadd, 1) := dk_96 (dk_at dksL_law_12 16 rfl rfl)
theorem dL_law_364 : decode cL_law 364 = .ok (.iaload, 1) := dk_46 (dk_at dksL_law_12 17 rfl rfl)
theorem dL_law_365 : decode cL_law 365 = .ok (.aload_n 0, 1) := dk_42 (dk_at dksL_law_12 18 rfl rfl)
theorem dL_law_366 : decode cL_law 366 = .ok (.iload 4, 2) := dk_21 4 (dk_at dksL_law_12 19 rfl rfl)
theorem dL_law_368 : decode cL_law 368 = .ok (.iconst 3, 1) := dk_6 (dk_at dksL_law_12 21 rfl rfl)
theorem dL_law_369 : decode cL_law 369 = .ok (.iadd, 1) := dk_96 (dk_at dksL_law_12 22 rfl rfl)
theorem dL_law_370 : decode cL_law 370 = .ok (.iaload, 1) := dk_46 (dk_at dksL_law_12 23 rfl rfl)
theorem dL_law_371 : decode cL_law 371 = .ok (.aload_n 0, 1) := dk_42 (dk_at dksL_law_13 0 rfl rfl)
theorem dL_law_372 : decode cL_law 372 = .ok (.iload 4, 2) := dk_21 4 (dk_at dksL_law_13 1 rfl rfl)
theorem dL_law_374 : decode cL_law 374 = .ok (.iconst 4, 1) := dk_7 (dk_at dksL_law_13 3 rfl rfl)
theorem dL_law_375 : decode cL_law 375 = .ok (.iadd, 1) := dk_96 (dk_at dksL_law_13 4 rfl rfl)
theorem dL_law_376 : decode cL_law 376 = .ok (.iaload, 1) := dk_46 (dk_at dksL_law_13 5 rfl rfl)
theorem dL_law_377 : decode cL_law 377 = .ok (.aload_n 0, 1) := dk_42 (dk_at dksL_law_13 6 rfl rfl)
theorem dL_law_378 : decode cL_law 378 = .ok (.iload 4, 2) := dk_21 4 (dk_at dksL_law_13 7 rfl rfl)
theorem dL_law_380 : decode cL_law 380 = .ok (.iconst 5, 1) := dk_8 (dk_at dksL_law_13 9 rfl rfl)
theorem dL_law_381 : decode cL_law 381 = .ok (.iadd, 1) := dk_96 (dk_at dksL_law_13 10 rfl rfl)
theorem dL_law_382 : decode cL_law 382 = .ok (.iaload, 1) := dk_46 (dk_at dksL_law_13 11 rfl rfl)
theorem dL_law_383 : decode cL_law 383 = .ok (.aload_n 0, 1) := dk_42 (dk_at dksL_law_13 12 rfl rfl)
theorem dL_law_384 : decode cL_law 384 = .ok (.iload 4, 2) := dk_21 4 (dk_at dksL_law_13 13 rfl rfl)
theorem dL_law_386 : decode cL_law 386 = .ok (.bipush 6, 2) := dk_16 6 (dk_at dksL_law_13 15 rfl rfl)
theorem dL_law_388 : decode cL_law 388 = .ok (.iadd, 1) := dk_96 (dk_at dksL_law_13 17 rfl rfl)
theorem dL_law_389 : decode cL_law 389 = .ok (.iaload, 1) := dk_46 (dk_at dksL_law_13 18 rfl rfl)
theorem dL_law_390 : decode cL_law 390 = .ok (.invokevirtual 99, 3) := dk_182 0 99 (dk_at dksL_law_13 19 rfl rfl)
theorem dL_law_393 : decode cL_law 393 = .ok (.istore 6, 2) := dk_54 6 (dk_at dksL_law_13 22 rfl rfl)
theorem dL_law_395 : decode cL_law 395 = .ok (.aload_n 2, 1) := dk_44 (dk_at dksL_law_14 0 rfl rfl)
theorem dL_law_396 : decode cL_law 396 = .ok (.invokevirtual 88, 3) := dk_182 0 88 (dk_at dksL_law_14 1 rfl rfl)
theorem dL_law_399 : decode cL_law 399 = .ok (.iload 5, 2) := dk_21 5 (dk_at dksL_law_14 4 rfl rfl)
theorem dL_law_401 : decode cL_law 401 = .ok (.if_icmp .eq 5, 3) := dk_159 0 5 (dk_at dksL_law_14 6 rfl rfl)
theorem dL_law_404 : decode cL_law 404 = .ok (.iconst 0, 1) := dk_3 (dk_at dksL_law_14 9 rfl rfl)
theorem dL_law_405 : decode cL_law 405 = .ok (.ireturn, 1) := dk_172 (dk_at dksL_law_14 10 rfl rfl)
theorem dL_law_406 : decode cL_law 406 = .ok (.iload 5, 2) := dk_21 5 (dk_at dksL_law_14 11 rfl rfl)
theorem dL_law_408 : decode cL_law 408 = .ok (.ifCond .ne 15, 3) := dk_154 0 15 (dk_at dksL_law_14 13 rfl rfl)
theorem dL_law_411 : decode cL_law 411 = .ok (.aload_n 3, 1) := dk_45 (dk_at dksL_law_14 16 rfl rfl)
theorem dL_law_412 : decode cL_law 412 = .ok (.iconst 0, 1) := dk_3 (dk_at dksL_law_14 17 rfl rfl)
theorem dL_law_413 : decode cL_law 413 = .ok (.laload, 1) := dk_47 (dk_at dksL_law_14 18 rfl rfl)
theorem dL_law_414 : decode cL_law 414 = .ok (.iload 6, 2) := dk_21 6 (dk_at dksL_law_14 19 rfl rfl)
theorem dL_law_416 : decode cL_law 416 = .ok (.i2l, 1) := dk_133 (dk_at dksL_law_14 21 rfl rfl)
theorem dL_law_417 : decode cL_law 417 = .ok (.lcmp, 1) := dk_148 (dk_at dksL_law_14 22 rfl rfl)
theorem dL_law_418 : decode cL_law 418 = .ok (.ifCond .eq 5, 3) := dk_153 0 5 (dk_at dksL_law_15 0 rfl rfl)
theorem dL_law_421 : decode cL_law 421 = .ok (.iconst 0, 1) := dk_3 (dk_at dksL_law_15 3 rfl rfl)
theorem dL_law_422 : decode cL_law 422 = .ok (.ireturn, 1) := dk_172 (dk_at dksL_law_15 4 rfl rfl)
theorem dL_law_423 : decode cL_law 423 = .ok (.goto 1175, 3) := dk_167 4 151 (dk_at dksL_law_15 5 rfl rfl)
theorem dL_law_426 : decode cL_law 426 = .ok (.aload_n 1, 1) := dk_43 (dk_at dksL_law_15 8 rfl rfl)
theorem dL_law_427 : decode cL_law 427 = .ok (.aload_n 0, 1) := dk_42 (dk_at dksL_law_15 9 rfl rfl)
theorem dL_law_428 : decode cL_law 428 = .ok (.iload 4, 2) := dk_21 4 (dk_at dksL_law_15 10 rfl rfl)
theorem dL_law_430 : decode cL_law 430 = .ok (.iconst 1, 1) := dk_4 (dk_at dksL_law_15 12 rfl rfl)
theorem dL_law_431 : decode cL_law 431 = .ok (.iadd, 1) := dk_96 (dk_at dksL_law_15 13 rfl rfl)
theorem dL_law_432 : decode cL_law 432 = .ok (.iaload, 1) := dk_46 (dk_at dksL_law_15 14 rfl rfl)
theorem dL_law_433 : decode cL_law 433 = .ok (.aload_n 0, 1) := dk_42 (dk_at dksL_law_15 15 rfl rfl)
theorem dL_law_434 : decode cL_law 434 = .ok (.iload 4, 2) := dk_21 4 (dk_at dksL_law_15 16 rfl rfl)
theorem dL_law_436 : decode cL_law 436 = .ok (.iconst 2, 1) := dk_5 (dk_at dksL_law_15 18 rfl rfl)
theorem dL_law_437 : decode cL_law 437 = .ok (.iadd, 1) := dk_96 (dk_at dksL_law_15 19 rfl rfl)
theorem dL_law_438 : decode cL_law 438 = .ok (.iaload, 1) := dk_46 (dk_at dksL_law_15 20 rfl rfl)
theorem dL_law_439 : decode cL_law 439 = .ok (.aload_n 0, 1) := dk_42 (dk_at dksL_law_15 21 rfl rfl)
theorem dL_law_440 : decode cL_law 440 = .ok (.iload 4, 2) := dk_21 4 (dk_at dksL_law_15 22 rfl rfl)
theorem dL_law_442 : decode cL_law 442 = .ok (.iconst 3, 1) := dk_6 (dk_at dksL_law_16 0 rfl rfl)
theorem dL_law_443 : decode cL_law 443 = .ok (.iadd, 1) := dk_96 (dk_at dksL_law_16 1 rfl rfl)
theorem dL_law_444 : decode cL_law 444 = .ok (.iaload, 1) := dk_46 (dk_at dksL_law_16 2 rfl rfl)
theorem dL_law_445 : decode cL_law 445 = .ok (.aload_n 0, 1) := dk_42 (dk_at dksL_law_16 3 rfl rfl)
theorem dL_law_446 : decode cL_law 446 = .ok (.iload 4, 2) := dk_21 4 (dk_at dksL_law_16 4 rfl rfl)
theorem dL_law_448 : decode cL_law 448 = .ok (.iconst 4, 1) := dk_7 (dk_at dksL_law_16 6 rfl rfl)
theorem dL_law_449 : decode cL_law 449 = .ok (.iadd, 1) := dk_96 (dk_at dksL_law_16 7 rfl rfl)
theorem dL_law_450 : decode cL_law 450 = .ok (.iaload, 1) := dk_46 (dk_at dksL_law_16 8 rfl rfl)
theorem dL_law_451 : decode cL_law 451 = .ok (.aload_n 3, 1) := dk_45 (dk_at dksL_law_16 9 rfl rfl)
theorem dL_law_452 : decode cL_law 452 = .ok (.invokestatic 100, 3) := dk_184 0 100 (dk_at dksL_law_16 10 rfl rfl)
theorem dL_law_455 : decode cL_law 455 = .ok (.istore 5, 2) := dk_54 5 (dk_at dksL_law_16 13 rfl rfl)
theorem dL_law_457 : decode cL_law 457 = .ok (.aload_n 2, 1) := dk_44 (dk_at dksL_law_16 15 rfl rfl)
theorem dL_law_458 : decode cL_law 458 = .ok (.aload_n 0, 1) := dk_42 (dk_at dksL_law_16 16 rfl rfl)
theorem dL_law_459 : decode cL_law 459 = .ok (.iload 4, 2) := dk_21 4 (dk_at dksL_law_16 17 rfl rfl)
theorem dL_law_461 : decode cL_law 461 = .ok (.iconst 1, 1) := dk_4 (dk_at dksL_law_16 19 rfl rfl)
theorem dL_law_462 : decode cL_law 462 = .ok (.iadd, 1) := dk_96 (dk_at dksL_law_16 20 rfl rfl)
theorem dL_law_463 : decode cL_law 463 = .ok (.iaload, 1) := dk_46 (dk_at dksL_law_16 21 rfl rfl)
theorem dL_law_464 : decode cL_law 464 = .ok (.aload_n 0, 1) := dk_42 (dk_at dksL_law_16 22 rfl rfl)
theorem dL_law_465 : decode cL_law 465 = .ok (.iload 4, 2) := dk_21 4 (dk_at dksL_law_17 0 rfl rfl)
theorem dL_law_467 : decode cL_law 467 = .ok (.iconst 2, 1) := dk_5 (dk_at dksL_law_17 2 rfl rfl)
theorem dL_law_468 : decode cL_law 468 = .ok (.iadd, 1) := dk_96 (dk_at dksL_law_17 3 rfl rfl)
theorem dL_law_469 : decode cL_law 469 = .ok (.iaload, 1) := dk_46 (dk_at dksL_law_17 4 rfl rfl)
theorem dL_law_470 : decode cL_law 470 = .ok (.aload_n 0, 1) := dk_42 (dk_at dksL_law_17 5 rfl rfl)
theorem dL_law_471 : decode cL_law 471 = .ok (.iload 4, 2) := dk_21 4 (dk_at dksL_law_17 6 rfl rfl)
theorem dL_law_473 : decode cL_law 473 = .ok (.iconst 3, 1) := dk_6 (dk_at dksL_law_17 8 rfl rfl)
theorem dL_law_474 : decode cL_law 474 = .ok (.iadd, 1) := dk_96 (dk_at dksL_law_17 9 rfl rfl)
theorem dL_law_475 : decode cL_law 475 = .ok (.iaload, 1) := dk_46 (dk_at dksL_law_17 10 rfl rfl)
theorem dL_law_476 : decode cL_law 476 = .ok (.aload_n 0, 1) := dk_42 (dk_at dksL_law_17 11 rfl rfl)
theorem dL_law_477 : decode cL_law 477 = .ok (.iload 4, 2) := dk_21 4 (dk_at dksL_law_17 12 rfl rfl)
theorem dL_law_479 : decode cL_law 479 = .ok (.iconst 4, 1) := dk_7 (dk_at dksL_law_17 14 rfl rfl)
theorem dL_law_480 : decode cL_law 480 = .ok (.iadd, 1) := dk_96 (dk_at dksL_law_17 15 rfl rfl)
theorem dL_law_481 : decode cL_law 481 = .ok (.iaload, 1) := dk_46 (dk_at dksL_law_17 16 rfl rfl)
theorem dL_law_482 : decode cL_law 482 = .ok (.invokevirtual 102, 3) := dk_182 0 102 (dk_at dksL_law_17 17 rfl rfl)
theorem dL_law_485 : decode cL_law 485 = .ok (.istore 6, 2) := dk_54 6 (dk_at dksL_law_17 20 rfl rfl)
theorem dL_law_487 : decode cL_law 487 = .ok (.aload_n 2, 1) := dk_44 (dk_at dksL_law_17 22 rfl rfl)
theorem dL_law_488 : decode cL_law 488 = .ok (.invokevirtual 88, 3) := dk_182 0 88 (dk_at dksL_law_18 0 rfl rfl)
theorem dL_law_491 : decode cL_law 491 = .ok (.iload 5, 2) := dk_21 5 (dk_at dksL_law_18 3 rfl rfl)
theorem dL_law_493 : decode cL_law 493 = .ok (.if_icmp .eq 5, 3) := dk_159 0 5 (dk_at dksL_law_18 5 rfl rfl)
theorem dL_law_496 : decode cL_law 496 = .ok (.iconst 0, 1) := dk_3 (dk_at dksL_law_18 8 rfl rfl)
theorem dL_law_497 : decode cL_law 497 = .ok (.ireturn, 1) := dk_172 (dk_at dksL_law_18 9 rfl rfl)
theorem dL_law_498 : decode cL_law 498 = .ok (.iload 5, 2) := dk_21 5 (dk_at dksL_law_18 10 rfl rfl)
theorem dL_law_500 : decode cL_law 500 = .ok (.ifCond .ne 15, 3) := dk_154 0 15 (dk_at dksL_law_18 12 rfl rfl)
theorem dL_law_503 : decode cL_law 503 = .ok (.aload_n 3, 1) := dk_45 (dk_at dksL_law_18 15 rfl rfl)
theorem dL_law_504 : decode cL_law 504 = .ok (.iconst 0, 1) := dk_3 (dk_at dksL_law_18 16 rfl rfl)
theorem dL_law_505 : decode cL_law 505 = .ok (.laload, 1) := dk_47 (dk_at dksL_law_18 17 rfl rfl)
theorem dL_law_506 : decode cL_law 506 = .ok (.iload 6, 2) := dk_21 6 (dk_at dksL_law_18 18 rfl rfl)
theorem dL_law_508 : decode cL_law 508 = .ok (.i2l, 1) := dk_133 (dk_at dksL_law_18 20 rfl rfl)
theorem dL_law_509 : decode cL_law 509 = .ok (.lcmp, 1) := dk_148 (dk_at dksL_law_18 21 rfl rfl)
theorem dL_law_510 : decode cL_law 510 = .ok (.ifCond .eq 5, 3) := dk_153 0 5 (dk_at dksL_law_19 0 rfl rfl)
theorem dL_law_513 : decode cL_law 513 = .ok (.iconst 0, 1) := dk_3 (dk_at dksL_law_19 3 rfl rfl)
theorem dL_law_514 : decode cL_law 514 = .ok (.ireturn, 1) := dk_172 (dk_at dksL_law_19 4 rfl rfl)
theorem dL_law_515 : decode cL_law 515 = .ok (.goto 1083, 3) := dk_167 4 59 (dk_at dksL_law_19 5 rfl rfl)
theorem dL_law_518 : decode cL_law 518 = .ok (.aload_n 1, 1) := dk_43 (dk_at dksL_law_19 8 rfl rfl)
theorem dL_law_519 : decode cL_law 519 = .ok (.aload_n 0, 1) := dk_42 (dk_at dksL_law_19 9 rfl rfl)
theorem dL_law_520 : decode cL_law 520 = .ok (.iload 4, 2) := dk_21 4 (dk_at dksL_law_19 10 rfl rfl)
theorem dL_law_522 : decode cL_law 522 = .ok (.iconst 1, 1) := dk_4 (dk_at dksL_law_19 12 rfl rfl)
theorem dL_law_523 : decode cL_law 523 = .ok (.iadd, 1) := dk_96 (dk_at dksL_law_19 13 rfl rfl)
theorem dL_law_524 : decode cL_law 524 = .ok (.iaload, 1) := dk_46 (dk_at dksL_law_19 14 rfl rfl)
theorem dL_law_525 : decode cL_law 525 = .ok (.aload_n 0, 1) := dk_42 (dk_at dksL_law_19 15 rfl rfl)
theorem dL_law_526 : decode cL_law 526 = .ok (.iload 4, 2) := dk_21 4 (dk_at dksL_law_19 16 rfl rfl)
theorem dL_law_528 : decode cL_law 528 = .ok (.iconst 2, 1) := dk_5 (dk_at dksL_law_19 18 rfl rfl)
theorem dL_law_529 : decode cL_law 529 = .ok (.iadd, 1) := dk_96 (dk_at dksL_law_19 19 rfl rfl)
theorem dL_law_530 : decode cL_law 530 = .ok (.iaload, 1) := dk_46 (dk_at dksL_law_19 20 rfl rfl)
theorem dL_law_531 : decode cL_law 531 = .ok (.aload_n 3, 1) := dk_45 (dk_at dksL_law_19 21 rfl rfl)
theorem dL_law_532 : decode cL_law 532 = .ok (.invokestatic 103, 3) := dk_184 0 103 (dk_at dksL_law_20 0 rfl rfl)
theorem dL_law_535 : decode cL_law 535 = .ok (.istore 5, 2) := dk_54 5 (dk_at dksL_law_20 3 rfl rfl)
theorem dL_law_537 : decode cL_law 537 = .ok (.aload_n 2, 1) := dk_44 (dk_at dksL_law_20 5 rfl rfl)
theorem dL_law_538 : decode cL_law 538 = .ok (.aload_n 0, 1) := dk_42 (dk_at dksL_law_20 6 rfl rfl)
theorem dL_law_539 : decode cL_law 539 = .ok (.iload 4, 2) := dk_21 4 (dk_at dksL_law_20 7 rfl rfl)
theorem dL_law_541 : decode cL_law 541 = .ok (.iconst 1, 1) := dk_4 (dk_at dksL_law_20 9 rfl rfl)
theorem dL_law_542 : decode cL_law 542 = .ok (.iadd, 1) := dk_96 (dk_at dksL_law_20 10 rfl rfl)
theorem dL_law_543 : decode cL_law 543 = .ok (.iaload, 1) := dk_46 (dk_at dksL_law_20 11 rfl rfl)
theorem dL_law_544 : decode cL_law 544 = .ok (.aload_n 0, 1) := dk_42 (dk_at dksL_law_20 12 rfl rfl)
theorem dL_law_545 : decode cL_law 545 = .ok (.iload 4, 2) := dk_21 4 (dk_at dksL_law_20 13 rfl rfl)
theorem dL_law_547 : decode cL_law 547 = .ok (.iconst 2, 1) := dk_5 (dk_at dksL_law_20 15 rfl rfl)
theorem dL_law_548 : decode cL_law 548 = .ok (.iadd, 1) := dk_96 (dk_at dksL_law_20 16 rfl rfl)
theorem dL_law_549 : decode cL_law 549 = .ok (.iaload, 1) := dk_46 (dk_at dksL_law_20 17 rfl rfl)
theorem dL_law_550 : decode cL_law 550 = .ok (.invokevirtual 106, 3) := dk_182 0 106 (dk_at dksL_law_20 18 rfl rfl)
theorem dL_law_553 : decode cL_law 553 = .ok (.istore 6, 2) := dk_54 6 (dk_at dksL_law_20 21 rfl rfl)
theorem dL_law_555 : decode cL_law 555 = .ok (.aload_n 2, 1) := dk_44 (dk_at dksL_law_20 23 rfl rfl)
theorem dL_law_556 : decode cL_law 556 = .ok (.invokevirtual 88, 3) := dk_182 0 88 (dk_at dksL_law_21 0 rfl rfl)
theorem dL_law_559 : decode cL_law 559 = .ok (.iload 5, 2) := dk_21 5 (dk_at dksL_law_21 3 rfl rfl)
theorem dL_law_561 : decode cL_law 561 = .ok (.if_icmp .eq 5, 3) := dk_159 0 5 (dk_at dksL_law_21 5 rfl rfl)
theorem dL_law_564 : decode cL_law 564 = .ok (.iconst 0, 1) := dk_3 (dk_at dksL_law_21 8 rfl rfl)
theorem dL_law_565 : decode cL_law 565 = .ok (.ireturn, 1) := dk_172 (dk_at dksL_law_21 9 rfl rfl)
theorem dL_law_566 : decode cL_law 566 = .ok (.iload 5, 2) := dk_21 5 (dk_at dksL_law_21 10 rfl rfl)
theorem dL_law_568 : decode cL_law 568 = .ok (.ifCond .ne 15, 3) := dk_154 0 15 (dk_at dksL_law_21 12 rfl rfl)
theorem dL_law_571 : decode cL_law 571 = .ok (.aload_n 3, 1) := dk_45 (dk_at dksL_law_21 15 rfl rfl)
theorem dL_law_572 : decode cL_law 572 = .ok (.iconst 0, 1) := dk_3 (dk_at dksL_law_21 16 rfl rfl)
theorem dL_law_573 : decode cL_law 573 = .ok (.laload, 1) := dk_47 (dk_at dksL_law_21 17 rfl rfl)
theorem dL_law_574 : decode cL_law 574 = .ok (.iload 6, 2) := dk_21 6 (dk_at dksL_law_21 18 rfl rfl)
theorem dL_law_576 : decode cL_law 576 = .ok (.i2l, 1) := dk_133 (dk_at dksL_law_21 20 rfl rfl)
theorem dL_law_577 : decode cL_law 577 = .ok (.lcmp, 1) := dk_148 (dk_at dksL_law_21 21 rfl rfl)
theorem dL_law_578 : decode cL_law 578 = .ok (.ifCond .eq 5, 3) := dk_153 0 5 (dk_at dksL_law_22 0 rfl rfl)
theorem dL_law_581 : decode cL_law 581 = .ok (.iconst 0, 1) := dk_3 (dk_at dksL_law_22 3 rfl rfl)
theorem dL_law_582 : decode cL_law 582 = .ok (.ireturn, 1) := dk_172 (dk_at dksL_law_22 4 rfl rfl)
theorem dL_law_583 : decode cL_law 583 = .ok (.goto 1015, 3) := dk_167 3 247 (dk_at dksL_law_22 5 rfl rfl)
theorem dL_law_586 : decode cL_law 586 = .ok (.aload_n 1, 1) := dk_43 (dk_at dksL_law_22 8 rfl rfl)
theorem dL_law_587 : decode cL_law 587 = .ok (.aload_n 0, 1) := dk_42 (dk_at dksL_law_22 9 rfl rfl)
theorem dL_law_588 : decode cL_law 588 = .ok (.iload 4, 2) := dk_21 4 (dk_at dksL_law_22 10 rfl rfl)
theorem dL_law_590 : decode cL_law 590 = .ok (.iconst 1, 1) := dk_4 (dk_at dksL_law_22 12 rfl rfl)
theorem dL_law_591 : decode cL_law 591 = .ok (.iadd, 1) := dk_96 (dk_at dksL_law_22 13 rfl rfl)
theorem dL_law_592 : decode cL_law 592 = .ok (.iaload, 1) := dk_46 (dk_at dksL_law_22 14 rfl rfl)
theorem dL_law_593 : decode cL_law 593 = .ok (.aload_n 0, 1) := dk_42 (dk_at dksL_law_22 15 rfl rfl)
theorem dL_law_594 : decode cL_law 594 = .ok (.iload 4, 2) := dk_21 4 (dk_at dksL_law_22 16 rfl rfl)
theorem dL_law_596 : decode cL_law 596 = .ok (.iconst 2, 1) := dk_5 (dk_at dksL_law_22 18 rfl rfl)
theorem dL_law_597 : decode cL_law 597 = .ok (.iadd, 1) := dk_96 (dk_at dksL_law_22 19 rfl rfl)
theorem dL_law_598 : decode cL_law 598 = .ok (.iaload, 1) := dk_46 (dk_at dksL_law_22 20 rfl rfl)
theorem dL_law_599 : decode cL_law 599 = .ok (.aload_n 0, 1) := dk_42 (dk_at dksL_law_22 21 rfl rfl)
theorem dL_law_600 : decode cL_law 600 = .ok (.iload 4, 2) := dk_21 4 (dk_at dksL_law_22 22 rfl rfl)
theorem dL_law_602 : decode cL_law 602 = .ok (.iconst 3, 1) := dk_6 (dk_at dksL_law_23 0 rfl rfl)
theorem dL_law_603 : decode cL_law 603 = .ok (.iadd, 1) := dk_96 (dk_at dksL_law_23 1 rfl rfl)
theorem dL_law_604 : decode cL_law 604 = .ok (.iaload, 1) := dk_46 (dk_at dksL_law_23 2 rfl rfl)
theorem dL_law_605 : decode cL_law 605 = .ok (.ifCond .eq 7, 3) := dk_153 0 7 (dk_at dksL_law_23 3 rfl rfl)
theorem dL_law_608 : decode cL_law 608 = .ok (.iconst 1, 1) := dk_4 (dk_at dksL_law_23 6 rfl rfl)
theorem dL_law_609 : decode cL_law 609 = .ok (.goto 4, 3) := dk_167 0 4 (dk_at dksL_law_23 7 rfl rfl)
theorem dL_law_612 : decode cL_law 612 = .ok (.iconst 0, 1) := dk_3 (dk_at dksL_law_23 10 rfl rfl)
theorem dL_law_613 : decode cL_law 613 = .ok (.aload_n 3, 1) := dk_45 (dk_at dksL_law_23 11 rfl rfl)
theorem dL_law_614 : decode cL_law 614 = .ok (.invokestatic 107, 3) := dk_184 0 107 (dk_at dksL_law_23 12 rfl rfl)
theorem dL_law_617 : decode cL_law 617 = .ok (.istore 5, 2) := dk_54 5 (dk_at dksL_law_23 15 rfl rfl)
theorem dL_law_619 : decode cL_law 619 = .ok (.aload_n 2, 1) := dk_44 (dk_at dksL_law_23 17 rfl rfl)
theorem dL_law_620 : decode cL_law 620 = .ok (.aload_n 0, 1) := dk_42 (dk_at dksL_law_23 18 rfl rfl)
theorem dL_law_621 : decode cL_law 621 = .ok (.iload 4, 2) := dk_21 4 (dk_at dksL_law_23 19 rfl rfl)
theorem dL_law_623 : decode cL_law 623 = .ok (.iconst 1, 1) := dk_4 (dk_at dksL_law_23 21 rfl rfl)
theorem dL_law_624 : decode cL_law 624 = .ok (.iadd, 1) := dk_96 (dk_at dksL_law_23 22 rfl rfl)
theorem dL_law_625 : decode cL_law 625 = .ok (.iaload, 1) := dk_46 (dk_at dksL_law_23 23 rfl rfl)
theorem dL_law_626 : decode cL_law 626 = .ok (.aload_n 0, 1) := dk_42 (dk_at dksL_law_24 0 rfl rfl)
theorem dL_law_627 : decode cL_law 627 = .ok (.iload 4, 2) := dk_21 4 (dk_at dksL_law_24 1 rfl rfl)
theorem dL_law_629 : decode cL_law 629 = .ok (.iconst 2, 1) := dk_5 (dk_at dksL_law_24 3 rfl rfl)
theorem dL_law_630 : decode cL_law 630 = .ok (.iadd, 1) := dk_96 (dk_at dksL_law_24 4 rfl rfl)
theorem dL_law_631 : decode cL_law 631 = .ok (.iaload, 1) := dk_46 (dk_at dksL_law_24 5 rfl rfl)
theorem dL_law_632 : decode cL_law 632 = .ok (.aload_n 0, 1) := dk_42 (dk_at dksL_law_24 6 rfl rfl)
theorem dL_law_633 : decode cL_law 633 = .ok (.iload 4, 2) := dk_21 4 (dk_at dksL_law_24 7 rfl rfl)
theorem dL_law_635 : decode cL_law 635 = .ok (.iconst 3, 1) := dk_6 (dk_at dksL_law_24 9 rfl rfl)
theorem dL_law_636 : decode cL_law 636 = .ok (.iadd, 1) := dk_96 (dk_at dksL_law_24 10 rfl rfl)
theorem dL_law_637 : decode cL_law 637 = .ok (.iaload, 1) := dk_46 (dk_at dksL_law_24 11 rfl rfl)
theorem dL_law_638 : decode cL_law 638 = .ok (.ifCond .eq 7, 3) := dk_153 0 7 (dk_at dksL_law_24 12 rfl rfl)
theorem dL_law_641 : decode cL_law 641 = .ok (.iconst 1, 1) := dk_4 (dk_at dksL_law_24 15 rfl rfl)
theorem dL_law_642 : decode cL_law 642 = .ok (.goto 4, 3) := dk_167 0 4 (dk_at dksL_law_24 16 rfl rfl)
theorem dL_law_645 : decode cL_law 645 = .ok (.iconst 0, 1) := dk_3 (dk_at dksL_law_24 19 rfl rfl)
theorem dL_law_646 : decode cL_law 646 = .ok (.invokevirtual 110, 3) := dk_182 0 110 (dk_at dksL_law_24 20 rfl rfl)
theorem dL_law_649 : decode cL_law 649 = .ok (.istore 6, 2) := dk_54 6 (dk_at dksL_law_25 0 rfl rfl)
theorem dL_law_651 : decode cL_law 651 = .ok (.aload_n 2, 1) := dk_44 (dk_at dksL_law_25 2 rfl rfl)
theorem dL_law_652 : decode cL_law 652 = .ok (.invokevirtual 88, 3) := dk_182 0 88 (dk_at dksL_law_25 3 rfl rfl)
theorem dL_law_655 : decode cL_law 655 = .ok (.iload 5, 2) := dk_21 5 (dk_at dksL_law_25 6 rfl rfl)
theorem dL_law_657 : decode cL_law 657 = .ok (.if_icmp .eq 5, 3) := dk_159 0 5 (dk_at dksL_law_25 8 rfl rfl)
theorem dL_law_660 : decode cL_law 660 = .ok (.iconst 0, 1) := dk_3 (dk_at dksL_law_25 11 rfl rfl)
theorem dL_law_661 : decode cL_law 661 = .ok (.ireturn, 1) := dk_172 (dk_at dksL_law_25 12 rfl rfl)
theorem dL_law_662 : decode cL_law 662 = .ok (.iload 5, 2) := dk_21 5 (dk_at dksL_law_25 13 rfl rfl)
theorem dL_law_664 : decode cL_law 664 = .ok (.ifCond .ne 22, 3) := dk_154 0 22 (dk_at dksL_law_25 15 rfl rfl)
theorem dL_law_667 : decode cL_law 667 = .ok (.aload_n 3, 1) := dk_45 (dk_at dksL_law_25 18 rfl rfl)
theorem dL_law_668 : decode cL_law 668 = .ok (.iconst 0, 1) := dk_3 (dk_at dksL_law_25 19 rfl rfl)
theorem dL_law_669 : decode cL_law 669 = .ok (.laload, 1) := dk_47 (dk_at dksL_law_25 20 rfl rfl)
theorem dL_law_670 : decode cL_law 670 = .ok (.iload 6, 2) := dk_21 6 (dk_at dksL_law_25 21 rfl rfl)
theorem dL_law_672 : decode cL_law 672 = .ok (.ifCond .eq 7, 3) := dk_153 0 7 (dk_at dksL_law_26 0 rfl rfl)
theorem dL_law_675 : decode cL_law 675 = .ok (.lconst 1, 1) := dk_10 (dk_at dksL_law_26 3 rfl rfl)
theorem dL_law_676 : decode cL_law 676 = .ok (.goto 4, 3) := dk_167 0 4 (dk_at dksL_law_26 4 rfl rfl)
theorem dL_law_679 : decode cL_law 679 = .ok (.lconst 0, 1) := dk_9 (dk_at dksL_law_26 7 rfl rfl)
theorem dL_law_680 : decode cL_law 680 = .ok (.lcmp, 1) := dk_148 (dk_at dksL_law_26 8 rfl rfl)
theorem dL_law_681 : decode cL_law 681 = .ok (.ifCond .eq 5, 3) := dk_153 0 5 (dk_at dksL_law_26 9 rfl rfl)
theorem dL_law_684 : decode cL_law 684 = .ok (.iconst 0, 1) := dk_3 (dk_at dksL_law_26 12 rfl rfl)
theorem dL_law_685 : decode cL_law 685 = .ok (.ireturn, 1) := dk_172 (dk_at dksL_law_26 13 rfl rfl)
theorem dL_law_686 : decode cL_law 686 = .ok (.goto 912, 3) := dk_167 3 144 (dk_at dksL_law_26 14 rfl rfl)
theorem dL_law_689 : decode cL_law 689 = .ok (.aload_n 1, 1) := dk_43 (dk_at dksL_law_26 17 rfl rfl)
theorem dL_law_690 : decode cL_law 690 = .ok (.aload_n 0, 1) := dk_42 (dk_at dksL_law_26 18 rfl rfl)
theorem dL_law_691 : decode cL_law 691 = .ok (.iload 4, 2) := dk_21 4 (dk_at dksL_law_26 19 rfl rfl)
theorem dL_law_693 : decode cL_law 693 = .ok (.iconst 1, 1) := dk_4 (dk_at dksL_law_26 21 rfl rfl)
theorem dL_law_694 : decode cL_law 694 = .ok (.iadd, 1) := dk_96 (dk_at dksL_law_26 22 rfl rfl)
theorem dL_law_695 : decode cL_law 695 = .ok (.iaload, 1) := dk_46 (dk_at dksL_law_26 23 rfl rfl)
theorem dL_law_696 : decode cL_law 696 = .ok (.aload_n 0, 1) := dk_42 (dk_at dksL_law_27 0 rfl rfl)
theorem dL_law_697 : decode cL_law 697 = .ok (.iload 4, 2) := dk_21 4 (dk_at dksL_law_27 1 rfl rfl)
theorem dL_law_699 : decode cL_law 699 = .ok (.iconst 2, 1) := dk_5 (dk_at dksL_law_27 3 rfl rfl)
theorem dL_law_700 : decode cL_law 700 = .ok (.iadd, 1) := dk_96 (dk_at dksL_law_27 4 rfl rfl)
theorem dL_law_701 : decode cL_law 701 = .ok (.iaload, 1) := dk_46 (dk_at dksL_law_27 5 rfl rfl)
theorem dL_law_702 : decode cL_law 702 = .ok (.aload_n 0, 1) := dk_42 (dk_at dksL_law_27 6 rfl rfl)
theorem dL_law_703 : decode cL_law 703 = .ok (.iload 4, 2) := dk_21 4 (dk_at dksL_law_27 7 rfl rfl)
theorem dL_law_705 : decode cL_law 705 = .ok (.iconst 3, 1) := dk_6 (dk_at dksL_law_27 9 rfl rfl)
theorem dL_law_706 : decode cL_law 706 = .ok (.iadd, 1) := dk_96 (dk_at dksL_law_27 10 rfl rfl)
theorem dL_law_707 : decode cL_law 707 = .ok (.iaload, 1) := dk_46 (dk_at dksL_law_27 11 rfl rfl)
theorem dL_law_708 : decode cL_law 708 = .ok (.ifCond .eq 7, 3) := dk_153 0 7 (dk_at dksL_law_27 12 rfl rfl)
theorem dL_law_711 : decode cL_law 711 = .ok (.iconst 1, 1) := dk_4 (dk_at dksL_law_27 15 rfl rfl)
theorem dL_law_712 : decode cL_law 712 = .ok (.goto 4, 3) := dk_167 0 4 (dk_at dksL_law_27 16 rfl rfl)
theorem dL_law_715 : decode cL_law 715 = .ok (.iconst 0, 1) := dk_3 (dk_at dksL_law_27 19 rfl rfl)
theorem dL_law_716 : decode cL_law 716 = .ok (.aload_n 3, 1) := dk_45 (dk_at dksL_law_27 20 rfl rfl)
theorem dL_law_717 : decode cL_law 717 = .ok (.invokestatic 111, 3) := dk_184 0 111 (dk_at dksL_law_27 21 rfl rfl)
theorem dL_law_720 : decode cL_law 720 = .ok (.istore 5, 2) := dk_54 5 (dk_at dksL_law_28 0 rfl rfl)
theorem dL_law_722 : decode cL_law 722 = .ok (.aload_n 2, 1) := dk_44 (dk_at dksL_law_28 2 rfl rfl)
theorem dL_law_723 : decode cL_law 723 = .ok (.aload_n 0, 1) := dk_42 (dk_at dksL_law_28 3 rfl rfl)
theorem dL_law_724 : decode cL_law 724 = .ok (.iload 4, 2) := dk_21 4 (dk_at dksL_law_28 4 rfl rfl)
theorem dL_law_726 : decode cL_law 726 = .ok (.iconst 1, 1) := dk_4 (dk_at dksL_law_28 6 rfl rfl)
theorem dL_law_727 : decode cL_law 727 = .ok (.iadd, 1) := dk_96 (dk_at dksL_law_28 7 rfl rfl)
theorem dL_law_728 : decode cL_law 728 = .ok (.iaload, 1) := dk_46 (dk_at dksL_law_28 8 rfl rfl)
theorem dL_law_729 : decode cL_law 729 = .ok (.aload_n 0, 1) := dk_42 (dk_at dksL_law_28 9 rfl rfl)
theorem dL_law_730 : decode cL_law 730 = .ok (.iload 4, 2) := dk_21 4 (dk_at dksL_law_28 10 rfl rfl)
theorem dL_law_732 : decode cL_law 732 = .ok (.iconst 2, 1) := dk_5 (dk_at dksL_law_28 12 rfl rfl)
theorem dL_law_733 : decode cL_law 733 = .ok (.iadd, 1) := dk_96 (dk_at dksL_law_28 13 rfl rfl)
theorem dL_law_734 : decode cL_law 734 = .ok (.iaload, 1) := dk_46 (dk_at dksL_law_28 14 rfl rfl)
theorem dL_law_735 : decode cL_law 735 = .ok (.aload_n 0, 1) := dk_42 (dk_at dksL_law_28 15 rfl rfl)
theorem dL_law_736 : decode cL_law 736 = .ok (.iload 4, 2) := dk_21 4 (dk_at dksL_law_28 16 rfl rfl)
theorem dL_law_738 : decode cL_law 738 = .ok (.iconst 3, 1) := dk_6 (dk_at dksL_law_28 18 rfl rfl)
theorem dL_law_739 : decode cL_law 739 = .ok (.iadd, 1) := dk_96 (dk_at dksL_law_28 19 rfl rfl)
theorem dL_law_740 : decode cL_law 740 = .ok (.iaload, 1) := dk_46 (dk_at dksL_law_28 20 rfl rfl)
theorem dL_law_741 : decode cL_law 741 = .ok (.ifCond .eq 7, 3) := dk_153 0 7 (dk_at dksL_law_28 21 rfl rfl)
theorem dL_law_744 : decode cL_law 744 = .ok (.iconst 1, 1) := dk_4 (dk_at dksL_law_29 0 rfl rfl)
theorem dL_law_745 : decode cL_law 745 = .ok (.goto 4, 3) := dk_167 0 4 (dk_at dksL_law_29 1 rfl rfl)
theorem dL_law_748 : decode cL_law 748 = .ok (.iconst 0, 1) := dk_3 (dk_at dksL_law_29 4 rfl rfl)
theorem dL_law_749 : decode cL_law 749 = .ok (.invokevirtual 113, 3) := dk_182 0 113 (dk_at dksL_law_29 5 rfl rfl)
theorem dL_law_752 : decode cL_law 752 = .ok (.istore 6, 2) := dk_54 6 (dk_at dksL_law_29 8 rfl rfl)
theorem dL_law_754 : decode cL_law 754 = .ok (.aload_n 2, 1) := dk_44 (dk_at dksL_law_29 10 rfl rfl)
theorem dL_law_755 : decode cL_law 755 = .ok (.invokevirtual 88, 3) := dk_182 0 88 (dk_at dksL_law_29 11 rfl rfl)
theorem dL_law_758 : decode cL_law 758 = .ok (.iload 5, 2) := dk_21 5 (dk_at dksL_law_29 14 rfl rfl)
theorem dL_law_760 : decode cL_law 760 = .ok (.if_icmp .eq 5, 3) := dk_159 0 5 (dk_at dksL_law_29 16 rfl rfl)
theorem dL_law_763 : decode cL_law 763 = .ok (.iconst 0, 1) := dk_3 (dk_at dksL_law_29 19 rfl rfl)
theorem dL_law_764 : decode cL_law 764 = .ok (.ireturn, 1) := dk_172 (dk_at dksL_law_29 20 rfl rfl)
theorem dL_law_765 : decode cL_law 765 = .ok (.iload 5, 2) := dk_21 5 (dk_at dksL_law_29 21 rfl rfl)
theorem dL_law_767 : decode cL_law 767 = .ok (.ifCond .ne 22, 3) := dk_154 0 22 (dk_at dksL_law_30 0 rfl rfl)
theorem dL_law_770 : decode cL_law 770 = .ok (.aload_n 3, 1) := dk_45 (dk_at dksL_law_30 3 rfl rfl)
theorem dL_law_771 : decode cL_law 771 = .ok (.iconst 0, 1) := dk_3 (dk_at dksL_law_30 4 rfl rfl)
theorem dL_law_772 : decode cL_law 772 = .ok (.laload, 1) := dk_47 (dk_at dksL_law_30 5 rfl rfl)
theorem dL_law_773 : decode cL_law 773 = .ok (.iload 6, 2) := dk_21 6 (dk_at dksL_law_30 6 rfl rfl)
theorem dL_law_775 : decode cL_law 775 = .ok (.ifCond .eq 7, 3) := dk_153 0 7 (dk_at dksL_law_30 8 rfl rfl)
theorem dL_law_778 : decode cL_law 778 = .ok (.lconst 1, 1) := dk_10 (dk_at dksL_law_30 11 rfl rfl)
theorem dL_law_779 : decode cL_law 779 = .ok (.goto 4, 3) := dk_167 0 4 (dk_at dksL_law_30 12 rfl rfl)
theorem dL_law_782 : decode cL_law 782 = .ok (.lconst 0, 1) := dk_9 (dk_at dksL_law_30 15 rfl rfl)
theorem dL_law_783 : decode cL_law 783 = .ok (.lcmp, 1) := dk_148 (dk_at dksL_law_30 16 rfl rfl)
theorem dL_law_784 : decode cL_law 784 = .ok (.ifCond .eq 5, 3) := dk_153 0 5 (dk_at dksL_law_30 17 rfl rfl)
theorem dL_law_787 : decode cL_law 787 = .ok (.iconst 0, 1) := dk_3 (dk_at dksL_law_30 20 rfl rfl)
theorem dL_law_788 : decode cL_law 788 = .ok (.ireturn, 1) := dk_172 (dk_at dksL_law_30 21 rfl rfl)
theorem dL_law_789 : decode cL_law 789 = .ok (.goto 809, 3) := dk_167 3 41 (dk_at dksL_law_31 0 rfl rfl)
theorem dL_law_792 : decode cL_law 792 = .ok (.aload_n 1, 1) := dk_43 (dk_at dksL_law_31 3 rfl rfl)
theorem dL_law_793 : decode cL_law 793 = .ok (.aload_n 0, 1) := dk_42 (dk_at dksL_law_31 4 rfl rfl)
theorem dL_law_794 : decode cL_law 794 = .ok (.iload 4, 2) := dk_21 4 (dk_at dksL_law_31 5 rfl rfl)
theorem dL_law_796 : decode cL_law 796 = .ok (.iconst 1, 1) := dk_4 (dk_at dksL_law_31 7 rfl rfl)
theorem dL_law_797 : decode cL_law 797 = .ok (.iadd, 1) := dk_96 (dk_at dksL_law_31 8 rfl rfl)
theorem dL_law_798 : decode cL_law 798 = .ok (.iaload, 1) := dk_46 (dk_at dksL_law_31 9 rfl rfl)
theorem dL_law_799 : decode cL_law 799 = .ok (.aload_n 0, 1) := dk_42 (dk_at dksL_law_31 10 rfl rfl)
theorem dL_law_800 : decode cL_law 800 = .ok (.iload 4, 2) := dk_21 4 (dk_at dksL_law_31 11 rfl rfl)
theorem dL_law_802 : decode cL_law 802 = .ok (.iconst 2, 1) := dk_5 (dk_at dksL_law_31 13 rfl rfl)
theorem dL_law_803 : decode cL_law 803 = .ok (.iadd, 1) := dk_96 (dk_at dksL_law_31 14 rfl rfl)
theorem dL_law_804 : decode cL_law 804 = .ok (.iaload, 1) := dk_46 (dk_at dksL_law_31 15 rfl rfl)
theorem dL_law_805 : decode cL_law 805 = .ok (.aload_n 0, 1) := dk_42 (dk_at dksL_law_31 16 rfl rfl)
theorem dL_law_806 : decode cL_law 806 = .ok (.iload 4, 2) := dk_21 4 (dk_at dksL_law_31 17 rfl rfl)
theorem dL_law_808 : decode cL_law 808 = .ok (.iconst 3, 1) := dk_6 (dk_at dksL_law_31 19 rfl rfl)
theorem dL_law_809 : decode cL_law 809 = .ok (.iadd, 1) := dk_96 (dk_at dksL_law_31 20 rfl rfl)
theorem dL_law_810 : decode cL_law 810 = .ok (.iaload, 1) := dk_46 (dk_at dksL_law_31 21 rfl rfl)
theorem dL_law_811 : decode cL_law 811 = .ok (.aload_n 3, 1) := dk_45 (dk_at dksL_law_31 22 rfl rfl)
theorem dL_law_812 : decode cL_law 812 = .ok (.invokestatic 114, 3) := dk_184 0 114 (dk_at dksL_law_32 0 rfl rfl)
theorem dL_law_815 : decode cL_law 815 = .ok (.istore 5, 2) := dk_54 5 (dk_at dksL_law_32 3 rfl rfl)
theorem dL_law_817 : decode cL_law 817 = .ok (.aload_n 2, 1) := dk_44 (dk_at dksL_law_32 5 rfl rfl)
theorem dL_law_818 : decode cL_law 818 = .ok (.aload_n 0, 1) := dk_42 (dk_at dksL_law_32 6 rfl rfl)
theorem dL_law_819 : decode cL_law 819 = .ok (.iload 4, 2) := dk_21 4 (dk_at dksL_law_32 7 rfl rfl)
theorem dL_law_821 : decode cL_law 821 = .ok (.iconst 1, 1) := dk_4 (dk_at dksL_law_32 9 rfl rfl)
theorem dL_law_822 : decode cL_law 822 = .ok (.iadd, 1) := dk_96 (dk_at dksL_law_32 10 rfl rfl)
theorem dL_law_823 : decode cL_law 823 = .ok (.iaload, 1) := dk_46 (dk_at dksL_law_32 11 rfl rfl)
theorem dL_law_824 : decode cL_law 824 = .ok (.aload_n 0, 1) := dk_42 (dk_at dksL_law_32 12 rfl rfl)
theorem dL_law_825 : decode cL_law 825 = .ok (.iload 4, 2) := dk_21 4 (dk_at dksL_law_32 13 rfl rfl)
theorem dL_law_827 : decode cL_law 827 = .ok (.iconst 2, 1) := dk_5 (dk_at dksL_law_32 15 rfl rfl)
theorem dL_law_828 : decode cL_law 828 = .ok (.iadd, 1) := dk_96 (dk_at dksL_law_32 16 rfl rfl)
theorem dL_law_829 : decode cL_law 829 = .ok (.iaload, 1) := dk_46 (dk_at dksL_law_32 17 rfl rfl)
theorem dL_law_830 : decode cL_law 830 = .ok (.aload_n 0, 1) := dk_42 (dk_at dksL_law_32 18 rfl rfl)
theorem dL_law_831 : decode cL_law 831 = .ok (.iload 4, 2) := dk_21 4 (dk_at dksL_law_32 19 rfl rfl)
theorem dL_law_833 : decode cL_law 833 = .ok (.iconst 3, 1) := dk_6 (dk_at dksL_law_32 21 rfl rfl)
theorem dL_law_834 : decode cL_law 834 = .ok (.iadd, 1) := dk_96 (dk_at dksL_law_32 22 rfl rfl)
theorem dL_law_835 : decode cL_law 835 = .ok (.iaload, 1) := dk_46 (dk_at dksL_law_32 23 rfl rfl)
theorem dL_law_836 : decode cL_law 836 = .ok (.invokevirtual 116, 3) := dk_182 0 116 (dk_at dksL_law_33 0 rfl rfl)
theorem dL_law_839 : decode cL_law 839 = .ok (.istore 6, 2) := dk_54 6 (dk_at dksL_law_33 3 rfl rfl)
theorem dL_law_841 : decode cL_law 841 = .ok (.aload_n 2, 1) := dk_44 (dk_at dksL_law_33 5 rfl rfl)
theorem dL_law_842 : decode cL_law 842 = .ok (.invokevirtual 88, 3) := dk_182 0 88 (dk_at dksL_law_33 6 rfl rfl)
theorem dL_law_845 : decode cL_law 845 = .ok (.iload 5, 2) := dk_21 5 (dk_at dksL_law_33 9 rfl rfl)
theorem dL_law_847 : decode cL_law 847 = .ok (.if_icmp .eq 5, 3) := dk_159 0 5 (dk_at dksL_law_33 11 rfl rfl)
theorem dL_law_850 : decode cL_law 850 = .ok (.iconst 0, 1) := dk_3 (dk_at dksL_law_33 14 rfl rfl)
theorem dL_law_851 : decode cL_law 851 = .ok (.ireturn, 1) := dk_172 (dk_at dksL_law_33 15 rfl rfl)
theorem dL_law_852 : decode cL_law 852 = .ok (.iload 5, 2) := dk_21 5 (dk_at dksL_law_33 16 rfl rfl)
theorem dL_law_854 : decode cL_law 854 = .ok (.ifCond .ne 15, 3) := dk_154 0 15 (dk_at dksL_law_33 18 rfl rfl)
theorem dL_law_857 : decode cL_law 857 = .ok (.aload_n 3, 1) := dk_45 (dk_at dksL_law_33 21 rfl rfl)
theorem dL_law_858 : decode cL_law 858 = .ok (.iconst 0, 1) := dk_3 (dk_at dksL_law_33 22 rfl rfl)
theorem dL_law_859 : decode cL_law 859 = .ok (.laload, 1) := dk_47 (dk_at dksL_law_33 23 rfl rfl)
theorem dL_law_860 : decode cL_law 860 = .ok (.iload 6, 2) := dk_21 6 (dk_at dksL_law_34 0 rfl rfl)
theorem dL_law_862 : decode cL_law 862 = .ok (.i2l, 1) := dk_133 (dk_at dksL_law_34 2 rfl rfl)
theorem dL_law_863 : decode cL_law 863 = .ok (.lcmp, 1) := dk_148 (dk_at dksL_law_34 3 rfl rfl)
theorem dL_law_864 : decode cL_law 864 = .ok (.ifCond .eq 5, 3) := dk_153 0 5 (dk_at dksL_law_34 4 rfl rfl)
theorem dL_law_867 : decode cL_law 867 = .ok (.iconst 0, 1) := dk_3 (dk_at dksL_law_34 7 rfl rfl)
theorem dL_law_868 : decode cL_law 868 = .ok (.ireturn, 1) := dk_172 (dk_at dksL_law_34 8 rfl rfl)
theorem dL_law_869 : decode cL_law 869 = .ok (.goto 729, 3) := dk_167 2 217 (dk_at dksL_law_34 9 rfl rfl)
theorem dL_law_872 : decode cL_law 872 = .ok (.aload_n 1, 1) := dk_43 (dk_at dksL_law_34 12 rfl rfl)
theorem dL_law_873 : decode cL_law 873 = .ok (.aload_n 0, 1) := dk_42 (dk_at dksL_law_34 13 rfl rfl)
theorem dL_law_874 : decode cL_law 874 = .ok (.iload 4, 2) := dk_21 4 (dk_at dksL_law_34 14 rfl rfl)
theorem dL_law_876 : decode cL_law 876 = .ok (.iconst 1, 1) := dk_4 (dk_at dksL_law_34 16 rfl rfl)
theorem dL_law_877 : decode cL_law 877 = .ok (.iadd, 1) := dk_96 (dk_at dksL_law_34 17 rfl rfl)
theorem dL_law_878 : decode cL_law 878 = .ok (.iaload, 1) := dk_46 (dk_at dksL_law_34 18 rfl rfl)
theorem dL_law_879 : decode cL_law 879 = .ok (.aload_n 0, 1) := dk_42 (dk_at dksL_law_34 19 rfl rfl)
theorem dL_law_880 : decode cL_law 880 = .ok (.iload 4, 2) := dk_21 4 (dk_at dksL_law_34 20 rfl rfl)
theorem dL_law_882 : decode cL_law 882 = .ok (.iconst 2, 1) := dk_5 (dk_at dksL_law_34 22 rfl rfl)
theorem dL_law_883 : decode cL_law 883 = .ok (.iadd, 1) := dk_96 (dk_at dksL_law_34 23 rfl rfl)
theorem dL_law_884 : decode cL_law 884 = .ok (.iaload, 1) := dk_46 (dk_at dksL_law_35 0 rfl rfl)
theorem dL_law_885 : decode cL_law 885 = .ok (.aload_n 3, 1) := dk_45 (dk_at dksL_law_35 1 rfl rfl)
theorem dL_law_886 : decode cL_law 886 = .ok (.invokestatic 117, 3) := dk_184 0 117 (dk_at dksL_law_35 2 rfl rfl)
theorem dL_law_889 : decode cL_law 889 = .ok (.istore 5, 2) := dk_54 5 (dk_at dksL_law_35 5 rfl rfl)
theorem dL_law_891 : decode cL_law 891 = .ok (.aload_n 2, 1) := dk_44 (dk_at dksL_law_35 7 rfl rfl)
theorem dL_law_892 : decode cL_law 892 = .ok (.aload_n 0, 1) := dk_42 (dk_at dksL_law_35 8 rfl rfl)
theorem dL_law_893 : decode cL_law 893 = .ok (.iload 4, 2) := dk_21 4 (dk_at dksL_law_35 9 rfl rfl)
theorem dL_law_895 : decode cL_law 895 = .ok (.iconst 1, 1) := dk_4 (dk_at dksL_law_35 11 rfl rfl)
theorem dL_law_896 : decode cL_law 896 = .ok (.iadd, 1) := dk_96 (dk_at dksL_law_35 12 rfl rfl)
theorem dL_law_897 : decode cL_law 897 = .ok (.iaload, 1) := dk_46 (dk_at dksL_law_35 13 rfl rfl)
theorem dL_law_898 : decode cL_law 898 = .ok (.aload_n 0, 1) := dk_42 (dk_at dksL_law_35 14 rfl rfl)
theorem dL_law_899 : decode cL_law 899 = .ok (.iload 4, 2) := dk_21 4 (dk_at dksL_law_35 15 rfl rfl)
theorem dL_law_901 : decode cL_law 901 = .ok (.iconst 2, 1) := dk_5 (dk_at dksL_law_35 17 rfl rfl)
theorem dL_law_902 : decode cL_law 902 = .ok (.iadd, 1) := dk_96 (dk_at dksL_law_35 18 rfl rfl)
theorem dL_law_903 : decode cL_law 903 = .ok (.iaload, 1) := dk_46 (dk_at dksL_law_35 19 rfl rfl)
theorem dL_law_904 : decode cL_law 904 = .ok (.invokevirtual 119, 3) := dk_182 0 119 (dk_at dksL_law_35 20 rfl rfl)
theorem dL_law_907 : decode cL_law 907 = .ok (.istore 6, 2) := dk_54 6 (dk_at dksL_law_36 0 rfl rfl)
theorem dL_law_909 : decode cL_law 909 = .ok (.aload_n 2, 1) := dk_44 (dk_at dksL_law_36 2 rfl rfl)
theorem dL_law_910 : decode cL_law 910 = .ok (.invokevirtual 88, 3) := dk_182 0 88 (dk_at dksL_law_36 3 rfl rfl)
theorem dL_law_913 : decode cL_law 913 = .ok (.iload 5, 2) := dk_21 5 (dk_at dksL_law_36 6 rfl rfl)
theorem dL_law_915 : decode cL_law 915 = .ok (.if_icmp .eq 5, 3) := dk_159 0 5 (dk_at dksL_law_36 8 rfl rfl)
theorem dL_law_918 : decode cL_law 918 = .ok (.iconst 0, 1) := dk_3 (dk_at dksL_law_36 11 rfl rfl)
theorem dL_law_919 : decode cL_law 919 = .ok (.ireturn, 1) := dk_172 (dk_at dksL_law_36 12 rfl rfl)
theorem dL_law_920 : decode cL_law 920 = .ok (.iload 5, 2) := dk_21 5 (dk_at dksL_law_36 13 rfl rfl)
theorem dL_law_922 : decode cL_law 922 = .ok (.ifCond .ne 15, 3) := dk_154 0 15 (dk_at dksL_law_36 15 rfl rfl)
theorem dL_law_925 : decode cL_law 925 = .ok (.aload_n 3, 1) := dk_45 (dk_at dksL_law_36 18 rfl rfl)
theorem dL_law_926 : decode cL_law 926 = .ok (.iconst 0, 1) := dk_3 (dk_at dksL_law_36 19 rfl rfl)
theorem dL_law_927 : decode cL_law 927 = .ok (.laload, 1) := dk_47 (dk_at dksL_law_36 20 rfl rfl)
theorem dL_law_928 : decode cL_law 928 = .ok (.iload 6, 2) := dk_21 6 (dk_at dksL_law_36 21 rfl rfl)
theorem dL_law_930 : decode cL_law 930 = .ok (.i2l, 1) := dk_133 (dk_at dksL_law_36 23 rfl rfl)
theorem dL_law_931 : decode cL_law 931 = .ok (.lcmp, 1) := dk_148 (dk_at dksL_law_37 0 rfl rfl)
theorem dL_law_932 : decode cL_law 932 = .ok (.ifCond .eq 5, 3) := dk_153 0 5 (dk_at dksL_law_37 1 rfl rfl)
theorem dL_law_935 : decode cL_law 935 = .ok (.iconst 0, 1) := dk_3 (dk_at dksL_law_37 4 rfl rfl)
theorem dL_law_936 : decode cL_law 936 = .ok (.ireturn, 1) := dk_172 (dk_at dksL_law_37 5 rfl rfl)
theorem dL_law_937 : decode cL_law 937 = .ok (.goto 661, 3) := dk_167 2 149 (dk_at dksL_law_37 6 rfl rfl)
theorem dL_law_940 : decode cL_law 940 = .ok (.aload_n 1, 1) := dk_43 (dk_at dksL_law_37 9 rfl rfl)
theorem dL_law_941 : decode cL_law 941 = .ok (.aload_n 0, 1) := dk_42 (dk_at dksL_law_37 10 rfl rfl)
theorem dL_law_942 : decode cL_law 942 = .ok (.iload 4, 2) := dk_21 4 (dk_at dksL_law_37 11 rfl rfl)
theorem dL_law_944 : decode cL_law 944 = .ok (.iconst 1, 1) := dk_4 (dk_at dksL_law_37 13 rfl rfl)
theorem dL_law_945 : decode cL_law 945 = .ok (.iadd, 1) := dk_96 (dk_at dksL_law_37 14 rfl rfl)
theorem dL_law_946 : decode cL_law 946 = .ok (.iaload, 1) := dk_46 (dk_at dksL_law_37 15 rfl rfl)
theorem dL_law_947 : decode cL_law 947 = .ok (.aload_n 3, 1) := dk_45 (dk_at dksL_law_37 16 rfl rfl)
theorem dL_law_948 : decode cL_law 948 = .ok (.invokestatic 120, 3) := dk_184 0 120 (dk_at dksL_law_37 17 rfl rfl)
theorem dL_law_951 : decode cL_law 951 = .ok (.istore 5, 2) := dk_54 5 (dk_at dksL_law_37 20 rfl rfl)
theorem dL_law_953 : decode cL_law 953 = .ok (.aload_n 2, 1) := dk_44 (dk_at dksL_law_37 22 rfl rfl)
theorem dL_law_954 : decode cL_law 954 = .ok (.aload_n 0, 1) := dk_42 (dk_at dksL_law_37 23 rfl rfl)
theorem dL_law_955 : decode cL_law 955 = .ok (.iload 4, 2) := dk_21 4 (dk_at dksL_law_38 0 rfl rfl)
theorem dL_law_957 : decode cL_law 957 = .ok (.iconst 1, 1) := dk_4 (dk_at dksL_law_38 2 rfl rfl)
theorem dL_law_958 : decode cL_law 958 = .ok (.iadd, 1) := dk_96 (dk_at dksL_law_38 3 rfl rfl)
theorem dL_law_959 : decode cL_law 959 = .ok (.iaload, 1) := dk_46 (dk_at dksL_law_38 4 rfl rfl)
theorem dL_law_960 : decode cL_law 960 = .ok (.invokevirtual 123, 3) := dk_182 0 123 (dk_at dksL_law_38 5 rfl rfl)
theorem dL_law_963 : decode cL_law 963 = .ok (.istore 6, 2) := dk_54 6 (dk_at dksL_law_38 8 rfl rfl)
theorem dL_law_965 : decode cL_law 965 = .ok (.aload_n 2, 1) := dk_44 (dk_at dksL_law_38 10 rfl rfl)
theorem dL_law_966 : decode cL_law 966 = .ok (.invokevirtual 88, 3) := dk_182 0 88 (dk_at dksL_law_38 11 rfl rfl)
theorem dL_law_969 : decode cL_law 969 = .ok (.iload 5, 2) := dk_21 5 (dk_at dksL_law_38 14 rfl rfl)
theorem dL_law_971 : decode cL_law 971 = .ok (.if_icmp .eq 5, 3) := dk_159 0 5 (dk_at dksL_law_38 16 rfl rfl)
theorem dL_law_974 : decode cL_law 974 = .ok (.iconst 0, 1) := dk_3 (dk_at dksL_law_38 19 rfl rfl)
theorem dL_law_975 : decode cL_law 975 = .ok (.ireturn, 1) := dk_172 (dk_at dksL_law_38 20 rfl rfl)
theorem dL_law_976 : decode cL_law 976 = .ok (.iload 5, 2) := dk_21 5 (dk_at dksL_law_38 21 rfl rfl)
theorem dL_law_978 : decode cL_law 978 = .ok (.ifCond .ne 15, 3) := dk_154 0 15 (dk_at dksL_law_39 0 rfl rfl)
theorem dL_law_981 : decode cL_law 981 = .ok (.aload_n 3, 1) := dk_45 (dk_at dksL_law_39 3 rfl rfl)
theorem dL_law_982 : decode cL_law 982 = .ok (.iconst 0, 1) := dk_3 (dk_at dksL_law_39 4 rfl rfl)
theorem dL_law_983 : decode cL_law 983 = .ok (.laload, 1) := dk_47 (dk_at dksL_law_39 5 rfl rfl)
theorem dL_law_984 : decode cL_law 984 = .ok (.iload 6, 2) := dk_21 6 (dk_at dksL_law_39 6 rfl rfl)
theorem dL_law_986 : decode cL_law 986 = .ok (.i2l, 1) := dk_133 (dk_at dksL_law_39 8 rfl rfl)
theorem dL_law_987 : decode cL_law 987 = .ok (.lcmp, 1) := dk_148 (dk_at dksL_law_39 9 rfl rfl)
theorem dL_law_988 : decode cL_law 988 = .ok (.ifCond .eq 5, 3) := dk_153 0 5 (dk_at dksL_law_39 10 rfl rfl)
theorem dL_law_991 : decode cL_law 991 = .ok (.iconst 0, 1) := dk_3 (dk_at dksL_law_39 13 rfl rfl)
theorem dL_law_992 : decode cL_law 992 = .ok (.ireturn, 1) := dk_172 (dk_at dksL_law_39 14 rfl rfl)
theorem dL_law_993 : decode cL_law 993 = .ok (.goto 605, 3) := dk_167 2 93 (dk_at dksL_law_39 15 rfl rfl)
theorem dL_law_996 : decode cL_law 996 = .ok (.aload_n 1, 1) := dk_43 (dk_at dksL_law_39 18 rfl rfl)
theorem dL_law_997 : decode cL_law 997 = .ok (.aload_n 0, 1) := dk_42 (dk_at dksL_law_39 19 rfl rfl)
theorem dL_law_998 : decode cL_law 998 = .ok (.iload 4, 2) := dk_21 4 (dk_at dksL_law_39 20 rfl rfl)
theorem dL_law_1000 : decode cL_law 1000 = .ok (.iconst 1, 1) := dk_4 (dk_at dksL_law_39 22 rfl rfl)
theorem dL_law_1001 : decode cL_law 1001 = .ok (.iadd, 1) := dk_96 (dk_at dksL_law_39 23 rfl rfl)
theorem dL_law_1002 : decode cL_law 1002 = .ok (.iaload, 1) := dk_46 (dk_at dksL_law_40 0 rfl rfl)
theorem dL_law_1003 : decode cL_law 1003 = .ok (.aload_n 0, 1) := dk_42 (dk_at dksL_law_40 1 rfl rfl)
theorem dL_law_1004 : decode cL_law 1004 = .ok (.iload 4, 2) := dk_21 4 (dk_at dksL_law_40 2 rfl rfl)
theorem dL_law_1006 : decode cL_law 1006 = .ok (.iconst 2, 1) := dk_5 (dk_at dksL_law_40 4 rfl rfl)
theorem dL_law_1007 : decode cL_law 1007 = .ok (.iadd, 1) := dk_96 (dk_at dksL_law_40 5 rfl rfl)
theorem dL_law_1008 : decode cL_law 1008 = .ok (.iaload, 1) := dk_46 (dk_at dksL_law_40 6 rfl rfl)
theorem dL_law_1009 : decode cL_law 1009 = .ok (.aload_n 3, 1) := dk_45 (dk_at dksL_law_40 7 rfl rfl)
theorem dL_law_1010 : decode cL_law 1010 = .ok (.invokestatic 124, 3) := dk_184 0 124 (dk_at dksL_law_40 8 rfl rfl)
theorem dL_law_1013 : decode cL_law 1013 = .ok (.istore 5, 2) := dk_54 5 (dk_at dksL_law_40 11 rfl rfl)
theorem dL_law_1015 : decode cL_law 1015 = .ok (.aload_n 2, 1) := dk_44 (dk_at dksL_law_40 13 rfl rfl)
theorem dL_law_1016 : decode cL_law 1016 = .ok (.aload_n 0, 1) := dk_42 (dk_at dksL_law_40 14 rfl rfl)
theorem dL_law_1017 : decode cL_law 1017 = .ok (.iload 4, 2) := dk_21 4 (dk_at dksL_law_40 15 rfl rfl)
theorem dL_law_1019 : decode cL_law 1019 = .ok (.iconst 1, 1) := dk_4 (dk_at dksL_law_40 17 rfl rfl)
theorem dL_law_1020 : decode cL_law 1020 = .ok (.iadd, 1) := dk_96 (dk_at dksL_law_40 18 rfl rfl)
theorem dL_law_1021 : decode cL_law 1021 = .ok (.iaload, 1) := dk_46 (dk_at dksL_law_40 19 rfl rfl)
theorem dL_law_1022 : decode cL_law 1022 = .ok (.aload_n 0, 1) := dk_42 (dk_at dksL_law_40 20 rfl rfl)
theorem dL_law_1023 : decode cL_law 1023 = .ok (.iload 4, 2) := dk_21 4 (dk_at dksL_law_40 21 rfl rfl)
theorem dL_law_1025 : decode cL_law 1025 = .ok (.iconst 2, 1) := dk_5 (dk_at dksL_law_40 23 rfl rfl)
theorem dL_law_1026 : decode cL_law 1026 = .ok (.iadd, 1) := dk_96 (dk_at dksL_law_41 0 rfl rfl)
theorem dL_law_1027 : decode cL_law 1027 = .ok (.iaload, 1) := dk_46 (dk_at dksL_law_41 1 rfl rfl)
theorem dL_law_1028 : decode cL_law 1028 = .ok (.invokevirtual 126, 3) := dk_182 0 126 (dk_at dksL_law_41 2 rfl rfl)
theorem dL_law_1031 : decode cL_law 1031 = .ok (.istore 6, 2) := dk_54 6 (dk_at dksL_law_41 5 rfl rfl)
theorem dL_law_1033 : decode cL_law 1033 = .ok (.aload_n 2, 1) := dk_44 (dk_at dksL_law_41 7 rfl rfl)
theorem dL_law_1034 : decode cL_law 1034 = .ok (.invokevirtual 88, 3) := dk_182 0 88 (dk_at dksL_law_41 8 rfl rfl)
theorem dL_law_1037 : decode cL_law 1037 = .ok (.iload 5, 2) := dk_21 5 (dk_at dksL_law_41 11 rfl rfl)
theorem dL_law_1039 : decode cL_law 1039 = .ok (.if_icmp .eq 5, 3) := dk_159 0 5 (dk_at dksL_law_41 13 rfl rfl)
theorem dL_law_1042 : decode cL_law 1042 = .ok (.iconst 0, 1) := dk_3 (dk_at dksL_law_41 16 rfl rfl)
theorem dL_law_1043 : decode cL_law 1043 = .ok (.ireturn, 1) := dk_172 (dk_at dksL_law_41 17 rfl rfl)
theorem dL_law_1044 : decode cL_law 1044 = .ok (.iload 5, 2) := dk_21 5 (dk_at dksL_law_41 18 rfl rfl)
theorem dL_law_1046 : decode cL_law 1046 = .ok (.ifCond .ne 15, 3) := dk_154 0 15 (dk_at dksL_law_41 20 rfl rfl)
theorem dL_law_1049 : decode cL_law 1049 = .ok (.aload_n 3, 1) := dk_45 (dk_at dksL_law_41 23 rfl rfl)
theorem dL_law_1050 : decode cL_law 1050 = .ok (.iconst 0, 1) := dk_3 (dk_at dksL_law_42 0 rfl rfl)
theorem dL_law_1051 : decode cL_law 1051 = .ok (.laload, 1) := dk_47 (dk_at dksL_law_42 1 rfl rfl)
theorem dL_law_1052 : decode cL_law 1052 = .ok (.iload 6, 2) := dk_21 6 (dk_at dksL_law_42 2 rfl rfl)
theorem dL_law_1054 : decode cL_law 1054 = .ok (.i2l, 1) := dk_133 (dk_at dksL_law_42 4 rfl rfl)
theorem dL_law_1055 : decode cL_law 1055 = .ok (.lcmp, 1) := dk_148 (dk_at dksL_law_42 5 rfl rfl)
theorem dL_law_1056 : decode cL_law 1056 = .ok (.ifCond .eq 5, 3) := dk_153 0 5 (dk_at dksL_law_42 6 rfl rfl)
theorem dL_law_1059 : decode cL_law 1059 = .ok (.iconst 0, 1) := dk_3 (dk_at dksL_law_42 9 rfl rfl)
theorem dL_law_1060 : decode cL_law 1060 = .ok (.ireturn, 1) := dk_172 (dk_at dksL_law_42 10 rfl rfl)
theorem dL_law_1061 : decode cL_law 1061 = .ok (.goto 537, 3) := dk_167 2 25 (dk_at dksL_law_42 11 rfl rfl)
theorem dL_law_1064 : decode cL_law 1064 = .ok (.aload_n 1, 1) := dk_43 (dk_at dksL_law_42 14 rfl rfl)
theorem dL_law_1065 : decode cL_law 1065 = .ok (.aload_n 0, 1) := dk_42 (dk_at dksL_law_42 15 rfl rfl)
theorem dL_law_1066 : decode cL_law 1066 = .ok (.iload 4, 2) := dk_21 4 (dk_at dksL_law_42 16 rfl rfl)
theorem dL_law_1068 : decode cL_law 1068 = .ok (.iconst 1, 1) := dk_4 (dk_at dksL_law_42 18 rfl rfl)
theorem dL_law_1069 : decode cL_law 1069 = .ok (.iadd, 1) := dk_96 (dk_at dksL_law_42 19 rfl rfl)
theorem dL_law_1070 : decode cL_law 1070 = .ok (.iaload, 1) := dk_46 (dk_at dksL_law_42 20 rfl rfl)
theorem dL_law_1071 : decode cL_law 1071 = .ok (.aload_n 0, 1) := dk_42 (dk_at dksL_law_42 21 rfl rfl)
theorem dL_law_1072 : decode cL_law 1072 = .ok (.iload 4, 2) := dk_21 4 (dk_at dksL_law_42 22 rfl rfl)
theorem dL_law_1074 : decode cL_law 1074 = .ok (.iconst 2, 1) := dk_5 (dk_at dksL_law_43 0 rfl rfl)
theorem dL_law_1075 : decode cL_law 1075 = .ok (.iadd, 1) := dk_96 (dk_at dksL_law_43 1 rfl rfl)
theorem dL_law_1076 : decode cL_law 1076 = .ok (.iaload, 1) := dk_46 (dk_at dksL_law_43 2 rfl rfl)
theorem dL_law_1077 : decode cL_law 1077 = .ok (.ifCond .eq 7, 3) := dk_153 0 7 (dk_at dksL_law_43 3 rfl rfl)
theorem dL_law_1080 : decode cL_law 1080 = .ok (.iconst 1, 1) := dk_4 (dk_at dksL_law_43 6 rfl rfl)
theorem dL_law_1081 : decode cL_law 1081 = .ok (.goto 4, 3) := dk_167 0 4 (dk_at dksL_law_43 7 rfl rfl)
theorem dL_law_1084 : decode cL_law 1084 = .ok (.iconst 0, 1) := dk_3 (dk_at dksL_law_43 10 rfl rfl)
theorem dL_law_1085 : decode cL_law 1085 = .ok (.aload_n 3, 1) := dk_45 (dk_at dksL_law_43 11 rfl rfl)
theorem dL_law_1086 : decode cL_law 1086 = .ok (.invokestatic 127, 3) := dk_184 0 127 (dk_at dksL_law_43 12 rfl rfl)
theorem dL_law_1089 : decode cL_law 1089 = .ok (.istore 5, 2) := dk_54 5 (dk_at dksL_law_43 15 rfl rfl)
theorem dL_law_1091 : decode cL_law 1091 = .ok (.aload_n 2, 1) := dk_44 (dk_at dksL_law_43 17 rfl rfl)
theorem dL_law_1092 : decode cL_law 1092 = .ok (.aload_n 0, 1) := dk_42 (dk_at dksL_law_43 18 rfl rfl)
theorem dL_law_1093 : decode cL_law 1093 = .ok (.iload 4, 2) := dk_21 4 (dk_at dksL_law_43 19 rfl rfl)
theorem dL_law_1095 : decode cL_law 1095 = .ok (.iconst 1, 1) := dk_4 (dk_at dksL_law_43 21 rfl rfl)
theorem dL_law_1096 : decode cL_law 1096 = .ok (.iadd, 1) := dk_96 (dk_at dksL_law_43 22 rfl rfl)
theorem dL_law_1097 : decode cL_law 1097 = .ok (.iaload, 1) := dk_46 (dk_at dksL_law_43 23 rfl rfl)
theorem dL_law_1098 : decode cL_law 1098 = .ok (.aload_n 0, 1) := dk_42 (dk_at dksL_law_44 0 rfl rfl)
theorem dL_law_1099 : decode cL_law 1099 = .ok (.iload 4, 2) := dk_21 4 (dk_at dksL_law_44 1 rfl rfl)
theorem dL_law_1101 : decode cL_law 1101 = .ok (.iconst 2, 1) := dk_5 (dk_at dksL_law_44 3 rfl rfl)
theorem dL_law_1102 : decode cL_law 1102 = .ok (.iadd, 1) := dk_96 (dk_at dksL_law_44 4 rfl rfl)
theorem dL_law_1103 : decode cL_law 1103 = .ok (.iaload, 1) := dk_46 (dk_at dksL_law_44 5 rfl rfl)
theorem dL_law_1104 : decode cL_law 1104 = .ok (.ifCond .eq 7, 3) := dk_153 0 7 (dk_at dksL_law_44 6 rfl rfl)
theorem dL_law_1107 : decode cL_law 1107 = .ok (.iconst 1, 1) := dk_4 (dk_at dksL_law_44 9 rfl rfl)
theorem dL_law_1108 : decode cL_law 1108 = .ok (.goto 4, 3) := dk_167 0 4 (dk_at dksL_law_44 10 rfl rfl)
theorem dL_law_1111 : decode cL_law 1111 = .ok (.iconst 0, 1) := dk_3 (dk_at dksL_law_44 13 rfl rfl)
theorem dL_law_1112 : decode cL_law 1112 = .ok (.invokevirtual 130, 3) := dk_182 0 130 (dk_at dksL_law_44 14 rfl rfl)
theorem dL_law_1115 : decode cL_law 1115 = .ok (.istore 6, 2) := dk_54 6 (dk_at dksL_law_44 17 rfl rfl)
theorem dL_law_1117 : decode cL_law 1117 = .ok (.aload_n 2, 1) := dk_44 (dk_at dksL_law_44 19 rfl rfl)
theorem dL_law_1118 : decode cL_law 1118 = .ok (.invokevirtual 88, 3) := dk_182 0 88 (dk_at dksL_law_44 20 rfl rfl)
theorem dL_law_1121 : decode cL_law 1121 = .ok (.iload 5, 2) := dk_21 5 (dk_at dksL_law_45 0 rfl rfl)
theorem dL_law_1123 : decode cL_law 1123 = .ok (.if_icmp .eq 5, 3) := dk_159 0 5 (dk_at dksL_law_45 2 rfl rfl)
theorem dL_law_1126 : decode cL_law 1126 = .ok (.iconst 0, 1) := dk_3 (dk_at dksL_law_45 5 rfl rfl)
theorem dL_law_1127 : decode cL_law 1127 = .ok (.ireturn, 1) := dk_172 (dk_at dksL_law_45 6 rfl rfl)
theorem dL_law_1128 : decode cL_law 1128 = .ok (.iload 5, 2) := dk_21 5 (dk_at dksL_law_45 7 rfl rfl)
theorem dL_law_1130 : decode cL_law 1130 = .ok (.ifCond .ne 15, 3) := dk_154 0 15 (dk_at dksL_law_45 9 rfl rfl)
theorem dL_law_1133 : decode cL_law 1133 = .ok (.aload_n 3, 1) := dk_45 (dk_at dksL_law_45 12 rfl rfl)
theorem dL_law_1134 : decode cL_law 1134 = .ok (.iconst 0, 1) := dk_3 (dk_at dksL_law_45 13 rfl rfl)
theorem dL_law_1135 : decode cL_law 1135 = .ok (.laload, 1) := dk_47 (dk_at dksL_law_45 14 rfl rfl)
theorem dL_law_1136 : decode cL_law 1136 = .ok (.iload 6, 2) := dk_21 6 (dk_at dksL_law_45 15 rfl rfl)
theorem dL_law_1138 : decode cL_law 1138 = .ok (.i2l, 1) := dk_133 (dk_at dksL_law_45 17 rfl rfl)
theorem dL_law_1139 : decode cL_law 1139 = .ok (.lcmp, 1) := dk_148 (dk_at dksL_law_45 18 rfl rfl)
theorem dL_law_1140 : decode cL_law 1140 = .ok (.ifCond .eq 5, 3) := dk_153 0 5 (dk_at dksL_law_45 19 rfl rfl)
theorem dL_law_1143 : decode cL_law 1143 = .ok (.iconst 0, 1) := dk_3 (dk_at dksL_law_45 22 rfl rfl)
theorem dL_law_1144 : decode cL_law 1144 = .ok (.ireturn, 1) := dk_172 (dk_at dksL_law_45 23 rfl rfl)
theorem dL_law_1145 : decode cL_law 1145 = .ok (.goto 453, 3) := dk_167 1 197 (dk_at dksL_law_46 0 rfl rfl)
theorem dL_law_1148 : decode cL_law 1148 = .ok (.aload_n 1, 1) := dk_43 (dk_at dksL_law_46 3 rfl rfl)
theorem dL_law_1149 : decode cL_law 1149 = .ok (.aload_n 0, 1) := dk_42 (dk_at dksL_law_46 4 rfl rfl)
theorem dL_law_1150 : decode cL_law 1150 = .ok (.iload 4, 2) := dk_21 4 (dk_at dksL_law_46 5 rfl rfl)
theorem dL_law_1152 : decode cL_law 1152 = .ok (.iconst 1, 1) := dk_4 (dk_at dksL_law_46 7 rfl rfl)
theorem dL_law_1153 : decode cL_law 1153 = .ok (.iadd, 1) := dk_96 (dk_at dksL_law_46 8 rfl rfl)
theorem dL_law_1154 : decode cL_law 1154 = .ok (.iaload, 1) := dk_46 (dk_at dksL_law_46 9 rfl rfl)
theorem dL_law_1155 : decode cL_law 1155 = .ok (.aload_n 3, 1) := dk_45 (dk_at dksL_law_46 10 rfl rfl)
theorem dL_law_1156 : decode cL_law 1156 = .ok (.invokestatic 131, 3) := dk_184 0 131 (dk_at dksL_law_46 11 rfl rfl)
theorem dL_law_1159 : decode cL_law 1159 = .ok (.istore 5, 2) := dk_54 5 (dk_at dksL_law_46 14 rfl rfl)
theorem dL_law_1161 : decode cL_law 1161 = .ok (.aload_n 2, 1) := dk_44 (dk_at dksL_law_46 16 rfl rfl)
theorem dL_law_1162 : decode cL_law 1162 = .ok (.aload_n 0, 1) := dk_42 (dk_at dksL_law_46 17 rfl rfl)
theorem dL_law_1163 : decode cL_law 1163 = .ok (.iload 4, 2) := dk_21 4 (dk_at dksL_law_46 18 rfl rfl)
theorem dL_law_1165 : decode cL_law 1165 = .ok (.iconst 1, 1) := dk_4 (dk_at dksL_law_46 20 rfl rfl)
theorem dL_law_1166 : decode cL_law 1166 = .ok (.iadd, 1) := dk_96 (dk_at dksL_law_46 21 rfl rfl)
theorem dL_law_1167 : decode cL_law 1167 = .ok (.iaload, 1) := dk_46 (dk_at dksL_law_46 22 rfl rfl)
theorem dL_law_1168 : decode cL_law 1168 = .ok (.invokevirtual 133, 3) := dk_182 0 133 (dk_at dksL_law_47 0 rfl rfl)
theorem dL_law_1171 : decode cL_law 1171 = .ok (.istore 6, 2) := dk_54 6 (dk_at dksL_law_47 3 rfl rfl)
theorem dL_law_1173 : decode cL_law 1173 = .ok (.aload_n 2, 1) := dk_44 (dk_at dksL_law_47 5 rfl rfl)
theorem dL_law_1174 : decode cL_law 1174 = .ok (.invokevirtual 88, 3) := dk_182 0 88 (dk_at dksL_law_47 6 rfl rfl)
theorem dL_law_1177 : decode cL_law 1177 = .ok (.iload 5, 2) := dk_21 5 (dk_at dksL_law_47 9 rfl rfl)
theorem dL_law_1179 : decode cL_law 1179 = .ok (.if_icmp .eq 5, 3) := dk_159 0 5 (dk_at dksL_law_47 11 rfl rfl)
theorem dL_law_1182 : decode cL_law 1182 = .ok (.iconst 0, 1) := dk_3 (dk_at dksL_law_47 14 rfl rfl)
theorem dL_law_1183 : decode cL_law 1183 = .ok (.ireturn, 1) := dk_172 (dk_at dksL_law_47 15 rfl rfl)
theorem dL_law_1184 : decode cL_law 1184 = .ok (.iload 5, 2) := dk_21 5 (dk_at dksL_law_47 16 rfl rfl)
theorem dL_law_1186 : decode cL_law 1186 = .ok (.ifCond .ne 15, 3) := dk_154 0 15 (dk_at dksL_law_47 18 rfl rfl)
theorem dL_law_1189 : decode cL_law 1189 = .ok (.aload_n 3, 1) := dk_45 (dk_at dksL_law_47 21 rfl rfl)
theorem dL_law_1190 : decode cL_law 1190 = .ok (.iconst 0, 1) := dk_3 (dk_at dksL_law_47 22 rfl rfl)
theorem dL_law_1191 : decode cL_law 1191 = .ok (.laload, 1) := dk_47 (dk_at dksL_law_47 23 rfl rfl)
theorem dL_law_1192 : decode cL_law 1192 = .ok (.iload 6, 2) := dk_21 6 (dk_at dksL_law_48 0 rfl rfl)
theorem dL_law_1194 : decode cL_law 1194 = .ok (.i2l, 1) := dk_133 (dk_at dksL_law_48 2 rfl rfl)
theorem dL_law_1195 : decode cL_law 1195 = .ok (.lcmp, 1) := dk_148 (dk_at dksL_law_48 3 rfl rfl)
theorem dL_law_1196 : decode cL_law 1196 = .ok (.ifCond .eq 5, 3) := dk_153 0 5 (dk_at dksL_law_48 4 rfl rfl)
theorem dL_law_1199 : decode cL_law 1199 = .ok (.iconst 0, 1) := dk_3 (dk_at dksL_law_48 7 rfl rfl)
theorem dL_law_1200 : decode cL_law 1200 = .ok (.ireturn, 1) := dk_172 (dk_at dksL_law_48 8 rfl rfl)
theorem dL_law_1201 : decode cL_law 1201 = .ok (.goto 397, 3) := dk_167 1 141 (dk_at dksL_law_48 9 rfl rfl)
theorem dL_law_1204 : decode cL_law 1204 = .ok (.aload_n 1, 1) := dk_43 (dk_at dksL_law_48 12 rfl rfl)
theorem dL_law_1205 : decode cL_law 1205 = .ok (.aload_n 0, 1) := dk_42 (dk_at dksL_law_48 13 rfl rfl)
theorem dL_law_1206 : decode cL_law 1206 = .ok (.iload 4, 2) := dk_21 4 (dk_at dksL_law_48 14 rfl rfl)
theorem dL_law_1208 : decode cL_law 1208 = .ok (.iconst 1, 1) := dk_4 (dk_at dksL_law_48 16 rfl rfl)
theorem dL_law_1209 : decode cL_law 1209 = .ok (.iadd, 1) := dk_96 (dk_at dksL_law_48 17 rfl rfl)
theorem dL_law_1210 : decode cL_law 1210 = .ok (.iaload, 1) := dk_46 (dk_at dksL_law_48 18 rfl rfl)
theorem dL_law_1211 : decode cL_law 1211 = .ok (.aload_n 0, 1) := dk_42 (dk_at dksL_law_48 19 rfl rfl)
theorem dL_law_1212 : decode cL_law 1212 = .ok (.iload 4, 2) := dk_21 4 (dk_at dksL_law_48 20 rfl rfl)
theorem dL_law_1214 : decode cL_law 1214 = .ok (.iconst 2, 1) := dk_5 (dk_at dksL_law_48 22 rfl rfl)
theorem dL_law_1215 : decode cL_law 1215 = .ok (.iadd, 1) := dk_96 (dk_at dksL_law_48 23 rfl rfl)
theorem dL_law_1216 : decode cL_law 1216 = .ok (.iaload, 1) := dk_46 (dk_at dksL_law_49 0 rfl rfl)
theorem dL_law_1217 : decode cL_law 1217 = .ok (.aload_n 3, 1) := dk_45 (dk_at dksL_law_49 1 rfl rfl)
theorem dL_law_1218 : decode cL_law 1218 = .ok (.invokestatic 134, 3) := dk_184 0 134 (dk_at dksL_law_49 2 rfl rfl)
theorem dL_law_1221 : decode cL_law 1221 = .ok (.istore 5, 2) := dk_54 5 (dk_at dksL_law_49 5 rfl rfl)
theorem dL_law_1223 : decode cL_law 1223 = .ok (.aload_n 2, 1) := dk_44 (dk_at dksL_law_49 7 rfl rfl)
theorem dL_law_1224 : decode cL_law 1224 = .ok (.aload_n 0, 1) := dk_42 (dk_at dksL_law_49 8 rfl rfl)
theorem dL_law_1225 : decode cL_law 1225 = .ok (.iload 4, 2) := dk_21 4 (dk_at dksL_law_49 9 rfl rfl)
theorem dL_law_1227 : decode cL_law 1227 = .ok (.iconst 1, 1) := dk_4 (dk_at dksL_law_49 11 rfl rfl)
theorem dL_law_1228 : decode cL_law 1228 = .ok (.iadd, 1) := dk_96 (dk_at dksL_law_49 12 rfl rfl)
theorem dL_law_1229 : decode cL_law 1229 = .ok (.iaload, 1) := dk_46 (dk_at dksL_law_49 13 rfl rfl)
theorem dL_law_1230 : decode cL_law 1230 = .ok (.aload_n 0, 1) := dk_42 (dk_at dksL_law_49 14 rfl rfl)
theorem dL_law_1231 : decode cL_law 1231 = .ok (.iload 4, 2) := dk_21 4 (dk_at dksL_law_49 15 rfl rfl)
theorem dL_law_1233 : decode cL_law 1233 = .ok (.iconst 2, 1) := dk_5 (dk_at dksL_law_49 17 rfl rfl)
theorem dL_law_1234 : decode cL_law 1234 = .ok (.iadd, 1) := dk_96 (dk_at dksL_law_49 18 rfl rfl)
theorem dL_law_1235 : decode cL_law 1235 = .ok (.iaload, 1) := dk_46 (dk_at dksL_law_49 19 rfl rfl)
theorem dL_law_1236 : decode cL_law 1236 = .ok (.invokevirtual 136, 3) := dk_182 0 136 (dk_at dksL_law_49 20 rfl rfl)
theorem dL_law_1239 : decode cL_law 1239 = .ok (.istore 6, 2) := dk_54 6 (dk_at dksL_law_50 0 rfl rfl)
theorem dL_law_1241 : decode cL_law 1241 = .ok (.aload_n 2, 1) := dk_44 (dk_at dksL_law_50 2 rfl rfl)
theorem dL_law_1242 : decode cL_law 1242 = .ok (.invokevirtual 88, 3) := dk_182 0 88 (dk_at dksL_law_50 3 rfl rfl)
theorem dL_law_1245 : decode cL_law 1245 = .ok (.iload 5, 2) := dk_21 5 (dk_at dksL_law_50 6 rfl rfl)
theorem dL_law_1247 : decode cL_law 1247 = .ok (.if_icmp .eq 5, 3) := dk_159 0 5 (dk_at dksL_law_50 8 rfl rfl)
theorem dL_law_1250 : decode cL_law 1250 = .ok (.iconst 0, 1) := dk_3 (dk_at dksL_law_50 11 rfl rfl)
theorem dL_law_1251 : decode cL_law 1251 = .ok (.ireturn, 1) := dk_172 (dk_at dksL_law_50 12 rfl rfl)
theorem dL_law_1252 : decode cL_law 1252 = .ok (.iload 5, 2) := dk_21 5 (dk_at dksL_law_50 13 rfl rfl)
theorem dL_law_1254 : decode cL_law 1254 = .ok (.ifCond .ne 15, 3) := dk_154 0 15 (dk_at dksL_law_50 15 rfl rfl)
theorem dL_law_1257 : decode cL_law 1257 = .ok (.aload_n 3, 1) := dk_45 (dk_at dksL_law_50 18 rfl rfl)
theorem dL_law_1258 : decode cL_law 1258 = .ok (.iconst 0, 1) := dk_3 (dk_at dksL_law_50 19 rfl rfl)
theorem dL_law_1259 : decode cL_law 1259 = .ok (.laload, 1) := dk_47 (dk_at dksL_law_50 20 rfl rfl)
theorem dL_law_1260 : decode cL_law 1260 = .ok (.iload 6, 2) := dk_21 6 (dk_at dksL_law_50 21 rfl rfl)
theorem dL_law_1262 : decode cL_law 1262 = .ok (.i2l, 1) := dk_133 (dk_at dksL_law_50 23 rfl rfl)
theorem dL_law_1263 : decode cL_law 1263 = .ok (.lcmp, 1) := dk_148 (dk_at dksL_law_51 0 rfl rfl)
theorem dL_law_1264 : decode cL_law 1264 = .ok (.ifCond .eq 5, 3) := dk_153 0 5 (dk_at dksL_law_51 1 rfl rfl)
theorem dL_law_1267 : decode cL_law 1267 = .ok (.iconst 0, 1) := dk_3 (dk_at dksL_law_51 4 rfl rfl)
theorem dL_law_1268 : decode cL_law 1268 = .ok (.ireturn, 1) := dk_172 (dk_at dksL_law_51 5 rfl rfl)
theorem dL_law_1269 : decode cL_law 1269 = .ok (.goto 329, 3) := dk_167 1 73 (dk_at dksL_law_51 6 rfl rfl)
theorem dL_law_1272 : decode cL_law 1272 = .ok (.aload_n 1, 1) := dk_43 (dk_at dksL_law_51 9 rfl rfl)
theorem dL_law_1273 : decode cL_law 1273 = .ok (.aload_n 0, 1) := dk_42 (dk_at dksL_law_51 10 rfl rfl)
theorem dL_law_1274 : decode cL_law 1274 = .ok (.iload 4, 2) := dk_21 4 (dk_at dksL_law_51 11 rfl rfl)
theorem dL_law_1276 : decode cL_law 1276 = .ok (.iconst 1, 1) := dk_4 (dk_at dksL_law_51 13 rfl rfl)
theorem dL_law_1277 : decode cL_law 1277 = .ok (.iadd, 1) := dk_96 (dk_at dksL_law_51 14 rfl rfl)
theorem dL_law_1278 : decode cL_law 1278 = .ok (.iaload, 1) := dk_46 (dk_at dksL_law_51 15 rfl rfl)
theorem dL_law_1279 : decode cL_law 1279 = .ok (.aload_n 0, 1) := dk_42 (dk_at dksL_law_51 16 rfl rfl)
theorem dL_law_1280 : decode cL_law 1280 = .ok (.iload 4, 2) := dk_21 4 (dk_at dksL_law_51 17 rfl rfl)
theorem dL_law_1282 : decode cL_law 1282 = .ok (.iconst 2, 1) := dk_5 (dk_at dksL_law_51 19 rfl rfl)
theorem dL_law_1283 : decode cL_law 1283 = .ok (.iadd, 1) := dk_96 (dk_at dksL_law_51 20 rfl rfl)
theorem dL_law_1284 : decode cL_law 1284 = .ok (.iaload, 1) := dk_46 (dk_at dksL_law_51 21 rfl rfl)
theorem dL_law_1285 : decode cL_law 1285 = .ok (.aload_n 0, 1) := dk_42 (dk_at dksL_law_51 22 rfl rfl)
theorem dL_law_1286 : decode cL_law 1286 = .ok (.iload 4, 2) := dk_21 4 (dk_at dksL_law_52 0 rfl rfl)
theorem dL_law_1288 : decode cL_law 1288 = .ok (.iconst 3, 1) := dk_6 (dk_at dksL_law_52 2 rfl rfl)
theorem dL_law_1289 : decode cL_law 1289 = .ok (.iadd, 1) := dk_96 (dk_at dksL_law_52 3 rfl rfl)
theorem dL_law_1290 : decode cL_law 1290 = .ok (.iaload, 1) := dk_46 (dk_at dksL_law_52 4 rfl rfl)
theorem dL_law_1291 : decode cL_law 1291 = .ok (.aload_n 3, 1) := dk_45 (dk_at dksL_law_52 5 rfl rfl)
theorem dL_law_1292 : decode cL_law 1292 = .ok (.invokestatic 137, 3) := dk_184 0 137 (dk_at dksL_law_52 6 rfl rfl)
theorem dL_law_1295 : decode cL_law 1295 = .ok (.istore 5, 2) := dk_54 5 (dk_at dksL_law_52 9 rfl rfl)
theorem dL_law_1297 : decode cL_law 1297 = .ok (.aload_n 2, 1) := dk_44 (dk_at dksL_law_52 11 rfl rfl)
theorem dL_law_1298 : decode cL_law 1298 = .ok (.aload_n 0, 1) := dk_42 (dk_at dksL_law_52 12 rfl rfl)
theorem dL_law_1299 : decode cL_law 1299 = .ok (.iload 4, 2) := dk_21 4 (dk_at dksL_law_52 13 rfl rfl)
theorem dL_law_1301 : decode cL_law 1301 = .ok (.iconst 1, 1) := dk_4 (dk_at dksL_law_52 15 rfl rfl)
theorem dL_law_1302 : decode cL_law 1302 = .ok (.iadd, 1) := dk_96 (dk_at dksL_law_52 16 rfl rfl)
theorem dL_law_1303 : decode cL_law 1303 = .ok (.iaload, 1) := dk_46 (dk_at dksL_law_52 17 rfl rfl)
theorem dL_law_1304 : decode cL_law 1304 = .ok (.aload_n 0, 1) := dk_42 (dk_at dksL_law_52 18 rfl rfl)
theorem dL_law_1305 : decode cL_law 1305 = .ok (.iload 4, 2) := dk_21 4 (dk_at dksL_law_52 19 rfl rfl)
theorem dL_law_1307 : decode cL_law 1307 = .ok (.iconst 2, 1) := dk_5 (dk_at dksL_law_52 21 rfl rfl)
theorem dL_law_1308 : decode cL_law 1308 = .ok (.iadd, 1) := dk_96 (dk_at dksL_law_52 22 rfl rfl)
theorem dL_law_1309 : decode cL_law 1309 = .ok (.iaload, 1) := dk_46 (dk_at dksL_law_52 23 rfl rfl)
theorem dL_law_1310 : decode cL_law 1310 = .ok (.aload_n 0, 1) := dk_42 (dk_at dksL_law_53 0 rfl rfl)
theorem dL_law_1311 : decode cL_law 1311 = .ok (.iload 4, 2) := dk_21 4 (dk_at dksL_law_53 1 rfl rfl)
theorem dL_law_1313 : decode cL_law 1313 = .ok (.iconst 3, 1) := dk_6 (dk_at dksL_law_53 3 rfl rfl)
theorem dL_law_1314 : decode cL_law 1314 = .ok (.iadd, 1) := dk_96 (dk_at dksL_law_53 4 rfl rfl)
theorem dL_law_1315 : decode cL_law 1315 = .ok (.iaload, 1) := dk_46 (dk_at dksL_law_53 5 rfl rfl)
theorem dL_law_1316 : decode cL_law 1316 = .ok (.invokevirtual 139, 3) := dk_182 0 139 (dk_at dksL_law_53 6 rfl rfl)
theorem dL_law_1319 : decode cL_law 1319 = .ok (.istore 6, 2) := dk_54 6 (dk_at dksL_law_53 9 rfl rfl)
theorem dL_law_1321 : decode cL_law 1321 = .ok (.aload_n 2, 1) := dk_44 (dk_at dksL_law_53 11 rfl rfl)
theorem dL_law_1322 : decode cL_law 1322 = .ok (.invokevirtual 88, 3) := dk_182 0 88 (dk_at dksL_law_53 12 rfl rfl)
theorem dL_law_1325 : decode cL_law 1325 = .ok (.iload 5, 2) := dk_21 5 (dk_at dksL_law_53 15 rfl rfl)
theorem dL_law_1327 : decode cL_law 1327 = .ok (.if_icmp .eq 5, 3) := dk_159 0 5 (dk_at dksL_law_53 17 rfl rfl)
theorem dL_law_1330 : decode cL_law 1330 = .ok (.iconst 0, 1) := dk_3 (dk_at dksL_law_53 20 rfl rfl)
theorem dL_law_1331 : decode cL_law 1331 = .ok (.ireturn, 1) := dk_172 (dk_at dksL_law_53 21 rfl rfl)
theorem dL_law_1332 : decode cL_law 1332 = .ok (.iload 5, 2) := dk_21 5 (dk_at dksL_law_53 22 rfl rfl)
theorem dL_law_1334 : decode cL_law 1334 = .ok (.ifCond .ne 15, 3) := dk_154 0 15 (dk_at dksL_law_54 0 rfl rfl)
theorem dL_law_1337 : decode cL_law 1337 = .ok (.aload_n 3, 1) := dk_45 (dk_at dksL_law_54 3 rfl rfl)
theorem dL_law_1338 : decode cL_law 1338 = .ok (.iconst 0, 1) := dk_3 (dk_at dksL_law_54 4 rfl rfl)
theorem dL_law_1339 : decode cL_law 1339 = .ok (.laload, 1) := dk_47 (dk_at dksL_law_54 5 rfl rfl)
theorem dL_law_1340 : decode cL_law 1340 = .ok (.iload 6, 2) := dk_21 6 (dk_at dksL_law_54 6 rfl rfl)
theorem dL_law_1342 : decode cL_law 1342 = .ok (.i2l, 1) := dk_133 (dk_at dksL_law_54 8 rfl rfl)
theorem dL_law_1343 : decode cL_law 1343 = .ok (.lcmp, 1) := dk_148 (dk_at dksL_law_54 9 rfl rfl)
theorem dL_law_1344 : decode cL_law 1344 = .ok (.ifCond .eq 5, 3) := dk_153 0 5 (dk_at dksL_law_54 10 rfl rfl)
theorem dL_law_1347 : decode cL_law 1347 = .ok (.iconst 0, 1) := dk_3 (dk_at dksL_law_54 13 rfl rfl)
theorem dL_law_1348 : decode cL_law 1348 = .ok (.ireturn, 1) := dk_172 (dk_at dksL_law_54 14 rfl rfl)
theorem dL_law_1349 : decode cL_law 1349 = .ok (.goto 249, 3) := dk_167 0 249 (dk_at dksL_law_54 15 rfl rfl)
theorem dL_law_1352 : decode cL_law 1352 = .ok (.aload_n 1, 1) := dk_43 (dk_at dksL_law_54 18 rfl rfl)
theorem dL_law_1353 : decode cL_law 1353 = .ok (.aload_n 0, 1) := dk_42 (dk_at dksL_law_54 19 rfl rfl)
theorem dL_law_1354 : decode cL_law 1354 = .ok (.iload 4, 2) := dk_21 4 (dk_at dksL_law_54 20 rfl rfl)
theorem dL_law_1356 : decode cL_law 1356 = .ok (.iconst 1, 1) := dk_4 (dk_at dksL_law_54 22 rfl rfl)
theorem dL_law_1357 : decode cL_law 1357 = .ok (.iadd, 1) := dk_96 (dk_at dksL_law_54 23 rfl rfl)
theorem dL_law_1358 : decode cL_law 1358 = .ok (.iaload, 1) := dk_46 (dk_at dksL_law_55 0 rfl rfl)
theorem dL_law_1359 : decode cL_law 1359 = .ok (.aload_n 0, 1) := dk_42 (dk_at dksL_law_55 1 rfl rfl)
theorem dL_law_1360 : decode cL_law 1360 = .ok (.iload 4, 2) := dk_21 4 (dk_at dksL_law_55 2 rfl rfl)
theorem dL_law_1362 : decode cL_law 1362 = .ok (.iconst 2, 1) := dk_5 (dk_at dksL_law_55 4 rfl rfl)
theorem dL_law_1363 : decode cL_law 1363 = .ok (.iadd, 1) := dk_96 (dk_at dksL_law_55 5 rfl rfl)
theorem dL_law_1364 : decode cL_law 1364 = .ok (.iaload, 1) := dk_46 (dk_at dksL_law_55 6 rfl rfl)
theorem dL_law_1365 : decode cL_law 1365 = .ok (.aload_n 3, 1) := dk_45 (dk_at dksL_law_55 7 rfl rfl)
theorem dL_law_1366 : decode cL_law 1366 = .ok (.invokestatic 140, 3) := dk_184 0 140 (dk_at dksL_law_55 8 rfl rfl)
theorem dL_law_1369 : decode cL_law 1369 = .ok (.istore 5, 2) := dk_54 5 (dk_at dksL_law_55 11 rfl rfl)
theorem dL_law_1371 : decode cL_law 1371 = .ok (.aload_n 2, 1) := dk_44 (dk_at dksL_law_55 13 rfl rfl)
theorem dL_law_1372 : decode cL_law 1372 = .ok (.aload_n 0, 1) := dk_42 (dk_at dksL_law_55 14 rfl rfl)
theorem dL_law_1373 : decode cL_law 1373 = .ok (.iload 4, 2) := dk_21 4 (dk_at dksL_law_55 15 rfl rfl)
theorem dL_law_1375 : decode cL_law 1375 = .ok (.iconst 1, 1) := dk_4 (dk_at dksL_law_55 17 rfl rfl)
theorem dL_law_1376 : decode cL_law 1376 = .ok (.iadd, 1) := dk_96 (dk_at dksL_law_55 18 rfl rfl)
theorem dL_law_1377 : decode cL_law 1377 = .ok (.iaload, 1) := dk_46 (dk_at dksL_law_55 19 rfl rfl)
theorem dL_law_1378 : decode cL_law 1378 = .ok (.aload_n 0, 1) := dk_42 (dk_at dksL_law_55 20 rfl rfl)
theorem dL_law_1379 : decode cL_law 1379 = .ok (.iload 4, 2) := dk_21 4 (dk_at dksL_law_55 21 rfl rfl)
theorem dL_law_1381 : decode cL_law 1381 = .ok (.iconst 2, 1) := dk_5 (dk_at dksL_law_55 23 rfl rfl)
theorem dL_law_1382 : decode cL_law 1382 = .ok (.iadd, 1) := dk_96 (dk_at dksL_law_56 0 rfl rfl)
theorem dL_law_1383 : decode cL_law 1383 = .ok (.iaload, 1) := dk_46 (dk_at dksL_law_56 1 rfl rfl)
theorem dL_law_1384 : decode cL_law 1384 = .ok (.invokevirtual 142, 3) := dk_182 0 142 (dk_at dksL_law_56 2 rfl rfl)
theorem dL_law_1387 : decode cL_law 1387 = .ok (.istore 6, 2) := dk_54 6 (dk_at dksL_law_56 5 rfl rfl)
theorem dL_law_1389 : decode cL_law 1389 = .ok (.aload_n 2, 1) := dk_44 (dk_at dksL_law_56 7 rfl rfl)
theorem dL_law_1390 : decode cL_law 1390 = .ok (.invokevirtual 88, 3) := dk_182 0 88 (dk_at dksL_law_56 8 rfl rfl)
theorem dL_law_1393 : decode cL_law 1393 = .ok (.iload 5, 2) := dk_21 5 (dk_at dksL_law_56 11 rfl rfl)
theorem dL_law_1395 : decode cL_law 1395 = .ok (.if_icmp .eq 5, 3) := dk_159 0 5 (dk_at dksL_law_56 13 rfl rfl)
theorem dL_law_1398 : decode cL_law 1398 = .ok (.iconst 0, 1) := dk_3 (dk_at dksL_law_56 16 rfl rfl)
theorem dL_law_1399 : decode cL_law 1399 = .ok (.ireturn, 1) := dk_172 (dk_at dksL_law_56 17 rfl rfl)
theorem dL_law_1400 : decode cL_law 1400 = .ok (.iload 5, 2) := dk_21 5 (dk_at dksL_law_56 18 rfl rfl)
theorem dL_law_1402 : decode cL_law 1402 = .ok (.ifCond .ne 15, 3) := dk_154 0 15 (dk_at dksL_law_56 20 rfl rfl)
theorem dL_law_1405 : decode cL_law 1405 = .ok (.aload_n 3, 1) := dk_45 (dk_at dksL_law_56 23 rfl rfl)
theorem dL_law_1406 : decode cL_law 1406 = .ok (.iconst 0, 1) := dk_3 (dk_at dksL_law_57 0 rfl rfl)
theorem dL_law_1407 : decode cL_law 1407 = .ok (.laload, 1) := dk_47 (dk_at dksL_law_57 1 rfl rfl)
theorem dL_law_1408 : decode cL_law 1408 = .ok (.iload 6, 2) := dk_21 6 (dk_at dksL_law_57 2 rfl rfl)
theorem dL_law_1410 : decode cL_law 1410 = .ok (.i2l, 1) := dk_133 (dk_at dksL_law_57 4 rfl rfl)
theorem dL_law_1411 : decode cL_law 1411 = .ok (.lcmp, 1) := dk_148 (dk_at dksL_law_57 5 rfl rfl)
theorem dL_law_1412 : decode cL_law 1412 = .ok (.ifCond .eq 5, 3) := dk_153 0 5 (dk_at dksL_law_57 6 rfl rfl)
theorem dL_law_1415 : decode cL_law 1415 = .ok (.iconst 0, 1) := dk_3 (dk_at dksL_law_57 9 rfl rfl)
theorem dL_law_1416 : decode cL_law 1416 = .ok (.ireturn, 1) := dk_172 (dk_at dksL_law_57 10 rfl rfl)
theorem dL_law_1417 : decode cL_law 1417 = .ok (.goto 181, 3) := dk_167 0 181 (dk_at dksL_law_57 11 rfl rfl)
theorem dL_law_1420 : decode cL_law 1420 = .ok (.aload_n 1, 1) := dk_43 (dk_at dksL_law_57 14 rfl rfl)
theorem dL_law_1421 : decode cL_law 1421 = .ok (.aload_n 0, 1) := dk_42 (dk_at dksL_law_57 15 rfl rfl)
theorem dL_law_1422 : decode cL_law 1422 = .ok (.iload 4, 2) := dk_21 4 (dk_at dksL_law_57 16 rfl rfl)
theorem dL_law_1424 : decode cL_law 1424 = .ok (.iconst 1, 1) := dk_4 (dk_at dksL_law_57 18 rfl rfl)
theorem dL_law_1425 : decode cL_law 1425 = .ok (.iadd, 1) := dk_96 (dk_at dksL_law_57 19 rfl rfl)
theorem dL_law_1426 : decode cL_law 1426 = .ok (.iaload, 1) := dk_46 (dk_at dksL_law_57 20 rfl rfl)
theorem dL_law_1427 : decode cL_law 1427 = .ok (.aload_n 0, 1) := dk_42 (dk_at dksL_law_57 21 rfl rfl)
theorem dL_law_1428 : decode cL_law 1428 = .ok (.iload 4, 2) := dk_21 4 (dk_at dksL_law_57 22 rfl rfl)
theorem dL_law_1430 : decode cL_law 1430 = .ok (.iconst 2, 1) := dk_5 (dk_at dksL_law_58 0 rfl rfl)
theorem dL_law_1431 : decode cL_law 1431 = .ok (.iadd, 1) := dk_96 (dk_at dksL_law_58 1 rfl rfl)
theorem dL_law_1432 : decode cL_law 1432 = .ok (.iaload, 1) := dk_46 (dk_at dksL_law_58 2 rfl rfl)
theorem dL_law_1433 : decode cL_law 1433 = .ok (.aload_n 3, 1) := dk_45 (dk_at dksL_law_58 3 rfl rfl)
theorem dL_law_1434 : decode cL_law 1434 = .ok (.invokestatic 143, 3) := dk_184 0 143 (dk_at dksL_law_58 4 rfl rfl)
theorem dL_law_1437 : decode cL_law 1437 = .ok (.istore 5, 2) := dk_54 5 (dk_at dksL_law_58 7 rfl rfl)
theorem dL_law_1439 : decode cL_law 1439 = .ok (.aload_n 2, 1) := dk_44 (dk_at dksL_law_58 9 rfl rfl)
theorem dL_law_1440 : decode cL_law 1440 = .ok (.aload_n 0, 1) := dk_42 (dk_at dksL_law_58 10 rfl rfl)
theorem dL_law_1441 : decode cL_law 1441 = .ok (.iload 4, 2) := dk_21 4 (dk_at dksL_law_58 11 rfl rfl)
theorem dL_law_1443 : decode cL_law 1443 = .ok (.iconst 1, 1) := dk_4 (dk_at dksL_law_58 13 rfl rfl)
theorem dL_law_1444 : decode cL_law 1444 = .ok (.iadd, 1) := dk_96 (dk_at dksL_law_58 14 rfl rfl)
theorem dL_law_1445 : decode cL_law 1445 = .ok (.iaload, 1) := dk_46 (dk_at dksL_law_58 15 rfl rfl)
theorem dL_law_1446 : decode cL_law 1446 = .ok (.aload_n 0, 1) := dk_42 (dk_at dksL_law_58 16 rfl rfl)
theorem dL_law_1447 : decode cL_law 1447 = .ok (.iload 4, 2) := dk_21 4 (dk_at dksL_law_58 17 rfl rfl)
theorem dL_law_1449 : decode cL_law 1449 = .ok (.iconst 2, 1) := dk_5 (dk_at dksL_law_58 19 rfl rfl)
theorem dL_law_1450 : decode cL_law 1450 = .ok (.iadd, 1) := dk_96 (dk_at dksL_law_58 20 rfl rfl)
theorem dL_law_1451 : decode cL_law 1451 = .ok (.iaload, 1) := dk_46 (dk_at dksL_law_58 21 rfl rfl)
theorem dL_law_1452 : decode cL_law 1452 = .ok (.invokevirtual 145, 3) := dk_182 0 145 (dk_at dksL_law_59 0 rfl rfl)
theorem dL_law_1455 : decode cL_law 1455 = .ok (.istore 6, 2) := dk_54 6 (dk_at dksL_law_59 3 rfl rfl)
theorem dL_law_1457 : decode cL_law 1457 = .ok (.aload_n 2, 1) := dk_44 (dk_at dksL_law_59 5 rfl rfl)
theorem dL_law_1458 : decode cL_law 1458 = .ok (.invokevirtual 88, 3) := dk_182 0 88 (dk_at dksL_law_59 6 rfl rfl)
theorem dL_law_1461 : decode cL_law 1461 = .ok (.iload 5, 2) := dk_21 5 (dk_at dksL_law_59 9 rfl rfl)
theorem dL_law_1463 : decode cL_law 1463 = .ok (.if_icmp .eq 5, 3) := dk_159 0 5 (dk_at dksL_law_59 11 rfl rfl)
theorem dL_law_1466 : decode cL_law 1466 = .ok (.iconst 0, 1) := dk_3 (dk_at dksL_law_59 14 rfl rfl)
theorem dL_law_1467 : decode cL_law 1467 = .ok (.ireturn, 1) := dk_172 (dk_at dksL_law_59 15 rfl rfl)
theorem dL_law_1468 : decode cL_law 1468 = .ok (.iload 5, 2) := dk_21 5 (dk_at dksL_law_59 16 rfl rfl)
theorem dL_law_1470 : decode cL_law 1470 = .ok (.ifCond .ne 15, 3) := dk_154 0 15 (dk_at dksL_law_59 18 rfl rfl)
theorem dL_law_1473 : decode cL_law 1473 = .ok (.aload_n 3, 1) := dk_45 (dk_at dksL_law_59 21 rfl rfl)
theorem dL_law_1474 : decode cL_law 1474 = .ok (.iconst 0, 1) := dk_3 (dk_at dksL_law_59 22 rfl rfl)
theorem dL_law_1475 : decode cL_law 1475 = .ok (.laload, 1) := dk_47 (dk_at dksL_law_59 23 rfl rfl)
theorem dL_law_1476 : decode cL_law 1476 = .ok (.iload 6, 2) := dk_21 6 (dk_at dksL_law_60 0 rfl rfl)
theorem dL_law_1478 : decode cL_law 1478 = .ok (.i2l, 1) := dk_133 (dk_at dksL_law_60 2 rfl rfl)
theorem dL_law_1479 : decode cL_law 1479 = .ok (.lcmp, 1) := dk_148 (dk_at dksL_law_60 3 rfl rfl)
theorem dL_law_1480 : decode cL_law 1480 = .ok (.ifCond .eq 5, 3) := dk_153 0 5 (dk_at dksL_law_60 4 rfl rfl)
theorem dL_law_1483 : decode cL_law 1483 = .ok (.iconst 0, 1) := dk_3 (dk_at dksL_law_60 7 rfl rfl)
theorem dL_law_1484 : decode cL_law 1484 = .ok (.ireturn, 1) := dk_172 (dk_at dksL_law_60 8 rfl rfl)
theorem dL_law_1485 : decode cL_law 1485 = .ok (.goto 113, 3) := dk_167 0 113 (dk_at dksL_law_60 9 rfl rfl)
theorem dL_law_1488 : decode cL_law 1488 = .ok (.aload_n 1, 1) := dk_43 (dk_at dksL_law_60 12 rfl rfl)
theorem dL_law_1489 : decode cL_law 1489 = .ok (.aload_n 0, 1) := dk_42 (dk_at dksL_law_60 13 rfl rfl)
theorem dL_law_1490 : decode cL_law 1490 = .ok (.iload 4, 2) := dk_21 4 (dk_at dksL_law_60 14 rfl rfl)
theorem dL_law_1492 : decode cL_law 1492 = .ok (.iconst 1, 1) := dk_4 (dk_at dksL_law_60 16 rfl rfl)
theorem dL_law_1493 : decode cL_law 1493 = .ok (.iadd, 1) := dk_96 (dk_at dksL_law_60 17 rfl rfl)
theorem dL_law_1494 : decode cL_law 1494 = .ok (.iaload, 1) := dk_46 (dk_at dksL_law_60 18 rfl rfl)
theorem dL_law_1495 : decode cL_law 1495 = .ok (.aload_n 3, 1) := dk_45 (dk_at dksL_law_60 19 rfl rfl)
theorem dL_law_1496 : decode cL_law 1496 = .ok (.invokestatic 146, 3) := dk_184 0 146 (dk_at dksL_law_60 20 rfl rfl)
theorem dL_law_1499 : decode cL_law 1499 = .ok (.istore 5, 2) := dk_54 5 (dk_at dksL_law_61 0 rfl rfl)
theorem dL_law_1501 : decode cL_law 1501 = .ok (.aload_n 2, 1) := dk_44 (dk_at dksL_law_61 2 rfl rfl)
theorem dL_law_1502 : decode cL_law 1502 = .ok (.aload_n 0, 1) := dk_42 (dk_at dksL_law_61 3 rfl rfl)
theorem dL_law_1503 : decode cL_law 1503 = .ok (.iload 4, 2) := dk_21 4 (dk_at dksL_law_61 4 rfl rfl)
theorem dL_law_1505 : decode cL_law 1505 = .ok (.iconst 1, 1) := dk_4 (dk_at dksL_law_61 6 rfl rfl)
theorem dL_law_1506 : decode cL_law 1506 = .ok (.iadd, 1) := dk_96 (dk_at dksL_law_61 7 rfl rfl)
theorem dL_law_1507 : decode cL_law 1507 = .ok (.iaload, 1) := dk_46 (dk_at dksL_law_61 8 rfl rfl)
theorem dL_law_1508 : decode cL_law 1508 = .ok (.invokevirtual 148, 3) := dk_182 0 148 (dk_at dksL_law_61 9 rfl rfl)
theorem dL_law_1511 : decode cL_law 1511 = .ok (.istore 6, 2) := dk_54 6 (dk_at dksL_law_61 12 rfl rfl)
theorem dL_law_1513 : decode cL_law 1513 = .ok (.aload_n 2, 1) := dk_44 (dk_at dksL_law_61 14 rfl rfl)
theorem dL_law_1514 : decode cL_law 1514 = .ok (.invokevirtual 88, 3) := dk_182 0 88 (dk_at dksL_law_61 15 rfl rfl)
theorem dL_law_1517 : decode cL_law 1517 = .ok (.iload 5, 2) := dk_21 5 (dk_at dksL_law_61 18 rfl rfl)
theorem dL_law_1519 : decode cL_law 1519 = .ok (.if_icmp .eq 5, 3) := dk_159 0 5 (dk_at dksL_law_61 20 rfl rfl)
theorem dL_law_1522 : decode cL_law 1522 = .ok (.iconst 0, 1) := dk_3 (dk_at dksL_law_61 23 rfl rfl)
theorem dL_law_1523 : decode cL_law 1523 = .ok (.ireturn, 1) := dk_172 (dk_at dksL_law_62 0 rfl rfl)
theorem dL_law_1524 : decode cL_law 1524 = .ok (.iload 5, 2) := dk_21 5 (dk_at dksL_law_62 1 rfl rfl)
theorem dL_law_1526 : decode cL_law 1526 = .ok (.ifCond .ne 15, 3) := dk_154 0 15 (dk_at dksL_law_62 3 rfl rfl)
theorem dL_law_1529 : decode cL_law 1529 = .ok (.aload_n 3, 1) := dk_45 (dk_at dksL_law_62 6 rfl rfl)
theorem dL_law_1530 : decode cL_law 1530 = .ok (.iconst 0, 1) := dk_3 (dk_at dksL_law_62 7 rfl rfl)
theorem dL_law_1531 : decode cL_law 1531 = .ok (.laload, 1) := dk_47 (dk_at dksL_law_62 8 rfl rfl)
theorem dL_law_1532 : decode cL_law 1532 = .ok (.iload 6, 2) := dk_21 6 (dk_at dksL_law_62 9 rfl rfl)
theorem dL_law_1534 : decode cL_law 1534 = .ok (.i2l, 1) := dk_133 (dk_at dksL_law_62 11 rfl rfl)
theorem dL_law_1535 : decode cL_law 1535 = .ok (.lcmp, 1) := dk_148 (dk_at dksL_law_62 12 rfl rfl)
theorem dL_law_1536 : decode cL_law 1536 = .ok (.ifCond .eq 5, 3) := dk_153 0 5 (dk_at dksL_law_62 13 rfl rfl)
theorem dL_law_1539 : decode cL_law 1539 = .ok (.iconst 0, 1) := dk_3 (dk_at dksL_law_62 16 rfl rfl)
theorem dL_law_1540 : decode cL_law 1540 = .ok (.ireturn, 1) := dk_172 (dk_at dksL_law_62 17 rfl rfl)
theorem dL_law_1541 : decode cL_law 1541 = .ok (.goto 57, 3) := dk_167 0 57 (dk_at dksL_law_62 18 rfl rfl)
theorem dL_law_1544 : decode cL_law 1544 = .ok (.aload_n 1, 1) := dk_43 (dk_at dksL_law_62 21 rfl rfl)
theorem dL_law_1545 : decode cL_law 1545 = .ok (.invokevirtual 149, 3) := dk_182 0 149 (dk_at dksL_law_63 0 rfl rfl)
theorem dL_law_1548 : decode cL_law 1548 = .ok (.aload_n 2, 1) := dk_44 (dk_at dksL_law_63 3 rfl rfl)
theorem dL_law_1549 : decode cL_law 1549 = .ok (.invokevirtual 152, 3) := dk_182 0 152 (dk_at dksL_law_63 4 rfl rfl)
theorem dL_law_1552 : decode cL_law 1552 = .ok (.if_icmp .eq 46, 3) := dk_159 0 46 (dk_at dksL_law_63 7 rfl rfl)
theorem dL_law_1555 : decode cL_law 1555 = .ok (.iconst 0, 1) := dk_3 (dk_at dksL_law_63 10 rfl rfl)
theorem dL_law_1556 : decode cL_law 1556 = .ok (.ireturn, 1) := dk_172 (dk_at dksL_law_63 11 rfl rfl)
theorem dL_law_1557 : decode cL_law 1557 = .ok (.aload_n 1, 1) := dk_43 (dk_at dksL_law_63 12 rfl rfl)
theorem dL_law_1558 : decode cL_law 1558 = .ok (.invokevirtual 153, 3) := dk_182 0 153 (dk_at dksL_law_63 13 rfl rfl)
theorem dL_law_1561 : decode cL_law 1561 = .ok (.dstore 5, 2) := dk_57 5 (dk_at dksL_law_63 16 rfl rfl)
theorem dL_law_1563 : decode cL_law 1563 = .ok (.aload_n 2, 1) := dk_44 (dk_at dksL_law_63 18 rfl rfl)
theorem dL_law_1564 : decode cL_law 1564 = .ok (.invokevirtual 157, 3) := dk_182 0 157 (dk_at dksL_law_63 19 rfl rfl)
theorem dL_law_1567 : decode cL_law 1567 = .ok (.dstore 7, 2) := dk_57 7 (dk_at dksL_law_63 22 rfl rfl)
theorem dL_law_1569 : decode cL_law 1569 = .ok (.dload 5, 2) := dk_24 5 (dk_at dksL_law_64 0 rfl rfl)
theorem dL_law_1571 : decode cL_law 1571 = .ok (.dload 7, 2) := dk_24 7 (dk_at dksL_law_64 2 rfl rfl)
theorem dL_law_1573 : decode cL_law 1573 = .ok (.dcmp .l, 1) := dk_151 (dk_at dksL_law_64 4 rfl rfl)
theorem dL_law_1574 : decode cL_law 1574 = .ok (.ifCond .eq 21, 3) := dk_153 0 21 (dk_at dksL_law_64 5 rfl rfl)
theorem dL_law_1577 : decode cL_law 1577 = .ok (.dload 5, 2) := dk_24 5 (dk_at dksL_law_64 8 rfl rfl)
theorem dL_law_1579 : decode cL_law 1579 = .ok (.dload 5, 2) := dk_24 5 (dk_at dksL_law_64 10 rfl rfl)
theorem dL_law_1581 : decode cL_law 1581 = .ok (.dcmp .l, 1) := dk_151 (dk_at dksL_law_64 12 rfl rfl)
theorem dL_law_1582 : decode cL_law 1582 = .ok (.ifCond .eq 11, 3) := dk_153 0 11 (dk_at dksL_law_64 13 rfl rfl)
theorem dL_law_1585 : decode cL_law 1585 = .ok (.dload 7, 2) := dk_24 7 (dk_at dksL_law_64 16 rfl rfl)
theorem dL_law_1587 : decode cL_law 1587 = .ok (.dload 7, 2) := dk_24 7 (dk_at dksL_law_64 18 rfl rfl)
theorem dL_law_1589 : decode cL_law 1589 = .ok (.dcmp .l, 1) := dk_151 (dk_at dksL_law_64 20 rfl rfl)
theorem dL_law_1590 : decode cL_law 1590 = .ok (.ifCond .ne 5, 3) := dk_154 0 5 (dk_at dksL_law_64 21 rfl rfl)
theorem dL_law_1593 : decode cL_law 1593 = .ok (.iconst 0, 1) := dk_3 (dk_at dksL_law_65 0 rfl rfl)
theorem dL_law_1594 : decode cL_law 1594 = .ok (.ireturn, 1) := dk_172 (dk_at dksL_law_65 1 rfl rfl)
theorem dL_law_1595 : decode cL_law 1595 = .ok (.goto 3, 3) := dk_167 0 3 (dk_at dksL_law_65 2 rfl rfl)
theorem dL_law_1598 : decode cL_law 1598 = .ok (.iinc 4 7, 3) := dk_132 4 7 (dk_at dksL_law_65 5 rfl rfl)
theorem dL_law_1601 : decode cL_law 1601 = .ok (.goto (-1578), 3) := dk_167 249 214 (dk_at dksL_law_65 8 rfl rfl)
theorem dL_law_1604 : decode cL_law 1604 = .ok (.iconst 1, 1) := dk_4 (dk_at dksL_law_65 11 rfl rfl)
theorem dL_law_1605 : decode cL_law 1605 = .ok (.ireturn, 1) := dk_172 (dk_at dksL_law_65 12 rfl rfl)
/-! Grantworks$Table -/
set_option maxRecDepth 100000
def RX2 : String := "Grantworks$Table"
def TX2 : u_T := fun k => match k with
  | 0 => ("Grantworks$Table", "rows", "[LGrantworks$Account;", true)
  | 1 => ("Grantworks$Table", "first", "LGrantworks$Account;", false)
  | 2 => ("Grantworks$Table", "last", "LGrantworks$Account;", false)
  | _ => ("Grantworks$Table", "count", "I", false)
def tyX2 : Nat → FieldType := fun k => match k with
  | 0 => .array (.object "Grantworks$Account")
  | 1 => .object "Grantworks$Account"
  | 2 => .object "Grantworks$Account"
  | _ => .int
abbrev wsX20 : List Cond := u_ws RX2 TX2 4
theorem nmX2 : ∀ a, a < 4 → ∀ b, b < 4 → a ≠ b → (TX2 a).2.1 ≠ (TX2 b).2.1 := by decide +kernel
theorem tyX2_ok : ∀ k, k < 4 → parseFieldDescriptor (TX2 k).2.2.1 = some (tyX2 k) := by decide +kernel
abbrev cX2_init : ByteArray := prog_16_method_1_code
def yX2_init : MethodName := ⟨RX2, "<init>", "()V"⟩
def dkwX2_init_0 : List UInt8 := [42, 183, 0, 1, 42, 16, 16, 189, 0, 7, 181, 0, 9, 177]
abbrev dktX2_init_0 : List UInt8 := dkwX2_init_0 ++ []
theorem dksX2_init_0 : cX2_init.data.toList.drop 0 = dktX2_init_0 := by decide +kernel
theorem dX2_init_0 : decode cX2_init 0 = .ok (.aload_n 0, 1) := dk_42 (dk_at dksX2_init_0 0 rfl rfl)
theorem dX2_init_1 : decode cX2_init 1 = .ok (.invokespecial 1, 3) := dk_183 0 1 (dk_at dksX2_init_0 1 rfl rfl)
theorem dX2_init_4 : decode cX2_init 4 = .ok (.aload_n 0, 1) := dk_42 (dk_at dksX2_init_0 4 rfl rfl)
theorem dX2_init_5 : decode cX2_init 5 = .ok (.bipush 16, 2) := dk_16 16 (dk_at dksX2_init_0 5 rfl rfl)
theorem dX2_init_7 : decode cX2_init 7 = .ok (.anewarray 7, 3) := dk_189 0 7 (dk_at dksX2_init_0 7 rfl rfl)
theorem dX2_init_10 : decode cX2_init 10 = .ok (.putfield 9, 3) := dk_181 0 9 (dk_at dksX2_init_0 10 rfl rfl)
theorem dX2_init_13 : decode cX2_init 13 = .ok (.return_, 1) := dk_177 (dk_at dksX2_init_0 13 rfl rfl)
abbrev cX2_get : ByteArray := prog_16_method_2_code
def yX2_get : MethodName := ⟨RX2, "get", "(LGrantworks$Key;)LGrantworks$Account;"⟩
def dkwX2_get_1 : List UInt8 := [43, 182, 0, 25, 154, 0, 11, 44, 180, 0, 29, 77, 167, 255, 236, 44, 176]
abbrev dktX2_get_1 : List UInt8 := dkwX2_get_1 ++ []
def dkwX2_get_0 : List UInt8 := [42, 180, 0, 9, 43, 182, 0, 15, 42, 180, 0, 9, 190, 112, 50, 77, 44, 198, 0, 22, 44, 180, 0, 21]
abbrev dktX2_get_0 : List UInt8 := dkwX2_get_0 ++ dktX2_get_1
theorem dksX2_get_0 : cX2_get.data.toList.drop 0 = dktX2_get_0 := by decide +kernel
theorem dksX2_get_1 : cX2_get.data.toList.drop 24 = dktX2_get_1 := dk_seg dksX2_get_0 24 rfl rfl
theorem dX2_get_0 : decode cX2_get 0 = .ok (.aload_n 0, 1) := dk_42 (dk_at dksX2_get_0 0 rfl rfl)
theorem dX2_get_1 : decode cX2_get 1 = .ok (.getfield 9, 3) := dk_180 0 9 (dk_at dksX2_get_0 1 rfl rfl)
theorem dX2_get_4 : decode cX2_get 4 = .ok (.aload_n 1, 1) := dk_43 (dk_at dksX2_get_0 4 rfl rfl)
theorem dX2_get_5 : decode cX2_get 5 = .ok (.invokevirtual 15, 3) := dk_182 0 15 (dk_at dksX2_get_0 5 rfl rfl)
theorem dX2_get_8 : decode cX2_get 8 = .ok (.aload_n 0, 1) := dk_42 (dk_at dksX2_get_0 8 rfl rfl)
theorem dX2_get_9 : decode cX2_get 9 = .ok (.getfield 9, 3) := dk_180 0 9 (dk_at dksX2_get_0 9 rfl rfl)
theorem dX2_get_12 : decode cX2_get 12 = .ok (.arraylength, 1) := dk_190 (dk_at dksX2_get_0 12 rfl rfl)
theorem dX2_get_13 : decode cX2_get 13 = .ok (.irem, 1) := dk_112 (dk_at dksX2_get_0 13 rfl rfl)
theorem dX2_get_14 : decode cX2_get 14 = .ok (.aaload, 1) := dk_50 (dk_at dksX2_get_0 14 rfl rfl)
theorem dX2_get_15 : decode cX2_get 15 = .ok (.astore_n 2, 1) := dk_77 (dk_at dksX2_get_0 15 rfl rfl)
theorem dX2_get_16 : decode cX2_get 16 = .ok (.aload_n 2, 1) := dk_44 (dk_at dksX2_get_0 16 rfl rfl)
theorem dX2_get_17 : decode cX2_get 17 = .ok (.ifnull 22, 3) := dk_198 0 22 (dk_at dksX2_get_0 17 rfl rfl)
theorem dX2_get_20 : decode cX2_get 20 = .ok (.aload_n 2, 1) := dk_44 (dk_at dksX2_get_0 20 rfl rfl)
theorem dX2_get_21 : decode cX2_get 21 = .ok (.getfield 21, 3) := dk_180 0 21 (dk_at dksX2_get_0 21 rfl rfl)
theorem dX2_get_24 : decode cX2_get 24 = .ok (.aload_n 1, 1) := dk_43 (dk_at dksX2_get_1 0 rfl rfl)
theorem dX2_get_25 : decode cX2_get 25 = .ok (.invokevirtual 25, 3) := dk_182 0 25 (dk_at dksX2_get_1 1 rfl rfl)
theorem dX2_get_28 : decode cX2_get 28 = .ok (.ifCond .ne 11, 3) := dk_154 0 11 (dk_at dksX2_get_1 4 rfl rfl)
theorem dX2_get_31 : decode cX2_get 31 = .ok (.aload_n 2, 1) := dk_44 (dk_at dksX2_get_1 7 rfl rfl)
theorem dX2_get_32 : decode cX2_get 32 = .ok (.getfield 29, 3) := dk_180 0 29 (dk_at dksX2_get_1 8 rfl rfl)
theorem dX2_get_35 : decode cX2_get 35 = .ok (.astore_n 2, 1) := dk_77 (dk_at dksX2_get_1 11 rfl rfl)
theorem dX2_get_36 : decode cX2_get 36 = .ok (.goto (-20), 3) := dk_167 255 236 (dk_at dksX2_get_1 12 rfl rfl)
theorem dX2_get_39 : decode cX2_get 39 = .ok (.aload_n 2, 1) := dk_44 (dk_at dksX2_get_1 15 rfl rfl)
theorem dX2_get_40 : decode cX2_get 40 = .ok (.areturn, 1) := dk_176 (dk_at dksX2_get_1 16 rfl rfl)
abbrev cX2_add : ByteArray := prog_16_method_3_code
def yX2_add : MethodName := ⟨RX2, "add", "(LGrantworks$Key;)LGrantworks$Account;"⟩
def dkwX2_add_3 : List UInt8 := [180, 0, 33, 4, 96, 181, 0, 33, 44, 176]
abbrev dktX2_add_3 : List UInt8 := dkwX2_add_3 ++ []
def dkwX2_add_2 : List UInt8 := [42, 44, 181, 0, 40, 167, 0, 11, 42, 180, 0, 43, 44, 181, 0, 46, 42, 44, 181, 0, 43, 42, 89]
abbrev dktX2_add_2 : List UInt8 := dkwX2_add_2 ++ dktX2_add_3
def dkwX2_add_1 : List UInt8 := [44, 42, 180, 0, 9, 29, 50, 181, 0, 29, 42, 180, 0, 9, 29, 44, 83, 42, 180, 0, 40, 199, 0, 11]
abbrev dktX2_add_1 : List UInt8 := dkwX2_add_1 ++ dktX2_add_2
def dkwX2_add_0 : List UInt8 := [187, 0, 7, 89, 43, 42, 180, 0, 33, 183, 0, 37, 77, 43, 182, 0, 15, 42, 180, 0, 9, 190, 112, 62]
abbrev dktX2_add_0 : List UInt8 := dkwX2_add_0 ++ dktX2_add_1
theorem dksX2_add_0 : cX2_add.data.toList.drop 0 = dktX2_add_0 := by decide +kernel
theorem dksX2_add_1 : cX2_add.data.toList.drop 24 = dktX2_add_1 := dk_seg dksX2_add_0 24 rfl rfl
theorem dksX2_add_2 : cX2_add.data.toList.drop 48 = dktX2_add_2 := dk_seg dksX2_add_1 24 rfl rfl
theorem dksX2_add_3 : cX2_add.data.toList.drop 71 = dktX2_add_3 := dk_seg dksX2_add_2 23 rfl rfl
theorem dX2_add_0 : decode cX2_add 0 = .ok (.new 7, 3) := dk_187 0 7 (dk_at dksX2_add_0 0 rfl rfl)
theorem dX2_add_3 : decode cX2_add 3 = .ok (.dup, 1) := dk_89 (dk_at dksX2_add_0 3 rfl rfl)
theorem dX2_add_4 : decode cX2_add 4 = .ok (.aload_n 1, 1) := dk_43 (dk_at dksX2_add_0 4 rfl rfl)
theorem dX2_add_5 : decode cX2_add 5 = .ok (.aload_n 0, 1) := dk_42 (dk_at dksX2_add_0 5 rfl rfl)
theorem dX2_add_6 : decode cX2_add 6 = .ok (.getfield 33, 3) := dk_180 0 33 (dk_at dksX2_add_0 6 rfl rfl)
theorem dX2_add_9 : decode cX2_add 9 = .ok (.invokespecial 37, 3) := dk_183 0 37 (dk_at dksX2_add_0 9 rfl rfl)
theorem dX2_add_12 : decode cX2_add 12 = .ok (.astore_n 2, 1) := dk_77 (dk_at dksX2_add_0 12 rfl rfl)
theorem dX2_add_13 : decode cX2_add 13 = .ok (.aload_n 1, 1) := dk_43 (dk_at dksX2_add_0 13 rfl rfl)
theorem dX2_add_14 : decode cX2_add 14 = .ok (.invokevirtual 15, 3) := dk_182 0 15 (dk_at dksX2_add_0 14 rfl rfl)
theorem dX2_add_17 : decode cX2_add 17 = .ok (.aload_n 0, 1) := dk_42 (dk_at dksX2_add_0 17 rfl rfl)
theorem dX2_add_18 : decode cX2_add 18 = .ok (.getfield 9, 3) := dk_180 0 9 (dk_at dksX2_add_0 18 rfl rfl)
theorem dX2_add_21 : decode cX2_add 21 = .ok (.arraylength, 1) := dk_190 (dk_at dksX2_add_0 21 rfl rfl)
theorem dX2_add_22 : decode cX2_add 22 = .ok (.irem, 1) := dk_112 (dk_at dksX2_add_0 22 rfl rfl)
theorem dX2_add_23 : decode cX2_add 23 = .ok (.istore_n 3, 1) := dk_62 (dk_at dksX2_add_0 23 rfl rfl)
theorem dX2_add_24 : decode cX2_add 24 = .ok (.aload_n 2, 1) := dk_44 (dk_at dksX2_add_1 0 rfl rfl)
theorem dX2_add_25 : decode cX2_add 25 = .ok (.aload_n 0, 1) := dk_42 (dk_at dksX2_add_1 1 rfl rfl)
theorem dX2_add_26 : decode cX2_add 26 = .ok (.getfield 9, 3) := dk_180 0 9 (dk_at dksX2_add_1 2 rfl rfl)
theorem dX2_add_29 : decode cX2_add 29 = .ok (.iload_n 3, 1) := dk_29 (dk_at dksX2_add_1 5 rfl rfl)
theorem dX2_add_30 : decode cX2_add 30 = .ok (.aaload, 1) := dk_50 (dk_at dksX2_add_1 6 rfl rfl)
theorem dX2_add_31 : decode cX2_add 31 = .ok (.putfield 29, 3) := dk_181 0 29 (dk_at dksX2_add_1 7 rfl rfl)
theorem dX2_add_34 : decode cX2_add 34 = .ok (.aload_n 0, 1) := dk_42 (dk_at dksX2_add_1 10 rfl rfl)
theorem dX2_add_35 : decode cX2_add 35 = .ok (.getfield 9, 3) := dk_180 0 9 (dk_at dksX2_add_1 11 rfl rfl)
theorem dX2_add_38 : decode cX2_add 38 = .ok (.iload_n 3, 1) := dk_29 (dk_at dksX2_add_1 14 rfl rfl)
theorem dX2_add_39 : decode cX2_add 39 = .ok (.aload_n 2, 1) := dk_44 (dk_at dksX2_add_1 15 rfl rfl)
theorem dX2_add_40 : decode cX2_add 40 = .ok (.aastore, 1) := dk_83 (dk_at dksX2_add_1 16 rfl rfl)
theorem dX2_add_41 : decode cX2_add 41 = .ok (.aload_n 0, 1) := dk_42 (dk_at dksX2_add_1 17 rfl rfl)
theorem dX2_add_42 : decode cX2_add 42 = .ok (.getfield 40, 3) := dk_180 0 40 (dk_at dksX2_add_1 18 rfl rfl)
theorem dX2_add_45 : decode cX2_add 45 = .ok (.ifnonnull 11, 3) := dk_199 0 11 (dk_at dksX2_add_1 21 rfl rfl)
theorem dX2_add_48 : decode cX2_add 48 = .ok (.aload_n 0, 1) := dk_42 (dk_at dksX2_add_2 0 rfl rfl)
theorem dX2_add_49 : decode cX2_add 49 = .ok (.aload_n 2, 1) := dk_44 (dk_at dksX2_add_2 1 rfl rfl)
theorem dX2_add_50 : decode cX2_add 50 = .ok (.putfield 40, 3) := dk_181 0 40 (dk_at dksX2_add_2 2 rfl rfl)
theorem dX2_add_53 : decode cX2_add 53 = .ok (.goto 11, 3) := dk_167 0 11 (dk_at dksX2_add_2 5 rfl rfl)
theorem dX2_add_56 : decode cX2_add 56 = .ok (.aload_n 0, 1) := dk_42 (dk_at dksX2_add_2 8 rfl rfl)
theorem dX2_add_57 : decode cX2_add 57 = .ok (.getfield 43, 3) := dk_180 0 43 (dk_at dksX2_add_2 9 rfl rfl)
theorem dX2_add_60 : decode cX2_add 60 = .ok (.aload_n 2, 1) := dk_44 (dk_at dksX2_add_2 12 rfl rfl)
theorem dX2_add_61 : decode cX2_add 61 = .ok (.putfield 46, 3) := dk_181 0 46 (dk_at dksX2_add_2 13 rfl rfl)
theorem dX2_add_64 : decode cX2_add 64 = .ok (.aload_n 0, 1) := dk_42 (dk_at dksX2_add_2 16 rfl rfl)
theorem dX2_add_65 : decode cX2_add 65 = .ok (.aload_n 2, 1) := dk_44 (dk_at dksX2_add_2 17 rfl rfl)
theorem dX2_add_66 : decode cX2_add 66 = .ok (.putfield 43, 3) := dk_181 0 43 (dk_at dksX2_add_2 18 rfl rfl)
theorem dX2_add_69 : decode cX2_add 69 = .ok (.aload_n 0, 1) := dk_42 (dk_at dksX2_add_2 21 rfl rfl)
theorem dX2_add_70 : decode cX2_add 70 = .ok (.dup, 1) := dk_89 (dk_at dksX2_add_2 22 rfl rfl)
theorem dX2_add_71 : decode cX2_add 71 = .ok (.getfield 33, 3) := dk_180 0 33 (dk_at dksX2_add_3 0 rfl rfl)
theorem dX2_add_74 : decode cX2_add 74 = .ok (.iconst 1, 1) := dk_4 (dk_at dksX2_add_3 3 rfl rfl)
theorem dX2_add_75 : decode cX2_add 75 = .ok (.iadd, 1) := dk_96 (dk_at dksX2_add_3 4 rfl rfl)
theorem dX2_add_76 : decode cX2_add 76 = .ok (.putfield 33, 3) := dk_181 0 33 (dk_at dksX2_add_3 5 rfl rfl)
theorem dX2_add_79 : decode cX2_add 79 = .ok (.aload_n 2, 1) := dk_44 (dk_at dksX2_add_3 8 rfl rfl)
theorem dX2_add_80 : decode cX2_add 80 = .ok (.areturn, 1) := dk_176 (dk_at dksX2_add_3 9 rfl rfl)
theorem q43 : (Jvm.Cond.initialized "Grantworks$Table") ∈ lw_all := lw_g (lw_at lw_m1 2 rfl) rfl
theorem q73 : (Jvm.Cond.instantiable "Grantworks$Table" (4 : Nat)) ∈ lw_all := lw_g (lw_at lw_m1 32 rfl) rfl
theorem q75 : (Jvm.Cond.instanceMethod ({ cls := "Grantworks$Table", name := "<init>", desc := "()V" } : Jvm.MethodName)) ∈ lw_all := lw_g (lw_at lw_m1 34 rfl) rfl
theorem q76 : (Jvm.Cond.code ({ cls := "Grantworks$Table", name := "<init>", desc := "()V" } : Jvm.MethodName) prog_16_method_1_code (1 : Nat) (Option.none : Option Jvm.ClassFile.FieldType)) ∈ lw_all := lw_g (lw_at lw_m1 35 rfl) rfl
theorem q77 : (Jvm.Cond.methodLink "Grantworks$Table" (1 : Nat) ({ cls := "java/lang/Object", name := "<init>", desc := "()V" } : Jvm.MethodName)) ∈ lw_all := lw_g (lw_at lw_m1 36 rfl) rfl
theorem q78 : (Jvm.Cond.classLink "Grantworks$Table" (7 : Nat) "Grantworks$Account") ∈ lw_all := lw_g (lw_at lw_m1 37 rfl) rfl
theorem q80 : (Jvm.Cond.fieldLink "Grantworks$Table" (9 : Nat) "Grantworks$Table" "rows" "[LGrantworks$Account;") ∈ lw_all := lw_g (lw_at lw_m1 39 rfl) rfl
theorem q81 : (Jvm.Cond.fieldLink "Grantworks$Table" (40 : Nat) "Grantworks$Table" "first" "LGrantworks$Account;") ∈ lw_all := lw_g (lw_at lw_m1 40 rfl) rfl
theorem q83 : (Jvm.Cond.fieldLink "Grantworks$Table" (43 : Nat) "Grantworks$Table" "last" "LGrantworks$Account;") ∈ lw_all := lw_g (lw_at lw_m1 42 rfl) rfl
theorem q84 : (Jvm.Cond.fieldLink "Grantworks$Table" (33 : Nat) "Grantworks$Table" "count" "I") ∈ lw_all := lw_g (lw_at lw_m1 43 rfl) rfl
theorem q85 : (Jvm.Cond.laysFinal "Grantworks$Table" "Grantworks$Table" "rows" "[LGrantworks$Account;") ∈ lw_all := lw_g (lw_at lw_m1 44 rfl) rfl
theorem q86 : (Jvm.Cond.soleField "Grantworks$Table" "rows") ∈ lw_all := lw_g (lw_at lw_m1 45 rfl) rfl
theorem q87 : (Jvm.Cond.lays "Grantworks$Table" "Grantworks$Table" "first" "LGrantworks$Account;") ∈ lw_all := lw_g (lw_at lw_m1 46 rfl) rfl
theorem q88 : (Jvm.Cond.soleField "Grantworks$Table" "first") ∈ lw_all := lw_g (lw_at lw_m1 47 rfl) rfl
theorem q89 : (Jvm.Cond.lays "Grantworks$Table" "Grantworks$Table" "last" "LGrantworks$Account;") ∈ lw_all := lw_g (lw_at lw_m1 48 rfl) rfl
theorem q90 : (Jvm.Cond.soleField "Grantworks$Table" "last") ∈ lw_all := lw_g (lw_at lw_m1 49 rfl) rfl
theorem q91 : (Jvm.Cond.lays "Grantworks$Table" "Grantworks$Table" "count" "I") ∈ lw_all := lw_g (lw_at lw_m1 50 rfl) rfl
theorem q92 : (Jvm.Cond.soleField "Grantworks$Table" "count") ∈ lw_all := lw_g (lw_at lw_m1 51 rfl) rfl
theorem q93 : (Jvm.Cond.superclass "Grantworks$Table" "java/lang/Object") ∈ lw_all := lw_g (lw_at lw_m1 52 rfl) rfl
theorem q225 : (Jvm.Cond.instanceMethod ({ cls := "Grantworks$Table", name := "get", desc := "(LGrantworks$Key;)LGrantworks$Account;" } : Jvm.MethodName)) ∈ lw_all := lw_g (lw_at lw_m1 184 rfl) rfl
theorem q226 : (Jvm.Cond.selects "Grantworks$Table" ({ cls := "Grantworks$Table", name := "get", desc := "(LGrantworks$Key;)LGrantworks$Account;" } : Jvm.MethodName) ({ cls := "Grantworks$Table", name := "get", desc := "(LGrantworks$Key;)LGrantworks$Account;" } : Jvm.MethodName)) ∈ lw_all := lw_g (lw_at lw_m1 185 rfl) rfl
theorem q227 : (Jvm.Cond.code ({ cls := "Grantworks$Table", name := "get", desc := "(LGrantworks$Key;)LGrantworks$Account;" } : Jvm.MethodName) prog_16_method_2_code (3 : Nat) (Option.some (Jvm.ClassFile.FieldType.object "Grantworks$Account"))) ∈ lw_all := lw_g (lw_at lw_m1 186 rfl) rfl
theorem q228 : (Jvm.Cond.methodLink "Grantworks$Table" (15 : Nat) ({ cls := "Grantworks$Key", name := "hashCode", desc := "()I" } : Jvm.MethodName)) ∈ lw_all := lw_g (lw_at lw_m1 187 rfl) rfl
theorem q232 : (Jvm.Cond.methodLink "Grantworks$Table" (25 : Nat) ({ cls := "Grantworks$Key", name := "equals", desc := "(Ljava/lang/Object;)Z" } : Jvm.MethodName)) ∈ lw_all := lw_g (lw_at lw_m1 191 rfl) rfl
theorem q377 : (Jvm.Cond.instanceMethod ({ cls := "Grantworks$Table", name := "add", desc := "(LGrantworks$Key;)LGrantworks$Account;" } : Jvm.MethodName)) ∈ lw_all := lw_g (lw_at lw_m2 96 rfl) rfl
theorem q378 : (Jvm.Cond.selects "Grantworks$Table" ({ cls := "Grantworks$Table", name := "add", desc := "(LGrantworks$Key;)LGrantworks$Account;" } : Jvm.MethodName) ({ cls := "Grantworks$Table", name := "add", desc := "(LGrantworks$Key;)LGrantworks$Account;" } : Jvm.MethodName)) ∈ lw_all := lw_g (lw_at lw_m2 97 rfl) rfl
theorem q379 : (Jvm.Cond.code ({ cls := "Grantworks$Table", name := "add", desc := "(LGrantworks$Key;)LGrantworks$Account;" } : Jvm.MethodName) prog_16_method_3_code (4 : Nat) (Option.some (Jvm.ClassFile.FieldType.object "Grantworks$Account"))) ∈ lw_all := lw_g (lw_at lw_m2 98 rfl) rfl
theorem q381 : (Jvm.Cond.methodLink "Grantworks$Table" (37 : Nat) ({ cls := "Grantworks$Account", name := "<init>", desc := "(LGrantworks$Key;I)V" } : Jvm.MethodName)) ∈ lw_all := lw_g (lw_at lw_m2 100 rfl) rfl
theorem q386 : (Jvm.Cond.fieldLinkNest "Grantworks$Table" (21 : Nat) "Grantworks$Account" "key" "LGrantworks$Key;" "Grantworks") ∈ lw_tbl := lw_at lw_m2 105 rfl
theorem q390 : (Jvm.Cond.fieldLinkNest "Grantworks$Table" (46 : Nat) "Grantworks$Account" "next" "LGrantworks$Account;" "Grantworks") ∈ lw_tbl := lw_at lw_m2 109 rfl
theorem q392 : (Jvm.Cond.fieldLinkNest "Grantworks$Table" (29 : Nat) "Grantworks$Account" "nextSame" "LGrantworks$Account;" "Grantworks") ∈ lw_tbl := lw_at lw_m2 111 rfl
theorem q1144 : (Jvm.Cond.castable "Grantworks$Table" "java/lang/Object") ∈ lw_tbl := lw_at lw_m5 143 rfl
theorem in_X2 : ∀ w ∈ wsX20, w ∈ lw_all := lw_in wsX20 [85, 87, 89, 91] (by decide +kernel) (by decide +kernel)
/-! Grantworks$Key -/
set_option maxRecDepth 100000
def RX4 : String := "Grantworks$Key"
def TX4 : u_T := fun k => match k with
  | 0 => ("Grantworks$Key", "field", "I", true)
  | _ => ("Grantworks$Key", "year", "I", true)
def tyX4 : Nat → FieldType := fun k => match k with
  | 0 => .int
  | _ => .int
abbrev wsX40 : List Cond := u_ws RX4 TX4 2
theorem nmX4 : ∀ a, a < 2 → ∀ b, b < 2 → a ≠ b → (TX4 a).2.1 ≠ (TX4 b).2.1 := by decide +kernel
theorem tyX4_ok : ∀ k, k < 2 → parseFieldDescriptor (TX4 k).2.2.1 = some (tyX4 k) := by decide +kernel
abbrev cX4_init : ByteArray := prog_5_method_1_code
def yX4_init : MethodName := ⟨RX4, "<init>", "(II)V"⟩
def dkwX4_init_0 : List UInt8 := [42, 183, 0, 1, 42, 27, 181, 0, 7, 42, 28, 181, 0, 13, 177]
abbrev dktX4_init_0 : List UInt8 := dkwX4_init_0 ++ []
theorem dksX4_init_0 : cX4_init.data.toList.drop 0 = dktX4_init_0 := by decide +kernel
theorem dX4_init_0 : decode cX4_init 0 = .ok (.aload_n 0, 1) := dk_42 (dk_at dksX4_init_0 0 rfl rfl)
theorem dX4_init_1 : decode cX4_init 1 = .ok (.invokespecial 1, 3) := dk_183 0 1 (dk_at dksX4_init_0 1 rfl rfl)
theorem dX4_init_4 : decode cX4_init 4 = .ok (.aload_n 0, 1) := dk_42 (dk_at dksX4_init_0 4 rfl rfl)
theorem dX4_init_5 : decode cX4_init 5 = .ok (.iload_n 1, 1) := dk_27 (dk_at dksX4_init_0 5 rfl rfl)
theorem dX4_init_6 : decode cX4_init 6 = .ok (.putfield 7, 3) := dk_181 0 7 (dk_at dksX4_init_0 6 rfl rfl)
theorem dX4_init_9 : decode cX4_init 9 = .ok (.aload_n 0, 1) := dk_42 (dk_at dksX4_init_0 9 rfl rfl)
theorem dX4_init_10 : decode cX4_init 10 = .ok (.iload_n 2, 1) := dk_28 (dk_at dksX4_init_0 10 rfl rfl)
theorem dX4_init_11 : decode cX4_init 11 = .ok (.putfield 13, 3) := dk_181 0 13 (dk_at dksX4_init_0 11 rfl rfl)
theorem dX4_init_14 : decode cX4_init 14 = .ok (.return_, 1) := dk_177 (dk_at dksX4_init_0 14 rfl rfl)
abbrev cX4_hashCode : ByteArray := prog_5_method_3_code
def yX4_hashCode : MethodName := ⟨RX4, "hashCode", "()I"⟩
def dkwX4_hashCode_0 : List UInt8 := [16, 7, 42, 180, 0, 13, 104, 16, 31, 42, 180, 0, 7, 104, 96, 172]
abbrev dktX4_hashCode_0 : List UInt8 := dkwX4_hashCode_0 ++ []
theorem dksX4_hashCode_0 : cX4_hashCode.data.toList.drop 0 = dktX4_hashCode_0 := by decide +kernel
theorem dX4_hashCode_0 : decode cX4_hashCode 0 = .ok (.bipush 7, 2) := dk_16 7 (dk_at dksX4_hashCode_0 0 rfl rfl)
theorem dX4_hashCode_2 : decode cX4_hashCode 2 = .ok (.aload_n 0, 1) := dk_42 (dk_at dksX4_hashCode_0 2 rfl rfl)
theorem dX4_hashCode_3 : decode cX4_hashCode 3 = .ok (.getfield 13, 3) := dk_180 0 13 (dk_at dksX4_hashCode_0 3 rfl rfl)
theorem dX4_hashCode_6 : decode cX4_hashCode 6 = .ok (.imul, 1) := dk_104 (dk_at dksX4_hashCode_0 6 rfl rfl)
theorem dX4_hashCode_7 : decode cX4_hashCode 7 = .ok (.bipush 31, 2) := dk_16 31 (dk_at dksX4_hashCode_0 7 rfl rfl)
theorem dX4_hashCode_9 : decode cX4_hashCode 9 = .ok (.aload_n 0, 1) := dk_42 (dk_at dksX4_hashCode_0 9 rfl rfl)
theorem dX4_hashCode_10 : decode cX4_hashCode 10 = .ok (.getfield 7, 3) := dk_180 0 7 (dk_at dksX4_hashCode_0 10 rfl rfl)
theorem dX4_hashCode_13 : decode cX4_hashCode 13 = .ok (.imul, 1) := dk_104 (dk_at dksX4_hashCode_0 13 rfl rfl)
theorem dX4_hashCode_14 : decode cX4_hashCode 14 = .ok (.iadd, 1) := dk_96 (dk_at dksX4_hashCode_0 14 rfl rfl)
theorem dX4_hashCode_15 : decode cX4_hashCode 15 = .ok (.ireturn, 1) := dk_172 (dk_at dksX4_hashCode_0 15 rfl rfl)
abbrev cX4_equals : ByteArray := prog_5_method_2_code
def yX4_equals : MethodName := ⟨RX4, "equals", "(Ljava/lang/Object;)Z"⟩
def dkwX4_equals_1 : List UInt8 := [180, 0, 13, 42, 180, 0, 13, 160, 0, 7, 4, 167, 0, 4, 3, 172]
abbrev dktX4_equals_1 : List UInt8 := dkwX4_equals_1 ++ []
def dkwX4_equals_0 : List UInt8 := [43, 193, 0, 8, 153, 0, 34, 43, 192, 0, 8, 77, 44, 180, 0, 7, 42, 180, 0, 7, 160, 0, 18, 44]
abbrev dktX4_equals_0 : List UInt8 := dkwX4_equals_0 ++ dktX4_equals_1
theorem dksX4_equals_0 : cX4_equals.data.toList.drop 0 = dktX4_equals_0 := by decide +kernel
theorem dksX4_equals_1 : cX4_equals.data.toList.drop 24 = dktX4_equals_1 := dk_seg dksX4_equals_0 24 rfl rfl
theorem dX4_equals_0 : decode cX4_equals 0 = .ok (.aload_n 1, 1) := dk_43 (dk_at dksX4_equals_0 0 rfl rfl)
theorem dX4_equals_1 : decode cX4_equals 1 = .ok (.instanceof 8, 3) := dk_193 0 8 (dk_at dksX4_equals_0 1 rfl rfl)
theorem dX4_equals_4 : decode cX4_equals 4 = .ok (.ifCond .eq 34, 3) := dk_153 0 34 (dk_at dksX4_equals_0 4 rfl rfl)
theorem dX4_equals_7 : decode cX4_equals 7 = .ok (.aload_n 1, 1) := dk_43 (dk_at dksX4_equals_0 7 rfl rfl)
theorem dX4_equals_8 : decode cX4_equals 8 = .ok (.checkcast 8, 3) := dk_192 0 8 (dk_at dksX4_equals_0 8 rfl rfl)
theorem dX4_equals_11 : decode cX4_equals 11 = .ok (.astore_n 2, 1) := dk_77 (dk_at dksX4_equals_0 11 rfl rfl)
theorem dX4_equals_12 : decode cX4_equals 12 = .ok (.aload_n 2, 1) := dk_44 (dk_at dksX4_equals_0 12 rfl rfl)
theorem dX4_equals_13 : decode cX4_equals 13 = .ok (.getfield 7, 3) := dk_180 0 7 (dk_at dksX4_equals_0 13 rfl rfl)
theorem dX4_equals_16 : decode cX4_equals 16 = .ok (.aload_n 0, 1) := dk_42 (dk_at dksX4_equals_0 16 rfl rfl)
theorem dX4_equals_17 : decode cX4_equals 17 = .ok (.getfield 7, 3) := dk_180 0 7 (dk_at dksX4_equals_0 17 rfl rfl)
theorem dX4_equals_20 : decode cX4_equals 20 = .ok (.if_icmp .ne 18, 3) := dk_160 0 18 (dk_at dksX4_equals_0 20 rfl rfl)
theorem dX4_equals_23 : decode cX4_equals 23 = .ok (.aload_n 2, 1) := dk_44 (dk_at dksX4_equals_0 23 rfl rfl)
theorem dX4_equals_24 : decode cX4_equals 24 = .ok (.getfield 13, 3) := dk_180 0 13 (dk_at dksX4_equals_1 0 rfl rfl)
theorem dX4_equals_27 : decode cX4_equals 27 = .ok (.aload_n 0, 1) := dk_42 (dk_at dksX4_equals_1 3 rfl rfl)
theorem dX4_equals_28 : decode cX4_equals 28 = .ok (.getfield 13, 3) := dk_180 0 13 (dk_at dksX4_equals_1 4 rfl rfl)
theorem dX4_equals_31 : decode cX4_equals 31 = .ok (.if_icmp .ne 7, 3) := dk_160 0 7 (dk_at dksX4_equals_1 7 rfl rfl)
theorem dX4_equals_34 : decode cX4_equals 34 = .ok (.iconst 1, 1) := dk_4 (dk_at dksX4_equals_1 10 rfl rfl)
theorem dX4_equals_35 : decode cX4_equals 35 = .ok (.goto 4, 3) := dk_167 0 4 (dk_at dksX4_equals_1 11 rfl rfl)
theorem dX4_equals_38 : decode cX4_equals 38 = .ok (.iconst 0, 1) := dk_3 (dk_at dksX4_equals_1 14 rfl rfl)
theorem dX4_equals_39 : decode cX4_equals 39 = .ok (.ireturn, 1) := dk_172 (dk_at dksX4_equals_1 15 rfl rfl)
theorem q49 : (Jvm.Cond.initialized "Grantworks$Key") ∈ lw_all := lw_g (lw_at lw_m1 8 rfl) rfl
theorem q210 : (Jvm.Cond.instantiable "Grantworks$Key" (2 : Nat)) ∈ lw_all := lw_g (lw_at lw_m1 169 rfl) rfl
theorem q212 : (Jvm.Cond.instanceMethod ({ cls := "Grantworks$Key", name := "<init>", desc := "(II)V" } : Jvm.MethodName)) ∈ lw_all := lw_g (lw_at lw_m1 171 rfl) rfl
theorem q213 : (Jvm.Cond.code ({ cls := "Grantworks$Key", name := "<init>", desc := "(II)V" } : Jvm.MethodName) prog_5_method_1_code (3 : Nat) (Option.none : Option Jvm.ClassFile.FieldType)) ∈ lw_all := lw_g (lw_at lw_m1 172 rfl) rfl
theorem q214 : (Jvm.Cond.methodLink "Grantworks$Key" (1 : Nat) ({ cls := "java/lang/Object", name := "<init>", desc := "()V" } : Jvm.MethodName)) ∈ lw_all := lw_g (lw_at lw_m1 173 rfl) rfl
theorem q215 : (Jvm.Cond.fieldLink "Grantworks$Key" (7 : Nat) "Grantworks$Key" "field" "I") ∈ lw_all := lw_g (lw_at lw_m1 174 rfl) rfl
theorem q217 : (Jvm.Cond.fieldLink "Grantworks$Key" (13 : Nat) "Grantworks$Key" "year" "I") ∈ lw_all := lw_g (lw_at lw_m1 176 rfl) rfl
theorem q219 : (Jvm.Cond.laysFinal "Grantworks$Key" "Grantworks$Key" "field" "I") ∈ lw_all := lw_g (lw_at lw_m1 178 rfl) rfl
theorem q220 : (Jvm.Cond.soleField "Grantworks$Key" "field") ∈ lw_all := lw_g (lw_at lw_m1 179 rfl) rfl
theorem q221 : (Jvm.Cond.laysFinal "Grantworks$Key" "Grantworks$Key" "year" "I") ∈ lw_all := lw_g (lw_at lw_m1 180 rfl) rfl
theorem q222 : (Jvm.Cond.soleField "Grantworks$Key" "year") ∈ lw_all := lw_g (lw_at lw_m1 181 rfl) rfl
theorem q223 : (Jvm.Cond.superclass "Grantworks$Key" "java/lang/Object") ∈ lw_all := lw_g (lw_at lw_m1 182 rfl) rfl
theorem q229 : (Jvm.Cond.instanceMethod ({ cls := "Grantworks$Key", name := "hashCode", desc := "()I" } : Jvm.MethodName)) ∈ lw_all := lw_g (lw_at lw_m1 188 rfl) rfl
theorem q230 : (Jvm.Cond.selects "Grantworks$Key" ({ cls := "Grantworks$Key", name := "hashCode", desc := "()I" } : Jvm.MethodName) ({ cls := "Grantworks$Key", name := "hashCode", desc := "()I" } : Jvm.MethodName)) ∈ lw_all := lw_g (lw_at lw_m1 189 rfl) rfl
theorem q231 : (Jvm.Cond.code ({ cls := "Grantworks$Key", name := "hashCode", desc := "()I" } : Jvm.MethodName) prog_5_method_3_code (1 : Nat) (Option.some Jvm.ClassFile.FieldType.int)) ∈ lw_all := lw_g (lw_at lw_m1 190 rfl) rfl
theorem q233 : (Jvm.Cond.instanceMethod ({ cls := "Grantworks$Key", name := "equals", desc := "(Ljava/lang/Object;)Z" } : Jvm.MethodName)) ∈ lw_all := lw_g (lw_at lw_m1 192 rfl) rfl
theorem q234 : (Jvm.Cond.selects "Grantworks$Key" ({ cls := "Grantworks$Key", name := "equals", desc := "(Ljava/lang/Object;)Z" } : Jvm.MethodName) ({ cls := "Grantworks$Key", name := "equals", desc := "(Ljava/lang/Object;)Z" } : Jvm.MethodName)) ∈ lw_all := lw_g (lw_at lw_m1 193 rfl) rfl
theorem q235 : (Jvm.Cond.code ({ cls := "Grantworks$Key", name := "equals", desc := "(Ljava/lang/Object;)Z" } : Jvm.MethodName) prog_5_method_2_code (3 : Nat) (Option.some Jvm.ClassFile.FieldType.boolean)) ∈ lw_all := lw_g (lw_at lw_m1 194 rfl) rfl
theorem q236 : (Jvm.Cond.classLink "Grantworks$Key" (8 : Nat) "Grantworks$Key") ∈ lw_all := lw_g (lw_at lw_m1 195 rfl) rfl
theorem q1147 : (Jvm.Cond.castable "Grantworks$Key" "java/lang/Object") ∈ lw_tbl := lw_at lw_m5 146 rfl
theorem in_X4 : ∀ w ∈ wsX40, w ∈ lw_all := lw_in wsX40 [219, 221] (by decide +kernel) (by decide +kernel)
/-! Grantworks$Account -/
set_option maxRecDepth 100000
def RX5 : String := "Grantworks$Account"
def TX5 : u_T := fun k => match k with
  | 0 => ("Grantworks$Account", "key", "LGrantworks$Key;", true)
  | 1 => ("Grantworks$Account", "place", "I", true)
  | 2 => ("Grantworks$Account", "next", "LGrantworks$Account;", false)
  | 3 => ("Grantworks$Account", "nextSame", "LGrantworks$Account;", false)
  | 4 => ("Grantworks$Account", "budget", "I", false)
  | 5 => ("Grantworks$Account", "reserved", "I", false)
  | _ => ("Grantworks$Account", "paid", "I", false)
def tyX5 : Nat → FieldType := fun k => match k with
  | 0 => .object "Grantworks$Key"
  | 1 => .int
  | 2 => .object "Grantworks$Account"
  | 3 => .object "Grantworks$Account"
  | 4 => .int
  | 5 => .int
  | _ => .int
abbrev wsX50 : List Cond := u_ws RX5 TX5 7
theorem nmX5 : ∀ a, a < 7 → ∀ b, b < 7 → a ≠ b → (TX5 a).2.1 ≠ (TX5 b).2.1 := by decide +kernel
theorem tyX5_ok : ∀ k, k < 7 → parseFieldDescriptor (TX5 k).2.2.1 = some (tyX5 k) := by decide +kernel
abbrev cX5_free : ByteArray := prog_2_method_2_code
def yX5_free : MethodName := ⟨RX5, "free", "()I"⟩
def dkwX5_free_0 : List UInt8 := [42, 180, 0, 17, 42, 180, 0, 20, 100, 42, 180, 0, 23, 100, 172]
abbrev dktX5_free_0 : List UInt8 := dkwX5_free_0 ++ []
theorem dksX5_free_0 : cX5_free.data.toList.drop 0 = dktX5_free_0 := by decide +kernel
theorem dX5_free_0 : decode cX5_free 0 = .ok (.aload_n 0, 1) := dk_42 (dk_at dksX5_free_0 0 rfl rfl)
theorem dX5_free_1 : decode cX5_free 1 = .ok (.getfield 17, 3) := dk_180 0 17 (dk_at dksX5_free_0 1 rfl rfl)
theorem dX5_free_4 : decode cX5_free 4 = .ok (.aload_n 0, 1) := dk_42 (dk_at dksX5_free_0 4 rfl rfl)
theorem dX5_free_5 : decode cX5_free 5 = .ok (.getfield 20, 3) := dk_180 0 20 (dk_at dksX5_free_0 5 rfl rfl)
theorem dX5_free_8 : decode cX5_free 8 = .ok (.isub, 1) := dk_100 (dk_at dksX5_free_0 8 rfl rfl)
theorem dX5_free_9 : decode cX5_free 9 = .ok (.aload_n 0, 1) := dk_42 (dk_at dksX5_free_0 9 rfl rfl)
theorem dX5_free_10 : decode cX5_free 10 = .ok (.getfield 23, 3) := dk_180 0 23 (dk_at dksX5_free_0 10 rfl rfl)
theorem dX5_free_13 : decode cX5_free 13 = .ok (.isub, 1) := dk_100 (dk_at dksX5_free_0 13 rfl rfl)
theorem dX5_free_14 : decode cX5_free 14 = .ok (.ireturn, 1) := dk_172 (dk_at dksX5_free_0 14 rfl rfl)
abbrev cX5_init : ByteArray := prog_2_method_1_code
def yX5_init : MethodName := ⟨RX5, "<init>", "(LGrantworks$Key;I)V"⟩
def dkwX5_init_0 : List UInt8 := [42, 183, 0, 1, 42, 43, 181, 0, 7, 42, 28, 181, 0, 13, 177]
abbrev dktX5_init_0 : List UInt8 := dkwX5_init_0 ++ []
theorem dksX5_init_0 : cX5_init.data.toList.drop 0 = dktX5_init_0 := by decide +kernel
theorem dX5_init_0 : decode cX5_init 0 = .ok (.aload_n 0, 1) := dk_42 (dk_at dksX5_init_0 0 rfl rfl)
theorem dX5_init_1 : decode cX5_init 1 = .ok (.invokespecial 1, 3) := dk_183 0 1 (dk_at dksX5_init_0 1 rfl rfl)
theorem dX5_init_4 : decode cX5_init 4 = .ok (.aload_n 0, 1) := dk_42 (dk_at dksX5_init_0 4 rfl rfl)
theorem dX5_init_5 : decode cX5_init 5 = .ok (.aload_n 1, 1) := dk_43 (dk_at dksX5_init_0 5 rfl rfl)
theorem dX5_init_6 : decode cX5_init 6 = .ok (.putfield 7, 3) := dk_181 0 7 (dk_at dksX5_init_0 6 rfl rfl)
theorem dX5_init_9 : decode cX5_init 9 = .ok (.aload_n 0, 1) := dk_42 (dk_at dksX5_init_0 9 rfl rfl)
theorem dX5_init_10 : decode cX5_init 10 = .ok (.iload_n 2, 1) := dk_28 (dk_at dksX5_init_0 10 rfl rfl)
theorem dX5_init_11 : decode cX5_init 11 = .ok (.putfield 13, 3) := dk_181 0 13 (dk_at dksX5_init_0 11 rfl rfl)
theorem dX5_init_14 : decode cX5_init 14 = .ok (.return_, 1) := dk_177 (dk_at dksX5_init_0 14 rfl rfl)
theorem q51 : (Jvm.Cond.initialized "Grantworks$Account") ∈ lw_all := lw_g (lw_at lw_m1 10 rfl) rfl
theorem q191 : (Jvm.Cond.instanceMethod ({ cls := "Grantworks$Account", name := "free", desc := "()I" } : Jvm.MethodName)) ∈ lw_all := lw_g (lw_at lw_m1 150 rfl) rfl
theorem q192 : (Jvm.Cond.selects "Grantworks$Account" ({ cls := "Grantworks$Account", name := "free", desc := "()I" } : Jvm.MethodName) ({ cls := "Grantworks$Account", name := "free", desc := "()I" } : Jvm.MethodName)) ∈ lw_all := lw_g (lw_at lw_m1 151 rfl) rfl
theorem q193 : (Jvm.Cond.code ({ cls := "Grantworks$Account", name := "free", desc := "()I" } : Jvm.MethodName) prog_2_method_2_code (1 : Nat) (Option.some Jvm.ClassFile.FieldType.int)) ∈ lw_all := lw_g (lw_at lw_m1 152 rfl) rfl
theorem q380 : (Jvm.Cond.instantiable "Grantworks$Account" (7 : Nat)) ∈ lw_all := lw_g (lw_at lw_m2 99 rfl) rfl
theorem q382 : (Jvm.Cond.instanceMethod ({ cls := "Grantworks$Account", name := "<init>", desc := "(LGrantworks$Key;I)V" } : Jvm.MethodName)) ∈ lw_all := lw_g (lw_at lw_m2 101 rfl) rfl
theorem q383 : (Jvm.Cond.code ({ cls := "Grantworks$Account", name := "<init>", desc := "(LGrantworks$Key;I)V" } : Jvm.MethodName) prog_2_method_1_code (3 : Nat) (Option.none : Option Jvm.ClassFile.FieldType)) ∈ lw_all := lw_g (lw_at lw_m2 102 rfl) rfl
theorem q384 : (Jvm.Cond.methodLink "Grantworks$Account" (1 : Nat) ({ cls := "java/lang/Object", name := "<init>", desc := "()V" } : Jvm.MethodName)) ∈ lw_all := lw_g (lw_at lw_m2 103 rfl) rfl
theorem q385 : (Jvm.Cond.fieldLink "Grantworks$Account" (7 : Nat) "Grantworks$Account" "key" "LGrantworks$Key;") ∈ lw_all := lw_g (lw_at lw_m2 104 rfl) rfl
theorem q388 : (Jvm.Cond.fieldLink "Grantworks$Account" (13 : Nat) "Grantworks$Account" "place" "I") ∈ lw_all := lw_g (lw_at lw_m2 107 rfl) rfl
theorem q393 : (Jvm.Cond.fieldLink "Grantworks$Account" (17 : Nat) "Grantworks$Account" "budget" "I") ∈ lw_all := lw_g (lw_at lw_m2 112 rfl) rfl
theorem q395 : (Jvm.Cond.fieldLink "Grantworks$Account" (20 : Nat) "Grantworks$Account" "reserved" "I") ∈ lw_all := lw_g (lw_at lw_m2 114 rfl) rfl
theorem q397 : (Jvm.Cond.fieldLink "Grantworks$Account" (23 : Nat) "Grantworks$Account" "paid" "I") ∈ lw_all := lw_g (lw_at lw_m2 116 rfl) rfl
theorem q399 : (Jvm.Cond.laysFinal "Grantworks$Account" "Grantworks$Account" "key" "LGrantworks$Key;") ∈ lw_all := lw_g (lw_at lw_m2 118 rfl) rfl
theorem q400 : (Jvm.Cond.soleField "Grantworks$Account" "key") ∈ lw_all := lw_g (lw_at lw_m2 119 rfl) rfl
theorem q401 : (Jvm.Cond.laysFinal "Grantworks$Account" "Grantworks$Account" "place" "I") ∈ lw_all := lw_g (lw_at lw_m2 120 rfl) rfl
theorem q402 : (Jvm.Cond.soleField "Grantworks$Account" "place") ∈ lw_all := lw_g (lw_at lw_m2 121 rfl) rfl
theorem q403 : (Jvm.Cond.lays "Grantworks$Account" "Grantworks$Account" "next" "LGrantworks$Account;") ∈ lw_all := lw_g (lw_at lw_m2 122 rfl) rfl
theorem q404 : (Jvm.Cond.soleField "Grantworks$Account" "next") ∈ lw_all := lw_g (lw_at lw_m2 123 rfl) rfl
theorem q405 : (Jvm.Cond.lays "Grantworks$Account" "Grantworks$Account" "nextSame" "LGrantworks$Account;") ∈ lw_all := lw_g (lw_at lw_m2 124 rfl) rfl
theorem q406 : (Jvm.Cond.soleField "Grantworks$Account" "nextSame") ∈ lw_all := lw_g (lw_at lw_m2 125 rfl) rfl
theorem q407 : (Jvm.Cond.lays "Grantworks$Account" "Grantworks$Account" "budget" "I") ∈ lw_all := lw_g (lw_at lw_m2 126 rfl) rfl
theorem q408 : (Jvm.Cond.soleField "Grantworks$Account" "budget") ∈ lw_all := lw_g (lw_at lw_m2 127 rfl) rfl
theorem q409 : (Jvm.Cond.lays "Grantworks$Account" "Grantworks$Account" "reserved" "I") ∈ lw_all := lw_g (lw_at lw_m2 128 rfl) rfl
theorem q410 : (Jvm.Cond.soleField "Grantworks$Account" "reserved") ∈ lw_all := lw_g (lw_at lw_m2 129 rfl) rfl
theorem q411 : (Jvm.Cond.lays "Grantworks$Account" "Grantworks$Account" "paid" "I") ∈ lw_all := lw_g (lw_at lw_m2 130 rfl) rfl
theorem q412 : (Jvm.Cond.soleField "Grantworks$Account" "paid") ∈ lw_all := lw_g (lw_at lw_m2 131 rfl) rfl
theorem q413 : (Jvm.Cond.superclass "Grantworks$Account" "java/lang/Object") ∈ lw_all := lw_g (lw_at lw_m2 132 rfl) rfl
theorem q1149 : (Jvm.Cond.castable "Grantworks$Account" "java/lang/Object") ∈ lw_tbl := lw_at lw_m5 148 rfl
theorem in_X5 : ∀ w ∈ wsX50, w ∈ lw_all := lw_in wsX50 [399, 401, 403, 405, 407, 409, 411] (by decide +kernel) (by decide +kernel)
/-! Grantworks$Told -/
set_option maxRecDepth 100000
def RX6 : String := "Grantworks$Told"
def TX6 : u_T := fun k => match k with
  | 0 => ("Grantworks$Told", "key", "LGrantworks$Key;", true)
  | _ => ("Grantworks$Told", "money", "I", true)
def tyX6 : Nat → FieldType := fun k => match k with
  | 0 => .object "Grantworks$Key"
  | _ => .int
abbrev wsX60 : List Cond := u_ws RX6 TX6 2
theorem nmX6 : ∀ a, a < 2 → ∀ b, b < 2 → a ≠ b → (TX6 a).2.1 ≠ (TX6 b).2.1 := by decide +kernel
theorem tyX6_ok : ∀ k, k < 2 → parseFieldDescriptor (TX6 k).2.2.1 = some (tyX6 k) := by decide +kernel
abbrev cX6_init : ByteArray := prog_17_method_1_code
def yX6_init : MethodName := ⟨RX6, "<init>", "(LGrantworks$Key;I)V"⟩
def dkwX6_init_0 : List UInt8 := [42, 183, 0, 1, 42, 43, 181, 0, 7, 42, 28, 181, 0, 13, 177]
abbrev dktX6_init_0 : List UInt8 := dkwX6_init_0 ++ []
theorem dksX6_init_0 : cX6_init.data.toList.drop 0 = dktX6_init_0 := by decide +kernel
theorem dX6_init_0 : decode cX6_init 0 = .ok (.aload_n 0, 1) := dk_42 (dk_at dksX6_init_0 0 rfl rfl)
theorem dX6_init_1 : decode cX6_init 1 = .ok (.invokespecial 1, 3) := dk_183 0 1 (dk_at dksX6_init_0 1 rfl rfl)
theorem dX6_init_4 : decode cX6_init 4 = .ok (.aload_n 0, 1) := dk_42 (dk_at dksX6_init_0 4 rfl rfl)
theorem dX6_init_5 : decode cX6_init 5 = .ok (.aload_n 1, 1) := dk_43 (dk_at dksX6_init_0 5 rfl rfl)
theorem dX6_init_6 : decode cX6_init 6 = .ok (.putfield 7, 3) := dk_181 0 7 (dk_at dksX6_init_0 6 rfl rfl)
theorem dX6_init_9 : decode cX6_init 9 = .ok (.aload_n 0, 1) := dk_42 (dk_at dksX6_init_0 9 rfl rfl)
theorem dX6_init_10 : decode cX6_init 10 = .ok (.iload_n 2, 1) := dk_28 (dk_at dksX6_init_0 10 rfl rfl)
theorem dX6_init_11 : decode cX6_init 11 = .ok (.putfield 13, 3) := dk_181 0 13 (dk_at dksX6_init_0 11 rfl rfl)
theorem dX6_init_14 : decode cX6_init 14 = .ok (.return_, 1) := dk_177 (dk_at dksX6_init_0 14 rfl rfl)
theorem q52 : (Jvm.Cond.initialized "Grantworks$Told") ∈ lw_all := lw_g (lw_at lw_m1 11 rfl) rfl
theorem q414 : (Jvm.Cond.instantiable "Grantworks$Told" (2 : Nat)) ∈ lw_all := lw_g (lw_at lw_m2 133 rfl) rfl
theorem q416 : (Jvm.Cond.instanceMethod ({ cls := "Grantworks$Told", name := "<init>", desc := "(LGrantworks$Key;I)V" } : Jvm.MethodName)) ∈ lw_all := lw_g (lw_at lw_m2 135 rfl) rfl
theorem q417 : (Jvm.Cond.code ({ cls := "Grantworks$Told", name := "<init>", desc := "(LGrantworks$Key;I)V" } : Jvm.MethodName) prog_17_method_1_code (3 : Nat) (Option.none : Option Jvm.ClassFile.FieldType)) ∈ lw_all := lw_g (lw_at lw_m2 136 rfl) rfl
theorem q418 : (Jvm.Cond.methodLink "Grantworks$Told" (1 : Nat) ({ cls := "java/lang/Object", name := "<init>", desc := "()V" } : Jvm.MethodName)) ∈ lw_all := lw_g (lw_at lw_m2 137 rfl) rfl
theorem q419 : (Jvm.Cond.fieldLink "Grantworks$Told" (7 : Nat) "Grantworks$Told" "key" "LGrantworks$Key;") ∈ lw_all := lw_g (lw_at lw_m2 138 rfl) rfl
theorem q421 : (Jvm.Cond.fieldLink "Grantworks$Told" (13 : Nat) "Grantworks$Told" "money" "I") ∈ lw_all := lw_g (lw_at lw_m2 140 rfl) rfl
theorem q423 : (Jvm.Cond.laysFinal "Grantworks$Told" "Grantworks$Told" "key" "LGrantworks$Key;") ∈ lw_all := lw_g (lw_at lw_m2 142 rfl) rfl
theorem q424 : (Jvm.Cond.soleField "Grantworks$Told" "key") ∈ lw_all := lw_g (lw_at lw_m2 143 rfl) rfl
theorem q425 : (Jvm.Cond.laysFinal "Grantworks$Told" "Grantworks$Told" "money" "I") ∈ lw_all := lw_g (lw_at lw_m2 144 rfl) rfl
theorem q426 : (Jvm.Cond.soleField "Grantworks$Told" "money") ∈ lw_all := lw_g (lw_at lw_m2 145 rfl) rfl
theorem q427 : (Jvm.Cond.superclass "Grantworks$Told" "java/lang/Object") ∈ lw_all := lw_g (lw_at lw_m2 146 rfl) rfl
theorem q1150 : (Jvm.Cond.castable "Grantworks$Told" "java/lang/Object") ∈ lw_tbl := lw_at lw_m5 149 rfl
theorem q1166 : (Jvm.Cond.castable "Grantworks$Told" "Grantworks$Entry") ∈ lw_tbl := lw_at lw_m5 165 rfl
theorem in_X6 : ∀ w ∈ wsX60, w ∈ lw_all := lw_in wsX60 [423, 425] (by decide +kernel) (by decide +kernel)
/-! Grantworks$Reserved -/
set_option maxRecDepth 100000
def RX7 : String := "Grantworks$Reserved"
def TX7 : u_T := fun k => match k with
  | 0 => ("Grantworks$Reserved", "key", "LGrantworks$Key;", true)
  | 1 => ("Grantworks$Reserved", "money", "I", true)
  | _ => ("Grantworks$Reserved", "application", "I", true)
def tyX7 : Nat → FieldType := fun k => match k with
  | 0 => .object "Grantworks$Key"
  | 1 => .int
  | _ => .int
abbrev wsX70 : List Cond := u_ws RX7 TX7 3
theorem nmX7 : ∀ a, a < 3 → ∀ b, b < 3 → a ≠ b → (TX7 a).2.1 ≠ (TX7 b).2.1 := by decide +kernel
theorem tyX7_ok : ∀ k, k < 3 → parseFieldDescriptor (TX7 k).2.2.1 = some (tyX7 k) := by decide +kernel
abbrev cX7_init : ByteArray := prog_7_method_1_code
def yX7_init : MethodName := ⟨RX7, "<init>", "(LGrantworks$Key;II)V"⟩
def dkwX7_init_0 : List UInt8 := [42, 183, 0, 1, 42, 43, 181, 0, 7, 42, 28, 181, 0, 13, 42, 29, 181, 0, 17, 177]
abbrev dktX7_init_0 : List UInt8 := dkwX7_init_0 ++ []
theorem dksX7_init_0 : cX7_init.data.toList.drop 0 = dktX7_init_0 := by decide +kernel
theorem dX7_init_0 : decode cX7_init 0 = .ok (.aload_n 0, 1) := dk_42 (dk_at dksX7_init_0 0 rfl rfl)
theorem dX7_init_1 : decode cX7_init 1 = .ok (.invokespecial 1, 3) := dk_183 0 1 (dk_at dksX7_init_0 1 rfl rfl)
theorem dX7_init_4 : decode cX7_init 4 = .ok (.aload_n 0, 1) := dk_42 (dk_at dksX7_init_0 4 rfl rfl)
theorem dX7_init_5 : decode cX7_init 5 = .ok (.aload_n 1, 1) := dk_43 (dk_at dksX7_init_0 5 rfl rfl)
theorem dX7_init_6 : decode cX7_init 6 = .ok (.putfield 7, 3) := dk_181 0 7 (dk_at dksX7_init_0 6 rfl rfl)
theorem dX7_init_9 : decode cX7_init 9 = .ok (.aload_n 0, 1) := dk_42 (dk_at dksX7_init_0 9 rfl rfl)
theorem dX7_init_10 : decode cX7_init 10 = .ok (.iload_n 2, 1) := dk_28 (dk_at dksX7_init_0 10 rfl rfl)
theorem dX7_init_11 : decode cX7_init 11 = .ok (.putfield 13, 3) := dk_181 0 13 (dk_at dksX7_init_0 11 rfl rfl)
theorem dX7_init_14 : decode cX7_init 14 = .ok (.aload_n 0, 1) := dk_42 (dk_at dksX7_init_0 14 rfl rfl)
theorem dX7_init_15 : decode cX7_init 15 = .ok (.iload_n 3, 1) := dk_29 (dk_at dksX7_init_0 15 rfl rfl)
theorem dX7_init_16 : decode cX7_init 16 = .ok (.putfield 17, 3) := dk_181 0 17 (dk_at dksX7_init_0 16 rfl rfl)
theorem dX7_init_19 : decode cX7_init 19 = .ok (.return_, 1) := dk_177 (dk_at dksX7_init_0 19 rfl rfl)
theorem q55 : (Jvm.Cond.initialized "Grantworks$Reserved") ∈ lw_all := lw_g (lw_at lw_m1 14 rfl) rfl
theorem q454 : (Jvm.Cond.instantiable "Grantworks$Reserved" (3 : Nat)) ∈ lw_all := lw_g (lw_at lw_m2 173 rfl) rfl
theorem q456 : (Jvm.Cond.instanceMethod ({ cls := "Grantworks$Reserved", name := "<init>", desc := "(LGrantworks$Key;II)V" } : Jvm.MethodName)) ∈ lw_all := lw_g (lw_at lw_m2 175 rfl) rfl
theorem q457 : (Jvm.Cond.code ({ cls := "Grantworks$Reserved", name := "<init>", desc := "(LGrantworks$Key;II)V" } : Jvm.MethodName) prog_7_method_1_code (4 : Nat) (Option.none : Option Jvm.ClassFile.FieldType)) ∈ lw_all := lw_g (lw_at lw_m2 176 rfl) rfl
theorem q458 : (Jvm.Cond.methodLink "Grantworks$Reserved" (1 : Nat) ({ cls := "java/lang/Object", name := "<init>", desc := "()V" } : Jvm.MethodName)) ∈ lw_all := lw_g (lw_at lw_m2 177 rfl) rfl
theorem q459 : (Jvm.Cond.fieldLink "Grantworks$Reserved" (7 : Nat) "Grantworks$Reserved" "key" "LGrantworks$Key;") ∈ lw_all := lw_g (lw_at lw_m2 178 rfl) rfl
theorem q461 : (Jvm.Cond.fieldLink "Grantworks$Reserved" (13 : Nat) "Grantworks$Reserved" "money" "I") ∈ lw_all := lw_g (lw_at lw_m2 180 rfl) rfl
theorem q463 : (Jvm.Cond.fieldLink "Grantworks$Reserved" (17 : Nat) "Grantworks$Reserved" "application" "I") ∈ lw_all := lw_g (lw_at lw_m2 182 rfl) rfl
theorem q465 : (Jvm.Cond.laysFinal "Grantworks$Reserved" "Grantworks$Reserved" "key" "LGrantworks$Key;") ∈ lw_all := lw_g (lw_at lw_m2 184 rfl) rfl
theorem q466 : (Jvm.Cond.soleField "Grantworks$Reserved" "key") ∈ lw_all := lw_g (lw_at lw_m2 185 rfl) rfl
theorem q467 : (Jvm.Cond.laysFinal "Grantworks$Reserved" "Grantworks$Reserved" "money" "I") ∈ lw_all := lw_g (lw_at lw_m2 186 rfl) rfl
theorem q468 : (Jvm.Cond.soleField "Grantworks$Reserved" "money") ∈ lw_all := lw_g (lw_at lw_m2 187 rfl) rfl
theorem q469 : (Jvm.Cond.laysFinal "Grantworks$Reserved" "Grantworks$Reserved" "application" "I") ∈ lw_all := lw_g (lw_at lw_m2 188 rfl) rfl
theorem q470 : (Jvm.Cond.soleField "Grantworks$Reserved" "application") ∈ lw_all := lw_g (lw_at lw_m2 189 rfl) rfl
theorem q471 : (Jvm.Cond.superclass "Grantworks$Reserved" "java/lang/Object") ∈ lw_all := lw_g (lw_at lw_m2 190 rfl) rfl
theorem q1152 : (Jvm.Cond.castable "Grantworks$Reserved" "java/lang/Object") ∈ lw_tbl := lw_at lw_m5 151 rfl
theorem q1167 : (Jvm.Cond.castable "Grantworks$Reserved" "Grantworks$Entry") ∈ lw_tbl := lw_at lw_m5 166 rfl
theorem in_X7 : ∀ w ∈ wsX70, w ∈ lw_all := lw_in wsX70 [465, 467, 469] (by decide +kernel) (by decide +kernel)
/-! Grantworks$Application -/
set_option maxRecDepth 100000
def RX8 : String := "Grantworks$Application"
def TX8 : u_T := fun k => match k with
  | 0 => ("Grantworks$Application", "number", "I", true)
  | 1 => ("Grantworks$Application", "call", "I", true)
  | 2 => ("Grantworks$Application", "person", "I", true)
  | 3 => ("Grantworks$Application", "house", "I", true)
  | 4 => ("Grantworks$Application", "asked", "[I", true)
  | 5 => ("Grantworks$Application", "reviews", "[I", true)
  | 6 => ("Grantworks$Application", "state", "LGrantworks$State;", false)
  | 7 => ("Grantworks$Application", "version", "I", false)
  | 8 => ("Grantworks$Application", "day", "I", false)
  | 9 => ("Grantworks$Application", "reported", "I", false)
  | _ => ("Grantworks$Application", "paid", "I", false)
def tyX8 : Nat → FieldType := fun k => match k with
  | 0 => .int
  | 1 => .int
  | 2 => .int
  | 3 => .int
  | 4 => .array .int
  | 5 => .array .int
  | 6 => .object "Grantworks$State"
  | 7 => .int
  | 8 => .int
  | 9 => .int
  | _ => .int
abbrev wsX80 : List Cond := u_ws RX8 TX8 11
theorem nmX8 : ∀ a, a < 11 → ∀ b, b < 11 → a ≠ b → (TX8 a).2.1 ≠ (TX8 b).2.1 := by decide +kernel
theorem tyX8_ok : ∀ k, k < 11 → parseFieldDescriptor (TX8 k).2.2.1 = some (tyX8 k) := by decide +kernel
abbrev cX8_toCome : ByteArray := prog_3_method_4_code
def yX8_toCome : MethodName := ⟨RX8, "toCome", "()I"⟩
def dkwX8_toCome_1 : List UInt8 := [167, 255, 239, 27, 172]
abbrev dktX8_toCome_1 : List UInt8 := dkwX8_toCome_1 ++ []
def dkwX8_toCome_0 : List UInt8 := [3, 60, 42, 180, 0, 46, 61, 28, 6, 162, 0, 18, 27, 42, 180, 0, 9, 28, 46, 96, 60, 132, 2, 1]
abbrev dktX8_toCome_0 : List UInt8 := dkwX8_toCome_0 ++ dktX8_toCome_1
theorem dksX8_toCome_0 : cX8_toCome.data.toList.drop 0 = dktX8_toCome_0 := by decide +kernel
theorem dksX8_toCome_1 : cX8_toCome.data.toList.drop 24 = dktX8_toCome_1 := dk_seg dksX8_toCome_0 24 rfl rfl
theorem dX8_toCome_0 : decode cX8_toCome 0 = .ok (.iconst 0, 1) := dk_3 (dk_at dksX8_toCome_0 0 rfl rfl)
theorem dX8_toCome_1 : decode cX8_toCome 1 = .ok (.istore_n 1, 1) := dk_60 (dk_at dksX8_toCome_0 1 rfl rfl)
theorem dX8_toCome_2 : decode cX8_toCome 2 = .ok (.aload_n 0, 1) := dk_42 (dk_at dksX8_toCome_0 2 rfl rfl)
theorem dX8_toCome_3 : decode cX8_toCome 3 = .ok (.getfield 46, 3) := dk_180 0 46 (dk_at dksX8_toCome_0 3 rfl rfl)
theorem dX8_toCome_6 : decode cX8_toCome 6 = .ok (.istore_n 2, 1) := dk_61 (dk_at dksX8_toCome_0 6 rfl rfl)
theorem dX8_toCome_7 : decode cX8_toCome 7 = .ok (.iload_n 2, 1) := dk_28 (dk_at dksX8_toCome_0 7 rfl rfl)
theorem dX8_toCome_8 : decode cX8_toCome 8 = .ok (.iconst 3, 1) := dk_6 (dk_at dksX8_toCome_0 8 rfl rfl)
theorem dX8_toCome_9 : decode cX8_toCome 9 = .ok (.if_icmp .ge 18, 3) := dk_162 0 18 (dk_at dksX8_toCome_0 9 rfl rfl)
theorem dX8_toCome_12 : decode cX8_toCome 12 = .ok (.iload_n 1, 1) := dk_27 (dk_at dksX8_toCome_0 12 rfl rfl)
theorem dX8_toCome_13 : decode cX8_toCome 13 = .ok (.aload_n 0, 1) := dk_42 (dk_at dksX8_toCome_0 13 rfl rfl)
theorem dX8_toCome_14 : decode cX8_toCome 14 = .ok (.getfield 9, 3) := dk_180 0 9 (dk_at dksX8_toCome_0 14 rfl rfl)
theorem dX8_toCome_17 : decode cX8_toCome 17 = .ok (.iload_n 2, 1) := dk_28 (dk_at dksX8_toCome_0 17 rfl rfl)
theorem dX8_toCome_18 : decode cX8_toCome 18 = .ok (.iaload, 1) := dk_46 (dk_at dksX8_toCome_0 18 rfl rfl)
theorem dX8_toCome_19 : decode cX8_toCome 19 = .ok (.iadd, 1) := dk_96 (dk_at dksX8_toCome_0 19 rfl rfl)
theorem dX8_toCome_20 : decode cX8_toCome 20 = .ok (.istore_n 1, 1) := dk_60 (dk_at dksX8_toCome_0 20 rfl rfl)
theorem dX8_toCome_21 : decode cX8_toCome 21 = .ok (.iinc 2 1, 3) := dk_132 2 1 (dk_at dksX8_toCome_0 21 rfl rfl)
theorem dX8_toCome_24 : decode cX8_toCome 24 = .ok (.goto (-17), 3) := dk_167 255 239 (dk_at dksX8_toCome_1 0 rfl rfl)
theorem dX8_toCome_27 : decode cX8_toCome 27 = .ok (.iload_n 1, 1) := dk_27 (dk_at dksX8_toCome_1 3 rfl rfl)
theorem dX8_toCome_28 : decode cX8_toCome 28 = .ok (.ireturn, 1) := dk_172 (dk_at dksX8_toCome_1 4 rfl rfl)
abbrev cX8_init : ByteArray := prog_3_method_1_code
def yX8_init : MethodName := ⟨RX8, "<init>", "(IIII)V"⟩
def dkwX8_init_3 : List UInt8 := [132, 5, 1, 167, 255, 238, 177]
abbrev dktX8_init_3 : List UInt8 := dkwX8_init_3 ++ []
def dkwX8_init_2 : List UInt8 := [21, 4, 181, 0, 40, 3, 54, 5, 21, 5, 16, 10, 162, 0, 17, 42, 180, 0, 15, 21, 5, 2, 79]
abbrev dktX8_init_2 : List UInt8 := dkwX8_init_2 ++ dktX8_init_3
def dkwX8_init_1 : List UInt8 := [181, 0, 24, 42, 4, 181, 0, 27, 42, 27, 181, 0, 31, 42, 28, 181, 0, 34, 42, 29, 181, 0, 37, 42]
abbrev dktX8_init_1 : List UInt8 := dkwX8_init_1 ++ dktX8_init_2
def dkwX8_init_0 : List UInt8 := [42, 183, 0, 3, 42, 6, 188, 10, 181, 0, 9, 42, 16, 10, 188, 10, 181, 0, 15, 42, 178, 0, 18]
abbrev dktX8_init_0 : List UInt8 := dkwX8_init_0 ++ dktX8_init_1
theorem dksX8_init_0 : cX8_init.data.toList.drop 0 = dktX8_init_0 := by decide +kernel
theorem dksX8_init_1 : cX8_init.data.toList.drop 23 = dktX8_init_1 := dk_seg dksX8_init_0 23 rfl rfl
theorem dksX8_init_2 : cX8_init.data.toList.drop 47 = dktX8_init_2 := dk_seg dksX8_init_1 24 rfl rfl
theorem dksX8_init_3 : cX8_init.data.toList.drop 70 = dktX8_init_3 := dk_seg dksX8_init_2 23 rfl rfl
theorem dX8_init_0 : decode cX8_init 0 = .ok (.aload_n 0, 1) := dk_42 (dk_at dksX8_init_0 0 rfl rfl)
theorem dX8_init_1 : decode cX8_init 1 = .ok (.invokespecial 3, 3) := dk_183 0 3 (dk_at dksX8_init_0 1 rfl rfl)
theorem dX8_init_4 : decode cX8_init 4 = .ok (.aload_n 0, 1) := dk_42 (dk_at dksX8_init_0 4 rfl rfl)
theorem dX8_init_5 : decode cX8_init 5 = .ok (.iconst 3, 1) := dk_6 (dk_at dksX8_init_0 5 rfl rfl)
theorem dX8_init_6 : decode cX8_init 6 = .ok (.newarray .int, 2) := dk_188_10 (dk_at dksX8_init_0 6 rfl rfl)
theorem dX8_init_8 : decode cX8_init 8 = .ok (.putfield 9, 3) := dk_181 0 9 (dk_at dksX8_init_0 8 rfl rfl)
theorem dX8_init_11 : decode cX8_init 11 = .ok (.aload_n 0, 1) := dk_42 (dk_at dksX8_init_0 11 rfl rfl)
theorem dX8_init_12 : decode cX8_init 12 = .ok (.bipush 10, 2) := dk_16 10 (dk_at dksX8_init_0 12 rfl rfl)
theorem dX8_init_14 : decode cX8_init 14 = .ok (.newarray .int, 2) := dk_188_10 (dk_at dksX8_init_0 14 rfl rfl)
theorem dX8_init_16 : decode cX8_init 16 = .ok (.putfield 15, 3) := dk_181 0 15 (dk_at dksX8_init_0 16 rfl rfl)
theorem dX8_init_19 : decode cX8_init 19 = .ok (.aload_n 0, 1) := dk_42 (dk_at dksX8_init_0 19 rfl rfl)
theorem dX8_init_20 : decode cX8_init 20 = .ok (.getstatic 18, 3) := dk_178 0 18 (dk_at dksX8_init_0 20 rfl rfl)
theorem dX8_init_23 : decode cX8_init 23 = .ok (.putfield 24, 3) := dk_181 0 24 (dk_at dksX8_init_1 0 rfl rfl)
theorem dX8_init_26 : decode cX8_init 26 = .ok (.aload_n 0, 1) := dk_42 (dk_at dksX8_init_1 3 rfl rfl)
theorem dX8_init_27 : decode cX8_init 27 = .ok (.iconst 1, 1) := dk_4 (dk_at dksX8_init_1 4 rfl rfl)
theorem dX8_init_28 : decode cX8_init 28 = .ok (.putfield 27, 3) := dk_181 0 27 (dk_at dksX8_init_1 5 rfl rfl)
theorem dX8_init_31 : decode cX8_init 31 = .ok (.aload_n 0, 1) := dk_42 (dk_at dksX8_init_1 8 rfl rfl)
theorem dX8_init_32 : decode cX8_init 32 = .ok (.iload_n 1, 1) := dk_27 (dk_at dksX8_init_1 9 rfl rfl)
theorem dX8_init_33 : decode cX8_init 33 = .ok (.putfield 31, 3) := dk_181 0 31 (dk_at dksX8_init_1 10 rfl rfl)
theorem dX8_init_36 : decode cX8_init 36 = .ok (.aload_n 0, 1) := dk_42 (dk_at dksX8_init_1 13 rfl rfl)
theorem dX8_init_37 : decode cX8_init 37 = .ok (.iload_n 2, 1) := dk_28 (dk_at dksX8_init_1 14 rfl rfl)
theorem dX8_init_38 : decode cX8_init 38 = .ok (.putfield 34, 3) := dk_181 0 34 (dk_at dksX8_init_1 15 rfl rfl)
theorem dX8_init_41 : decode cX8_init 41 = .ok (.aload_n 0, 1) := dk_42 (dk_at dksX8_init_1 18 rfl rfl)
theorem dX8_init_42 : decode cX8_init 42 = .ok (.iload_n 3, 1) := dk_29 (dk_at dksX8_init_1 19 rfl rfl)
theorem dX8_init_43 : decode cX8_init 43 = .ok (.putfield 37, 3) := dk_181 0 37 (dk_at dksX8_init_1 20 rfl rfl)
theorem dX8_init_46 : decode cX8_init 46 = .ok (.aload_n 0, 1) := dk_42 (dk_at dksX8_init_1 23 rfl rfl)
theorem dX8_init_47 : decode cX8_init 47 = .ok (.iload 4, 2) := dk_21 4 (dk_at dksX8_init_2 0 rfl rfl)
theorem dX8_init_49 : decode cX8_init 49 = .ok (.putfield 40, 3) := dk_181 0 40 (dk_at dksX8_init_2 2 rfl rfl)
theorem dX8_init_52 : decode cX8_init 52 = .ok (.iconst 0, 1) := dk_3 (dk_at dksX8_init_2 5 rfl rfl)
theorem dX8_init_53 : decode cX8_init 53 = .ok (.istore 5, 2) := dk_54 5 (dk_at dksX8_init_2 6 rfl rfl)
theorem dX8_init_55 : decode cX8_init 55 = .ok (.iload 5, 2) := dk_21 5 (dk_at dksX8_init_2 8 rfl rfl)
theorem dX8_init_57 : decode cX8_init 57 = .ok (.bipush 10, 2) := dk_16 10 (dk_at dksX8_init_2 10 rfl rfl)
theorem dX8_init_59 : decode cX8_init 59 = .ok (.if_icmp .ge 17, 3) := dk_162 0 17 (dk_at dksX8_init_2 12 rfl rfl)
theorem dX8_init_62 : decode cX8_init 62 = .ok (.aload_n 0, 1) := dk_42 (dk_at dksX8_init_2 15 rfl rfl)
theorem dX8_init_63 : decode cX8_init 63 = .ok (.getfield 15, 3) := dk_180 0 15 (dk_at dksX8_init_2 16 rfl rfl)
theorem dX8_init_66 : decode cX8_init 66 = .ok (.iload 5, 2) := dk_21 5 (dk_at dksX8_init_2 19 rfl rfl)
theorem dX8_init_68 : decode cX8_init 68 = .ok (.iconst (-1), 1) := dk_2 (dk_at dksX8_init_2 21 rfl rfl)
theorem dX8_init_69 : decode cX8_init 69 = .ok (.iastore, 1) := dk_79 (dk_at dksX8_init_2 22 rfl rfl)
theorem dX8_init_70 : decode cX8_init 70 = .ok (.iinc 5 1, 3) := dk_132 5 1 (dk_at dksX8_init_3 0 rfl rfl)
theorem dX8_init_73 : decode cX8_init 73 = .ok (.goto (-18), 3) := dk_167 255 238 (dk_at dksX8_init_3 3 rfl rfl)
theorem dX8_init_76 : decode cX8_init 76 = .ok (.return_, 1) := dk_177 (dk_at dksX8_init_3 6 rfl rfl)
abbrev cX8_ask : ByteArray := prog_3_method_2_code
def yX8_ask : MethodName := ⟨RX8, "ask", "(IIII)V"⟩
def dkwX8_ask_1 : List UInt8 := [181, 0, 43, 177]
abbrev dktX8_ask_1 : List UInt8 := dkwX8_ask_1 ++ []
def dkwX8_ask_0 : List UInt8 := [42, 180, 0, 9, 3, 27, 79, 42, 180, 0, 9, 4, 28, 79, 42, 180, 0, 9, 5, 29, 79, 42, 21, 4]
abbrev dktX8_ask_0 : List UInt8 := dkwX8_ask_0 ++ dktX8_ask_1
theorem dksX8_ask_0 : cX8_ask.data.toList.drop 0 = dktX8_ask_0 := by decide +kernel
theorem dksX8_ask_1 : cX8_ask.data.toList.drop 24 = dktX8_ask_1 := dk_seg dksX8_ask_0 24 rfl rfl
theorem dX8_ask_0 : decode cX8_ask 0 = .ok (.aload_n 0, 1) := dk_42 (dk_at dksX8_ask_0 0 rfl rfl)
theorem dX8_ask_1 : decode cX8_ask 1 = .ok (.getfield 9, 3) := dk_180 0 9 (dk_at dksX8_ask_0 1 rfl rfl)
theorem dX8_ask_4 : decode cX8_ask 4 = .ok (.iconst 0, 1) := dk_3 (dk_at dksX8_ask_0 4 rfl rfl)
theorem dX8_ask_5 : decode cX8_ask 5 = .ok (.iload_n 1, 1) := dk_27 (dk_at dksX8_ask_0 5 rfl rfl)
theorem dX8_ask_6 : decode cX8_ask 6 = .ok (.iastore, 1) := dk_79 (dk_at dksX8_ask_0 6 rfl rfl)
theorem dX8_ask_7 : decode cX8_ask 7 = .ok (.aload_n 0, 1) := dk_42 (dk_at dksX8_ask_0 7 rfl rfl)
theorem dX8_ask_8 : decode cX8_ask 8 = .ok (.getfield 9, 3) := dk_180 0 9 (dk_at dksX8_ask_0 8 rfl rfl)
theorem dX8_ask_11 : decode cX8_ask 11 = .ok (.iconst 1, 1) := dk_4 (dk_at dksX8_ask_0 11 rfl rfl)
theorem dX8_ask_12 : decode cX8_ask 12 = .ok (.iload_n 2, 1) := dk_28 (dk_at dksX8_ask_0 12 rfl rfl)
theorem dX8_ask_13 : decode cX8_ask 13 = .ok (.iastore, 1) := dk_79 (dk_at dksX8_ask_0 13 rfl rfl)
theorem dX8_ask_14 : decode cX8_ask 14 = .ok (.aload_n 0, 1) := dk_42 (dk_at dksX8_ask_0 14 rfl rfl)
theorem dX8_ask_15 : decode cX8_ask 15 = .ok (.getfield 9, 3) := dk_180 0 9 (dk_at dksX8_ask_0 15 rfl rfl)
theorem dX8_ask_18 : decode cX8_ask 18 = .ok (.iconst 2, 1) := dk_5 (dk_at dksX8_ask_0 18 rfl rfl)
theorem dX8_ask_19 : decode cX8_ask 19 = .ok (.iload_n 3, 1) := dk_29 (dk_at dksX8_ask_0 19 rfl rfl)
theorem dX8_ask_20 : decode cX8_ask 20 = .ok (.iastore, 1) := dk_79 (dk_at dksX8_ask_0 20 rfl rfl)
theorem dX8_ask_21 : decode cX8_ask 21 = .ok (.aload_n 0, 1) := dk_42 (dk_at dksX8_ask_0 21 rfl rfl)
theorem dX8_ask_22 : decode cX8_ask 22 = .ok (.iload 4, 2) := dk_21 4 (dk_at dksX8_ask_0 22 rfl rfl)
theorem dX8_ask_24 : decode cX8_ask 24 = .ok (.putfield 43, 3) := dk_181 0 43 (dk_at dksX8_ask_1 0 rfl rfl)
theorem dX8_ask_27 : decode cX8_ask 27 = .ok (.return_, 1) := dk_177 (dk_at dksX8_ask_1 3 rfl rfl)
abbrev cX8_reviewCount : ByteArray := prog_3_method_3_code
def yX8_reviewCount : MethodName := ⟨RX8, "reviewCount", "()I"⟩
def dkwX8_reviewCount_1 : List UInt8 := [132, 2, 1, 167, 255, 234, 27, 172]
abbrev dktX8_reviewCount_1 : List UInt8 := dkwX8_reviewCount_1 ++ []
def dkwX8_reviewCount_0 : List UInt8 := [3, 60, 3, 61, 28, 16, 10, 162, 0, 22, 42, 180, 0, 15, 28, 46, 2, 159, 0, 6, 132, 1, 1]
abbrev dktX8_reviewCount_0 : List UInt8 := dkwX8_reviewCount_0 ++ dktX8_reviewCount_1
theorem dksX8_reviewCount_0 : cX8_reviewCount.data.toList.drop 0 = dktX8_reviewCount_0 := by decide +kernel
theorem dksX8_reviewCount_1 : cX8_reviewCount.data.toList.drop 23 = dktX8_reviewCount_1 := dk_seg dksX8_reviewCount_0 23 rfl rfl
theorem dX8_reviewCount_0 : decode cX8_reviewCount 0 = .ok (.iconst 0, 1) := dk_3 (dk_at dksX8_reviewCount_0 0 rfl rfl)
theorem dX8_reviewCount_1 : decode cX8_reviewCount 1 = .ok (.istore_n 1, 1) := dk_60 (dk_at dksX8_reviewCount_0 1 rfl rfl)
theorem dX8_reviewCount_2 : decode cX8_reviewCount 2 = .ok (.iconst 0, 1) := dk_3 (dk_at dksX8_reviewCount_0 2 rfl rfl)
theorem dX8_reviewCount_3 : decode cX8_reviewCount 3 = .ok (.istore_n 2, 1) := dk_61 (dk_at dksX8_reviewCount_0 3 rfl rfl)
theorem dX8_reviewCount_4 : decode cX8_reviewCount 4 = .ok (.iload_n 2, 1) := dk_28 (dk_at dksX8_reviewCount_0 4 rfl rfl)
theorem dX8_reviewCount_5 : decode cX8_reviewCount 5 = .ok (.bipush 10, 2) := dk_16 10 (dk_at dksX8_reviewCount_0 5 rfl rfl)
theorem dX8_reviewCount_7 : decode cX8_reviewCount 7 = .ok (.if_icmp .ge 22, 3) := dk_162 0 22 (dk_at dksX8_reviewCount_0 7 rfl rfl)
theorem dX8_reviewCount_10 : decode cX8_reviewCount 10 = .ok (.aload_n 0, 1) := dk_42 (dk_at dksX8_reviewCount_0 10 rfl rfl)
theorem dX8_reviewCount_11 : decode cX8_reviewCount 11 = .ok (.getfield 15, 3) := dk_180 0 15 (dk_at dksX8_reviewCount_0 11 rfl rfl)
theorem dX8_reviewCount_14 : decode cX8_reviewCount 14 = .ok (.iload_n 2, 1) := dk_28 (dk_at dksX8_reviewCount_0 14 rfl rfl)
theorem dX8_reviewCount_15 : decode cX8_reviewCount 15 = .ok (.iaload, 1) := dk_46 (dk_at dksX8_reviewCount_0 15 rfl rfl)
theorem dX8_reviewCount_16 : decode cX8_reviewCount 16 = .ok (.iconst (-1), 1) := dk_2 (dk_at dksX8_reviewCount_0 16 rfl rfl)
theorem dX8_reviewCount_17 : decode cX8_reviewCount 17 = .ok (.if_icmp .eq 6, 3) := dk_159 0 6 (dk_at dksX8_reviewCount_0 17 rfl rfl)
theorem dX8_reviewCount_20 : decode cX8_reviewCount 20 = .ok (.iinc 1 1, 3) := dk_132 1 1 (dk_at dksX8_reviewCount_0 20 rfl rfl)
theorem dX8_reviewCount_23 : decode cX8_reviewCount 23 = .ok (.iinc 2 1, 3) := dk_132 2 1 (dk_at dksX8_reviewCount_1 0 rfl rfl)
theorem dX8_reviewCount_26 : decode cX8_reviewCount 26 = .ok (.goto (-22), 3) := dk_167 255 234 (dk_at dksX8_reviewCount_1 3 rfl rfl)
theorem dX8_reviewCount_29 : decode cX8_reviewCount 29 = .ok (.iload_n 1, 1) := dk_27 (dk_at dksX8_reviewCount_1 6 rfl rfl)
theorem dX8_reviewCount_30 : decode cX8_reviewCount 30 = .ok (.ireturn, 1) := dk_172 (dk_at dksX8_reviewCount_1 7 rfl rfl)
theorem q59 : (Jvm.Cond.initialized "Grantworks$Application") ∈ lw_all := lw_g (lw_at lw_m1 18 rfl) rfl
theorem q259 : (Jvm.Cond.instanceMethod ({ cls := "Grantworks$Application", name := "toCome", desc := "()I" } : Jvm.MethodName)) ∈ lw_all := lw_g (lw_at lw_m1 218 rfl) rfl
theorem q260 : (Jvm.Cond.selects "Grantworks$Application" ({ cls := "Grantworks$Application", name := "toCome", desc := "()I" } : Jvm.MethodName) ({ cls := "Grantworks$Application", name := "toCome", desc := "()I" } : Jvm.MethodName)) ∈ lw_all := lw_g (lw_at lw_m1 219 rfl) rfl
theorem q261 : (Jvm.Cond.code ({ cls := "Grantworks$Application", name := "toCome", desc := "()I" } : Jvm.MethodName) prog_3_method_4_code (3 : Nat) (Option.some Jvm.ClassFile.FieldType.int)) ∈ lw_all := lw_g (lw_at lw_m1 220 rfl) rfl
theorem q552 : (Jvm.Cond.instantiable "Grantworks$Application" (11 : Nat)) ∈ lw_all := lw_g (lw_at lw_m3 31 rfl) rfl
theorem q554 : (Jvm.Cond.instanceMethod ({ cls := "Grantworks$Application", name := "<init>", desc := "(IIII)V" } : Jvm.MethodName)) ∈ lw_all := lw_g (lw_at lw_m3 33 rfl) rfl
theorem q555 : (Jvm.Cond.code ({ cls := "Grantworks$Application", name := "<init>", desc := "(IIII)V" } : Jvm.MethodName) prog_3_method_1_code (6 : Nat) (Option.none : Option Jvm.ClassFile.FieldType)) ∈ lw_all := lw_g (lw_at lw_m3 34 rfl) rfl
theorem q556 : (Jvm.Cond.methodLink "Grantworks$Application" (3 : Nat) ({ cls := "java/lang/Object", name := "<init>", desc := "()V" } : Jvm.MethodName)) ∈ lw_all := lw_g (lw_at lw_m3 35 rfl) rfl
theorem q557 : (Jvm.Cond.fieldLink "Grantworks$Application" (18 : Nat) "Grantworks$State" "IS_TOLD" "LGrantworks$State;") ∈ lw_all := lw_g (lw_at lw_m3 36 rfl) rfl
theorem q559 : (Jvm.Cond.fieldLink "Grantworks$Application" (31 : Nat) "Grantworks$Application" "number" "I") ∈ lw_all := lw_g (lw_at lw_m3 38 rfl) rfl
theorem q561 : (Jvm.Cond.fieldLink "Grantworks$Application" (34 : Nat) "Grantworks$Application" "call" "I") ∈ lw_all := lw_g (lw_at lw_m3 40 rfl) rfl
theorem q563 : (Jvm.Cond.fieldLink "Grantworks$Application" (37 : Nat) "Grantworks$Application" "person" "I") ∈ lw_all := lw_g (lw_at lw_m3 42 rfl) rfl
theorem q565 : (Jvm.Cond.fieldLink "Grantworks$Application" (40 : Nat) "Grantworks$Application" "house" "I") ∈ lw_all := lw_g (lw_at lw_m3 44 rfl) rfl
theorem q567 : (Jvm.Cond.fieldLink "Grantworks$Application" (9 : Nat) "Grantworks$Application" "asked" "[I") ∈ lw_all := lw_g (lw_at lw_m3 46 rfl) rfl
theorem q569 : (Jvm.Cond.fieldLink "Grantworks$Application" (15 : Nat) "Grantworks$Application" "reviews" "[I") ∈ lw_all := lw_g (lw_at lw_m3 48 rfl) rfl
theorem q571 : (Jvm.Cond.fieldLink "Grantworks$Application" (24 : Nat) "Grantworks$Application" "state" "LGrantworks$State;") ∈ lw_all := lw_g (lw_at lw_m3 50 rfl) rfl
theorem q573 : (Jvm.Cond.fieldLink "Grantworks$Application" (27 : Nat) "Grantworks$Application" "version" "I") ∈ lw_all := lw_g (lw_at lw_m3 52 rfl) rfl
theorem q575 : (Jvm.Cond.fieldLink "Grantworks$Application" (43 : Nat) "Grantworks$Application" "day" "I") ∈ lw_all := lw_g (lw_at lw_m3 54 rfl) rfl
theorem q577 : (Jvm.Cond.fieldLink "Grantworks$Application" (46 : Nat) "Grantworks$Application" "reported" "I") ∈ lw_all := lw_g (lw_at lw_m3 56 rfl) rfl
theorem q580 : (Jvm.Cond.laysFinal "Grantworks$Application" "Grantworks$Application" "number" "I") ∈ lw_all := lw_g (lw_at lw_m3 59 rfl) rfl
theorem q581 : (Jvm.Cond.soleField "Grantworks$Application" "number") ∈ lw_all := lw_g (lw_at lw_m3 60 rfl) rfl
theorem q582 : (Jvm.Cond.laysFinal "Grantworks$Application" "Grantworks$Application" "call" "I") ∈ lw_all := lw_g (lw_at lw_m3 61 rfl) rfl
theorem q583 : (Jvm.Cond.soleField "Grantworks$Application" "call") ∈ lw_all := lw_g (lw_at lw_m3 62 rfl) rfl
theorem q584 : (Jvm.Cond.laysFinal "Grantworks$Application" "Grantworks$Application" "person" "I") ∈ lw_all := lw_g (lw_at lw_m3 63 rfl) rfl
theorem q585 : (Jvm.Cond.soleField "Grantworks$Application" "person") ∈ lw_all := lw_g (lw_at lw_m3 64 rfl) rfl
theorem q586 : (Jvm.Cond.laysFinal "Grantworks$Application" "Grantworks$Application" "house" "I") ∈ lw_all := lw_g (lw_at lw_m3 65 rfl) rfl
theorem q587 : (Jvm.Cond.soleField "Grantworks$Application" "house") ∈ lw_all := lw_g (lw_at lw_m3 66 rfl) rfl
theorem q588 : (Jvm.Cond.laysFinal "Grantworks$Application" "Grantworks$Application" "asked" "[I") ∈ lw_all := lw_g (lw_at lw_m3 67 rfl) rfl
theorem q589 : (Jvm.Cond.soleField "Grantworks$Application" "asked") ∈ lw_all := lw_g (lw_at lw_m3 68 rfl) rfl
theorem q590 : (Jvm.Cond.laysFinal "Grantworks$Application" "Grantworks$Application" "reviews" "[I") ∈ lw_all := lw_g (lw_at lw_m3 69 rfl) rfl
theorem q591 : (Jvm.Cond.soleField "Grantworks$Application" "reviews") ∈ lw_all := lw_g (lw_at lw_m3 70 rfl) rfl
theorem q592 : (Jvm.Cond.lays "Grantworks$Application" "Grantworks$Application" "state" "LGrantworks$State;") ∈ lw_all := lw_g (lw_at lw_m3 71 rfl) rfl
theorem q593 : (Jvm.Cond.soleField "Grantworks$Application" "state") ∈ lw_all := lw_g (lw_at lw_m3 72 rfl) rfl
theorem q594 : (Jvm.Cond.lays "Grantworks$Application" "Grantworks$Application" "version" "I") ∈ lw_all := lw_g (lw_at lw_m3 73 rfl) rfl
theorem q595 : (Jvm.Cond.soleField "Grantworks$Application" "version") ∈ lw_all := lw_g (lw_at lw_m3 74 rfl) rfl
theorem q596 : (Jvm.Cond.lays "Grantworks$Application" "Grantworks$Application" "day" "I") ∈ lw_all := lw_g (lw_at lw_m3 75 rfl) rfl
theorem q597 : (Jvm.Cond.soleField "Grantworks$Application" "day") ∈ lw_all := lw_g (lw_at lw_m3 76 rfl) rfl
theorem q598 : (Jvm.Cond.lays "Grantworks$Application" "Grantworks$Application" "reported" "I") ∈ lw_all := lw_g (lw_at lw_m3 77 rfl) rfl
theorem q599 : (Jvm.Cond.soleField "Grantworks$Application" "reported") ∈ lw_all := lw_g (lw_at lw_m3 78 rfl) rfl
theorem q600 : (Jvm.Cond.lays "Grantworks$Application" "Grantworks$Application" "paid" "I") ∈ lw_all := lw_g (lw_at lw_m3 79 rfl) rfl
theorem q601 : (Jvm.Cond.soleField "Grantworks$Application" "paid") ∈ lw_all := lw_g (lw_at lw_m3 80 rfl) rfl
theorem q602 : (Jvm.Cond.superclass "Grantworks$Application" "java/lang/Object") ∈ lw_all := lw_g (lw_at lw_m3 81 rfl) rfl
theorem q604 : (Jvm.Cond.instanceMethod ({ cls := "Grantworks$Application", name := "ask", desc := "(IIII)V" } : Jvm.MethodName)) ∈ lw_all := lw_g (lw_at lw_m3 83 rfl) rfl
theorem q605 : (Jvm.Cond.selects "Grantworks$Application" ({ cls := "Grantworks$Application", name := "ask", desc := "(IIII)V" } : Jvm.MethodName) ({ cls := "Grantworks$Application", name := "ask", desc := "(IIII)V" } : Jvm.MethodName)) ∈ lw_all := lw_g (lw_at lw_m3 84 rfl) rfl
theorem q606 : (Jvm.Cond.code ({ cls := "Grantworks$Application", name := "ask", desc := "(IIII)V" } : Jvm.MethodName) prog_3_method_2_code (5 : Nat) (Option.none : Option Jvm.ClassFile.FieldType)) ∈ lw_all := lw_g (lw_at lw_m3 85 rfl) rfl
theorem q687 : (Jvm.Cond.instanceMethod ({ cls := "Grantworks$Application", name := "reviewCount", desc := "()I" } : Jvm.MethodName)) ∈ lw_all := lw_g (lw_at lw_m3 166 rfl) rfl
theorem q688 : (Jvm.Cond.selects "Grantworks$Application" ({ cls := "Grantworks$Application", name := "reviewCount", desc := "()I" } : Jvm.MethodName) ({ cls := "Grantworks$Application", name := "reviewCount", desc := "()I" } : Jvm.MethodName)) ∈ lw_all := lw_g (lw_at lw_m3 167 rfl) rfl
theorem q689 : (Jvm.Cond.code ({ cls := "Grantworks$Application", name := "reviewCount", desc := "()I" } : Jvm.MethodName) prog_3_method_3_code (3 : Nat) (Option.some Jvm.ClassFile.FieldType.int)) ∈ lw_all := lw_g (lw_at lw_m3 168 rfl) rfl
theorem q1155 : (Jvm.Cond.castable "Grantworks$Application" "java/lang/Object") ∈ lw_tbl := lw_at lw_m5 154 rfl
theorem in_X8 : ∀ w ∈ wsX80, w ∈ lw_all := lw_in wsX80 [580, 582, 584, 586, 588, 590, 592, 594, 596, 598, 600] (by decide +kernel) (by decide +kernel)
/-! Grantworks$Paid -/
set_option maxRecDepth 100000
def RX9 : String := "Grantworks$Paid"
def TX9 : u_T := fun k => match k with
  | 0 => ("Grantworks$Paid", "key", "LGrantworks$Key;", true)
  | 1 => ("Grantworks$Paid", "money", "I", true)
  | _ => ("Grantworks$Paid", "application", "I", true)
def tyX9 : Nat → FieldType := fun k => match k with
  | 0 => .object "Grantworks$Key"
  | 1 => .int
  | _ => .int
abbrev wsX90 : List Cond := u_ws RX9 TX9 3
theorem nmX9 : ∀ a, a < 3 → ∀ b, b < 3 → a ≠ b → (TX9 a).2.1 ≠ (TX9 b).2.1 := by decide +kernel
theorem tyX9_ok : ∀ k, k < 3 → parseFieldDescriptor (TX9 k).2.2.1 = some (tyX9 k) := by decide +kernel
abbrev cX9_init : ByteArray := prog_6_method_1_code
def yX9_init : MethodName := ⟨RX9, "<init>", "(LGrantworks$Key;II)V"⟩
def dkwX9_init_0 : List UInt8 := [42, 183, 0, 1, 42, 43, 181, 0, 7, 42, 28, 181, 0, 13, 42, 29, 181, 0, 17, 177]
abbrev dktX9_init_0 : List UInt8 := dkwX9_init_0 ++ []
theorem dksX9_init_0 : cX9_init.data.toList.drop 0 = dktX9_init_0 := by decide +kernel
theorem dX9_init_0 : decode cX9_init 0 = .ok (.aload_n 0, 1) := dk_42 (dk_at dksX9_init_0 0 rfl rfl)
theorem dX9_init_1 : decode cX9_init 1 = .ok (.invokespecial 1, 3) := dk_183 0 1 (dk_at dksX9_init_0 1 rfl rfl)
theorem dX9_init_4 : decode cX9_init 4 = .ok (.aload_n 0, 1) := dk_42 (dk_at dksX9_init_0 4 rfl rfl)
theorem dX9_init_5 : decode cX9_init 5 = .ok (.aload_n 1, 1) := dk_43 (dk_at dksX9_init_0 5 rfl rfl)
theorem dX9_init_6 : decode cX9_init 6 = .ok (.putfield 7, 3) := dk_181 0 7 (dk_at dksX9_init_0 6 rfl rfl)
theorem dX9_init_9 : decode cX9_init 9 = .ok (.aload_n 0, 1) := dk_42 (dk_at dksX9_init_0 9 rfl rfl)
theorem dX9_init_10 : decode cX9_init 10 = .ok (.iload_n 2, 1) := dk_28 (dk_at dksX9_init_0 10 rfl rfl)
theorem dX9_init_11 : decode cX9_init 11 = .ok (.putfield 13, 3) := dk_181 0 13 (dk_at dksX9_init_0 11 rfl rfl)
theorem dX9_init_14 : decode cX9_init 14 = .ok (.aload_n 0, 1) := dk_42 (dk_at dksX9_init_0 14 rfl rfl)
theorem dX9_init_15 : decode cX9_init 15 = .ok (.iload_n 3, 1) := dk_29 (dk_at dksX9_init_0 15 rfl rfl)
theorem dX9_init_16 : decode cX9_init 16 = .ok (.putfield 17, 3) := dk_181 0 17 (dk_at dksX9_init_0 16 rfl rfl)
theorem dX9_init_19 : decode cX9_init 19 = .ok (.return_, 1) := dk_177 (dk_at dksX9_init_0 19 rfl rfl)
theorem q61 : (Jvm.Cond.initialized "Grantworks$Paid") ∈ lw_all := lw_g (lw_at lw_m1 20 rfl) rfl
theorem q711 : (Jvm.Cond.instantiable "Grantworks$Paid" (3 : Nat)) ∈ lw_all := lw_g (lw_at lw_m3 190 rfl) rfl
theorem q713 : (Jvm.Cond.instanceMethod ({ cls := "Grantworks$Paid", name := "<init>", desc := "(LGrantworks$Key;II)V" } : Jvm.MethodName)) ∈ lw_all := lw_g (lw_at lw_m3 192 rfl) rfl
theorem q714 : (Jvm.Cond.code ({ cls := "Grantworks$Paid", name := "<init>", desc := "(LGrantworks$Key;II)V" } : Jvm.MethodName) prog_6_method_1_code (4 : Nat) (Option.none : Option Jvm.ClassFile.FieldType)) ∈ lw_all := lw_g (lw_at lw_m3 193 rfl) rfl
theorem q715 : (Jvm.Cond.methodLink "Grantworks$Paid" (1 : Nat) ({ cls := "java/lang/Object", name := "<init>", desc := "()V" } : Jvm.MethodName)) ∈ lw_all := lw_g (lw_at lw_m3 194 rfl) rfl
theorem q716 : (Jvm.Cond.fieldLink "Grantworks$Paid" (7 : Nat) "Grantworks$Paid" "key" "LGrantworks$Key;") ∈ lw_all := lw_g (lw_at lw_m3 195 rfl) rfl
theorem q718 : (Jvm.Cond.fieldLink "Grantworks$Paid" (13 : Nat) "Grantworks$Paid" "money" "I") ∈ lw_all := lw_g (lw_at lw_m3 197 rfl) rfl
theorem q720 : (Jvm.Cond.fieldLink "Grantworks$Paid" (17 : Nat) "Grantworks$Paid" "application" "I") ∈ lw_all := lw_g (lw_at lw_m3 199 rfl) rfl
theorem q722 : (Jvm.Cond.laysFinal "Grantworks$Paid" "Grantworks$Paid" "key" "LGrantworks$Key;") ∈ lw_all := lw_g (lw_at lw_m3 201 rfl) rfl
theorem q723 : (Jvm.Cond.soleField "Grantworks$Paid" "key") ∈ lw_all := lw_g (lw_at lw_m3 202 rfl) rfl
theorem q724 : (Jvm.Cond.laysFinal "Grantworks$Paid" "Grantworks$Paid" "money" "I") ∈ lw_all := lw_g (lw_at lw_m3 203 rfl) rfl
theorem q725 : (Jvm.Cond.soleField "Grantworks$Paid" "money") ∈ lw_all := lw_g (lw_at lw_m3 204 rfl) rfl
theorem q726 : (Jvm.Cond.laysFinal "Grantworks$Paid" "Grantworks$Paid" "application" "I") ∈ lw_all := lw_g (lw_at lw_m3 205 rfl) rfl
theorem q727 : (Jvm.Cond.soleField "Grantworks$Paid" "application") ∈ lw_all := lw_g (lw_at lw_m3 206 rfl) rfl
theorem q728 : (Jvm.Cond.superclass "Grantworks$Paid" "java/lang/Object") ∈ lw_all := lw_g (lw_at lw_m3 207 rfl) rfl
theorem q1161 : (Jvm.Cond.castable "Grantworks$Paid" "java/lang/Object") ∈ lw_tbl := lw_at lw_m5 160 rfl
theorem q1168 : (Jvm.Cond.castable "Grantworks$Paid" "Grantworks$Entry") ∈ lw_tbl := lw_at lw_m5 167 rfl
theorem in_X9 : ∀ w ∈ wsX90, w ∈ lw_all := lw_in wsX90 [722, 724, 726] (by decide +kernel) (by decide +kernel)
/-! Grantworks$Returned -/
set_option maxRecDepth 100000
def RX10 : String := "Grantworks$Returned"
def TX10 : u_T := fun k => match k with
  | 0 => ("Grantworks$Returned", "key", "LGrantworks$Key;", true)
  | 1 => ("Grantworks$Returned", "money", "I", true)
  | _ => ("Grantworks$Returned", "application", "I", true)
def tyX10 : Nat → FieldType := fun k => match k with
  | 0 => .object "Grantworks$Key"
  | 1 => .int
  | _ => .int
abbrev wsX100 : List Cond := u_ws RX10 TX10 3
theorem nmX10 : ∀ a, a < 3 → ∀ b, b < 3 → a ≠ b → (TX10 a).2.1 ≠ (TX10 b).2.1 := by decide +kernel
theorem tyX10_ok : ∀ k, k < 3 → parseFieldDescriptor (TX10 k).2.2.1 = some (tyX10 k) := by decide +kernel
abbrev cX10_init : ByteArray := prog_8_method_1_code
def yX10_init : MethodName := ⟨RX10, "<init>", "(LGrantworks$Key;II)V"⟩
def dkwX10_init_0 : List UInt8 := [42, 183, 0, 1, 42, 43, 181, 0, 7, 42, 28, 181, 0, 13, 42, 29, 181, 0, 17, 177]
abbrev dktX10_init_0 : List UInt8 := dkwX10_init_0 ++ []
theorem dksX10_init_0 : cX10_init.data.toList.drop 0 = dktX10_init_0 := by decide +kernel
theorem dX10_init_0 : decode cX10_init 0 = .ok (.aload_n 0, 1) := dk_42 (dk_at dksX10_init_0 0 rfl rfl)
theorem dX10_init_1 : decode cX10_init 1 = .ok (.invokespecial 1, 3) := dk_183 0 1 (dk_at dksX10_init_0 1 rfl rfl)
theorem dX10_init_4 : decode cX10_init 4 = .ok (.aload_n 0, 1) := dk_42 (dk_at dksX10_init_0 4 rfl rfl)
theorem dX10_init_5 : decode cX10_init 5 = .ok (.aload_n 1, 1) := dk_43 (dk_at dksX10_init_0 5 rfl rfl)
theorem dX10_init_6 : decode cX10_init 6 = .ok (.putfield 7, 3) := dk_181 0 7 (dk_at dksX10_init_0 6 rfl rfl)
theorem dX10_init_9 : decode cX10_init 9 = .ok (.aload_n 0, 1) := dk_42 (dk_at dksX10_init_0 9 rfl rfl)
theorem dX10_init_10 : decode cX10_init 10 = .ok (.iload_n 2, 1) := dk_28 (dk_at dksX10_init_0 10 rfl rfl)
theorem dX10_init_11 : decode cX10_init 11 = .ok (.putfield 13, 3) := dk_181 0 13 (dk_at dksX10_init_0 11 rfl rfl)
theorem dX10_init_14 : decode cX10_init 14 = .ok (.aload_n 0, 1) := dk_42 (dk_at dksX10_init_0 14 rfl rfl)
theorem dX10_init_15 : decode cX10_init 15 = .ok (.iload_n 3, 1) := dk_29 (dk_at dksX10_init_0 15 rfl rfl)
theorem dX10_init_16 : decode cX10_init 16 = .ok (.putfield 17, 3) := dk_181 0 17 (dk_at dksX10_init_0 16 rfl rfl)
theorem dX10_init_19 : decode cX10_init 19 = .ok (.return_, 1) := dk_177 (dk_at dksX10_init_0 19 rfl rfl)
theorem q62 : (Jvm.Cond.initialized "Grantworks$Returned") ∈ lw_all := lw_g (lw_at lw_m1 21 rfl) rfl
theorem q733 : (Jvm.Cond.instantiable "Grantworks$Returned" (3 : Nat)) ∈ lw_all := lw_g (lw_at lw_m3 212 rfl) rfl
theorem q735 : (Jvm.Cond.instanceMethod ({ cls := "Grantworks$Returned", name := "<init>", desc := "(LGrantworks$Key;II)V" } : Jvm.MethodName)) ∈ lw_all := lw_g (lw_at lw_m3 214 rfl) rfl
theorem q736 : (Jvm.Cond.code ({ cls := "Grantworks$Returned", name := "<init>", desc := "(LGrantworks$Key;II)V" } : Jvm.MethodName) prog_8_method_1_code (4 : Nat) (Option.none : Option Jvm.ClassFile.FieldType)) ∈ lw_all := lw_g (lw_at lw_m3 215 rfl) rfl
theorem q737 : (Jvm.Cond.methodLink "Grantworks$Returned" (1 : Nat) ({ cls := "java/lang/Object", name := "<init>", desc := "()V" } : Jvm.MethodName)) ∈ lw_all := lw_g (lw_at lw_m3 216 rfl) rfl
theorem q738 : (Jvm.Cond.fieldLink "Grantworks$Returned" (7 : Nat) "Grantworks$Returned" "key" "LGrantworks$Key;") ∈ lw_all := lw_g (lw_at lw_m3 217 rfl) rfl
theorem q740 : (Jvm.Cond.fieldLink "Grantworks$Returned" (13 : Nat) "Grantworks$Returned" "money" "I") ∈ lw_all := lw_g (lw_at lw_m3 219 rfl) rfl
theorem q742 : (Jvm.Cond.fieldLink "Grantworks$Returned" (17 : Nat) "Grantworks$Returned" "application" "I") ∈ lw_all := lw_g (lw_at lw_m3 221 rfl) rfl
theorem q744 : (Jvm.Cond.laysFinal "Grantworks$Returned" "Grantworks$Returned" "key" "LGrantworks$Key;") ∈ lw_all := lw_g (lw_at lw_m3 223 rfl) rfl
theorem q745 : (Jvm.Cond.soleField "Grantworks$Returned" "key") ∈ lw_all := lw_g (lw_at lw_m3 224 rfl) rfl
theorem q746 : (Jvm.Cond.laysFinal "Grantworks$Returned" "Grantworks$Returned" "money" "I") ∈ lw_all := lw_g (lw_at lw_m3 225 rfl) rfl
theorem q747 : (Jvm.Cond.soleField "Grantworks$Returned" "money") ∈ lw_all := lw_g (lw_at lw_m3 226 rfl) rfl
theorem q748 : (Jvm.Cond.laysFinal "Grantworks$Returned" "Grantworks$Returned" "application" "I") ∈ lw_all := lw_g (lw_at lw_m3 227 rfl) rfl
theorem q749 : (Jvm.Cond.soleField "Grantworks$Returned" "application") ∈ lw_all := lw_g (lw_at lw_m3 228 rfl) rfl
theorem q750 : (Jvm.Cond.superclass "Grantworks$Returned" "java/lang/Object") ∈ lw_all := lw_g (lw_at lw_m3 229 rfl) rfl
theorem q1162 : (Jvm.Cond.castable "Grantworks$Returned" "java/lang/Object") ∈ lw_tbl := lw_at lw_m5 161 rfl
theorem q1169 : (Jvm.Cond.castable "Grantworks$Returned" "Grantworks$Entry") ∈ lw_tbl := lw_at lw_m5 168 rfl
theorem in_X10 : ∀ w ∈ wsX100, w ∈ lw_all := lw_in wsX100 [744, 746, 748] (by decide +kernel) (by decide +kernel)
/-! Grantworks$State$1 -/
set_option maxRecDepth 100000
def RX11 : String := "Grantworks$State$1"
abbrev cX11_isReserved : ByteArray := prog_10_method_3_code
def yX11_isReserved : MethodName := ⟨RX11, "isReserved", "()Z"⟩
theorem dX11_isReserved_0 : decode cX11_isReserved 0 = .ok (.iconst 0, 1) := by decide +kernel
theorem dX11_isReserved_1 : decode cX11_isReserved 1 = .ok (.ireturn, 1) := by decide +kernel
abbrev cX11_canEnd : ByteArray := prog_10_method_2_code
def yX11_canEnd : MethodName := ⟨RX11, "canEnd", "(Z)Z"⟩
theorem dX11_canEnd_0 : decode cX11_canEnd 0 = .ok (.iload_n 1, 1) := by decide +kernel
theorem dX11_canEnd_1 : decode cX11_canEnd 1 = .ok (.ireturn, 1) := by decide +kernel
theorem q240 : (Jvm.Cond.selects "Grantworks$State$1" ({ cls := "Grantworks$State", name := "isReserved", desc := "()Z" } : Jvm.MethodName) ({ cls := "Grantworks$State$1", name := "isReserved", desc := "()Z" } : Jvm.MethodName)) ∈ lw_all := lw_g (lw_at lw_m1 199 rfl) rfl
theorem q241 : (Jvm.Cond.instanceMethod ({ cls := "Grantworks$State$1", name := "isReserved", desc := "()Z" } : Jvm.MethodName)) ∈ lw_all := lw_g (lw_at lw_m1 200 rfl) rfl
theorem q242 : (Jvm.Cond.code ({ cls := "Grantworks$State$1", name := "isReserved", desc := "()Z" } : Jvm.MethodName) prog_10_method_3_code (1 : Nat) (Option.some Jvm.ClassFile.FieldType.boolean)) ∈ lw_all := lw_g (lw_at lw_m1 201 rfl) rfl
theorem q761 : (Jvm.Cond.selects "Grantworks$State$1" ({ cls := "Grantworks$State", name := "canEnd", desc := "(Z)Z" } : Jvm.MethodName) ({ cls := "Grantworks$State$1", name := "canEnd", desc := "(Z)Z" } : Jvm.MethodName)) ∈ lw_all := lw_g (lw_at lw_m4 0 rfl) rfl
theorem q762 : (Jvm.Cond.instanceMethod ({ cls := "Grantworks$State$1", name := "canEnd", desc := "(Z)Z" } : Jvm.MethodName)) ∈ lw_all := lw_g (lw_at lw_m4 1 rfl) rfl
theorem q763 : (Jvm.Cond.code ({ cls := "Grantworks$State$1", name := "canEnd", desc := "(Z)Z" } : Jvm.MethodName) prog_10_method_2_code (2 : Nat) (Option.some Jvm.ClassFile.FieldType.boolean)) ∈ lw_all := lw_g (lw_at lw_m4 2 rfl) rfl
theorem q798 : (Jvm.Cond.selects "Grantworks$State$1" ({ cls := "Grantworks$State", name := "ordinal", desc := "()I" } : Jvm.MethodName) ({ cls := "java/lang/Enum", name := "ordinal", desc := "()I" } : Jvm.MethodName)) ∈ lw_all := lw_g (lw_at lw_m4 37 rfl) rfl
theorem q1156 : (Jvm.Cond.castable "Grantworks$State$1" "java/lang/Object") ∈ lw_tbl := lw_at lw_m5 155 rfl
/-! Grantworks$State$2 -/
set_option maxRecDepth 100000
def RX12 : String := "Grantworks$State$2"
abbrev cX12_isReserved : ByteArray := prog_11_method_3_code
def yX12_isReserved : MethodName := ⟨RX12, "isReserved", "()Z"⟩
theorem dX12_isReserved_0 : decode cX12_isReserved 0 = .ok (.iconst 0, 1) := by decide +kernel
theorem dX12_isReserved_1 : decode cX12_isReserved 1 = .ok (.ireturn, 1) := by decide +kernel
abbrev cX12_canEnd : ByteArray := prog_11_method_2_code
def yX12_canEnd : MethodName := ⟨RX12, "canEnd", "(Z)Z"⟩
theorem dX12_canEnd_0 : decode cX12_canEnd 0 = .ok (.iload_n 1, 1) := by decide +kernel
theorem dX12_canEnd_1 : decode cX12_canEnd 1 = .ok (.ireturn, 1) := by decide +kernel
theorem q243 : (Jvm.Cond.selects "Grantworks$State$2" ({ cls := "Grantworks$State", name := "isReserved", desc := "()Z" } : Jvm.MethodName) ({ cls := "Grantworks$State$2", name := "isReserved", desc := "()Z" } : Jvm.MethodName)) ∈ lw_all := lw_g (lw_at lw_m1 202 rfl) rfl
theorem q244 : (Jvm.Cond.instanceMethod ({ cls := "Grantworks$State$2", name := "isReserved", desc := "()Z" } : Jvm.MethodName)) ∈ lw_all := lw_g (lw_at lw_m1 203 rfl) rfl
theorem q245 : (Jvm.Cond.code ({ cls := "Grantworks$State$2", name := "isReserved", desc := "()Z" } : Jvm.MethodName) prog_11_method_3_code (1 : Nat) (Option.some Jvm.ClassFile.FieldType.boolean)) ∈ lw_all := lw_g (lw_at lw_m1 204 rfl) rfl
theorem q764 : (Jvm.Cond.selects "Grantworks$State$2" ({ cls := "Grantworks$State", name := "canEnd", desc := "(Z)Z" } : Jvm.MethodName) ({ cls := "Grantworks$State$2", name := "canEnd", desc := "(Z)Z" } : Jvm.MethodName)) ∈ lw_all := lw_g (lw_at lw_m4 3 rfl) rfl
theorem q765 : (Jvm.Cond.instanceMethod ({ cls := "Grantworks$State$2", name := "canEnd", desc := "(Z)Z" } : Jvm.MethodName)) ∈ lw_all := lw_g (lw_at lw_m4 4 rfl) rfl
theorem q766 : (Jvm.Cond.code ({ cls := "Grantworks$State$2", name := "canEnd", desc := "(Z)Z" } : Jvm.MethodName) prog_11_method_2_code (2 : Nat) (Option.some Jvm.ClassFile.FieldType.boolean)) ∈ lw_all := lw_g (lw_at lw_m4 5 rfl) rfl
theorem q799 : (Jvm.Cond.selects "Grantworks$State$2" ({ cls := "Grantworks$State", name := "ordinal", desc := "()I" } : Jvm.MethodName) ({ cls := "java/lang/Enum", name := "ordinal", desc := "()I" } : Jvm.MethodName)) ∈ lw_all := lw_g (lw_at lw_m4 38 rfl) rfl
theorem q1159 : (Jvm.Cond.castable "Grantworks$State$2" "java/lang/Object") ∈ lw_tbl := lw_at lw_m5 158 rfl
/-! Grantworks$State$3 -/
set_option maxRecDepth 100000
def RX13 : String := "Grantworks$State$3"
abbrev cX13_isReserved : ByteArray := prog_12_method_3_code
def yX13_isReserved : MethodName := ⟨RX13, "isReserved", "()Z"⟩
theorem dX13_isReserved_0 : decode cX13_isReserved 0 = .ok (.iconst 1, 1) := by decide +kernel
theorem dX13_isReserved_1 : decode cX13_isReserved 1 = .ok (.ireturn, 1) := by decide +kernel
abbrev cX13_canEnd : ByteArray := prog_12_method_2_code
def yX13_canEnd : MethodName := ⟨RX13, "canEnd", "(Z)Z"⟩
theorem dX13_canEnd_0 : decode cX13_canEnd 0 = .ok (.iconst 1, 1) := by decide +kernel
theorem dX13_canEnd_1 : decode cX13_canEnd 1 = .ok (.ireturn, 1) := by decide +kernel
theorem q246 : (Jvm.Cond.selects "Grantworks$State$3" ({ cls := "Grantworks$State", name := "isReserved", desc := "()Z" } : Jvm.MethodName) ({ cls := "Grantworks$State$3", name := "isReserved", desc := "()Z" } : Jvm.MethodName)) ∈ lw_all := lw_g (lw_at lw_m1 205 rfl) rfl
theorem q247 : (Jvm.Cond.instanceMethod ({ cls := "Grantworks$State$3", name := "isReserved", desc := "()Z" } : Jvm.MethodName)) ∈ lw_all := lw_g (lw_at lw_m1 206 rfl) rfl
theorem q248 : (Jvm.Cond.code ({ cls := "Grantworks$State$3", name := "isReserved", desc := "()Z" } : Jvm.MethodName) prog_12_method_3_code (1 : Nat) (Option.some Jvm.ClassFile.FieldType.boolean)) ∈ lw_all := lw_g (lw_at lw_m1 207 rfl) rfl
theorem q767 : (Jvm.Cond.selects "Grantworks$State$3" ({ cls := "Grantworks$State", name := "canEnd", desc := "(Z)Z" } : Jvm.MethodName) ({ cls := "Grantworks$State$3", name := "canEnd", desc := "(Z)Z" } : Jvm.MethodName)) ∈ lw_all := lw_g (lw_at lw_m4 6 rfl) rfl
theorem q768 : (Jvm.Cond.instanceMethod ({ cls := "Grantworks$State$3", name := "canEnd", desc := "(Z)Z" } : Jvm.MethodName)) ∈ lw_all := lw_g (lw_at lw_m4 7 rfl) rfl
theorem q769 : (Jvm.Cond.code ({ cls := "Grantworks$State$3", name := "canEnd", desc := "(Z)Z" } : Jvm.MethodName) prog_12_method_2_code (2 : Nat) (Option.some Jvm.ClassFile.FieldType.boolean)) ∈ lw_all := lw_g (lw_at lw_m4 8 rfl) rfl
theorem q800 : (Jvm.Cond.selects "Grantworks$State$3" ({ cls := "Grantworks$State", name := "ordinal", desc := "()I" } : Jvm.MethodName) ({ cls := "java/lang/Enum", name := "ordinal", desc := "()I" } : Jvm.MethodName)) ∈ lw_all := lw_g (lw_at lw_m4 39 rfl) rfl
theorem q1151 : (Jvm.Cond.castable "Grantworks$State$3" "java/lang/Object") ∈ lw_tbl := lw_at lw_m5 150 rfl
/-! Grantworks$State$4 -/
set_option maxRecDepth 100000
def RX14 : String := "Grantworks$State$4"
abbrev cX14_isReserved : ByteArray := prog_13_method_3_code
def yX14_isReserved : MethodName := ⟨RX14, "isReserved", "()Z"⟩
theorem dX14_isReserved_0 : decode cX14_isReserved 0 = .ok (.iconst 0, 1) := by decide +kernel
theorem dX14_isReserved_1 : decode cX14_isReserved 1 = .ok (.ireturn, 1) := by decide +kernel
abbrev cX14_canEnd : ByteArray := prog_13_method_2_code
def yX14_canEnd : MethodName := ⟨RX14, "canEnd", "(Z)Z"⟩
theorem dX14_canEnd_0 : decode cX14_canEnd 0 = .ok (.iconst 0, 1) := by decide +kernel
theorem dX14_canEnd_1 : decode cX14_canEnd 1 = .ok (.ireturn, 1) := by decide +kernel
theorem q249 : (Jvm.Cond.selects "Grantworks$State$4" ({ cls := "Grantworks$State", name := "isReserved", desc := "()Z" } : Jvm.MethodName) ({ cls := "Grantworks$State$4", name := "isReserved", desc := "()Z" } : Jvm.MethodName)) ∈ lw_all := lw_g (lw_at lw_m1 208 rfl) rfl
theorem q250 : (Jvm.Cond.instanceMethod ({ cls := "Grantworks$State$4", name := "isReserved", desc := "()Z" } : Jvm.MethodName)) ∈ lw_all := lw_g (lw_at lw_m1 209 rfl) rfl
theorem q251 : (Jvm.Cond.code ({ cls := "Grantworks$State$4", name := "isReserved", desc := "()Z" } : Jvm.MethodName) prog_13_method_3_code (1 : Nat) (Option.some Jvm.ClassFile.FieldType.boolean)) ∈ lw_all := lw_g (lw_at lw_m1 210 rfl) rfl
theorem q770 : (Jvm.Cond.selects "Grantworks$State$4" ({ cls := "Grantworks$State", name := "canEnd", desc := "(Z)Z" } : Jvm.MethodName) ({ cls := "Grantworks$State$4", name := "canEnd", desc := "(Z)Z" } : Jvm.MethodName)) ∈ lw_all := lw_g (lw_at lw_m4 9 rfl) rfl
theorem q771 : (Jvm.Cond.instanceMethod ({ cls := "Grantworks$State$4", name := "canEnd", desc := "(Z)Z" } : Jvm.MethodName)) ∈ lw_all := lw_g (lw_at lw_m4 10 rfl) rfl
theorem q772 : (Jvm.Cond.code ({ cls := "Grantworks$State$4", name := "canEnd", desc := "(Z)Z" } : Jvm.MethodName) prog_13_method_2_code (2 : Nat) (Option.some Jvm.ClassFile.FieldType.boolean)) ∈ lw_all := lw_g (lw_at lw_m4 11 rfl) rfl
theorem q801 : (Jvm.Cond.selects "Grantworks$State$4" ({ cls := "Grantworks$State", name := "ordinal", desc := "()I" } : Jvm.MethodName) ({ cls := "java/lang/Enum", name := "ordinal", desc := "()I" } : Jvm.MethodName)) ∈ lw_all := lw_g (lw_at lw_m4 40 rfl) rfl
theorem q1160 : (Jvm.Cond.castable "Grantworks$State$4" "java/lang/Object") ∈ lw_tbl := lw_at lw_m5 159 rfl
/-! Grantworks$State$5 -/
set_option maxRecDepth 100000
def RX15 : String := "Grantworks$State$5"
abbrev cX15_isReserved : ByteArray := prog_14_method_3_code
def yX15_isReserved : MethodName := ⟨RX15, "isReserved", "()Z"⟩
theorem dX15_isReserved_0 : decode cX15_isReserved 0 = .ok (.iconst 0, 1) := by decide +kernel
theorem dX15_isReserved_1 : decode cX15_isReserved 1 = .ok (.ireturn, 1) := by decide +kernel
abbrev cX15_canEnd : ByteArray := prog_14_method_2_code
def yX15_canEnd : MethodName := ⟨RX15, "canEnd", "(Z)Z"⟩
theorem dX15_canEnd_0 : decode cX15_canEnd 0 = .ok (.iload_n 1, 1) := by decide +kernel
theorem dX15_canEnd_1 : decode cX15_canEnd 1 = .ok (.ireturn, 1) := by decide +kernel
theorem q252 : (Jvm.Cond.selects "Grantworks$State$5" ({ cls := "Grantworks$State", name := "isReserved", desc := "()Z" } : Jvm.MethodName) ({ cls := "Grantworks$State$5", name := "isReserved", desc := "()Z" } : Jvm.MethodName)) ∈ lw_all := lw_g (lw_at lw_m1 211 rfl) rfl
theorem q253 : (Jvm.Cond.instanceMethod ({ cls := "Grantworks$State$5", name := "isReserved", desc := "()Z" } : Jvm.MethodName)) ∈ lw_all := lw_g (lw_at lw_m1 212 rfl) rfl
theorem q254 : (Jvm.Cond.code ({ cls := "Grantworks$State$5", name := "isReserved", desc := "()Z" } : Jvm.MethodName) prog_14_method_3_code (1 : Nat) (Option.some Jvm.ClassFile.FieldType.boolean)) ∈ lw_all := lw_g (lw_at lw_m1 213 rfl) rfl
theorem q773 : (Jvm.Cond.selects "Grantworks$State$5" ({ cls := "Grantworks$State", name := "canEnd", desc := "(Z)Z" } : Jvm.MethodName) ({ cls := "Grantworks$State$5", name := "canEnd", desc := "(Z)Z" } : Jvm.MethodName)) ∈ lw_all := lw_g (lw_at lw_m4 12 rfl) rfl
theorem q774 : (Jvm.Cond.instanceMethod ({ cls := "Grantworks$State$5", name := "canEnd", desc := "(Z)Z" } : Jvm.MethodName)) ∈ lw_all := lw_g (lw_at lw_m4 13 rfl) rfl
theorem q775 : (Jvm.Cond.code ({ cls := "Grantworks$State$5", name := "canEnd", desc := "(Z)Z" } : Jvm.MethodName) prog_14_method_2_code (2 : Nat) (Option.some Jvm.ClassFile.FieldType.boolean)) ∈ lw_all := lw_g (lw_at lw_m4 14 rfl) rfl
theorem q802 : (Jvm.Cond.selects "Grantworks$State$5" ({ cls := "Grantworks$State", name := "ordinal", desc := "()I" } : Jvm.MethodName) ({ cls := "java/lang/Enum", name := "ordinal", desc := "()I" } : Jvm.MethodName)) ∈ lw_all := lw_g (lw_at lw_m4 41 rfl) rfl
theorem q1158 : (Jvm.Cond.castable "Grantworks$State$5" "java/lang/Object") ∈ lw_tbl := lw_at lw_m5 157 rfl
/-! Grantworks$State$6 -/
set_option maxRecDepth 100000
def RX16 : String := "Grantworks$State$6"
abbrev cX16_isReserved : ByteArray := prog_15_method_3_code
def yX16_isReserved : MethodName := ⟨RX16, "isReserved", "()Z"⟩
theorem dX16_isReserved_0 : decode cX16_isReserved 0 = .ok (.iconst 0, 1) := by decide +kernel
theorem dX16_isReserved_1 : decode cX16_isReserved 1 = .ok (.ireturn, 1) := by decide +kernel
abbrev cX16_canEnd : ByteArray := prog_15_method_2_code
def yX16_canEnd : MethodName := ⟨RX16, "canEnd", "(Z)Z"⟩
theorem dX16_canEnd_0 : decode cX16_canEnd 0 = .ok (.iconst 0, 1) := by decide +kernel
theorem dX16_canEnd_1 : decode cX16_canEnd 1 = .ok (.ireturn, 1) := by decide +kernel
theorem q255 : (Jvm.Cond.selects "Grantworks$State$6" ({ cls := "Grantworks$State", name := "isReserved", desc := "()Z" } : Jvm.MethodName) ({ cls := "Grantworks$State$6", name := "isReserved", desc := "()Z" } : Jvm.MethodName)) ∈ lw_all := lw_g (lw_at lw_m1 214 rfl) rfl
theorem q256 : (Jvm.Cond.instanceMethod ({ cls := "Grantworks$State$6", name := "isReserved", desc := "()Z" } : Jvm.MethodName)) ∈ lw_all := lw_g (lw_at lw_m1 215 rfl) rfl
theorem q257 : (Jvm.Cond.code ({ cls := "Grantworks$State$6", name := "isReserved", desc := "()Z" } : Jvm.MethodName) prog_15_method_3_code (1 : Nat) (Option.some Jvm.ClassFile.FieldType.boolean)) ∈ lw_all := lw_g (lw_at lw_m1 216 rfl) rfl
theorem q776 : (Jvm.Cond.selects "Grantworks$State$6" ({ cls := "Grantworks$State", name := "canEnd", desc := "(Z)Z" } : Jvm.MethodName) ({ cls := "Grantworks$State$6", name := "canEnd", desc := "(Z)Z" } : Jvm.MethodName)) ∈ lw_all := lw_g (lw_at lw_m4 15 rfl) rfl
theorem q777 : (Jvm.Cond.instanceMethod ({ cls := "Grantworks$State$6", name := "canEnd", desc := "(Z)Z" } : Jvm.MethodName)) ∈ lw_all := lw_g (lw_at lw_m4 16 rfl) rfl
theorem q778 : (Jvm.Cond.code ({ cls := "Grantworks$State$6", name := "canEnd", desc := "(Z)Z" } : Jvm.MethodName) prog_15_method_2_code (2 : Nat) (Option.some Jvm.ClassFile.FieldType.boolean)) ∈ lw_all := lw_g (lw_at lw_m4 17 rfl) rfl
theorem q803 : (Jvm.Cond.selects "Grantworks$State$6" ({ cls := "Grantworks$State", name := "ordinal", desc := "()I" } : Jvm.MethodName) ({ cls := "java/lang/Enum", name := "ordinal", desc := "()I" } : Jvm.MethodName)) ∈ lw_all := lw_g (lw_at lw_m4 42 rfl) rfl
theorem q1157 : (Jvm.Cond.castable "Grantworks$State$6" "java/lang/Object") ∈ lw_tbl := lw_at lw_m5 156 rfl
/-! java/lang/Throwable -/
set_option maxRecDepth 100000
def RJ0 : String := "java/lang/Throwable"
def TJ0 : u_T := fun k => match k with
  | 0 => ("java/lang/Throwable", "cause", "Ljava/lang/Throwable;", false)
  | 1 => ("java/lang/Throwable", "stackTrace", "[Ljava/lang/StackTraceElement;", false)
  | 2 => ("java/lang/Throwable", "suppressedExceptions", "Ljava/util/List;", false)
  | 3 => ("java/lang/Throwable", "detailMessage", "Ljava/lang/String;", false)
  | _ => ("java/lang/Throwable", "backtrace", "Ljava/lang/Object;", false)
def tyJ0 : Nat → FieldType := fun k => match k with
  | 0 => .object "java/lang/Throwable"
  | 1 => .array (.object "java/lang/StackTraceElement")
  | 2 => .object "java/util/List"
  | 3 => .object "java/lang/String"
  | _ => .object "java/lang/Object"
abbrev wsJ00 : List Cond := u_ws RJ0 TJ0 5
theorem nmJ0 : ∀ a, a < 5 → ∀ b, b < 5 → a ≠ b → (TJ0 a).2.1 ≠ (TJ0 b).2.1 := by decide +kernel
theorem tyJ0_ok : ∀ k, k < 5 → parseFieldDescriptor (TJ0 k).2.2.1 = some (tyJ0 k) := by decide +kernel
abbrev cJ0_init : ByteArray := prog_31_method_1_code
def yJ0_init : MethodName := ⟨RJ0, "<init>", "()V"⟩
def dkwJ0_init_1 : List UInt8 := [182, 0, 27, 87, 177]
abbrev dktJ0_init_1 : List UInt8 := dkwJ0_init_1 ++ []
def dkwJ0_init_0 : List UInt8 := [42, 183, 0, 1, 42, 42, 181, 0, 7, 42, 178, 0, 13, 181, 0, 17, 42, 178, 0, 20, 181, 0, 24, 42]
abbrev dktJ0_init_0 : List UInt8 := dkwJ0_init_0 ++ dktJ0_init_1
theorem dksJ0_init_0 : cJ0_init.data.toList.drop 0 = dktJ0_init_0 := by decide +kernel
theorem dksJ0_init_1 : cJ0_init.data.toList.drop 24 = dktJ0_init_1 := dk_seg dksJ0_init_0 24 rfl rfl
theorem dJ0_init_0 : decode cJ0_init 0 = .ok (.aload_n 0, 1) := dk_42 (dk_at dksJ0_init_0 0 rfl rfl)
theorem dJ0_init_1 : decode cJ0_init 1 = .ok (.invokespecial 1, 3) := dk_183 0 1 (dk_at dksJ0_init_0 1 rfl rfl)
theorem dJ0_init_4 : decode cJ0_init 4 = .ok (.aload_n 0, 1) := dk_42 (dk_at dksJ0_init_0 4 rfl rfl)
theorem dJ0_init_5 : decode cJ0_init 5 = .ok (.aload_n 0, 1) := dk_42 (dk_at dksJ0_init_0 5 rfl rfl)
theorem dJ0_init_6 : decode cJ0_init 6 = .ok (.putfield 7, 3) := dk_181 0 7 (dk_at dksJ0_init_0 6 rfl rfl)
theorem dJ0_init_9 : decode cJ0_init 9 = .ok (.aload_n 0, 1) := dk_42 (dk_at dksJ0_init_0 9 rfl rfl)
theorem dJ0_init_10 : decode cJ0_init 10 = .ok (.getstatic 13, 3) := dk_178 0 13 (dk_at dksJ0_init_0 10 rfl rfl)
theorem dJ0_init_13 : decode cJ0_init 13 = .ok (.putfield 17, 3) := dk_181 0 17 (dk_at dksJ0_init_0 13 rfl rfl)
theorem dJ0_init_16 : decode cJ0_init 16 = .ok (.aload_n 0, 1) := dk_42 (dk_at dksJ0_init_0 16 rfl rfl)
theorem dJ0_init_17 : decode cJ0_init 17 = .ok (.getstatic 20, 3) := dk_178 0 20 (dk_at dksJ0_init_0 17 rfl rfl)
theorem dJ0_init_20 : decode cJ0_init 20 = .ok (.putfield 24, 3) := dk_181 0 24 (dk_at dksJ0_init_0 20 rfl rfl)
theorem dJ0_init_23 : decode cJ0_init 23 = .ok (.aload_n 0, 1) := dk_42 (dk_at dksJ0_init_0 23 rfl rfl)
theorem dJ0_init_24 : decode cJ0_init 24 = .ok (.invokevirtual 27, 3) := dk_182 0 27 (dk_at dksJ0_init_1 0 rfl rfl)
theorem dJ0_init_27 : decode cJ0_init 27 = .ok (.pop, 1) := dk_87 (dk_at dksJ0_init_1 3 rfl rfl)
theorem dJ0_init_28 : decode cJ0_init 28 = .ok (.return_, 1) := dk_177 (dk_at dksJ0_init_1 4 rfl rfl)
abbrev cJ0_init_2 : ByteArray := prog_31_method_2_code
def yJ0_init_2 : MethodName := ⟨RJ0, "<init>", "(Ljava/lang/String;)V"⟩
def dkwJ0_init_2_1 : List UInt8 := [182, 0, 27, 87, 42, 43, 181, 0, 31, 177]
abbrev dktJ0_init_2_1 : List UInt8 := dkwJ0_init_2_1 ++ []
def dkwJ0_init_2_0 : List UInt8 := [42, 183, 0, 1, 42, 42, 181, 0, 7, 42, 178, 0, 13, 181, 0, 17, 42, 178, 0, 20, 181, 0, 24, 42]
abbrev dktJ0_init_2_0 : List UInt8 := dkwJ0_init_2_0 ++ dktJ0_init_2_1
theorem dksJ0_init_2_0 : cJ0_init_2.data.toList.drop 0 = dktJ0_init_2_0 := by decide +kernel
theorem dksJ0_init_2_1 : cJ0_init_2.data.toList.drop 24 = dktJ0_init_2_1 := dk_seg dksJ0_init_2_0 24 rfl rfl
theorem dJ0_init_2_0 : decode cJ0_init_2 0 = .ok (.aload_n 0, 1) := dk_42 (dk_at dksJ0_init_2_0 0 rfl rfl)
theorem dJ0_init_2_1 : decode cJ0_init_2 1 = .ok (.invokespecial 1, 3) := dk_183 0 1 (dk_at dksJ0_init_2_0 1 rfl rfl)
theorem dJ0_init_2_4 : decode cJ0_init_2 4 = .ok (.aload_n 0, 1) := dk_42 (dk_at dksJ0_init_2_0 4 rfl rfl)
theorem dJ0_init_2_5 : decode cJ0_init_2 5 = .ok (.aload_n 0, 1) := dk_42 (dk_at dksJ0_init_2_0 5 rfl rfl)
theorem dJ0_init_2_6 : decode cJ0_init_2 6 = .ok (.putfield 7, 3) := dk_181 0 7 (dk_at dksJ0_init_2_0 6 rfl rfl)
theorem dJ0_init_2_9 : decode cJ0_init_2 9 = .ok (.aload_n 0, 1) := dk_42 (dk_at dksJ0_init_2_0 9 rfl rfl)
theorem dJ0_init_2_10 : decode cJ0_init_2 10 = .ok (.getstatic 13, 3) := dk_178 0 13 (dk_at dksJ0_init_2_0 10 rfl rfl)
theorem dJ0_init_2_13 : decode cJ0_init_2 13 = .ok (.putfield 17, 3) := dk_181 0 17 (dk_at dksJ0_init_2_0 13 rfl rfl)
theorem dJ0_init_2_16 : decode cJ0_init_2 16 = .ok (.aload_n 0, 1) := dk_42 (dk_at dksJ0_init_2_0 16 rfl rfl)
theorem dJ0_init_2_17 : decode cJ0_init_2 17 = .ok (.getstatic 20, 3) := dk_178 0 20 (dk_at dksJ0_init_2_0 17 rfl rfl)
theorem dJ0_init_2_20 : decode cJ0_init_2 20 = .ok (.putfield 24, 3) := dk_181 0 24 (dk_at dksJ0_init_2_0 20 rfl rfl)
theorem dJ0_init_2_23 : decode cJ0_init_2 23 = .ok (.aload_n 0, 1) := dk_42 (dk_at dksJ0_init_2_0 23 rfl rfl)
theorem dJ0_init_2_24 : decode cJ0_init_2 24 = .ok (.invokevirtual 27, 3) := dk_182 0 27 (dk_at dksJ0_init_2_1 0 rfl rfl)
theorem dJ0_init_2_27 : decode cJ0_init_2 27 = .ok (.pop, 1) := dk_87 (dk_at dksJ0_init_2_1 3 rfl rfl)
theorem dJ0_init_2_28 : decode cJ0_init_2 28 = .ok (.aload_n 0, 1) := dk_42 (dk_at dksJ0_init_2_1 4 rfl rfl)
theorem dJ0_init_2_29 : decode cJ0_init_2 29 = .ok (.aload_n 1, 1) := dk_43 (dk_at dksJ0_init_2_1 5 rfl rfl)
theorem dJ0_init_2_30 : decode cJ0_init_2 30 = .ok (.putfield 31, 3) := dk_181 0 31 (dk_at dksJ0_init_2_1 6 rfl rfl)
theorem dJ0_init_2_33 : decode cJ0_init_2 33 = .ok (.return_, 1) := dk_177 (dk_at dksJ0_init_2_1 9 rfl rfl)
theorem q45 : (Jvm.Cond.initialized "java/lang/Throwable") ∈ lw_all := lw_g (lw_at lw_m1 4 rfl) rfl
theorem q294 : (Jvm.Cond.declares ({ cls := "java/lang/Throwable", name := "<init>", desc := "()V" } : Jvm.MethodName)) ∈ lw_tbl := lw_at lw_m2 13 rfl
theorem q295 : (Jvm.Cond.declares ({ cls := "java/lang/Throwable", name := "<init>", desc := "(Ljava/lang/String;)V" } : Jvm.MethodName)) ∈ lw_tbl := lw_at lw_m2 14 rfl
theorem q299 : (Jvm.Cond.lays "java/lang/Throwable" "java/lang/Throwable" "cause" "Ljava/lang/Throwable;") ∈ lw_all := lw_g (lw_at lw_m2 18 rfl) rfl
theorem q301 : (Jvm.Cond.lays "java/lang/Throwable" "java/lang/Throwable" "stackTrace" "[Ljava/lang/StackTraceElement;") ∈ lw_all := lw_g (lw_at lw_m2 20 rfl) rfl
theorem q303 : (Jvm.Cond.lays "java/lang/Throwable" "java/lang/Throwable" "suppressedExceptions" "Ljava/util/List;") ∈ lw_all := lw_g (lw_at lw_m2 22 rfl) rfl
theorem q305 : (Jvm.Cond.lays "java/lang/Throwable" "java/lang/Throwable" "detailMessage" "Ljava/lang/String;") ∈ lw_all := lw_g (lw_at lw_m2 24 rfl) rfl
theorem q307 : (Jvm.Cond.lays "java/lang/Throwable" "java/lang/Throwable" "backtrace" "Ljava/lang/Object;") ∈ lw_all := lw_g (lw_at lw_m2 26 rfl) rfl
theorem q308 : (Jvm.Cond.fieldLink "java/lang/Throwable" (198 : Nat) "java/lang/Throwable" "backtrace" "Ljava/lang/Object;") ∈ lw_all := lw_g (lw_at lw_m2 27 rfl) rfl
theorem q309 : (Jvm.Cond.superclass "java/lang/Throwable" "java/lang/Object") ∈ lw_all := lw_g (lw_at lw_m2 28 rfl) rfl
theorem q310 : (Jvm.Cond.instanceMethod ({ cls := "java/lang/Throwable", name := "<init>", desc := "()V" } : Jvm.MethodName)) ∈ lw_all := lw_g (lw_at lw_m2 29 rfl) rfl
theorem q311 : (Jvm.Cond.code ({ cls := "java/lang/Throwable", name := "<init>", desc := "()V" } : Jvm.MethodName) prog_31_method_1_code (1 : Nat) (Option.none : Option Jvm.ClassFile.FieldType)) ∈ lw_all := lw_g (lw_at lw_m2 30 rfl) rfl
theorem q312 : (Jvm.Cond.methodLink "java/lang/Throwable" (1 : Nat) ({ cls := "java/lang/Object", name := "<init>", desc := "()V" } : Jvm.MethodName)) ∈ lw_all := lw_g (lw_at lw_m2 31 rfl) rfl
theorem q313 : (Jvm.Cond.fieldLink "java/lang/Throwable" (13 : Nat) "java/lang/Throwable" "UNASSIGNED_STACK" "[Ljava/lang/StackTraceElement;") ∈ lw_all := lw_g (lw_at lw_m2 32 rfl) rfl
theorem q314 : (Jvm.Cond.laysStatic "java/lang/Throwable" "UNASSIGNED_STACK" "[Ljava/lang/StackTraceElement;") ∈ lw_tbl := lw_at lw_m2 33 rfl
theorem q315 : (Jvm.Cond.fieldLink "java/lang/Throwable" (20 : Nat) "java/lang/Throwable" "SUPPRESSED_SENTINEL" "Ljava/util/List;") ∈ lw_all := lw_g (lw_at lw_m2 34 rfl) rfl
theorem q316 : (Jvm.Cond.laysStatic "java/lang/Throwable" "SUPPRESSED_SENTINEL" "Ljava/util/List;") ∈ lw_tbl := lw_at lw_m2 35 rfl
theorem q317 : (Jvm.Cond.methodLink "java/lang/Throwable" (27 : Nat) ({ cls := "java/lang/Throwable", name := "fillInStackTrace", desc := "()Ljava/lang/Throwable;" } : Jvm.MethodName)) ∈ lw_all := lw_g (lw_at lw_m2 36 rfl) rfl
theorem q318 : (Jvm.Cond.instanceMethod ({ cls := "java/lang/Throwable", name := "fillInStackTrace", desc := "()Ljava/lang/Throwable;" } : Jvm.MethodName)) ∈ lw_all := lw_g (lw_at lw_m2 37 rfl) rfl
theorem q319 : (Jvm.Cond.sameMethod "java/lang/Throwable" "java/lang/Throwable" "fillInStackTrace" "()Ljava/lang/Throwable;") ∈ lw_all := lw_g (lw_at lw_m2 38 rfl) rfl
theorem q324 : (Jvm.Cond.codeSync ({ cls := "java/lang/Throwable", name := "fillInStackTrace", desc := "()Ljava/lang/Throwable;" } : Jvm.MethodName) prog_31_method_18_code (1 : Nat) (Option.some (Jvm.ClassFile.FieldType.object "java/lang/Throwable"))) ∈ lw_all := lw_g (lw_at lw_m2 43 rfl) rfl
theorem q325 : (Jvm.Cond.methodLink "java/lang/Throwable" (202 : Nat) ({ cls := "java/lang/Throwable", name := "fillInStackTrace", desc := "(I)Ljava/lang/Throwable;" } : Jvm.MethodName)) ∈ lw_all := lw_g (lw_at lw_m2 44 rfl) rfl
theorem q326 : (Jvm.Cond.privateMethod ({ cls := "java/lang/Throwable", name := "fillInStackTrace", desc := "(I)Ljava/lang/Throwable;" } : Jvm.MethodName)) ∈ lw_tbl := lw_at lw_m2 45 rfl
theorem q327 : (Jvm.Cond.instanceMethod ({ cls := "java/lang/Throwable", name := "fillInStackTrace", desc := "(I)Ljava/lang/Throwable;" } : Jvm.MethodName)) ∈ lw_all := lw_g (lw_at lw_m2 46 rfl) rfl
theorem q328 : (Jvm.Cond.instantiable "java/lang/Throwable" (6 : Nat)) ∈ lw_all := lw_g (lw_at lw_m2 47 rfl) rfl
theorem q329 : (Jvm.Cond.native ({ cls := "java/lang/Throwable", name := "fillInStackTrace", desc := "(I)Ljava/lang/Throwable;" } : Jvm.MethodName)) ∈ lw_all := lw_g (lw_at lw_m2 48 rfl) rfl
theorem q340 : (Jvm.Cond.fieldLink "java/lang/Throwable" (198 : Nat) "java/lang/Throwable" "backtrace" "Ljava/lang/Object;") ∈ lw_all := lw_g (lw_at lw_m2 59 rfl) rfl
theorem q341 : (Jvm.Cond.fieldLink "java/lang/Throwable" (31 : Nat) "java/lang/Throwable" "detailMessage" "Ljava/lang/String;") ∈ lw_all := lw_g (lw_at lw_m2 60 rfl) rfl
theorem q342 : (Jvm.Cond.fieldLink "java/lang/Throwable" (7 : Nat) "java/lang/Throwable" "cause" "Ljava/lang/Throwable;") ∈ lw_all := lw_g (lw_at lw_m2 61 rfl) rfl
theorem q343 : (Jvm.Cond.fieldLink "java/lang/Throwable" (17 : Nat) "java/lang/Throwable" "stackTrace" "[Ljava/lang/StackTraceElement;") ∈ lw_all := lw_g (lw_at lw_m2 62 rfl) rfl
theorem q344 : (Jvm.Cond.fieldLink "java/lang/Throwable" (24 : Nat) "java/lang/Throwable" "suppressedExceptions" "Ljava/util/List;") ∈ lw_all := lw_g (lw_at lw_m2 63 rfl) rfl
theorem q345 : (Jvm.Cond.soleField "java/lang/Throwable" "backtrace") ∈ lw_all := lw_g (lw_at lw_m2 64 rfl) rfl
theorem q346 : (Jvm.Cond.soleField "java/lang/Throwable" "detailMessage") ∈ lw_all := lw_g (lw_at lw_m2 65 rfl) rfl
theorem q347 : (Jvm.Cond.soleField "java/lang/Throwable" "cause") ∈ lw_all := lw_g (lw_at lw_m2 66 rfl) rfl
theorem q348 : (Jvm.Cond.soleField "java/lang/Throwable" "stackTrace") ∈ lw_all := lw_g (lw_at lw_m2 67 rfl) rfl
theorem q350 : (Jvm.Cond.soleField "java/lang/Throwable" "depth") ∈ lw_all := lw_g (lw_at lw_m2 69 rfl) rfl
theorem q351 : (Jvm.Cond.soleField "java/lang/Throwable" "suppressedExceptions") ∈ lw_all := lw_g (lw_at lw_m2 70 rfl) rfl
theorem q498 : (Jvm.Cond.instanceMethod ({ cls := "java/lang/Throwable", name := "<init>", desc := "(Ljava/lang/String;)V" } : Jvm.MethodName)) ∈ lw_all := lw_g (lw_at lw_m2 217 rfl) rfl
theorem q499 : (Jvm.Cond.code ({ cls := "java/lang/Throwable", name := "<init>", desc := "(Ljava/lang/String;)V" } : Jvm.MethodName) prog_31_method_2_code (2 : Nat) (Option.none : Option Jvm.ClassFile.FieldType)) ∈ lw_all := lw_g (lw_at lw_m2 218 rfl) rfl
theorem q1141 : (Jvm.Cond.sameMethod "java/lang/Throwable" "java/lang/Throwable" "fillInStackTrace" "(I)Ljava/lang/Throwable;") ∈ lw_all := lw_g (lw_at lw_m5 140 rfl) rfl
theorem q1164 : (Jvm.Cond.castable "java/lang/Throwable" "java/lang/Object") ∈ lw_tbl := lw_at lw_m5 163 rfl
theorem in_J0 : ∀ w ∈ wsJ00, w ∈ lw_all := lw_in wsJ00 [299, 301, 303, 305, 307] (by decide +kernel) (by decide +kernel)
/-! java/lang/Exception -/
set_option maxRecDepth 100000
def RJ1 : String := "java/lang/Exception"
abbrev cJ1_init : ByteArray := prog_24_method_1_code
def yJ1_init : MethodName := ⟨RJ1, "<init>", "()V"⟩
theorem dJ1_init_0 : decode cJ1_init 0 = .ok (.aload_n 0, 1) := by decide +kernel
theorem dJ1_init_1 : decode cJ1_init 1 = .ok (.invokespecial 1, 3) := by decide +kernel
theorem dJ1_init_4 : decode cJ1_init 4 = .ok (.return_, 1) := by decide +kernel
abbrev cJ1_init_2 : ByteArray := prog_24_method_2_code
def yJ1_init_2 : MethodName := ⟨RJ1, "<init>", "(Ljava/lang/String;)V"⟩
def dkwJ1_init_2_0 : List UInt8 := [42, 43, 183, 0, 7, 177]
abbrev dktJ1_init_2_0 : List UInt8 := dkwJ1_init_2_0 ++ []
theorem dksJ1_init_2_0 : cJ1_init_2.data.toList.drop 0 = dktJ1_init_2_0 := by decide +kernel
theorem dJ1_init_2_0 : decode cJ1_init_2 0 = .ok (.aload_n 0, 1) := dk_42 (dk_at dksJ1_init_2_0 0 rfl rfl)
theorem dJ1_init_2_1 : decode cJ1_init_2 1 = .ok (.aload_n 1, 1) := dk_43 (dk_at dksJ1_init_2_0 1 rfl rfl)
theorem dJ1_init_2_2 : decode cJ1_init_2 2 = .ok (.invokespecial 7, 3) := dk_183 0 7 (dk_at dksJ1_init_2_0 2 rfl rfl)
theorem dJ1_init_2_5 : decode cJ1_init_2 5 = .ok (.return_, 1) := dk_177 (dk_at dksJ1_init_2_0 5 rfl rfl)
theorem q46 : (Jvm.Cond.initialized "java/lang/Exception") ∈ lw_all := lw_g (lw_at lw_m1 5 rfl) rfl
theorem q292 : (Jvm.Cond.declares ({ cls := "java/lang/Exception", name := "<init>", desc := "()V" } : Jvm.MethodName)) ∈ lw_tbl := lw_at lw_m2 11 rfl
theorem q293 : (Jvm.Cond.declares ({ cls := "java/lang/Exception", name := "<init>", desc := "(Ljava/lang/String;)V" } : Jvm.MethodName)) ∈ lw_tbl := lw_at lw_m2 12 rfl
theorem q337 : (Jvm.Cond.instanceMethod ({ cls := "java/lang/Exception", name := "<init>", desc := "()V" } : Jvm.MethodName)) ∈ lw_all := lw_g (lw_at lw_m2 56 rfl) rfl
theorem q338 : (Jvm.Cond.code ({ cls := "java/lang/Exception", name := "<init>", desc := "()V" } : Jvm.MethodName) prog_24_method_1_code (1 : Nat) (Option.none : Option Jvm.ClassFile.FieldType)) ∈ lw_all := lw_g (lw_at lw_m2 57 rfl) rfl
theorem q339 : (Jvm.Cond.methodLink "java/lang/Exception" (1 : Nat) ({ cls := "java/lang/Throwable", name := "<init>", desc := "()V" } : Jvm.MethodName)) ∈ lw_all := lw_g (lw_at lw_m2 58 rfl) rfl
theorem q495 : (Jvm.Cond.instanceMethod ({ cls := "java/lang/Exception", name := "<init>", desc := "(Ljava/lang/String;)V" } : Jvm.MethodName)) ∈ lw_all := lw_g (lw_at lw_m2 214 rfl) rfl
theorem q496 : (Jvm.Cond.code ({ cls := "java/lang/Exception", name := "<init>", desc := "(Ljava/lang/String;)V" } : Jvm.MethodName) prog_24_method_2_code (2 : Nat) (Option.none : Option Jvm.ClassFile.FieldType)) ∈ lw_all := lw_g (lw_at lw_m2 215 rfl) rfl
theorem q497 : (Jvm.Cond.methodLink "java/lang/Exception" (7 : Nat) ({ cls := "java/lang/Throwable", name := "<init>", desc := "(Ljava/lang/String;)V" } : Jvm.MethodName)) ∈ lw_all := lw_g (lw_at lw_m2 216 rfl) rfl
/-! java/util/NoSuchElementException -/
set_option maxRecDepth 100000
def RJ10 : String := "java/util/NoSuchElementException"
def TJ10 : u_T := fun k => match k with
  | 0 => ("java/lang/Throwable", "cause", "Ljava/lang/Throwable;", false)
  | 1 => ("java/lang/Throwable", "stackTrace", "[Ljava/lang/StackTraceElement;", false)
  | 2 => ("java/lang/Throwable", "suppressedExceptions", "Ljava/util/List;", false)
  | 3 => ("java/lang/Throwable", "detailMessage", "Ljava/lang/String;", false)
  | 4 => ("java/lang/Throwable", "backtrace", "Ljava/lang/Object;", false)
  | _ => ("java/lang/Throwable", "depth", "I", false)
def tyJ10 : Nat → FieldType := fun k => match k with
  | 0 => .object "java/lang/Throwable"
  | 1 => .array (.object "java/lang/StackTraceElement")
  | 2 => .object "java/util/List"
  | 3 => .object "java/lang/String"
  | 4 => .object "java/lang/Object"
  | _ => .int
abbrev wsJ100 : List Cond := u_ws RJ10 TJ10 6
theorem nmJ10 : ∀ a, a < 6 → ∀ b, b < 6 → a ≠ b → (TJ10 a).2.1 ≠ (TJ10 b).2.1 := by decide +kernel
theorem tyJ10_ok : ∀ k, k < 6 → parseFieldDescriptor (TJ10 k).2.2.1 = some (tyJ10 k) := by decide +kernel
abbrev cJ10_init : ByteArray := prog_33_method_1_code
def yJ10_init : MethodName := ⟨RJ10, "<init>", "()V"⟩
theorem dJ10_init_0 : decode cJ10_init 0 = .ok (.aload_n 0, 1) := by decide +kernel
theorem dJ10_init_1 : decode cJ10_init 1 = .ok (.invokespecial 1, 3) := by decide +kernel
theorem dJ10_init_4 : decode cJ10_init 4 = .ok (.return_, 1) := by decide +kernel
theorem q63 : (Jvm.Cond.initialized "java/util/NoSuchElementException") ∈ lw_all := lw_g (lw_at lw_m1 22 rfl) rfl
theorem q323 : (Jvm.Cond.selects "java/util/NoSuchElementException" ({ cls := "java/lang/Throwable", name := "fillInStackTrace", desc := "()Ljava/lang/Throwable;" } : Jvm.MethodName) ({ cls := "java/lang/Throwable", name := "fillInStackTrace", desc := "()Ljava/lang/Throwable;" } : Jvm.MethodName)) ∈ lw_all := lw_g (lw_at lw_m2 42 rfl) rfl
theorem q827 : (Jvm.Cond.instantiable "java/util/NoSuchElementException" (6 : Nat)) ∈ lw_all := lw_g (lw_at lw_m4 66 rfl) rfl
theorem q828 : (Jvm.Cond.castable "java/util/NoSuchElementException" "java/util/NoSuchElementException") ∈ lw_tbl := lw_at lw_m4 67 rfl
theorem q829 : (Jvm.Cond.selects "java/util/NoSuchElementException" ({ cls := "java/lang/Throwable", name := "fillInStackTrace", desc := "(I)Ljava/lang/Throwable;" } : Jvm.MethodName) ({ cls := "java/lang/Throwable", name := "fillInStackTrace", desc := "(I)Ljava/lang/Throwable;" } : Jvm.MethodName)) ∈ lw_all := lw_g (lw_at lw_m4 68 rfl) rfl
theorem q830 : (Jvm.Cond.lays "java/util/NoSuchElementException" "java/lang/Throwable" "cause" "Ljava/lang/Throwable;") ∈ lw_all := lw_g (lw_at lw_m4 69 rfl) rfl
theorem q831 : (Jvm.Cond.lays "java/util/NoSuchElementException" "java/lang/Throwable" "stackTrace" "[Ljava/lang/StackTraceElement;") ∈ lw_all := lw_g (lw_at lw_m4 70 rfl) rfl
theorem q832 : (Jvm.Cond.lays "java/util/NoSuchElementException" "java/lang/Throwable" "suppressedExceptions" "Ljava/util/List;") ∈ lw_all := lw_g (lw_at lw_m4 71 rfl) rfl
theorem q833 : (Jvm.Cond.lays "java/util/NoSuchElementException" "java/lang/Throwable" "detailMessage" "Ljava/lang/String;") ∈ lw_all := lw_g (lw_at lw_m4 72 rfl) rfl
theorem q834 : (Jvm.Cond.lays "java/util/NoSuchElementException" "java/lang/Throwable" "backtrace" "Ljava/lang/Object;") ∈ lw_all := lw_g (lw_at lw_m4 73 rfl) rfl
theorem q836 : (Jvm.Cond.instanceMethod ({ cls := "java/util/NoSuchElementException", name := "<init>", desc := "()V" } : Jvm.MethodName)) ∈ lw_all := lw_g (lw_at lw_m4 75 rfl) rfl
theorem q837 : (Jvm.Cond.code ({ cls := "java/util/NoSuchElementException", name := "<init>", desc := "()V" } : Jvm.MethodName) prog_33_method_1_code (1 : Nat) (Option.none : Option Jvm.ClassFile.FieldType)) ∈ lw_all := lw_g (lw_at lw_m4 76 rfl) rfl
theorem q838 : (Jvm.Cond.methodLink "java/util/NoSuchElementException" (1 : Nat) ({ cls := "java/lang/RuntimeException", name := "<init>", desc := "()V" } : Jvm.MethodName)) ∈ lw_all := lw_g (lw_at lw_m4 77 rfl) rfl
theorem q839 : (Jvm.Cond.lays "java/util/NoSuchElementException" "java/lang/Throwable" "depth" "I") ∈ lw_all := lw_g (lw_at lw_m4 78 rfl) rfl
theorem q840 : (Jvm.Cond.superclass "java/util/NoSuchElementException" "java/lang/RuntimeException") ∈ lw_all := lw_g (lw_at lw_m4 79 rfl) rfl
theorem q1163 : (Jvm.Cond.castable "java/util/NoSuchElementException" "java/lang/Object") ∈ lw_tbl := lw_at lw_m5 162 rfl
theorem in_J10 : ∀ w ∈ wsJ100, w ∈ lw_all := lw_in wsJ100 [830, 831, 832, 833, 834, 839] (by decide +kernel) (by decide +kernel)
/-! java/lang/Object -/
set_option maxRecDepth 100000
def RJ11 : String := "java/lang/Object"
abbrev cJ11_init : ByteArray := object_method_1_code
def yJ11_init : MethodName := ⟨RJ11, "<init>", "()V"⟩
theorem dJ11_init_0 : decode cJ11_init 0 = .ok (.return_, 1) := by decide +kernel
theorem q70 : (Jvm.Cond.instanceMethod ({ cls := "java/lang/Object", name := "<init>", desc := "()V" } : Jvm.MethodName)) ∈ lw_all := lw_g (lw_at lw_m1 29 rfl) rfl
theorem q71 : (Jvm.Cond.code ({ cls := "java/lang/Object", name := "<init>", desc := "()V" } : Jvm.MethodName) object_method_1_code (1 : Nat) (Option.none : Option Jvm.ClassFile.FieldType)) ∈ lw_all := lw_g (lw_at lw_m1 30 rfl) rfl
/-! java/lang/RuntimeException -/
set_option maxRecDepth 100000
def RJ2 : String := "java/lang/RuntimeException"
abbrev cJ2_init : ByteArray := prog_29_method_1_code
def yJ2_init : MethodName := ⟨RJ2, "<init>", "()V"⟩
theorem dJ2_init_0 : decode cJ2_init 0 = .ok (.aload_n 0, 1) := by decide +kernel
theorem dJ2_init_1 : decode cJ2_init 1 = .ok (.invokespecial 1, 3) := by decide +kernel
theorem dJ2_init_4 : decode cJ2_init 4 = .ok (.return_, 1) := by decide +kernel
abbrev cJ2_init_2 : ByteArray := prog_29_method_2_code
def yJ2_init_2 : MethodName := ⟨RJ2, "<init>", "(Ljava/lang/String;)V"⟩
def dkwJ2_init_2_0 : List UInt8 := [42, 43, 183, 0, 7, 177]
abbrev dktJ2_init_2_0 : List UInt8 := dkwJ2_init_2_0 ++ []
theorem dksJ2_init_2_0 : cJ2_init_2.data.toList.drop 0 = dktJ2_init_2_0 := by decide +kernel
theorem dJ2_init_2_0 : decode cJ2_init_2 0 = .ok (.aload_n 0, 1) := dk_42 (dk_at dksJ2_init_2_0 0 rfl rfl)
theorem dJ2_init_2_1 : decode cJ2_init_2 1 = .ok (.aload_n 1, 1) := dk_43 (dk_at dksJ2_init_2_0 1 rfl rfl)
theorem dJ2_init_2_2 : decode cJ2_init_2 2 = .ok (.invokespecial 7, 3) := dk_183 0 7 (dk_at dksJ2_init_2_0 2 rfl rfl)
theorem dJ2_init_2_5 : decode cJ2_init_2 5 = .ok (.return_, 1) := dk_177 (dk_at dksJ2_init_2_0 5 rfl rfl)
theorem q47 : (Jvm.Cond.initialized "java/lang/RuntimeException") ∈ lw_all := lw_g (lw_at lw_m1 6 rfl) rfl
theorem q290 : (Jvm.Cond.declares ({ cls := "java/lang/RuntimeException", name := "<init>", desc := "()V" } : Jvm.MethodName)) ∈ lw_tbl := lw_at lw_m2 9 rfl
theorem q291 : (Jvm.Cond.declares ({ cls := "java/lang/RuntimeException", name := "<init>", desc := "(Ljava/lang/String;)V" } : Jvm.MethodName)) ∈ lw_tbl := lw_at lw_m2 10 rfl
theorem q334 : (Jvm.Cond.instanceMethod ({ cls := "java/lang/RuntimeException", name := "<init>", desc := "()V" } : Jvm.MethodName)) ∈ lw_all := lw_g (lw_at lw_m2 53 rfl) rfl
theorem q335 : (Jvm.Cond.code ({ cls := "java/lang/RuntimeException", name := "<init>", desc := "()V" } : Jvm.MethodName) prog_29_method_1_code (1 : Nat) (Option.none : Option Jvm.ClassFile.FieldType)) ∈ lw_all := lw_g (lw_at lw_m2 54 rfl) rfl
theorem q336 : (Jvm.Cond.methodLink "java/lang/RuntimeException" (1 : Nat) ({ cls := "java/lang/Exception", name := "<init>", desc := "()V" } : Jvm.MethodName)) ∈ lw_all := lw_g (lw_at lw_m2 55 rfl) rfl
theorem q492 : (Jvm.Cond.instanceMethod ({ cls := "java/lang/RuntimeException", name := "<init>", desc := "(Ljava/lang/String;)V" } : Jvm.MethodName)) ∈ lw_all := lw_g (lw_at lw_m2 211 rfl) rfl
theorem q493 : (Jvm.Cond.code ({ cls := "java/lang/RuntimeException", name := "<init>", desc := "(Ljava/lang/String;)V" } : Jvm.MethodName) prog_29_method_2_code (2 : Nat) (Option.none : Option Jvm.ClassFile.FieldType)) ∈ lw_all := lw_g (lw_at lw_m2 212 rfl) rfl
theorem q494 : (Jvm.Cond.methodLink "java/lang/RuntimeException" (7 : Nat) ({ cls := "java/lang/Exception", name := "<init>", desc := "(Ljava/lang/String;)V" } : Jvm.MethodName)) ∈ lw_all := lw_g (lw_at lw_m2 213 rfl) rfl
/-! java/lang/IllegalArgumentException -/
set_option maxRecDepth 100000
def RJ3 : String := "java/lang/IllegalArgumentException"
def TJ3 : u_T := fun k => match k with
  | 0 => ("java/lang/Throwable", "cause", "Ljava/lang/Throwable;", false)
  | 1 => ("java/lang/Throwable", "stackTrace", "[Ljava/lang/StackTraceElement;", false)
  | 2 => ("java/lang/Throwable", "suppressedExceptions", "Ljava/util/List;", false)
  | 3 => ("java/lang/Throwable", "detailMessage", "Ljava/lang/String;", false)
  | 4 => ("java/lang/Throwable", "backtrace", "Ljava/lang/Object;", false)
  | _ => ("java/lang/Throwable", "depth", "I", false)
def tyJ3 : Nat → FieldType := fun k => match k with
  | 0 => .object "java/lang/Throwable"
  | 1 => .array (.object "java/lang/StackTraceElement")
  | 2 => .object "java/util/List"
  | 3 => .object "java/lang/String"
  | 4 => .object "java/lang/Object"
  | _ => .int
abbrev wsJ30 : List Cond := u_ws RJ3 TJ3 6
theorem nmJ3 : ∀ a, a < 6 → ∀ b, b < 6 → a ≠ b → (TJ3 a).2.1 ≠ (TJ3 b).2.1 := by decide +kernel
theorem tyJ3_ok : ∀ k, k < 6 → parseFieldDescriptor (TJ3 k).2.2.1 = some (tyJ3 k) := by decide +kernel
abbrev cJ3_init : ByteArray := prog_25_method_1_code
def yJ3_init : MethodName := ⟨RJ3, "<init>", "()V"⟩
theorem dJ3_init_0 : decode cJ3_init 0 = .ok (.aload_n 0, 1) := by decide +kernel
theorem dJ3_init_1 : decode cJ3_init 1 = .ok (.invokespecial 1, 3) := by decide +kernel
theorem dJ3_init_4 : decode cJ3_init 4 = .ok (.return_, 1) := by decide +kernel
theorem q48 : (Jvm.Cond.initialized "java/lang/IllegalArgumentException") ∈ lw_all := lw_g (lw_at lw_m1 7 rfl) rfl
theorem q288 : (Jvm.Cond.instantiable "java/lang/IllegalArgumentException" (6 : Nat)) ∈ lw_all := lw_g (lw_at lw_m2 7 rfl) rfl
theorem q289 : (Jvm.Cond.castable "java/lang/IllegalArgumentException" "java/lang/IllegalArgumentException") ∈ lw_tbl := lw_at lw_m2 8 rfl
theorem q296 : (Jvm.Cond.selects "java/lang/IllegalArgumentException" ({ cls := "java/lang/Throwable", name := "fillInStackTrace", desc := "(I)Ljava/lang/Throwable;" } : Jvm.MethodName) ({ cls := "java/lang/Throwable", name := "fillInStackTrace", desc := "(I)Ljava/lang/Throwable;" } : Jvm.MethodName)) ∈ lw_all := lw_g (lw_at lw_m2 15 rfl) rfl
theorem q297 : (Jvm.Cond.selects "java/lang/IllegalArgumentException" ({ cls := "java/lang/Throwable", name := "fillInStackTrace", desc := "()Ljava/lang/Throwable;" } : Jvm.MethodName) ({ cls := "java/lang/Throwable", name := "fillInStackTrace", desc := "()Ljava/lang/Throwable;" } : Jvm.MethodName)) ∈ lw_all := lw_g (lw_at lw_m2 16 rfl) rfl
theorem q298 : (Jvm.Cond.lays "java/lang/IllegalArgumentException" "java/lang/Throwable" "cause" "Ljava/lang/Throwable;") ∈ lw_all := lw_g (lw_at lw_m2 17 rfl) rfl
theorem q300 : (Jvm.Cond.lays "java/lang/IllegalArgumentException" "java/lang/Throwable" "stackTrace" "[Ljava/lang/StackTraceElement;") ∈ lw_all := lw_g (lw_at lw_m2 19 rfl) rfl
theorem q302 : (Jvm.Cond.lays "java/lang/IllegalArgumentException" "java/lang/Throwable" "suppressedExceptions" "Ljava/util/List;") ∈ lw_all := lw_g (lw_at lw_m2 21 rfl) rfl
theorem q304 : (Jvm.Cond.lays "java/lang/IllegalArgumentException" "java/lang/Throwable" "detailMessage" "Ljava/lang/String;") ∈ lw_all := lw_g (lw_at lw_m2 23 rfl) rfl
theorem q306 : (Jvm.Cond.lays "java/lang/IllegalArgumentException" "java/lang/Throwable" "backtrace" "Ljava/lang/Object;") ∈ lw_all := lw_g (lw_at lw_m2 25 rfl) rfl
theorem q331 : (Jvm.Cond.instanceMethod ({ cls := "java/lang/IllegalArgumentException", name := "<init>", desc := "()V" } : Jvm.MethodName)) ∈ lw_all := lw_g (lw_at lw_m2 50 rfl) rfl
theorem q332 : (Jvm.Cond.code ({ cls := "java/lang/IllegalArgumentException", name := "<init>", desc := "()V" } : Jvm.MethodName) prog_25_method_1_code (1 : Nat) (Option.none : Option Jvm.ClassFile.FieldType)) ∈ lw_all := lw_g (lw_at lw_m2 51 rfl) rfl
theorem q333 : (Jvm.Cond.methodLink "java/lang/IllegalArgumentException" (1 : Nat) ({ cls := "java/lang/RuntimeException", name := "<init>", desc := "()V" } : Jvm.MethodName)) ∈ lw_all := lw_g (lw_at lw_m2 52 rfl) rfl
theorem q349 : (Jvm.Cond.lays "java/lang/IllegalArgumentException" "java/lang/Throwable" "depth" "I") ∈ lw_all := lw_g (lw_at lw_m2 68 rfl) rfl
theorem q352 : (Jvm.Cond.superclass "java/lang/IllegalArgumentException" "java/lang/RuntimeException") ∈ lw_all := lw_g (lw_at lw_m2 71 rfl) rfl
theorem q1146 : (Jvm.Cond.castable "java/lang/IllegalArgumentException" "java/lang/Object") ∈ lw_tbl := lw_at lw_m5 145 rfl
theorem in_J3 : ∀ w ∈ wsJ30, w ∈ lw_all := lw_in wsJ30 [298, 300, 302, 304, 306, 349] (by decide +kernel) (by decide +kernel)
/-! java/lang/IllegalStateException -/
set_option maxRecDepth 100000
def RJ4 : String := "java/lang/IllegalStateException"
def TJ4 : u_T := fun k => match k with
  | 0 => ("java/lang/Throwable", "cause", "Ljava/lang/Throwable;", false)
  | 1 => ("java/lang/Throwable", "stackTrace", "[Ljava/lang/StackTraceElement;", false)
  | 2 => ("java/lang/Throwable", "suppressedExceptions", "Ljava/util/List;", false)
  | 3 => ("java/lang/Throwable", "detailMessage", "Ljava/lang/String;", false)
  | 4 => ("java/lang/Throwable", "backtrace", "Ljava/lang/Object;", false)
  | _ => ("java/lang/Throwable", "depth", "I", false)
def tyJ4 : Nat → FieldType := fun k => match k with
  | 0 => .object "java/lang/Throwable"
  | 1 => .array (.object "java/lang/StackTraceElement")
  | 2 => .object "java/util/List"
  | 3 => .object "java/lang/String"
  | 4 => .object "java/lang/Object"
  | _ => .int
abbrev wsJ40 : List Cond := u_ws RJ4 TJ4 6
theorem nmJ4 : ∀ a, a < 6 → ∀ b, b < 6 → a ≠ b → (TJ4 a).2.1 ≠ (TJ4 b).2.1 := by decide +kernel
theorem tyJ4_ok : ∀ k, k < 6 → parseFieldDescriptor (TJ4 k).2.2.1 = some (tyJ4 k) := by decide +kernel
abbrev cJ4_init : ByteArray := prog_26_method_1_code
def yJ4_init : MethodName := ⟨RJ4, "<init>", "()V"⟩
theorem dJ4_init_0 : decode cJ4_init 0 = .ok (.aload_n 0, 1) := by decide +kernel
theorem dJ4_init_1 : decode cJ4_init 1 = .ok (.invokespecial 1, 3) := by decide +kernel
theorem dJ4_init_4 : decode cJ4_init 4 = .ok (.return_, 1) := by decide +kernel
theorem q50 : (Jvm.Cond.initialized "java/lang/IllegalStateException") ∈ lw_all := lw_g (lw_at lw_m1 9 rfl) rfl
theorem q321 : (Jvm.Cond.selects "java/lang/IllegalStateException" ({ cls := "java/lang/Throwable", name := "fillInStackTrace", desc := "()Ljava/lang/Throwable;" } : Jvm.MethodName) ({ cls := "java/lang/Throwable", name := "fillInStackTrace", desc := "()Ljava/lang/Throwable;" } : Jvm.MethodName)) ∈ lw_all := lw_g (lw_at lw_m2 40 rfl) rfl
theorem q362 : (Jvm.Cond.instantiable "java/lang/IllegalStateException" (6 : Nat)) ∈ lw_all := lw_g (lw_at lw_m2 81 rfl) rfl
theorem q363 : (Jvm.Cond.castable "java/lang/IllegalStateException" "java/lang/IllegalStateException") ∈ lw_tbl := lw_at lw_m2 82 rfl
theorem q364 : (Jvm.Cond.selects "java/lang/IllegalStateException" ({ cls := "java/lang/Throwable", name := "fillInStackTrace", desc := "(I)Ljava/lang/Throwable;" } : Jvm.MethodName) ({ cls := "java/lang/Throwable", name := "fillInStackTrace", desc := "(I)Ljava/lang/Throwable;" } : Jvm.MethodName)) ∈ lw_all := lw_g (lw_at lw_m2 83 rfl) rfl
theorem q365 : (Jvm.Cond.lays "java/lang/IllegalStateException" "java/lang/Throwable" "cause" "Ljava/lang/Throwable;") ∈ lw_all := lw_g (lw_at lw_m2 84 rfl) rfl
theorem q366 : (Jvm.Cond.lays "java/lang/IllegalStateException" "java/lang/Throwable" "stackTrace" "[Ljava/lang/StackTraceElement;") ∈ lw_all := lw_g (lw_at lw_m2 85 rfl) rfl
theorem q367 : (Jvm.Cond.lays "java/lang/IllegalStateException" "java/lang/Throwable" "suppressedExceptions" "Ljava/util/List;") ∈ lw_all := lw_g (lw_at lw_m2 86 rfl) rfl
theorem q368 : (Jvm.Cond.lays "java/lang/IllegalStateException" "java/lang/Throwable" "detailMessage" "Ljava/lang/String;") ∈ lw_all := lw_g (lw_at lw_m2 87 rfl) rfl
theorem q369 : (Jvm.Cond.lays "java/lang/IllegalStateException" "java/lang/Throwable" "backtrace" "Ljava/lang/Object;") ∈ lw_all := lw_g (lw_at lw_m2 88 rfl) rfl
theorem q371 : (Jvm.Cond.instanceMethod ({ cls := "java/lang/IllegalStateException", name := "<init>", desc := "()V" } : Jvm.MethodName)) ∈ lw_all := lw_g (lw_at lw_m2 90 rfl) rfl
theorem q372 : (Jvm.Cond.code ({ cls := "java/lang/IllegalStateException", name := "<init>", desc := "()V" } : Jvm.MethodName) prog_26_method_1_code (1 : Nat) (Option.none : Option Jvm.ClassFile.FieldType)) ∈ lw_all := lw_g (lw_at lw_m2 91 rfl) rfl
theorem q373 : (Jvm.Cond.methodLink "java/lang/IllegalStateException" (1 : Nat) ({ cls := "java/lang/RuntimeException", name := "<init>", desc := "()V" } : Jvm.MethodName)) ∈ lw_all := lw_g (lw_at lw_m2 92 rfl) rfl
theorem q374 : (Jvm.Cond.lays "java/lang/IllegalStateException" "java/lang/Throwable" "depth" "I") ∈ lw_all := lw_g (lw_at lw_m2 93 rfl) rfl
theorem q375 : (Jvm.Cond.superclass "java/lang/IllegalStateException" "java/lang/RuntimeException") ∈ lw_all := lw_g (lw_at lw_m2 94 rfl) rfl
theorem q1148 : (Jvm.Cond.castable "java/lang/IllegalStateException" "java/lang/Object") ∈ lw_tbl := lw_at lw_m5 147 rfl
theorem in_J4 : ∀ w ∈ wsJ40, w ∈ lw_all := lw_in wsJ40 [365, 366, 367, 368, 369, 374] (by decide +kernel) (by decide +kernel)
/-! java/lang/Enum -/
set_option maxRecDepth 100000
def RJ5 : String := "java/lang/Enum"
abbrev cJ5_ordinal : ByteArray := prog_23_method_2_code
def yJ5_ordinal : MethodName := ⟨RJ5, "ordinal", "()I"⟩
theorem dJ5_ordinal_0 : decode cJ5_ordinal 0 = .ok (.aload_n 0, 1) := by decide +kernel
theorem dJ5_ordinal_1 : decode cJ5_ordinal 1 = .ok (.getfield 7, 3) := by decide +kernel
theorem dJ5_ordinal_4 : decode cJ5_ordinal 4 = .ok (.ireturn, 1) := by decide +kernel
theorem q53 : (Jvm.Cond.initialized "java/lang/Enum") ∈ lw_all := lw_g (lw_at lw_m1 12 rfl) rfl
theorem q797 : (Jvm.Cond.declares ({ cls := "java/lang/Enum", name := "ordinal", desc := "()I" } : Jvm.MethodName)) ∈ lw_tbl := lw_at lw_m4 36 rfl
theorem q804 : (Jvm.Cond.instanceMethod ({ cls := "java/lang/Enum", name := "ordinal", desc := "()I" } : Jvm.MethodName)) ∈ lw_all := lw_g (lw_at lw_m4 43 rfl) rfl
theorem q805 : (Jvm.Cond.code ({ cls := "java/lang/Enum", name := "ordinal", desc := "()I" } : Jvm.MethodName) prog_23_method_2_code (1 : Nat) (Option.some Jvm.ClassFile.FieldType.int)) ∈ lw_all := lw_g (lw_at lw_m4 44 rfl) rfl
theorem q1170 : (Jvm.Cond.fieldLink "java/lang/Enum" (7 : Nat) "java/lang/Enum" "ordinal" "I") ∈ lw_all := lw_g (lw_at lw_m5 169 rfl) rfl
/-! java/lang/IndexOutOfBoundsException -/
set_option maxRecDepth 100000
def RJ6 : String := "java/lang/IndexOutOfBoundsException"
def TJ6 : u_T := fun k => match k with
  | 0 => ("java/lang/Throwable", "cause", "Ljava/lang/Throwable;", false)
  | 1 => ("java/lang/Throwable", "stackTrace", "[Ljava/lang/StackTraceElement;", false)
  | 2 => ("java/lang/Throwable", "suppressedExceptions", "Ljava/util/List;", false)
  | 3 => ("java/lang/Throwable", "detailMessage", "Ljava/lang/String;", false)
  | 4 => ("java/lang/Throwable", "backtrace", "Ljava/lang/Object;", false)
  | _ => ("java/lang/Throwable", "depth", "I", false)
def tyJ6 : Nat → FieldType := fun k => match k with
  | 0 => .object "java/lang/Throwable"
  | 1 => .array (.object "java/lang/StackTraceElement")
  | 2 => .object "java/util/List"
  | 3 => .object "java/lang/String"
  | 4 => .object "java/lang/Object"
  | _ => .int
abbrev wsJ60 : List Cond := u_ws RJ6 TJ6 6
theorem nmJ6 : ∀ a, a < 6 → ∀ b, b < 6 → a ≠ b → (TJ6 a).2.1 ≠ (TJ6 b).2.1 := by decide +kernel
theorem tyJ6_ok : ∀ k, k < 6 → parseFieldDescriptor (TJ6 k).2.2.1 = some (tyJ6 k) := by decide +kernel
abbrev cJ6_init : ByteArray := prog_27_method_2_code
def yJ6_init : MethodName := ⟨RJ6, "<init>", "(Ljava/lang/String;)V"⟩
def dkwJ6_init_0 : List UInt8 := [42, 43, 183, 0, 7, 177]
abbrev dktJ6_init_0 : List UInt8 := dkwJ6_init_0 ++ []
theorem dksJ6_init_0 : cJ6_init.data.toList.drop 0 = dktJ6_init_0 := by decide +kernel
theorem dJ6_init_0 : decode cJ6_init 0 = .ok (.aload_n 0, 1) := dk_42 (dk_at dksJ6_init_0 0 rfl rfl)
theorem dJ6_init_1 : decode cJ6_init 1 = .ok (.aload_n 1, 1) := dk_43 (dk_at dksJ6_init_0 1 rfl rfl)
theorem dJ6_init_2 : decode cJ6_init 2 = .ok (.invokespecial 7, 3) := dk_183 0 7 (dk_at dksJ6_init_0 2 rfl rfl)
theorem dJ6_init_5 : decode cJ6_init 5 = .ok (.return_, 1) := dk_177 (dk_at dksJ6_init_0 5 rfl rfl)
abbrev cJ6_init_2 : ByteArray := prog_27_method_1_code
def yJ6_init_2 : MethodName := ⟨RJ6, "<init>", "()V"⟩
theorem dJ6_init_2_0 : decode cJ6_init_2 0 = .ok (.aload_n 0, 1) := by decide +kernel
theorem dJ6_init_2_1 : decode cJ6_init_2 1 = .ok (.invokespecial 1, 3) := by decide +kernel
theorem dJ6_init_2_4 : decode cJ6_init_2 4 = .ok (.return_, 1) := by decide +kernel
theorem q56 : (Jvm.Cond.initialized "java/lang/IndexOutOfBoundsException") ∈ lw_all := lw_g (lw_at lw_m1 15 rfl) rfl
theorem q322 : (Jvm.Cond.selects "java/lang/IndexOutOfBoundsException" ({ cls := "java/lang/Throwable", name := "fillInStackTrace", desc := "()Ljava/lang/Throwable;" } : Jvm.MethodName) ({ cls := "java/lang/Throwable", name := "fillInStackTrace", desc := "()Ljava/lang/Throwable;" } : Jvm.MethodName)) ∈ lw_all := lw_g (lw_at lw_m2 41 rfl) rfl
theorem q489 : (Jvm.Cond.instanceMethod ({ cls := "java/lang/IndexOutOfBoundsException", name := "<init>", desc := "(Ljava/lang/String;)V" } : Jvm.MethodName)) ∈ lw_all := lw_g (lw_at lw_m2 208 rfl) rfl
theorem q490 : (Jvm.Cond.code ({ cls := "java/lang/IndexOutOfBoundsException", name := "<init>", desc := "(Ljava/lang/String;)V" } : Jvm.MethodName) prog_27_method_2_code (2 : Nat) (Option.none : Option Jvm.ClassFile.FieldType)) ∈ lw_all := lw_g (lw_at lw_m2 209 rfl) rfl
theorem q491 : (Jvm.Cond.methodLink "java/lang/IndexOutOfBoundsException" (7 : Nat) ({ cls := "java/lang/RuntimeException", name := "<init>", desc := "(Ljava/lang/String;)V" } : Jvm.MethodName)) ∈ lw_all := lw_g (lw_at lw_m2 210 rfl) rfl
theorem q508 : (Jvm.Cond.declares ({ cls := "java/lang/IndexOutOfBoundsException", name := "<init>", desc := "()V" } : Jvm.MethodName)) ∈ lw_tbl := lw_at lw_m2 227 rfl
theorem q509 : (Jvm.Cond.declares ({ cls := "java/lang/IndexOutOfBoundsException", name := "<init>", desc := "(Ljava/lang/String;)V" } : Jvm.MethodName)) ∈ lw_tbl := lw_at lw_m2 228 rfl
theorem q529 : (Jvm.Cond.instantiable "java/lang/IndexOutOfBoundsException" (6 : Nat)) ∈ lw_all := lw_g (lw_at lw_m3 8 rfl) rfl
theorem q530 : (Jvm.Cond.castable "java/lang/IndexOutOfBoundsException" "java/lang/IndexOutOfBoundsException") ∈ lw_tbl := lw_at lw_m3 9 rfl
theorem q531 : (Jvm.Cond.selects "java/lang/IndexOutOfBoundsException" ({ cls := "java/lang/Throwable", name := "fillInStackTrace", desc := "(I)Ljava/lang/Throwable;" } : Jvm.MethodName) ({ cls := "java/lang/Throwable", name := "fillInStackTrace", desc := "(I)Ljava/lang/Throwable;" } : Jvm.MethodName)) ∈ lw_all := lw_g (lw_at lw_m3 10 rfl) rfl
theorem q532 : (Jvm.Cond.lays "java/lang/IndexOutOfBoundsException" "java/lang/Throwable" "cause" "Ljava/lang/Throwable;") ∈ lw_all := lw_g (lw_at lw_m3 11 rfl) rfl
theorem q533 : (Jvm.Cond.lays "java/lang/IndexOutOfBoundsException" "java/lang/Throwable" "stackTrace" "[Ljava/lang/StackTraceElement;") ∈ lw_all := lw_g (lw_at lw_m3 12 rfl) rfl
theorem q534 : (Jvm.Cond.lays "java/lang/IndexOutOfBoundsException" "java/lang/Throwable" "suppressedExceptions" "Ljava/util/List;") ∈ lw_all := lw_g (lw_at lw_m3 13 rfl) rfl
theorem q535 : (Jvm.Cond.lays "java/lang/IndexOutOfBoundsException" "java/lang/Throwable" "detailMessage" "Ljava/lang/String;") ∈ lw_all := lw_g (lw_at lw_m3 14 rfl) rfl
theorem q536 : (Jvm.Cond.lays "java/lang/IndexOutOfBoundsException" "java/lang/Throwable" "backtrace" "Ljava/lang/Object;") ∈ lw_all := lw_g (lw_at lw_m3 15 rfl) rfl
theorem q538 : (Jvm.Cond.instanceMethod ({ cls := "java/lang/IndexOutOfBoundsException", name := "<init>", desc := "()V" } : Jvm.MethodName)) ∈ lw_all := lw_g (lw_at lw_m3 17 rfl) rfl
theorem q539 : (Jvm.Cond.code ({ cls := "java/lang/IndexOutOfBoundsException", name := "<init>", desc := "()V" } : Jvm.MethodName) prog_27_method_1_code (1 : Nat) (Option.none : Option Jvm.ClassFile.FieldType)) ∈ lw_all := lw_g (lw_at lw_m3 18 rfl) rfl
theorem q540 : (Jvm.Cond.methodLink "java/lang/IndexOutOfBoundsException" (1 : Nat) ({ cls := "java/lang/RuntimeException", name := "<init>", desc := "()V" } : Jvm.MethodName)) ∈ lw_all := lw_g (lw_at lw_m3 19 rfl) rfl
theorem q541 : (Jvm.Cond.lays "java/lang/IndexOutOfBoundsException" "java/lang/Throwable" "depth" "I") ∈ lw_all := lw_g (lw_at lw_m3 20 rfl) rfl
theorem q542 : (Jvm.Cond.superclass "java/lang/IndexOutOfBoundsException" "java/lang/RuntimeException") ∈ lw_all := lw_g (lw_at lw_m3 21 rfl) rfl
theorem q1154 : (Jvm.Cond.castable "java/lang/IndexOutOfBoundsException" "java/lang/Object") ∈ lw_tbl := lw_at lw_m5 153 rfl
theorem in_J6 : ∀ w ∈ wsJ60, w ∈ lw_all := lw_in wsJ60 [532, 533, 534, 535, 536, 541] (by decide +kernel) (by decide +kernel)
/-! java/lang/ArrayIndexOutOfBoundsException -/
set_option maxRecDepth 100000
def RJ7 : String := "java/lang/ArrayIndexOutOfBoundsException"
def TJ7 : u_T := fun k => match k with
  | 0 => ("java/lang/Throwable", "backtrace", "Ljava/lang/Object;", false)
  | 1 => ("java/lang/Throwable", "detailMessage", "Ljava/lang/String;", false)
  | 2 => ("java/lang/Throwable", "cause", "Ljava/lang/Throwable;", false)
  | 3 => ("java/lang/Throwable", "stackTrace", "[Ljava/lang/StackTraceElement;", false)
  | 4 => ("java/lang/Throwable", "depth", "I", false)
  | _ => ("java/lang/Throwable", "suppressedExceptions", "Ljava/util/List;", false)
def tyJ7 : Nat → FieldType := fun k => match k with
  | 0 => .object "java/lang/Object"
  | 1 => .object "java/lang/String"
  | 2 => .object "java/lang/Throwable"
  | 3 => .array (.object "java/lang/StackTraceElement")
  | 4 => .int
  | _ => .object "java/util/List"
abbrev wsJ70 : List Cond := u_ws RJ7 TJ7 6
theorem nmJ7 : ∀ a, a < 6 → ∀ b, b < 6 → a ≠ b → (TJ7 a).2.1 ≠ (TJ7 b).2.1 := by decide +kernel
theorem tyJ7_ok : ∀ k, k < 6 → parseFieldDescriptor (TJ7 k).2.2.1 = some (tyJ7 k) := by decide +kernel
abbrev cJ7_init : ByteArray := prog_21_method_2_code
def yJ7_init : MethodName := ⟨RJ7, "<init>", "(Ljava/lang/String;)V"⟩
def dkwJ7_init_0 : List UInt8 := [42, 43, 183, 0, 7, 177]
abbrev dktJ7_init_0 : List UInt8 := dkwJ7_init_0 ++ []
theorem dksJ7_init_0 : cJ7_init.data.toList.drop 0 = dktJ7_init_0 := by decide +kernel
theorem dJ7_init_0 : decode cJ7_init 0 = .ok (.aload_n 0, 1) := dk_42 (dk_at dksJ7_init_0 0 rfl rfl)
theorem dJ7_init_1 : decode cJ7_init 1 = .ok (.aload_n 1, 1) := dk_43 (dk_at dksJ7_init_0 1 rfl rfl)
theorem dJ7_init_2 : decode cJ7_init 2 = .ok (.invokespecial 7, 3) := dk_183 0 7 (dk_at dksJ7_init_0 2 rfl rfl)
theorem dJ7_init_5 : decode cJ7_init 5 = .ok (.return_, 1) := dk_177 (dk_at dksJ7_init_0 5 rfl rfl)
theorem q57 : (Jvm.Cond.initialized "java/lang/ArrayIndexOutOfBoundsException") ∈ lw_all := lw_g (lw_at lw_m1 16 rfl) rfl
theorem q320 : (Jvm.Cond.selects "java/lang/ArrayIndexOutOfBoundsException" ({ cls := "java/lang/Throwable", name := "fillInStackTrace", desc := "()Ljava/lang/Throwable;" } : Jvm.MethodName) ({ cls := "java/lang/Throwable", name := "fillInStackTrace", desc := "()Ljava/lang/Throwable;" } : Jvm.MethodName)) ∈ lw_all := lw_g (lw_at lw_m2 39 rfl) rfl
theorem q485 : (Jvm.Cond.instantiable "java/lang/ArrayIndexOutOfBoundsException" (6 : Nat)) ∈ lw_all := lw_g (lw_at lw_m2 204 rfl) rfl
theorem q486 : (Jvm.Cond.instanceMethod ({ cls := "java/lang/ArrayIndexOutOfBoundsException", name := "<init>", desc := "(Ljava/lang/String;)V" } : Jvm.MethodName)) ∈ lw_all := lw_g (lw_at lw_m2 205 rfl) rfl
theorem q487 : (Jvm.Cond.code ({ cls := "java/lang/ArrayIndexOutOfBoundsException", name := "<init>", desc := "(Ljava/lang/String;)V" } : Jvm.MethodName) prog_21_method_2_code (2 : Nat) (Option.none : Option Jvm.ClassFile.FieldType)) ∈ lw_all := lw_g (lw_at lw_m2 206 rfl) rfl
theorem q488 : (Jvm.Cond.methodLink "java/lang/ArrayIndexOutOfBoundsException" (7 : Nat) ({ cls := "java/lang/IndexOutOfBoundsException", name := "<init>", desc := "(Ljava/lang/String;)V" } : Jvm.MethodName)) ∈ lw_all := lw_g (lw_at lw_m2 207 rfl) rfl
theorem q500 : (Jvm.Cond.lays "java/lang/ArrayIndexOutOfBoundsException" "java/lang/Throwable" "backtrace" "Ljava/lang/Object;") ∈ lw_all := lw_g (lw_at lw_m2 219 rfl) rfl
theorem q501 : (Jvm.Cond.lays "java/lang/ArrayIndexOutOfBoundsException" "java/lang/Throwable" "detailMessage" "Ljava/lang/String;") ∈ lw_all := lw_g (lw_at lw_m2 220 rfl) rfl
theorem q502 : (Jvm.Cond.lays "java/lang/ArrayIndexOutOfBoundsException" "java/lang/Throwable" "cause" "Ljava/lang/Throwable;") ∈ lw_all := lw_g (lw_at lw_m2 221 rfl) rfl
theorem q503 : (Jvm.Cond.lays "java/lang/ArrayIndexOutOfBoundsException" "java/lang/Throwable" "stackTrace" "[Ljava/lang/StackTraceElement;") ∈ lw_all := lw_g (lw_at lw_m2 222 rfl) rfl
theorem q504 : (Jvm.Cond.lays "java/lang/ArrayIndexOutOfBoundsException" "java/lang/Throwable" "depth" "I") ∈ lw_all := lw_g (lw_at lw_m2 223 rfl) rfl
theorem q505 : (Jvm.Cond.lays "java/lang/ArrayIndexOutOfBoundsException" "java/lang/Throwable" "suppressedExceptions" "Ljava/util/List;") ∈ lw_all := lw_g (lw_at lw_m2 224 rfl) rfl
theorem q506 : (Jvm.Cond.superclass "java/lang/ArrayIndexOutOfBoundsException" "java/lang/IndexOutOfBoundsException") ∈ lw_all := lw_g (lw_at lw_m2 225 rfl) rfl
theorem q507 : (Jvm.Cond.castable "java/lang/ArrayIndexOutOfBoundsException" "java/lang/ArrayIndexOutOfBoundsException") ∈ lw_tbl := lw_at lw_m2 226 rfl
theorem q510 : (Jvm.Cond.selects "java/lang/ArrayIndexOutOfBoundsException" ({ cls := "java/lang/Throwable", name := "fillInStackTrace", desc := "(I)Ljava/lang/Throwable;" } : Jvm.MethodName) ({ cls := "java/lang/Throwable", name := "fillInStackTrace", desc := "(I)Ljava/lang/Throwable;" } : Jvm.MethodName)) ∈ lw_all := lw_g (lw_at lw_m2 229 rfl) rfl
theorem q1142 : (Jvm.Cond.castable "java/lang/ArrayIndexOutOfBoundsException" "java/lang/IndexOutOfBoundsException") ∈ lw_tbl := lw_at lw_m5 141 rfl
theorem q1153 : (Jvm.Cond.castable "java/lang/ArrayIndexOutOfBoundsException" "java/lang/Object") ∈ lw_tbl := lw_at lw_m5 152 rfl
theorem in_J7 : ∀ w ∈ wsJ70, w ∈ lw_all := lw_in wsJ70 [500, 501, 502, 503, 504, 505] (by decide +kernel) (by decide +kernel)
/-! java/lang/String -/
set_option maxRecDepth 100000
def RJ8 : String := "java/lang/String"
def TJ8 : u_T := fun k => match k with
  | 0 => ("java/lang/String", "value", "[B", true)
  | _ => ("java/lang/String", "coder", "B", true)
def tyJ8 : Nat → FieldType := fun k => match k with
  | 0 => .array .byte
  | _ => .byte
abbrev wsJ80 : List Cond := u_ws RJ8 TJ8 2
theorem nmJ8 : ∀ a, a < 2 → ∀ b, b < 2 → a ≠ b → (TJ8 a).2.1 ≠ (TJ8 b).2.1 := by decide +kernel
theorem tyJ8_ok : ∀ k, k < 2 → parseFieldDescriptor (TJ8 k).2.2.1 = some (tyJ8 k) := by decide +kernel
theorem q58 : (Jvm.Cond.initialized "java/lang/String") ∈ lw_all := lw_g (lw_at lw_m1 17 rfl) rfl
theorem q511 : (Jvm.Cond.instantiable "java/lang/String" (4 : Nat)) ∈ lw_all := lw_g (lw_at lw_m2 230 rfl) rfl
theorem q513 : (Jvm.Cond.laysFinal "java/lang/String" "java/lang/String" "value" "[B") ∈ lw_all := lw_g (lw_at lw_m2 232 rfl) rfl
theorem q514 : (Jvm.Cond.soleField "java/lang/String" "value") ∈ lw_all := lw_g (lw_at lw_m2 233 rfl) rfl
theorem q515 : (Jvm.Cond.laysFinal "java/lang/String" "java/lang/String" "coder" "B") ∈ lw_all := lw_g (lw_at lw_m2 234 rfl) rfl
theorem q516 : (Jvm.Cond.soleField "java/lang/String" "coder") ∈ lw_all := lw_g (lw_at lw_m2 235 rfl) rfl
theorem q1165 : (Jvm.Cond.castable "java/lang/String" "java/lang/Object") ∈ lw_tbl := lw_at lw_m5 164 rfl
theorem in_J8 : ∀ w ∈ wsJ80, w ∈ lw_all := lw_in wsJ80 [513, 515] (by decide +kernel) (by decide +kernel)
/-! java/lang/Math -/
set_option maxRecDepth 100000
def RJ9 : String := "java/lang/Math"
abbrev cJ9_min : ByteArray := prog_28_method_69_code
def yJ9_min : MethodName := ⟨RJ9, "min", "(II)I"⟩
def dkwJ9_min_0 : List UInt8 := [26, 27, 163, 0, 7, 26, 167, 0, 4, 27, 172]
abbrev dktJ9_min_0 : List UInt8 := dkwJ9_min_0 ++ []
theorem dksJ9_min_0 : cJ9_min.data.toList.drop 0 = dktJ9_min_0 := by decide +kernel
theorem dJ9_min_0 : decode cJ9_min 0 = .ok (.iload_n 0, 1) := dk_26 (dk_at dksJ9_min_0 0 rfl rfl)
theorem dJ9_min_1 : decode cJ9_min 1 = .ok (.iload_n 1, 1) := dk_27 (dk_at dksJ9_min_0 1 rfl rfl)
theorem dJ9_min_2 : decode cJ9_min 2 = .ok (.if_icmp .gt 7, 3) := dk_163 0 7 (dk_at dksJ9_min_0 2 rfl rfl)
theorem dJ9_min_5 : decode cJ9_min 5 = .ok (.iload_n 0, 1) := dk_26 (dk_at dksJ9_min_0 5 rfl rfl)
theorem dJ9_min_6 : decode cJ9_min 6 = .ok (.goto 4, 3) := dk_167 0 4 (dk_at dksJ9_min_0 6 rfl rfl)
theorem dJ9_min_9 : decode cJ9_min 9 = .ok (.iload_n 1, 1) := dk_27 (dk_at dksJ9_min_0 9 rfl rfl)
theorem dJ9_min_10 : decode cJ9_min 10 = .ok (.ireturn, 1) := dk_172 (dk_at dksJ9_min_0 10 rfl rfl)
abbrev cJ9_max : ByteArray := prog_28_method_65_code
def yJ9_max : MethodName := ⟨RJ9, "max", "(II)I"⟩
def dkwJ9_max_0 : List UInt8 := [26, 27, 161, 0, 7, 26, 167, 0, 4, 27, 172]
abbrev dktJ9_max_0 : List UInt8 := dkwJ9_max_0 ++ []
theorem dksJ9_max_0 : cJ9_max.data.toList.drop 0 = dktJ9_max_0 := by decide +kernel
theorem dJ9_max_0 : decode cJ9_max 0 = .ok (.iload_n 0, 1) := dk_26 (dk_at dksJ9_max_0 0 rfl rfl)
theorem dJ9_max_1 : decode cJ9_max 1 = .ok (.iload_n 1, 1) := dk_27 (dk_at dksJ9_max_0 1 rfl rfl)
theorem dJ9_max_2 : decode cJ9_max 2 = .ok (.if_icmp .lt 7, 3) := dk_161 0 7 (dk_at dksJ9_max_0 2 rfl rfl)
theorem dJ9_max_5 : decode cJ9_max 5 = .ok (.iload_n 0, 1) := dk_26 (dk_at dksJ9_max_0 5 rfl rfl)
theorem dJ9_max_6 : decode cJ9_max 6 = .ok (.goto 4, 3) := dk_167 0 4 (dk_at dksJ9_max_0 6 rfl rfl)
theorem dJ9_max_9 : decode cJ9_max 9 = .ok (.iload_n 1, 1) := dk_27 (dk_at dksJ9_max_0 9 rfl rfl)
theorem dJ9_max_10 : decode cJ9_max 10 = .ok (.ireturn, 1) := dk_172 (dk_at dksJ9_max_0 10 rfl rfl)
theorem q60 : (Jvm.Cond.initialized "java/lang/Math") ∈ lw_all := lw_g (lw_at lw_m1 19 rfl) rfl
theorem q670 : (Jvm.Cond.static ({ cls := "java/lang/Math", name := "min", desc := "(II)I" } : Jvm.MethodName)) ∈ lw_all := lw_g (lw_at lw_m3 149 rfl) rfl
theorem q671 : (Jvm.Cond.code ({ cls := "java/lang/Math", name := "min", desc := "(II)I" } : Jvm.MethodName) prog_28_method_69_code (2 : Nat) (Option.some Jvm.ClassFile.FieldType.int)) ∈ lw_all := lw_g (lw_at lw_m3 150 rfl) rfl
theorem q673 : (Jvm.Cond.static ({ cls := "java/lang/Math", name := "max", desc := "(II)I" } : Jvm.MethodName)) ∈ lw_all := lw_g (lw_at lw_m3 152 rfl) rfl
theorem q674 : (Jvm.Cond.code ({ cls := "java/lang/Math", name := "max", desc := "(II)I" } : Jvm.MethodName) prog_28_method_65_code (2 : Nat) (Option.some Jvm.ClassFile.FieldType.int)) ∈ lw_all := lw_g (lw_at lw_m3 153 rfl) rfl
theorem q54 : (Jvm.Cond.initialized "Grantworks$State") ∈ lw_all := lw_g (lw_at lw_m1 13 rfl) rfl
set_option maxRecDepth 100000
theorem q238 : (Jvm.Cond.declares ({ cls := "Grantworks$State", name := "isReserved", desc := "()Z" } : Jvm.MethodName)) ∈ lw_tbl := lw_at lw_m1 197 rfl
theorem q239 : (Jvm.Cond.sameMethod "Grantworks$State" "Grantworks$State" "isReserved" "()Z") ∈ lw_all := lw_g (lw_at lw_m1 198 rfl) rfl
theorem q445 : (Jvm.Cond.laysStatic "Grantworks$State" "IS_AWARDED" "LGrantworks$State;") ∈ lw_tbl := lw_at lw_m2 164 rfl
theorem q558 : (Jvm.Cond.laysStatic "Grantworks$State" "IS_TOLD" "LGrantworks$State;") ∈ lw_tbl := lw_at lw_m3 37 rfl
theorem q619 : (Jvm.Cond.laysStatic "Grantworks$State" "IS_OVER" "LGrantworks$State;") ∈ lw_tbl := lw_at lw_m3 98 rfl
theorem q691 : (Jvm.Cond.laysStatic "Grantworks$State" "IS_REFUSED" "LGrantworks$State;") ∈ lw_tbl := lw_at lw_m3 170 rfl
theorem q693 : (Jvm.Cond.laysStatic "Grantworks$State" "IS_WAITING" "LGrantworks$State;") ∈ lw_tbl := lw_at lw_m3 172 rfl
theorem q706 : (Jvm.Cond.laysStatic "Grantworks$State" "IS_DONE" "LGrantworks$State;") ∈ lw_tbl := lw_at lw_m3 185 rfl
theorem q759 : (Jvm.Cond.declares ({ cls := "Grantworks$State", name := "canEnd", desc := "(Z)Z" } : Jvm.MethodName)) ∈ lw_tbl := lw_at lw_m3 238 rfl
theorem q760 : (Jvm.Cond.sameMethod "Grantworks$State" "Grantworks$State" "canEnd" "(Z)Z") ∈ lw_all := lw_g (lw_at lw_m3 239 rfl) rfl
theorem q796 : (Jvm.Cond.sameMethod "Grantworks$State" "java/lang/Enum" "ordinal" "()I") ∈ lw_all := lw_g (lw_at lw_m4 35 rfl) rfl
theorem q79 : (Jvm.Cond.arrayOver (Jvm.ClassFile.FieldType.object "Grantworks$Account")) ∈ lw_tbl := lw_at lw_m1 38 rfl
set_option maxRecDepth 100000
theorem q95 : (Jvm.Cond.arrayOver (Jvm.ClassFile.FieldType.object "Grantworks$Key")) ∈ lw_tbl := lw_at lw_m1 54 rfl
theorem q97 : (Jvm.Cond.arrayOver (Jvm.ClassFile.FieldType.object "Grantworks$Entry")) ∈ lw_tbl := lw_at lw_m1 56 rfl
theorem q99 : (Jvm.Cond.arrayOver (Jvm.ClassFile.FieldType.object "Grantworks$Application")) ∈ lw_tbl := lw_at lw_m1 58 rfl
theorem q173 : (Jvm.Cond.arrayClass Jvm.ClassFile.FieldType.int) ∈ lw_all := lw_g (lw_at lw_m1 132 rfl) rfl
theorem q174 : (Jvm.Cond.arrayClass Jvm.ClassFile.FieldType.boolean) ∈ lw_all := lw_g (lw_at lw_m1 133 rfl) rfl
theorem q512 : (Jvm.Cond.arrayClass Jvm.ClassFile.FieldType.byte) ∈ lw_all := lw_g (lw_at lw_m2 231 rfl) rfl
theorem q1140 : (Jvm.Cond.arrayClass Jvm.ClassFile.FieldType.long) ∈ lw_all := lw_g (lw_at lw_m5 139 rfl) rfl
