/-! KeyringCourtLaw -/
set_option maxRecDepth 100000
def RX0 : String := "KeyringCourtLaw"
abbrev cX0_pass : ByteArray := method_3_code
def yX0_pass : MethodName := ⟨RX0, "pass", "(LKeyringCourt;I[J)I"⟩
def dkwX0_pass_0 : List UInt8 := [44, 3, 42, 27, 182, 0, 7, 133, 80, 167, 0, 9, 78, 4, 172, 78, 5, 172, 3, 172]
abbrev dktX0_pass_0 : List UInt8 := dkwX0_pass_0 ++ []
theorem dksX0_pass_0 : cX0_pass.data.toList.drop 0 = dktX0_pass_0 := by decide +kernel
theorem dX0_pass_0 : decode cX0_pass 0 = .ok (.aload_n 2, 1) := dk_44 (dk_at dksX0_pass_0 0 rfl rfl)
theorem dX0_pass_1 : decode cX0_pass 1 = .ok (.iconst 0, 1) := dk_3 (dk_at dksX0_pass_0 1 rfl rfl)
theorem dX0_pass_2 : decode cX0_pass 2 = .ok (.aload_n 0, 1) := dk_42 (dk_at dksX0_pass_0 2 rfl rfl)
theorem dX0_pass_3 : decode cX0_pass 3 = .ok (.iload_n 1, 1) := dk_27 (dk_at dksX0_pass_0 3 rfl rfl)
theorem dX0_pass_4 : decode cX0_pass 4 = .ok (.invokevirtual 7, 3) := dk_182 0 7 (dk_at dksX0_pass_0 4 rfl rfl)
theorem dX0_pass_7 : decode cX0_pass 7 = .ok (.i2l, 1) := dk_133 (dk_at dksX0_pass_0 7 rfl rfl)
theorem dX0_pass_8 : decode cX0_pass 8 = .ok (.lastore, 1) := dk_80 (dk_at dksX0_pass_0 8 rfl rfl)
theorem dX0_pass_9 : decode cX0_pass 9 = .ok (.goto 9, 3) := dk_167 0 9 (dk_at dksX0_pass_0 9 rfl rfl)
theorem dX0_pass_12 : decode cX0_pass 12 = .ok (.astore_n 3, 1) := dk_78 (dk_at dksX0_pass_0 12 rfl rfl)
theorem dX0_pass_13 : decode cX0_pass 13 = .ok (.iconst 1, 1) := dk_4 (dk_at dksX0_pass_0 13 rfl rfl)
theorem dX0_pass_14 : decode cX0_pass 14 = .ok (.ireturn, 1) := dk_172 (dk_at dksX0_pass_0 14 rfl rfl)
theorem dX0_pass_15 : decode cX0_pass 15 = .ok (.astore_n 3, 1) := dk_78 (dk_at dksX0_pass_0 15 rfl rfl)
theorem dX0_pass_16 : decode cX0_pass 16 = .ok (.iconst 2, 1) := dk_5 (dk_at dksX0_pass_0 16 rfl rfl)
theorem dX0_pass_17 : decode cX0_pass 17 = .ok (.ireturn, 1) := dk_172 (dk_at dksX0_pass_0 17 rfl rfl)
theorem dX0_pass_18 : decode cX0_pass 18 = .ok (.iconst 0, 1) := dk_3 (dk_at dksX0_pass_0 18 rfl rfl)
theorem dX0_pass_19 : decode cX0_pass 19 = .ok (.ireturn, 1) := dk_172 (dk_at dksX0_pass_0 19 rfl rfl)
abbrev cX0_enroll : ByteArray := method_4_code
def yX0_enroll : MethodName := ⟨RX0, "enroll", "(LKeyringCourt;II[J)I"⟩
def dkwX0_enroll_0 : List UInt8 := [45, 3, 42, 27, 28, 182, 0, 17, 133, 80, 167, 0, 11, 58, 4, 4, 172, 58, 4, 5, 172, 3, 172]
abbrev dktX0_enroll_0 : List UInt8 := dkwX0_enroll_0 ++ []
theorem dksX0_enroll_0 : cX0_enroll.data.toList.drop 0 = dktX0_enroll_0 := by decide +kernel
theorem dX0_enroll_0 : decode cX0_enroll 0 = .ok (.aload_n 3, 1) := dk_45 (dk_at dksX0_enroll_0 0 rfl rfl)
theorem dX0_enroll_1 : decode cX0_enroll 1 = .ok (.iconst 0, 1) := dk_3 (dk_at dksX0_enroll_0 1 rfl rfl)
theorem dX0_enroll_2 : decode cX0_enroll 2 = .ok (.aload_n 0, 1) := dk_42 (dk_at dksX0_enroll_0 2 rfl rfl)
theorem dX0_enroll_3 : decode cX0_enroll 3 = .ok (.iload_n 1, 1) := dk_27 (dk_at dksX0_enroll_0 3 rfl rfl)
theorem dX0_enroll_4 : decode cX0_enroll 4 = .ok (.iload_n 2, 1) := dk_28 (dk_at dksX0_enroll_0 4 rfl rfl)
theorem dX0_enroll_5 : decode cX0_enroll 5 = .ok (.invokevirtual 17, 3) := dk_182 0 17 (dk_at dksX0_enroll_0 5 rfl rfl)
theorem dX0_enroll_8 : decode cX0_enroll 8 = .ok (.i2l, 1) := dk_133 (dk_at dksX0_enroll_0 8 rfl rfl)
theorem dX0_enroll_9 : decode cX0_enroll 9 = .ok (.lastore, 1) := dk_80 (dk_at dksX0_enroll_0 9 rfl rfl)
theorem dX0_enroll_10 : decode cX0_enroll 10 = .ok (.goto 11, 3) := dk_167 0 11 (dk_at dksX0_enroll_0 10 rfl rfl)
theorem dX0_enroll_13 : decode cX0_enroll 13 = .ok (.astore 4, 2) := dk_58 4 (dk_at dksX0_enroll_0 13 rfl rfl)
theorem dX0_enroll_15 : decode cX0_enroll 15 = .ok (.iconst 1, 1) := dk_4 (dk_at dksX0_enroll_0 15 rfl rfl)
theorem dX0_enroll_16 : decode cX0_enroll 16 = .ok (.ireturn, 1) := dk_172 (dk_at dksX0_enroll_0 16 rfl rfl)
theorem dX0_enroll_17 : decode cX0_enroll 17 = .ok (.astore 4, 2) := dk_58 4 (dk_at dksX0_enroll_0 17 rfl rfl)
theorem dX0_enroll_19 : decode cX0_enroll 19 = .ok (.iconst 2, 1) := dk_5 (dk_at dksX0_enroll_0 19 rfl rfl)
theorem dX0_enroll_20 : decode cX0_enroll 20 = .ok (.ireturn, 1) := dk_172 (dk_at dksX0_enroll_0 20 rfl rfl)
theorem dX0_enroll_21 : decode cX0_enroll 21 = .ok (.iconst 0, 1) := dk_3 (dk_at dksX0_enroll_0 21 rfl rfl)
theorem dX0_enroll_22 : decode cX0_enroll 22 = .ok (.ireturn, 1) := dk_172 (dk_at dksX0_enroll_0 22 rfl rfl)
abbrev cX0_factor : ByteArray := method_5_code
def yX0_factor : MethodName := ⟨RX0, "factor", "(LKeyringCourt;II[J)I"⟩
def dkwX0_factor_0 : List UInt8 := [45, 3, 42, 27, 28, 182, 0, 23, 133, 80, 167, 0, 11, 58, 4, 4, 172, 58, 4, 5, 172, 3, 172]
abbrev dktX0_factor_0 : List UInt8 := dkwX0_factor_0 ++ []
theorem dksX0_factor_0 : cX0_factor.data.toList.drop 0 = dktX0_factor_0 := by decide +kernel
theorem dX0_factor_0 : decode cX0_factor 0 = .ok (.aload_n 3, 1) := dk_45 (dk_at dksX0_factor_0 0 rfl rfl)
theorem dX0_factor_1 : decode cX0_factor 1 = .ok (.iconst 0, 1) := dk_3 (dk_at dksX0_factor_0 1 rfl rfl)
theorem dX0_factor_2 : decode cX0_factor 2 = .ok (.aload_n 0, 1) := dk_42 (dk_at dksX0_factor_0 2 rfl rfl)
theorem dX0_factor_3 : decode cX0_factor 3 = .ok (.iload_n 1, 1) := dk_27 (dk_at dksX0_factor_0 3 rfl rfl)
theorem dX0_factor_4 : decode cX0_factor 4 = .ok (.iload_n 2, 1) := dk_28 (dk_at dksX0_factor_0 4 rfl rfl)
theorem dX0_factor_5 : decode cX0_factor 5 = .ok (.invokevirtual 23, 3) := dk_182 0 23 (dk_at dksX0_factor_0 5 rfl rfl)
theorem dX0_factor_8 : decode cX0_factor 8 = .ok (.i2l, 1) := dk_133 (dk_at dksX0_factor_0 8 rfl rfl)
theorem dX0_factor_9 : decode cX0_factor 9 = .ok (.lastore, 1) := dk_80 (dk_at dksX0_factor_0 9 rfl rfl)
theorem dX0_factor_10 : decode cX0_factor 10 = .ok (.goto 11, 3) := dk_167 0 11 (dk_at dksX0_factor_0 10 rfl rfl)
theorem dX0_factor_13 : decode cX0_factor 13 = .ok (.astore 4, 2) := dk_58 4 (dk_at dksX0_factor_0 13 rfl rfl)
theorem dX0_factor_15 : decode cX0_factor 15 = .ok (.iconst 1, 1) := dk_4 (dk_at dksX0_factor_0 15 rfl rfl)
theorem dX0_factor_16 : decode cX0_factor 16 = .ok (.ireturn, 1) := dk_172 (dk_at dksX0_factor_0 16 rfl rfl)
theorem dX0_factor_17 : decode cX0_factor 17 = .ok (.astore 4, 2) := dk_58 4 (dk_at dksX0_factor_0 17 rfl rfl)
theorem dX0_factor_19 : decode cX0_factor 19 = .ok (.iconst 2, 1) := dk_5 (dk_at dksX0_factor_0 19 rfl rfl)
theorem dX0_factor_20 : decode cX0_factor 20 = .ok (.ireturn, 1) := dk_172 (dk_at dksX0_factor_0 20 rfl rfl)
theorem dX0_factor_21 : decode cX0_factor 21 = .ok (.iconst 0, 1) := dk_3 (dk_at dksX0_factor_0 21 rfl rfl)
theorem dX0_factor_22 : decode cX0_factor 22 = .ok (.ireturn, 1) := dk_172 (dk_at dksX0_factor_0 22 rfl rfl)
abbrev cX0_step : ByteArray := method_6_code
def yX0_step : MethodName := ⟨RX0, "step", "(LKeyringCourt;IIIII[J)I"⟩
def dkwX0_step_1 : List UInt8 := [58, 7, 5, 172, 3, 172]
abbrev dktX0_step_1 : List UInt8 := dkwX0_step_1 ++ []
def dkwX0_step_0 : List UInt8 := [25, 6, 3, 42, 27, 28, 29, 21, 4, 21, 5, 182, 0, 26, 133, 80, 167, 0, 11, 58, 7, 4, 172]
abbrev dktX0_step_0 : List UInt8 := dkwX0_step_0 ++ dktX0_step_1
theorem dksX0_step_0 : cX0_step.data.toList.drop 0 = dktX0_step_0 := by decide +kernel
theorem dksX0_step_1 : cX0_step.data.toList.drop 23 = dktX0_step_1 := dk_seg dksX0_step_0 23 rfl rfl
theorem dX0_step_0 : decode cX0_step 0 = .ok (.aload 6, 2) := dk_25 6 (dk_at dksX0_step_0 0 rfl rfl)
theorem dX0_step_2 : decode cX0_step 2 = .ok (.iconst 0, 1) := dk_3 (dk_at dksX0_step_0 2 rfl rfl)
theorem dX0_step_3 : decode cX0_step 3 = .ok (.aload_n 0, 1) := dk_42 (dk_at dksX0_step_0 3 rfl rfl)
theorem dX0_step_4 : decode cX0_step 4 = .ok (.iload_n 1, 1) := dk_27 (dk_at dksX0_step_0 4 rfl rfl)
theorem dX0_step_5 : decode cX0_step 5 = .ok (.iload_n 2, 1) := dk_28 (dk_at dksX0_step_0 5 rfl rfl)
theorem dX0_step_6 : decode cX0_step 6 = .ok (.iload_n 3, 1) := dk_29 (dk_at dksX0_step_0 6 rfl rfl)
theorem dX0_step_7 : decode cX0_step 7 = .ok (.iload 4, 2) := dk_21 4 (dk_at dksX0_step_0 7 rfl rfl)
theorem dX0_step_9 : decode cX0_step 9 = .ok (.iload 5, 2) := dk_21 5 (dk_at dksX0_step_0 9 rfl rfl)
theorem dX0_step_11 : decode cX0_step 11 = .ok (.invokevirtual 26, 3) := dk_182 0 26 (dk_at dksX0_step_0 11 rfl rfl)
theorem dX0_step_14 : decode cX0_step 14 = .ok (.i2l, 1) := dk_133 (dk_at dksX0_step_0 14 rfl rfl)
theorem dX0_step_15 : decode cX0_step 15 = .ok (.lastore, 1) := dk_80 (dk_at dksX0_step_0 15 rfl rfl)
theorem dX0_step_16 : decode cX0_step 16 = .ok (.goto 11, 3) := dk_167 0 11 (dk_at dksX0_step_0 16 rfl rfl)
theorem dX0_step_19 : decode cX0_step 19 = .ok (.astore 7, 2) := dk_58 7 (dk_at dksX0_step_0 19 rfl rfl)
theorem dX0_step_21 : decode cX0_step 21 = .ok (.iconst 1, 1) := dk_4 (dk_at dksX0_step_0 21 rfl rfl)
theorem dX0_step_22 : decode cX0_step 22 = .ok (.ireturn, 1) := dk_172 (dk_at dksX0_step_0 22 rfl rfl)
theorem dX0_step_23 : decode cX0_step 23 = .ok (.astore 7, 2) := dk_58 7 (dk_at dksX0_step_1 0 rfl rfl)
theorem dX0_step_25 : decode cX0_step 25 = .ok (.iconst 2, 1) := dk_5 (dk_at dksX0_step_1 2 rfl rfl)
theorem dX0_step_26 : decode cX0_step 26 = .ok (.ireturn, 1) := dk_172 (dk_at dksX0_step_1 3 rfl rfl)
theorem dX0_step_27 : decode cX0_step 27 = .ok (.iconst 0, 1) := dk_3 (dk_at dksX0_step_1 4 rfl rfl)
theorem dX0_step_28 : decode cX0_step 28 = .ok (.ireturn, 1) := dk_172 (dk_at dksX0_step_1 5 rfl rfl)
abbrev cX0_publish : ByteArray := method_7_code
def yX0_publish : MethodName := ⟨RX0, "publish", "(LKeyringCourt;[J)I"⟩
def dkwX0_publish_0 : List UInt8 := [43, 3, 42, 182, 0, 30, 133, 80, 167, 0, 6, 77, 4, 172, 3, 172]
abbrev dktX0_publish_0 : List UInt8 := dkwX0_publish_0 ++ []
theorem dksX0_publish_0 : cX0_publish.data.toList.drop 0 = dktX0_publish_0 := by decide +kernel
theorem dX0_publish_0 : decode cX0_publish 0 = .ok (.aload_n 1, 1) := dk_43 (dk_at dksX0_publish_0 0 rfl rfl)
theorem dX0_publish_1 : decode cX0_publish 1 = .ok (.iconst 0, 1) := dk_3 (dk_at dksX0_publish_0 1 rfl rfl)
theorem dX0_publish_2 : decode cX0_publish 2 = .ok (.aload_n 0, 1) := dk_42 (dk_at dksX0_publish_0 2 rfl rfl)
theorem dX0_publish_3 : decode cX0_publish 3 = .ok (.invokevirtual 30, 3) := dk_182 0 30 (dk_at dksX0_publish_0 3 rfl rfl)
theorem dX0_publish_6 : decode cX0_publish 6 = .ok (.i2l, 1) := dk_133 (dk_at dksX0_publish_0 6 rfl rfl)
theorem dX0_publish_7 : decode cX0_publish 7 = .ok (.lastore, 1) := dk_80 (dk_at dksX0_publish_0 7 rfl rfl)
theorem dX0_publish_8 : decode cX0_publish 8 = .ok (.goto 6, 3) := dk_167 0 6 (dk_at dksX0_publish_0 8 rfl rfl)
theorem dX0_publish_11 : decode cX0_publish 11 = .ok (.astore_n 2, 1) := dk_77 (dk_at dksX0_publish_0 11 rfl rfl)
theorem dX0_publish_12 : decode cX0_publish 12 = .ok (.iconst 1, 1) := dk_4 (dk_at dksX0_publish_0 12 rfl rfl)
theorem dX0_publish_13 : decode cX0_publish 13 = .ok (.ireturn, 1) := dk_172 (dk_at dksX0_publish_0 13 rfl rfl)
theorem dX0_publish_14 : decode cX0_publish 14 = .ok (.iconst 0, 1) := dk_3 (dk_at dksX0_publish_0 14 rfl rfl)
theorem dX0_publish_15 : decode cX0_publish 15 = .ok (.ireturn, 1) := dk_172 (dk_at dksX0_publish_0 15 rfl rfl)
abbrev cX0_weakest : ByteArray := method_8_code
def yX0_weakest : MethodName := ⟨RX0, "weakest", "(LKeyringCourt;I[J)I"⟩
def dkwX0_weakest_0 : List UInt8 := [44, 3, 42, 27, 182, 0, 34, 133, 80, 167, 0, 6, 78, 4, 172, 3, 172]
abbrev dktX0_weakest_0 : List UInt8 := dkwX0_weakest_0 ++ []
theorem dksX0_weakest_0 : cX0_weakest.data.toList.drop 0 = dktX0_weakest_0 := by decide +kernel
theorem dX0_weakest_0 : decode cX0_weakest 0 = .ok (.aload_n 2, 1) := dk_44 (dk_at dksX0_weakest_0 0 rfl rfl)
theorem dX0_weakest_1 : decode cX0_weakest 1 = .ok (.iconst 0, 1) := dk_3 (dk_at dksX0_weakest_0 1 rfl rfl)
theorem dX0_weakest_2 : decode cX0_weakest 2 = .ok (.aload_n 0, 1) := dk_42 (dk_at dksX0_weakest_0 2 rfl rfl)
theorem dX0_weakest_3 : decode cX0_weakest 3 = .ok (.iload_n 1, 1) := dk_27 (dk_at dksX0_weakest_0 3 rfl rfl)
theorem dX0_weakest_4 : decode cX0_weakest 4 = .ok (.invokevirtual 34, 3) := dk_182 0 34 (dk_at dksX0_weakest_0 4 rfl rfl)
theorem dX0_weakest_7 : decode cX0_weakest 7 = .ok (.i2l, 1) := dk_133 (dk_at dksX0_weakest_0 7 rfl rfl)
theorem dX0_weakest_8 : decode cX0_weakest 8 = .ok (.lastore, 1) := dk_80 (dk_at dksX0_weakest_0 8 rfl rfl)
theorem dX0_weakest_9 : decode cX0_weakest 9 = .ok (.goto 6, 3) := dk_167 0 6 (dk_at dksX0_weakest_0 9 rfl rfl)
theorem dX0_weakest_12 : decode cX0_weakest 12 = .ok (.astore_n 3, 1) := dk_78 (dk_at dksX0_weakest_0 12 rfl rfl)
theorem dX0_weakest_13 : decode cX0_weakest 13 = .ok (.iconst 1, 1) := dk_4 (dk_at dksX0_weakest_0 13 rfl rfl)
theorem dX0_weakest_14 : decode cX0_weakest 14 = .ok (.ireturn, 1) := dk_172 (dk_at dksX0_weakest_0 14 rfl rfl)
theorem dX0_weakest_15 : decode cX0_weakest 15 = .ok (.iconst 0, 1) := dk_3 (dk_at dksX0_weakest_0 15 rfl rfl)
theorem dX0_weakest_16 : decode cX0_weakest 16 = .ok (.ireturn, 1) := dk_172 (dk_at dksX0_weakest_0 16 rfl rfl)
abbrev cX0_points : ByteArray := method_9_code
def yX0_points : MethodName := ⟨RX0, "points", "(LKeyringCourt;IIZ[J)I"⟩
def dkwX0_points_0 : List UInt8 := [25, 4, 3, 42, 27, 28, 29, 182, 0, 37, 133, 80, 167, 0, 7, 58, 5, 4, 172, 3, 172]
abbrev dktX0_points_0 : List UInt8 := dkwX0_points_0 ++ []
theorem dksX0_points_0 : cX0_points.data.toList.drop 0 = dktX0_points_0 := by decide +kernel
theorem dX0_points_0 : decode cX0_points 0 = .ok (.aload 4, 2) := dk_25 4 (dk_at dksX0_points_0 0 rfl rfl)
theorem dX0_points_2 : decode cX0_points 2 = .ok (.iconst 0, 1) := dk_3 (dk_at dksX0_points_0 2 rfl rfl)
theorem dX0_points_3 : decode cX0_points 3 = .ok (.aload_n 0, 1) := dk_42 (dk_at dksX0_points_0 3 rfl rfl)
theorem dX0_points_4 : decode cX0_points 4 = .ok (.iload_n 1, 1) := dk_27 (dk_at dksX0_points_0 4 rfl rfl)
theorem dX0_points_5 : decode cX0_points 5 = .ok (.iload_n 2, 1) := dk_28 (dk_at dksX0_points_0 5 rfl rfl)
theorem dX0_points_6 : decode cX0_points 6 = .ok (.iload_n 3, 1) := dk_29 (dk_at dksX0_points_0 6 rfl rfl)
theorem dX0_points_7 : decode cX0_points 7 = .ok (.invokevirtual 37, 3) := dk_182 0 37 (dk_at dksX0_points_0 7 rfl rfl)
theorem dX0_points_10 : decode cX0_points 10 = .ok (.i2l, 1) := dk_133 (dk_at dksX0_points_0 10 rfl rfl)
theorem dX0_points_11 : decode cX0_points 11 = .ok (.lastore, 1) := dk_80 (dk_at dksX0_points_0 11 rfl rfl)
theorem dX0_points_12 : decode cX0_points 12 = .ok (.goto 7, 3) := dk_167 0 7 (dk_at dksX0_points_0 12 rfl rfl)
theorem dX0_points_15 : decode cX0_points 15 = .ok (.astore 5, 2) := dk_58 5 (dk_at dksX0_points_0 15 rfl rfl)
theorem dX0_points_17 : decode cX0_points 17 = .ok (.iconst 1, 1) := dk_4 (dk_at dksX0_points_0 17 rfl rfl)
theorem dX0_points_18 : decode cX0_points 18 = .ok (.ireturn, 1) := dk_172 (dk_at dksX0_points_0 18 rfl rfl)
theorem dX0_points_19 : decode cX0_points 19 = .ok (.iconst 0, 1) := dk_3 (dk_at dksX0_points_0 19 rfl rfl)
theorem dX0_points_20 : decode cX0_points 20 = .ok (.ireturn, 1) := dk_172 (dk_at dksX0_points_0 20 rfl rfl)
abbrev cX0_begin : ByteArray := method_10_code
def yX0_begin : MethodName := ⟨RX0, "begin", "(LKeyringCourt;III[J)I"⟩
def dkwX0_begin_1 : List UInt8 := [172]
abbrev dktX0_begin_1 : List UInt8 := dkwX0_begin_1 ++ []
def dkwX0_begin_0 : List UInt8 := [25, 4, 3, 42, 27, 28, 29, 182, 0, 41, 133, 80, 167, 0, 11, 58, 5, 4, 172, 58, 5, 5, 172, 3]
abbrev dktX0_begin_0 : List UInt8 := dkwX0_begin_0 ++ dktX0_begin_1
theorem dksX0_begin_0 : cX0_begin.data.toList.drop 0 = dktX0_begin_0 := by decide +kernel
theorem dksX0_begin_1 : cX0_begin.data.toList.drop 24 = dktX0_begin_1 := dk_seg dksX0_begin_0 24 rfl rfl
theorem dX0_begin_0 : decode cX0_begin 0 = .ok (.aload 4, 2) := dk_25 4 (dk_at dksX0_begin_0 0 rfl rfl)
theorem dX0_begin_2 : decode cX0_begin 2 = .ok (.iconst 0, 1) := dk_3 (dk_at dksX0_begin_0 2 rfl rfl)
theorem dX0_begin_3 : decode cX0_begin 3 = .ok (.aload_n 0, 1) := dk_42 (dk_at dksX0_begin_0 3 rfl rfl)
theorem dX0_begin_4 : decode cX0_begin 4 = .ok (.iload_n 1, 1) := dk_27 (dk_at dksX0_begin_0 4 rfl rfl)
theorem dX0_begin_5 : decode cX0_begin 5 = .ok (.iload_n 2, 1) := dk_28 (dk_at dksX0_begin_0 5 rfl rfl)
theorem dX0_begin_6 : decode cX0_begin 6 = .ok (.iload_n 3, 1) := dk_29 (dk_at dksX0_begin_0 6 rfl rfl)
theorem dX0_begin_7 : decode cX0_begin 7 = .ok (.invokevirtual 41, 3) := dk_182 0 41 (dk_at dksX0_begin_0 7 rfl rfl)
theorem dX0_begin_10 : decode cX0_begin 10 = .ok (.i2l, 1) := dk_133 (dk_at dksX0_begin_0 10 rfl rfl)
theorem dX0_begin_11 : decode cX0_begin 11 = .ok (.lastore, 1) := dk_80 (dk_at dksX0_begin_0 11 rfl rfl)
theorem dX0_begin_12 : decode cX0_begin 12 = .ok (.goto 11, 3) := dk_167 0 11 (dk_at dksX0_begin_0 12 rfl rfl)
theorem dX0_begin_15 : decode cX0_begin 15 = .ok (.astore 5, 2) := dk_58 5 (dk_at dksX0_begin_0 15 rfl rfl)
theorem dX0_begin_17 : decode cX0_begin 17 = .ok (.iconst 1, 1) := dk_4 (dk_at dksX0_begin_0 17 rfl rfl)
theorem dX0_begin_18 : decode cX0_begin 18 = .ok (.ireturn, 1) := dk_172 (dk_at dksX0_begin_0 18 rfl rfl)
theorem dX0_begin_19 : decode cX0_begin 19 = .ok (.astore 5, 2) := dk_58 5 (dk_at dksX0_begin_0 19 rfl rfl)
theorem dX0_begin_21 : decode cX0_begin 21 = .ok (.iconst 2, 1) := dk_5 (dk_at dksX0_begin_0 21 rfl rfl)
theorem dX0_begin_22 : decode cX0_begin 22 = .ok (.ireturn, 1) := dk_172 (dk_at dksX0_begin_0 22 rfl rfl)
theorem dX0_begin_23 : decode cX0_begin 23 = .ok (.iconst 0, 1) := dk_3 (dk_at dksX0_begin_0 23 rfl rfl)
theorem dX0_begin_24 : decode cX0_begin 24 = .ok (.ireturn, 1) := dk_172 (dk_at dksX0_begin_1 0 rfl rfl)
abbrev cX0_answer : ByteArray := method_11_code
def yX0_answer : MethodName := ⟨RX0, "answer", "(LKeyringCourt;IZI[J)I"⟩
def dkwX0_answer_1 : List UInt8 := [58, 5, 6, 172, 3, 172]
abbrev dktX0_answer_1 : List UInt8 := dkwX0_answer_1 ++ []
def dkwX0_answer_0 : List UInt8 := [25, 4, 3, 42, 27, 28, 29, 182, 0, 45, 133, 80, 167, 0, 15, 58, 5, 4, 172, 58, 5, 5, 172]
abbrev dktX0_answer_0 : List UInt8 := dkwX0_answer_0 ++ dktX0_answer_1
theorem dksX0_answer_0 : cX0_answer.data.toList.drop 0 = dktX0_answer_0 := by decide +kernel
theorem dksX0_answer_1 : cX0_answer.data.toList.drop 23 = dktX0_answer_1 := dk_seg dksX0_answer_0 23 rfl rfl
theorem dX0_answer_0 : decode cX0_answer 0 = .ok (.aload 4, 2) := dk_25 4 (dk_at dksX0_answer_0 0 rfl rfl)
theorem dX0_answer_2 : decode cX0_answer 2 = .ok (.iconst 0, 1) := dk_3 (dk_at dksX0_answer_0 2 rfl rfl)
theorem dX0_answer_3 : decode cX0_answer 3 = .ok (.aload_n 0, 1) := dk_42 (dk_at dksX0_answer_0 3 rfl rfl)
theorem dX0_answer_4 : decode cX0_answer 4 = .ok (.iload_n 1, 1) := dk_27 (dk_at dksX0_answer_0 4 rfl rfl)
theorem dX0_answer_5 : decode cX0_answer 5 = .ok (.iload_n 2, 1) := dk_28 (dk_at dksX0_answer_0 5 rfl rfl)
theorem dX0_answer_6 : decode cX0_answer 6 = .ok (.iload_n 3, 1) := dk_29 (dk_at dksX0_answer_0 6 rfl rfl)
theorem dX0_answer_7 : decode cX0_answer 7 = .ok (.invokevirtual 45, 3) := dk_182 0 45 (dk_at dksX0_answer_0 7 rfl rfl)
theorem dX0_answer_10 : decode cX0_answer 10 = .ok (.i2l, 1) := dk_133 (dk_at dksX0_answer_0 10 rfl rfl)
theorem dX0_answer_11 : decode cX0_answer 11 = .ok (.lastore, 1) := dk_80 (dk_at dksX0_answer_0 11 rfl rfl)
theorem dX0_answer_12 : decode cX0_answer 12 = .ok (.goto 15, 3) := dk_167 0 15 (dk_at dksX0_answer_0 12 rfl rfl)
theorem dX0_answer_15 : decode cX0_answer 15 = .ok (.astore 5, 2) := dk_58 5 (dk_at dksX0_answer_0 15 rfl rfl)
theorem dX0_answer_17 : decode cX0_answer 17 = .ok (.iconst 1, 1) := dk_4 (dk_at dksX0_answer_0 17 rfl rfl)
theorem dX0_answer_18 : decode cX0_answer 18 = .ok (.ireturn, 1) := dk_172 (dk_at dksX0_answer_0 18 rfl rfl)
theorem dX0_answer_19 : decode cX0_answer 19 = .ok (.astore 5, 2) := dk_58 5 (dk_at dksX0_answer_0 19 rfl rfl)
theorem dX0_answer_21 : decode cX0_answer 21 = .ok (.iconst 2, 1) := dk_5 (dk_at dksX0_answer_0 21 rfl rfl)
theorem dX0_answer_22 : decode cX0_answer 22 = .ok (.ireturn, 1) := dk_172 (dk_at dksX0_answer_0 22 rfl rfl)
theorem dX0_answer_23 : decode cX0_answer 23 = .ok (.astore 5, 2) := dk_58 5 (dk_at dksX0_answer_1 0 rfl rfl)
theorem dX0_answer_25 : decode cX0_answer 25 = .ok (.iconst 3, 1) := dk_6 (dk_at dksX0_answer_1 2 rfl rfl)
theorem dX0_answer_26 : decode cX0_answer 26 = .ok (.ireturn, 1) := dk_172 (dk_at dksX0_answer_1 3 rfl rfl)
theorem dX0_answer_27 : decode cX0_answer 27 = .ok (.iconst 0, 1) := dk_3 (dk_at dksX0_answer_1 4 rfl rfl)
theorem dX0_answer_28 : decode cX0_answer 28 = .ok (.ireturn, 1) := dk_172 (dk_at dksX0_answer_1 5 rfl rfl)
abbrev cX0_state : ByteArray := method_12_code
def yX0_state : MethodName := ⟨RX0, "state", "(LKeyringCourt;I[J)I"⟩
def dkwX0_state_0 : List UInt8 := [44, 3, 42, 27, 182, 0, 49, 133, 80, 167, 0, 6, 78, 4, 172, 3, 172]
abbrev dktX0_state_0 : List UInt8 := dkwX0_state_0 ++ []
theorem dksX0_state_0 : cX0_state.data.toList.drop 0 = dktX0_state_0 := by decide +kernel
theorem dX0_state_0 : decode cX0_state 0 = .ok (.aload_n 2, 1) := dk_44 (dk_at dksX0_state_0 0 rfl rfl)
theorem dX0_state_1 : decode cX0_state 1 = .ok (.iconst 0, 1) := dk_3 (dk_at dksX0_state_0 1 rfl rfl)
theorem dX0_state_2 : decode cX0_state 2 = .ok (.aload_n 0, 1) := dk_42 (dk_at dksX0_state_0 2 rfl rfl)
theorem dX0_state_3 : decode cX0_state 3 = .ok (.iload_n 1, 1) := dk_27 (dk_at dksX0_state_0 3 rfl rfl)
theorem dX0_state_4 : decode cX0_state 4 = .ok (.invokevirtual 49, 3) := dk_182 0 49 (dk_at dksX0_state_0 4 rfl rfl)
theorem dX0_state_7 : decode cX0_state 7 = .ok (.i2l, 1) := dk_133 (dk_at dksX0_state_0 7 rfl rfl)
theorem dX0_state_8 : decode cX0_state 8 = .ok (.lastore, 1) := dk_80 (dk_at dksX0_state_0 8 rfl rfl)
theorem dX0_state_9 : decode cX0_state 9 = .ok (.goto 6, 3) := dk_167 0 6 (dk_at dksX0_state_0 9 rfl rfl)
theorem dX0_state_12 : decode cX0_state 12 = .ok (.astore_n 3, 1) := dk_78 (dk_at dksX0_state_0 12 rfl rfl)
theorem dX0_state_13 : decode cX0_state 13 = .ok (.iconst 1, 1) := dk_4 (dk_at dksX0_state_0 13 rfl rfl)
theorem dX0_state_14 : decode cX0_state 14 = .ok (.ireturn, 1) := dk_172 (dk_at dksX0_state_0 14 rfl rfl)
theorem dX0_state_15 : decode cX0_state 15 = .ok (.iconst 0, 1) := dk_3 (dk_at dksX0_state_0 15 rfl rfl)
theorem dX0_state_16 : decode cX0_state 16 = .ok (.ireturn, 1) := dk_172 (dk_at dksX0_state_0 16 rfl rfl)
abbrev cX0_asked : ByteArray := method_13_code
def yX0_asked : MethodName := ⟨RX0, "asked", "(LKeyringCourt;I[J)I"⟩
def dkwX0_asked_0 : List UInt8 := [44, 3, 42, 27, 182, 0, 52, 133, 80, 167, 0, 6, 78, 4, 172, 3, 172]
abbrev dktX0_asked_0 : List UInt8 := dkwX0_asked_0 ++ []
theorem dksX0_asked_0 : cX0_asked.data.toList.drop 0 = dktX0_asked_0 := by decide +kernel
theorem dX0_asked_0 : decode cX0_asked 0 = .ok (.aload_n 2, 1) := dk_44 (dk_at dksX0_asked_0 0 rfl rfl)
theorem dX0_asked_1 : decode cX0_asked 1 = .ok (.iconst 0, 1) := dk_3 (dk_at dksX0_asked_0 1 rfl rfl)
theorem dX0_asked_2 : decode cX0_asked 2 = .ok (.aload_n 0, 1) := dk_42 (dk_at dksX0_asked_0 2 rfl rfl)
theorem dX0_asked_3 : decode cX0_asked 3 = .ok (.iload_n 1, 1) := dk_27 (dk_at dksX0_asked_0 3 rfl rfl)
theorem dX0_asked_4 : decode cX0_asked 4 = .ok (.invokevirtual 52, 3) := dk_182 0 52 (dk_at dksX0_asked_0 4 rfl rfl)
theorem dX0_asked_7 : decode cX0_asked 7 = .ok (.i2l, 1) := dk_133 (dk_at dksX0_asked_0 7 rfl rfl)
theorem dX0_asked_8 : decode cX0_asked 8 = .ok (.lastore, 1) := dk_80 (dk_at dksX0_asked_0 8 rfl rfl)
theorem dX0_asked_9 : decode cX0_asked 9 = .ok (.goto 6, 3) := dk_167 0 6 (dk_at dksX0_asked_0 9 rfl rfl)
theorem dX0_asked_12 : decode cX0_asked 12 = .ok (.astore_n 3, 1) := dk_78 (dk_at dksX0_asked_0 12 rfl rfl)
theorem dX0_asked_13 : decode cX0_asked 13 = .ok (.iconst 1, 1) := dk_4 (dk_at dksX0_asked_0 13 rfl rfl)
theorem dX0_asked_14 : decode cX0_asked 14 = .ok (.ireturn, 1) := dk_172 (dk_at dksX0_asked_0 14 rfl rfl)
theorem dX0_asked_15 : decode cX0_asked 15 = .ok (.iconst 0, 1) := dk_3 (dk_at dksX0_asked_0 15 rfl rfl)
theorem dX0_asked_16 : decode cX0_asked 16 = .ok (.ireturn, 1) := dk_172 (dk_at dksX0_asked_0 16 rfl rfl)
abbrev cX0_sessionOf : ByteArray := method_14_code
def yX0_sessionOf : MethodName := ⟨RX0, "sessionOf", "(LKeyringCourt;I[J)I"⟩
def dkwX0_sessionOf_0 : List UInt8 := [44, 3, 42, 27, 182, 0, 55, 133, 80, 167, 0, 6, 78, 4, 172, 3, 172]
abbrev dktX0_sessionOf_0 : List UInt8 := dkwX0_sessionOf_0 ++ []
theorem dksX0_sessionOf_0 : cX0_sessionOf.data.toList.drop 0 = dktX0_sessionOf_0 := by decide +kernel
theorem dX0_sessionOf_0 : decode cX0_sessionOf 0 = .ok (.aload_n 2, 1) := dk_44 (dk_at dksX0_sessionOf_0 0 rfl rfl)
theorem dX0_sessionOf_1 : decode cX0_sessionOf 1 = .ok (.iconst 0, 1) := dk_3 (dk_at dksX0_sessionOf_0 1 rfl rfl)
theorem dX0_sessionOf_2 : decode cX0_sessionOf 2 = .ok (.aload_n 0, 1) := dk_42 (dk_at dksX0_sessionOf_0 2 rfl rfl)
theorem dX0_sessionOf_3 : decode cX0_sessionOf 3 = .ok (.iload_n 1, 1) := dk_27 (dk_at dksX0_sessionOf_0 3 rfl rfl)
theorem dX0_sessionOf_4 : decode cX0_sessionOf 4 = .ok (.invokevirtual 55, 3) := dk_182 0 55 (dk_at dksX0_sessionOf_0 4 rfl rfl)
theorem dX0_sessionOf_7 : decode cX0_sessionOf 7 = .ok (.i2l, 1) := dk_133 (dk_at dksX0_sessionOf_0 7 rfl rfl)
theorem dX0_sessionOf_8 : decode cX0_sessionOf 8 = .ok (.lastore, 1) := dk_80 (dk_at dksX0_sessionOf_0 8 rfl rfl)
theorem dX0_sessionOf_9 : decode cX0_sessionOf 9 = .ok (.goto 6, 3) := dk_167 0 6 (dk_at dksX0_sessionOf_0 9 rfl rfl)
theorem dX0_sessionOf_12 : decode cX0_sessionOf 12 = .ok (.astore_n 3, 1) := dk_78 (dk_at dksX0_sessionOf_0 12 rfl rfl)
theorem dX0_sessionOf_13 : decode cX0_sessionOf 13 = .ok (.iconst 1, 1) := dk_4 (dk_at dksX0_sessionOf_0 13 rfl rfl)
theorem dX0_sessionOf_14 : decode cX0_sessionOf 14 = .ok (.ireturn, 1) := dk_172 (dk_at dksX0_sessionOf_0 14 rfl rfl)
theorem dX0_sessionOf_15 : decode cX0_sessionOf 15 = .ok (.iconst 0, 1) := dk_3 (dk_at dksX0_sessionOf_0 15 rfl rfl)
theorem dX0_sessionOf_16 : decode cX0_sessionOf 16 = .ok (.ireturn, 1) := dk_172 (dk_at dksX0_sessionOf_0 16 rfl rfl)
abbrev cX0_risk : ByteArray := method_15_code
def yX0_risk : MethodName := ⟨RX0, "risk", "(LKeyringCourt;I[J)I"⟩
def dkwX0_risk_0 : List UInt8 := [44, 3, 42, 27, 182, 0, 58, 133, 80, 167, 0, 6, 78, 4, 172, 3, 172]
abbrev dktX0_risk_0 : List UInt8 := dkwX0_risk_0 ++ []
theorem dksX0_risk_0 : cX0_risk.data.toList.drop 0 = dktX0_risk_0 := by decide +kernel
theorem dX0_risk_0 : decode cX0_risk 0 = .ok (.aload_n 2, 1) := dk_44 (dk_at dksX0_risk_0 0 rfl rfl)
theorem dX0_risk_1 : decode cX0_risk 1 = .ok (.iconst 0, 1) := dk_3 (dk_at dksX0_risk_0 1 rfl rfl)
theorem dX0_risk_2 : decode cX0_risk 2 = .ok (.aload_n 0, 1) := dk_42 (dk_at dksX0_risk_0 2 rfl rfl)
theorem dX0_risk_3 : decode cX0_risk 3 = .ok (.iload_n 1, 1) := dk_27 (dk_at dksX0_risk_0 3 rfl rfl)
theorem dX0_risk_4 : decode cX0_risk 4 = .ok (.invokevirtual 58, 3) := dk_182 0 58 (dk_at dksX0_risk_0 4 rfl rfl)
theorem dX0_risk_7 : decode cX0_risk 7 = .ok (.i2l, 1) := dk_133 (dk_at dksX0_risk_0 7 rfl rfl)
theorem dX0_risk_8 : decode cX0_risk 8 = .ok (.lastore, 1) := dk_80 (dk_at dksX0_risk_0 8 rfl rfl)
theorem dX0_risk_9 : decode cX0_risk 9 = .ok (.goto 6, 3) := dk_167 0 6 (dk_at dksX0_risk_0 9 rfl rfl)
theorem dX0_risk_12 : decode cX0_risk 12 = .ok (.astore_n 3, 1) := dk_78 (dk_at dksX0_risk_0 12 rfl rfl)
theorem dX0_risk_13 : decode cX0_risk 13 = .ok (.iconst 1, 1) := dk_4 (dk_at dksX0_risk_0 13 rfl rfl)
theorem dX0_risk_14 : decode cX0_risk 14 = .ok (.ireturn, 1) := dk_172 (dk_at dksX0_risk_0 14 rfl rfl)
theorem dX0_risk_15 : decode cX0_risk 15 = .ok (.iconst 0, 1) := dk_3 (dk_at dksX0_risk_0 15 rfl rfl)
theorem dX0_risk_16 : decode cX0_risk 16 = .ok (.ireturn, 1) := dk_172 (dk_at dksX0_risk_0 16 rfl rfl)
abbrev cX0_trialRisk : ByteArray := method_16_code
def yX0_trialRisk : MethodName := ⟨RX0, "trialRisk", "(LKeyringCourt;I[J)I"⟩
def dkwX0_trialRisk_0 : List UInt8 := [44, 3, 42, 27, 182, 0, 61, 133, 80, 167, 0, 6, 78, 4, 172, 3, 172]
abbrev dktX0_trialRisk_0 : List UInt8 := dkwX0_trialRisk_0 ++ []
theorem dksX0_trialRisk_0 : cX0_trialRisk.data.toList.drop 0 = dktX0_trialRisk_0 := by decide +kernel
theorem dX0_trialRisk_0 : decode cX0_trialRisk 0 = .ok (.aload_n 2, 1) := dk_44 (dk_at dksX0_trialRisk_0 0 rfl rfl)
theorem dX0_trialRisk_1 : decode cX0_trialRisk 1 = .ok (.iconst 0, 1) := dk_3 (dk_at dksX0_trialRisk_0 1 rfl rfl)
theorem dX0_trialRisk_2 : decode cX0_trialRisk 2 = .ok (.aload_n 0, 1) := dk_42 (dk_at dksX0_trialRisk_0 2 rfl rfl)
theorem dX0_trialRisk_3 : decode cX0_trialRisk 3 = .ok (.iload_n 1, 1) := dk_27 (dk_at dksX0_trialRisk_0 3 rfl rfl)
theorem dX0_trialRisk_4 : decode cX0_trialRisk 4 = .ok (.invokevirtual 61, 3) := dk_182 0 61 (dk_at dksX0_trialRisk_0 4 rfl rfl)
theorem dX0_trialRisk_7 : decode cX0_trialRisk 7 = .ok (.i2l, 1) := dk_133 (dk_at dksX0_trialRisk_0 7 rfl rfl)
theorem dX0_trialRisk_8 : decode cX0_trialRisk 8 = .ok (.lastore, 1) := dk_80 (dk_at dksX0_trialRisk_0 8 rfl rfl)
theorem dX0_trialRisk_9 : decode cX0_trialRisk 9 = .ok (.goto 6, 3) := dk_167 0 6 (dk_at dksX0_trialRisk_0 9 rfl rfl)
theorem dX0_trialRisk_12 : decode cX0_trialRisk 12 = .ok (.astore_n 3, 1) := dk_78 (dk_at dksX0_trialRisk_0 12 rfl rfl)
theorem dX0_trialRisk_13 : decode cX0_trialRisk 13 = .ok (.iconst 1, 1) := dk_4 (dk_at dksX0_trialRisk_0 13 rfl rfl)
theorem dX0_trialRisk_14 : decode cX0_trialRisk 14 = .ok (.ireturn, 1) := dk_172 (dk_at dksX0_trialRisk_0 14 rfl rfl)
theorem dX0_trialRisk_15 : decode cX0_trialRisk 15 = .ok (.iconst 0, 1) := dk_3 (dk_at dksX0_trialRisk_0 15 rfl rfl)
theorem dX0_trialRisk_16 : decode cX0_trialRisk 16 = .ok (.ireturn, 1) := dk_172 (dk_at dksX0_trialRisk_0 16 rfl rfl)
abbrev cX0_isLive : ByteArray := method_17_code
def yX0_isLive : MethodName := ⟨RX0, "isLive", "(LKeyringCourt;I[J)I"⟩
def dkwX0_isLive_0 : List UInt8 := [44, 3, 42, 27, 182, 0, 64, 153, 0, 7, 10, 167, 0, 4, 9, 80, 167, 0, 6, 78, 4, 172, 3, 172]
abbrev dktX0_isLive_0 : List UInt8 := dkwX0_isLive_0 ++ []
theorem dksX0_isLive_0 : cX0_isLive.data.toList.drop 0 = dktX0_isLive_0 := by decide +kernel
theorem dX0_isLive_0 : decode cX0_isLive 0 = .ok (.aload_n 2, 1) := dk_44 (dk_at dksX0_isLive_0 0 rfl rfl)
theorem dX0_isLive_1 : decode cX0_isLive 1 = .ok (.iconst 0, 1) := dk_3 (dk_at dksX0_isLive_0 1 rfl rfl)
theorem dX0_isLive_2 : decode cX0_isLive 2 = .ok (.aload_n 0, 1) := dk_42 (dk_at dksX0_isLive_0 2 rfl rfl)
theorem dX0_isLive_3 : decode cX0_isLive 3 = .ok (.iload_n 1, 1) := dk_27 (dk_at dksX0_isLive_0 3 rfl rfl)
theorem dX0_isLive_4 : decode cX0_isLive 4 = .ok (.invokevirtual 64, 3) := dk_182 0 64 (dk_at dksX0_isLive_0 4 rfl rfl)
theorem dX0_isLive_7 : decode cX0_isLive 7 = .ok (.ifCond .eq 7, 3) := dk_153 0 7 (dk_at dksX0_isLive_0 7 rfl rfl)
theorem dX0_isLive_10 : decode cX0_isLive 10 = .ok (.lconst 1, 1) := dk_10 (dk_at dksX0_isLive_0 10 rfl rfl)
theorem dX0_isLive_11 : decode cX0_isLive 11 = .ok (.goto 4, 3) := dk_167 0 4 (dk_at dksX0_isLive_0 11 rfl rfl)
theorem dX0_isLive_14 : decode cX0_isLive 14 = .ok (.lconst 0, 1) := dk_9 (dk_at dksX0_isLive_0 14 rfl rfl)
theorem dX0_isLive_15 : decode cX0_isLive 15 = .ok (.lastore, 1) := dk_80 (dk_at dksX0_isLive_0 15 rfl rfl)
theorem dX0_isLive_16 : decode cX0_isLive 16 = .ok (.goto 6, 3) := dk_167 0 6 (dk_at dksX0_isLive_0 16 rfl rfl)
theorem dX0_isLive_19 : decode cX0_isLive 19 = .ok (.astore_n 3, 1) := dk_78 (dk_at dksX0_isLive_0 19 rfl rfl)
theorem dX0_isLive_20 : decode cX0_isLive 20 = .ok (.iconst 1, 1) := dk_4 (dk_at dksX0_isLive_0 20 rfl rfl)
theorem dX0_isLive_21 : decode cX0_isLive 21 = .ok (.ireturn, 1) := dk_172 (dk_at dksX0_isLive_0 21 rfl rfl)
theorem dX0_isLive_22 : decode cX0_isLive 22 = .ok (.iconst 0, 1) := dk_3 (dk_at dksX0_isLive_0 22 rfl rfl)
theorem dX0_isLive_23 : decode cX0_isLive 23 = .ok (.ireturn, 1) := dk_172 (dk_at dksX0_isLive_0 23 rfl rfl)
abbrev cX0_isLiveByAudit : ByteArray := method_18_code
def yX0_isLiveByAudit : MethodName := ⟨RX0, "isLiveByAudit", "(LKeyringCourt;I[J)I"⟩
def dkwX0_isLiveByAudit_0 : List UInt8 := [44, 3, 42, 27, 182, 0, 68, 153, 0, 7, 10, 167, 0, 4, 9, 80, 167, 0, 6, 78, 4, 172, 3, 172]
abbrev dktX0_isLiveByAudit_0 : List UInt8 := dkwX0_isLiveByAudit_0 ++ []
theorem dksX0_isLiveByAudit_0 : cX0_isLiveByAudit.data.toList.drop 0 = dktX0_isLiveByAudit_0 := by decide +kernel
theorem dX0_isLiveByAudit_0 : decode cX0_isLiveByAudit 0 = .ok (.aload_n 2, 1) := dk_44 (dk_at dksX0_isLiveByAudit_0 0 rfl rfl)
theorem dX0_isLiveByAudit_1 : decode cX0_isLiveByAudit 1 = .ok (.iconst 0, 1) := dk_3 (dk_at dksX0_isLiveByAudit_0 1 rfl rfl)
theorem dX0_isLiveByAudit_2 : decode cX0_isLiveByAudit 2 = .ok (.aload_n 0, 1) := dk_42 (dk_at dksX0_isLiveByAudit_0 2 rfl rfl)
theorem dX0_isLiveByAudit_3 : decode cX0_isLiveByAudit 3 = .ok (.iload_n 1, 1) := dk_27 (dk_at dksX0_isLiveByAudit_0 3 rfl rfl)
theorem dX0_isLiveByAudit_4 : decode cX0_isLiveByAudit 4 = .ok (.invokevirtual 68, 3) := dk_182 0 68 (dk_at dksX0_isLiveByAudit_0 4 rfl rfl)
theorem dX0_isLiveByAudit_7 : decode cX0_isLiveByAudit 7 = .ok (.ifCond .eq 7, 3) := dk_153 0 7 (dk_at dksX0_isLiveByAudit_0 7 rfl rfl)
theorem dX0_isLiveByAudit_10 : decode cX0_isLiveByAudit 10 = .ok (.lconst 1, 1) := dk_10 (dk_at dksX0_isLiveByAudit_0 10 rfl rfl)
theorem dX0_isLiveByAudit_11 : decode cX0_isLiveByAudit 11 = .ok (.goto 4, 3) := dk_167 0 4 (dk_at dksX0_isLiveByAudit_0 11 rfl rfl)
theorem dX0_isLiveByAudit_14 : decode cX0_isLiveByAudit 14 = .ok (.lconst 0, 1) := dk_9 (dk_at dksX0_isLiveByAudit_0 14 rfl rfl)
theorem dX0_isLiveByAudit_15 : decode cX0_isLiveByAudit 15 = .ok (.lastore, 1) := dk_80 (dk_at dksX0_isLiveByAudit_0 15 rfl rfl)
theorem dX0_isLiveByAudit_16 : decode cX0_isLiveByAudit 16 = .ok (.goto 6, 3) := dk_167 0 6 (dk_at dksX0_isLiveByAudit_0 16 rfl rfl)
theorem dX0_isLiveByAudit_19 : decode cX0_isLiveByAudit 19 = .ok (.astore_n 3, 1) := dk_78 (dk_at dksX0_isLiveByAudit_0 19 rfl rfl)
theorem dX0_isLiveByAudit_20 : decode cX0_isLiveByAudit 20 = .ok (.iconst 1, 1) := dk_4 (dk_at dksX0_isLiveByAudit_0 20 rfl rfl)
theorem dX0_isLiveByAudit_21 : decode cX0_isLiveByAudit 21 = .ok (.ireturn, 1) := dk_172 (dk_at dksX0_isLiveByAudit_0 21 rfl rfl)
theorem dX0_isLiveByAudit_22 : decode cX0_isLiveByAudit 22 = .ok (.iconst 0, 1) := dk_3 (dk_at dksX0_isLiveByAudit_0 22 rfl rfl)
theorem dX0_isLiveByAudit_23 : decode cX0_isLiveByAudit 23 = .ok (.ireturn, 1) := dk_172 (dk_at dksX0_isLiveByAudit_0 23 rfl rfl)
abbrev cX0_level : ByteArray := method_19_code
def yX0_level : MethodName := ⟨RX0, "level", "(LKeyringCourt;I[J)I"⟩
def dkwX0_level_0 : List UInt8 := [44, 3, 42, 27, 182, 0, 71, 133, 80, 167, 0, 6, 78, 4, 172, 3, 172]
abbrev dktX0_level_0 : List UInt8 := dkwX0_level_0 ++ []
theorem dksX0_level_0 : cX0_level.data.toList.drop 0 = dktX0_level_0 := by decide +kernel
theorem dX0_level_0 : decode cX0_level 0 = .ok (.aload_n 2, 1) := dk_44 (dk_at dksX0_level_0 0 rfl rfl)
theorem dX0_level_1 : decode cX0_level 1 = .ok (.iconst 0, 1) := dk_3 (dk_at dksX0_level_0 1 rfl rfl)
theorem dX0_level_2 : decode cX0_level 2 = .ok (.aload_n 0, 1) := dk_42 (dk_at dksX0_level_0 2 rfl rfl)
theorem dX0_level_3 : decode cX0_level 3 = .ok (.iload_n 1, 1) := dk_27 (dk_at dksX0_level_0 3 rfl rfl)
theorem dX0_level_4 : decode cX0_level 4 = .ok (.invokevirtual 71, 3) := dk_182 0 71 (dk_at dksX0_level_0 4 rfl rfl)
theorem dX0_level_7 : decode cX0_level 7 = .ok (.i2l, 1) := dk_133 (dk_at dksX0_level_0 7 rfl rfl)
theorem dX0_level_8 : decode cX0_level 8 = .ok (.lastore, 1) := dk_80 (dk_at dksX0_level_0 8 rfl rfl)
theorem dX0_level_9 : decode cX0_level 9 = .ok (.goto 6, 3) := dk_167 0 6 (dk_at dksX0_level_0 9 rfl rfl)
theorem dX0_level_12 : decode cX0_level 12 = .ok (.astore_n 3, 1) := dk_78 (dk_at dksX0_level_0 12 rfl rfl)
theorem dX0_level_13 : decode cX0_level 13 = .ok (.iconst 1, 1) := dk_4 (dk_at dksX0_level_0 13 rfl rfl)
theorem dX0_level_14 : decode cX0_level 14 = .ok (.ireturn, 1) := dk_172 (dk_at dksX0_level_0 14 rfl rfl)
theorem dX0_level_15 : decode cX0_level 15 = .ok (.iconst 0, 1) := dk_3 (dk_at dksX0_level_0 15 rfl rfl)
theorem dX0_level_16 : decode cX0_level 16 = .ok (.ireturn, 1) := dk_172 (dk_at dksX0_level_0 16 rfl rfl)
abbrev cX0_stepUp : ByteArray := method_20_code
def yX0_stepUp : MethodName := ⟨RX0, "stepUp", "(LKeyringCourt;IIZI[J)I"⟩
def dkwX0_stepUp_1 : List UInt8 := [172, 58, 6, 6, 172, 3, 172]
abbrev dktX0_stepUp_1 : List UInt8 := dkwX0_stepUp_1 ++ []
def dkwX0_stepUp_0 : List UInt8 := [25, 5, 3, 42, 27, 28, 29, 21, 4, 182, 0, 74, 133, 80, 167, 0, 15, 58, 6, 4, 172, 58, 6, 5]
abbrev dktX0_stepUp_0 : List UInt8 := dkwX0_stepUp_0 ++ dktX0_stepUp_1
theorem dksX0_stepUp_0 : cX0_stepUp.data.toList.drop 0 = dktX0_stepUp_0 := by decide +kernel
theorem dksX0_stepUp_1 : cX0_stepUp.data.toList.drop 24 = dktX0_stepUp_1 := dk_seg dksX0_stepUp_0 24 rfl rfl
theorem dX0_stepUp_0 : decode cX0_stepUp 0 = .ok (.aload 5, 2) := dk_25 5 (dk_at dksX0_stepUp_0 0 rfl rfl)
theorem dX0_stepUp_2 : decode cX0_stepUp 2 = .ok (.iconst 0, 1) := dk_3 (dk_at dksX0_stepUp_0 2 rfl rfl)
theorem dX0_stepUp_3 : decode cX0_stepUp 3 = .ok (.aload_n 0, 1) := dk_42 (dk_at dksX0_stepUp_0 3 rfl rfl)
theorem dX0_stepUp_4 : decode cX0_stepUp 4 = .ok (.iload_n 1, 1) := dk_27 (dk_at dksX0_stepUp_0 4 rfl rfl)
theorem dX0_stepUp_5 : decode cX0_stepUp 5 = .ok (.iload_n 2, 1) := dk_28 (dk_at dksX0_stepUp_0 5 rfl rfl)
theorem dX0_stepUp_6 : decode cX0_stepUp 6 = .ok (.iload_n 3, 1) := dk_29 (dk_at dksX0_stepUp_0 6 rfl rfl)
theorem dX0_stepUp_7 : decode cX0_stepUp 7 = .ok (.iload 4, 2) := dk_21 4 (dk_at dksX0_stepUp_0 7 rfl rfl)
theorem dX0_stepUp_9 : decode cX0_stepUp 9 = .ok (.invokevirtual 74, 3) := dk_182 0 74 (dk_at dksX0_stepUp_0 9 rfl rfl)
theorem dX0_stepUp_12 : decode cX0_stepUp 12 = .ok (.i2l, 1) := dk_133 (dk_at dksX0_stepUp_0 12 rfl rfl)
theorem dX0_stepUp_13 : decode cX0_stepUp 13 = .ok (.lastore, 1) := dk_80 (dk_at dksX0_stepUp_0 13 rfl rfl)
theorem dX0_stepUp_14 : decode cX0_stepUp 14 = .ok (.goto 15, 3) := dk_167 0 15 (dk_at dksX0_stepUp_0 14 rfl rfl)
theorem dX0_stepUp_17 : decode cX0_stepUp 17 = .ok (.astore 6, 2) := dk_58 6 (dk_at dksX0_stepUp_0 17 rfl rfl)
theorem dX0_stepUp_19 : decode cX0_stepUp 19 = .ok (.iconst 1, 1) := dk_4 (dk_at dksX0_stepUp_0 19 rfl rfl)
theorem dX0_stepUp_20 : decode cX0_stepUp 20 = .ok (.ireturn, 1) := dk_172 (dk_at dksX0_stepUp_0 20 rfl rfl)
theorem dX0_stepUp_21 : decode cX0_stepUp 21 = .ok (.astore 6, 2) := dk_58 6 (dk_at dksX0_stepUp_0 21 rfl rfl)
theorem dX0_stepUp_23 : decode cX0_stepUp 23 = .ok (.iconst 2, 1) := dk_5 (dk_at dksX0_stepUp_0 23 rfl rfl)
theorem dX0_stepUp_24 : decode cX0_stepUp 24 = .ok (.ireturn, 1) := dk_172 (dk_at dksX0_stepUp_1 0 rfl rfl)
theorem dX0_stepUp_25 : decode cX0_stepUp 25 = .ok (.astore 6, 2) := dk_58 6 (dk_at dksX0_stepUp_1 1 rfl rfl)
theorem dX0_stepUp_27 : decode cX0_stepUp 27 = .ok (.iconst 3, 1) := dk_6 (dk_at dksX0_stepUp_1 3 rfl rfl)
theorem dX0_stepUp_28 : decode cX0_stepUp 28 = .ok (.ireturn, 1) := dk_172 (dk_at dksX0_stepUp_1 4 rfl rfl)
theorem dX0_stepUp_29 : decode cX0_stepUp 29 = .ok (.iconst 0, 1) := dk_3 (dk_at dksX0_stepUp_1 5 rfl rfl)
theorem dX0_stepUp_30 : decode cX0_stepUp 30 = .ok (.ireturn, 1) := dk_172 (dk_at dksX0_stepUp_1 6 rfl rfl)
abbrev cX0_signOut : ByteArray := method_21_code
def yX0_signOut : MethodName := ⟨RX0, "signOut", "(LKeyringCourt;I[J)I"⟩
def dkwX0_signOut_0 : List UInt8 := [44, 3, 42, 27, 182, 0, 78, 133, 80, 167, 0, 9, 78, 4, 172, 78, 5, 172, 3, 172]
abbrev dktX0_signOut_0 : List UInt8 := dkwX0_signOut_0 ++ []
theorem dksX0_signOut_0 : cX0_signOut.data.toList.drop 0 = dktX0_signOut_0 := by decide +kernel
theorem dX0_signOut_0 : decode cX0_signOut 0 = .ok (.aload_n 2, 1) := dk_44 (dk_at dksX0_signOut_0 0 rfl rfl)
theorem dX0_signOut_1 : decode cX0_signOut 1 = .ok (.iconst 0, 1) := dk_3 (dk_at dksX0_signOut_0 1 rfl rfl)
theorem dX0_signOut_2 : decode cX0_signOut 2 = .ok (.aload_n 0, 1) := dk_42 (dk_at dksX0_signOut_0 2 rfl rfl)
theorem dX0_signOut_3 : decode cX0_signOut 3 = .ok (.iload_n 1, 1) := dk_27 (dk_at dksX0_signOut_0 3 rfl rfl)
theorem dX0_signOut_4 : decode cX0_signOut 4 = .ok (.invokevirtual 78, 3) := dk_182 0 78 (dk_at dksX0_signOut_0 4 rfl rfl)
theorem dX0_signOut_7 : decode cX0_signOut 7 = .ok (.i2l, 1) := dk_133 (dk_at dksX0_signOut_0 7 rfl rfl)
theorem dX0_signOut_8 : decode cX0_signOut 8 = .ok (.lastore, 1) := dk_80 (dk_at dksX0_signOut_0 8 rfl rfl)
theorem dX0_signOut_9 : decode cX0_signOut 9 = .ok (.goto 9, 3) := dk_167 0 9 (dk_at dksX0_signOut_0 9 rfl rfl)
theorem dX0_signOut_12 : decode cX0_signOut 12 = .ok (.astore_n 3, 1) := dk_78 (dk_at dksX0_signOut_0 12 rfl rfl)
theorem dX0_signOut_13 : decode cX0_signOut 13 = .ok (.iconst 1, 1) := dk_4 (dk_at dksX0_signOut_0 13 rfl rfl)
theorem dX0_signOut_14 : decode cX0_signOut 14 = .ok (.ireturn, 1) := dk_172 (dk_at dksX0_signOut_0 14 rfl rfl)
theorem dX0_signOut_15 : decode cX0_signOut 15 = .ok (.astore_n 3, 1) := dk_78 (dk_at dksX0_signOut_0 15 rfl rfl)
theorem dX0_signOut_16 : decode cX0_signOut 16 = .ok (.iconst 2, 1) := dk_5 (dk_at dksX0_signOut_0 16 rfl rfl)
theorem dX0_signOut_17 : decode cX0_signOut 17 = .ok (.ireturn, 1) := dk_172 (dk_at dksX0_signOut_0 17 rfl rfl)
theorem dX0_signOut_18 : decode cX0_signOut 18 = .ok (.iconst 0, 1) := dk_3 (dk_at dksX0_signOut_0 18 rfl rfl)
theorem dX0_signOut_19 : decode cX0_signOut 19 = .ok (.ireturn, 1) := dk_172 (dk_at dksX0_signOut_0 19 rfl rfl)
abbrev cX0_helper : ByteArray := method_22_code
def yX0_helper : MethodName := ⟨RX0, "helper", "(LKeyringCourt;I[J)I"⟩
def dkwX0_helper_0 : List UInt8 := [44, 3, 42, 27, 182, 0, 81, 153, 0, 7, 10, 167, 0, 4, 9, 80, 167, 0, 6, 78, 4, 172, 3, 172]
abbrev dktX0_helper_0 : List UInt8 := dkwX0_helper_0 ++ []
theorem dksX0_helper_0 : cX0_helper.data.toList.drop 0 = dktX0_helper_0 := by decide +kernel
theorem dX0_helper_0 : decode cX0_helper 0 = .ok (.aload_n 2, 1) := dk_44 (dk_at dksX0_helper_0 0 rfl rfl)
theorem dX0_helper_1 : decode cX0_helper 1 = .ok (.iconst 0, 1) := dk_3 (dk_at dksX0_helper_0 1 rfl rfl)
theorem dX0_helper_2 : decode cX0_helper 2 = .ok (.aload_n 0, 1) := dk_42 (dk_at dksX0_helper_0 2 rfl rfl)
theorem dX0_helper_3 : decode cX0_helper 3 = .ok (.iload_n 1, 1) := dk_27 (dk_at dksX0_helper_0 3 rfl rfl)
theorem dX0_helper_4 : decode cX0_helper 4 = .ok (.invokevirtual 81, 3) := dk_182 0 81 (dk_at dksX0_helper_0 4 rfl rfl)
theorem dX0_helper_7 : decode cX0_helper 7 = .ok (.ifCond .eq 7, 3) := dk_153 0 7 (dk_at dksX0_helper_0 7 rfl rfl)
theorem dX0_helper_10 : decode cX0_helper 10 = .ok (.lconst 1, 1) := dk_10 (dk_at dksX0_helper_0 10 rfl rfl)
theorem dX0_helper_11 : decode cX0_helper 11 = .ok (.goto 4, 3) := dk_167 0 4 (dk_at dksX0_helper_0 11 rfl rfl)
theorem dX0_helper_14 : decode cX0_helper 14 = .ok (.lconst 0, 1) := dk_9 (dk_at dksX0_helper_0 14 rfl rfl)
theorem dX0_helper_15 : decode cX0_helper 15 = .ok (.lastore, 1) := dk_80 (dk_at dksX0_helper_0 15 rfl rfl)
theorem dX0_helper_16 : decode cX0_helper 16 = .ok (.goto 6, 3) := dk_167 0 6 (dk_at dksX0_helper_0 16 rfl rfl)
theorem dX0_helper_19 : decode cX0_helper 19 = .ok (.astore_n 3, 1) := dk_78 (dk_at dksX0_helper_0 19 rfl rfl)
theorem dX0_helper_20 : decode cX0_helper 20 = .ok (.iconst 1, 1) := dk_4 (dk_at dksX0_helper_0 20 rfl rfl)
theorem dX0_helper_21 : decode cX0_helper 21 = .ok (.ireturn, 1) := dk_172 (dk_at dksX0_helper_0 21 rfl rfl)
theorem dX0_helper_22 : decode cX0_helper 22 = .ok (.iconst 0, 1) := dk_3 (dk_at dksX0_helper_0 22 rfl rfl)
theorem dX0_helper_23 : decode cX0_helper 23 = .ok (.ireturn, 1) := dk_172 (dk_at dksX0_helper_0 23 rfl rfl)
abbrev cX0_act : ByteArray := method_23_code
def yX0_act : MethodName := ⟨RX0, "act", "(LKeyringCourt;II[J)I"⟩
def dkwX0_act_0 : List UInt8 := [45, 3, 42, 27, 28, 182, 0, 84, 133, 80, 167, 0, 11, 58, 4, 4, 172, 58, 4, 5, 172, 3, 172]
abbrev dktX0_act_0 : List UInt8 := dkwX0_act_0 ++ []
theorem dksX0_act_0 : cX0_act.data.toList.drop 0 = dktX0_act_0 := by decide +kernel
theorem dX0_act_0 : decode cX0_act 0 = .ok (.aload_n 3, 1) := dk_45 (dk_at dksX0_act_0 0 rfl rfl)
theorem dX0_act_1 : decode cX0_act 1 = .ok (.iconst 0, 1) := dk_3 (dk_at dksX0_act_0 1 rfl rfl)
theorem dX0_act_2 : decode cX0_act 2 = .ok (.aload_n 0, 1) := dk_42 (dk_at dksX0_act_0 2 rfl rfl)
theorem dX0_act_3 : decode cX0_act 3 = .ok (.iload_n 1, 1) := dk_27 (dk_at dksX0_act_0 3 rfl rfl)
theorem dX0_act_4 : decode cX0_act 4 = .ok (.iload_n 2, 1) := dk_28 (dk_at dksX0_act_0 4 rfl rfl)
theorem dX0_act_5 : decode cX0_act 5 = .ok (.invokevirtual 84, 3) := dk_182 0 84 (dk_at dksX0_act_0 5 rfl rfl)
theorem dX0_act_8 : decode cX0_act 8 = .ok (.i2l, 1) := dk_133 (dk_at dksX0_act_0 8 rfl rfl)
theorem dX0_act_9 : decode cX0_act 9 = .ok (.lastore, 1) := dk_80 (dk_at dksX0_act_0 9 rfl rfl)
theorem dX0_act_10 : decode cX0_act 10 = .ok (.goto 11, 3) := dk_167 0 11 (dk_at dksX0_act_0 10 rfl rfl)
theorem dX0_act_13 : decode cX0_act 13 = .ok (.astore 4, 2) := dk_58 4 (dk_at dksX0_act_0 13 rfl rfl)
theorem dX0_act_15 : decode cX0_act 15 = .ok (.iconst 1, 1) := dk_4 (dk_at dksX0_act_0 15 rfl rfl)
theorem dX0_act_16 : decode cX0_act 16 = .ok (.ireturn, 1) := dk_172 (dk_at dksX0_act_0 16 rfl rfl)
theorem dX0_act_17 : decode cX0_act 17 = .ok (.astore 4, 2) := dk_58 4 (dk_at dksX0_act_0 17 rfl rfl)
theorem dX0_act_19 : decode cX0_act 19 = .ok (.iconst 2, 1) := dk_5 (dk_at dksX0_act_0 19 rfl rfl)
theorem dX0_act_20 : decode cX0_act 20 = .ok (.ireturn, 1) := dk_172 (dk_at dksX0_act_0 20 rfl rfl)
theorem dX0_act_21 : decode cX0_act 21 = .ok (.iconst 0, 1) := dk_3 (dk_at dksX0_act_0 21 rfl rfl)
theorem dX0_act_22 : decode cX0_act 22 = .ok (.ireturn, 1) := dk_172 (dk_at dksX0_act_0 22 rfl rfl)
abbrev cX0_consent : ByteArray := method_24_code
def yX0_consent : MethodName := ⟨RX0, "consent", "(LKeyringCourt;III[J)I"⟩
def dkwX0_consent_1 : List UInt8 := [172]
abbrev dktX0_consent_1 : List UInt8 := dkwX0_consent_1 ++ []
def dkwX0_consent_0 : List UInt8 := [25, 4, 3, 42, 27, 28, 29, 182, 0, 87, 133, 80, 167, 0, 11, 58, 5, 4, 172, 58, 5, 5, 172, 3]
abbrev dktX0_consent_0 : List UInt8 := dkwX0_consent_0 ++ dktX0_consent_1
theorem dksX0_consent_0 : cX0_consent.data.toList.drop 0 = dktX0_consent_0 := by decide +kernel
theorem dksX0_consent_1 : cX0_consent.data.toList.drop 24 = dktX0_consent_1 := dk_seg dksX0_consent_0 24 rfl rfl
theorem dX0_consent_0 : decode cX0_consent 0 = .ok (.aload 4, 2) := dk_25 4 (dk_at dksX0_consent_0 0 rfl rfl)
theorem dX0_consent_2 : decode cX0_consent 2 = .ok (.iconst 0, 1) := dk_3 (dk_at dksX0_consent_0 2 rfl rfl)
theorem dX0_consent_3 : decode cX0_consent 3 = .ok (.aload_n 0, 1) := dk_42 (dk_at dksX0_consent_0 3 rfl rfl)
theorem dX0_consent_4 : decode cX0_consent 4 = .ok (.iload_n 1, 1) := dk_27 (dk_at dksX0_consent_0 4 rfl rfl)
theorem dX0_consent_5 : decode cX0_consent 5 = .ok (.iload_n 2, 1) := dk_28 (dk_at dksX0_consent_0 5 rfl rfl)
theorem dX0_consent_6 : decode cX0_consent 6 = .ok (.iload_n 3, 1) := dk_29 (dk_at dksX0_consent_0 6 rfl rfl)
theorem dX0_consent_7 : decode cX0_consent 7 = .ok (.invokevirtual 87, 3) := dk_182 0 87 (dk_at dksX0_consent_0 7 rfl rfl)
theorem dX0_consent_10 : decode cX0_consent 10 = .ok (.i2l, 1) := dk_133 (dk_at dksX0_consent_0 10 rfl rfl)
theorem dX0_consent_11 : decode cX0_consent 11 = .ok (.lastore, 1) := dk_80 (dk_at dksX0_consent_0 11 rfl rfl)
theorem dX0_consent_12 : decode cX0_consent 12 = .ok (.goto 11, 3) := dk_167 0 11 (dk_at dksX0_consent_0 12 rfl rfl)
theorem dX0_consent_15 : decode cX0_consent 15 = .ok (.astore 5, 2) := dk_58 5 (dk_at dksX0_consent_0 15 rfl rfl)
theorem dX0_consent_17 : decode cX0_consent 17 = .ok (.iconst 1, 1) := dk_4 (dk_at dksX0_consent_0 17 rfl rfl)
theorem dX0_consent_18 : decode cX0_consent 18 = .ok (.ireturn, 1) := dk_172 (dk_at dksX0_consent_0 18 rfl rfl)
theorem dX0_consent_19 : decode cX0_consent 19 = .ok (.astore 5, 2) := dk_58 5 (dk_at dksX0_consent_0 19 rfl rfl)
theorem dX0_consent_21 : decode cX0_consent 21 = .ok (.iconst 2, 1) := dk_5 (dk_at dksX0_consent_0 21 rfl rfl)
theorem dX0_consent_22 : decode cX0_consent 22 = .ok (.ireturn, 1) := dk_172 (dk_at dksX0_consent_0 22 rfl rfl)
theorem dX0_consent_23 : decode cX0_consent 23 = .ok (.iconst 0, 1) := dk_3 (dk_at dksX0_consent_0 23 rfl rfl)
theorem dX0_consent_24 : decode cX0_consent 24 = .ok (.ireturn, 1) := dk_172 (dk_at dksX0_consent_1 0 rfl rfl)
abbrev cX0_withdraw : ByteArray := method_25_code
def yX0_withdraw : MethodName := ⟨RX0, "withdraw", "(LKeyringCourt;II[J)I"⟩
def dkwX0_withdraw_0 : List UInt8 := [45, 3, 42, 27, 28, 182, 0, 90, 133, 80, 167, 0, 7, 58, 4, 4, 172, 3, 172]
abbrev dktX0_withdraw_0 : List UInt8 := dkwX0_withdraw_0 ++ []
theorem dksX0_withdraw_0 : cX0_withdraw.data.toList.drop 0 = dktX0_withdraw_0 := by decide +kernel
theorem dX0_withdraw_0 : decode cX0_withdraw 0 = .ok (.aload_n 3, 1) := dk_45 (dk_at dksX0_withdraw_0 0 rfl rfl)
theorem dX0_withdraw_1 : decode cX0_withdraw 1 = .ok (.iconst 0, 1) := dk_3 (dk_at dksX0_withdraw_0 1 rfl rfl)
theorem dX0_withdraw_2 : decode cX0_withdraw 2 = .ok (.aload_n 0, 1) := dk_42 (dk_at dksX0_withdraw_0 2 rfl rfl)
theorem dX0_withdraw_3 : decode cX0_withdraw 3 = .ok (.iload_n 1, 1) := dk_27 (dk_at dksX0_withdraw_0 3 rfl rfl)
theorem dX0_withdraw_4 : decode cX0_withdraw 4 = .ok (.iload_n 2, 1) := dk_28 (dk_at dksX0_withdraw_0 4 rfl rfl)
theorem dX0_withdraw_5 : decode cX0_withdraw 5 = .ok (.invokevirtual 90, 3) := dk_182 0 90 (dk_at dksX0_withdraw_0 5 rfl rfl)
theorem dX0_withdraw_8 : decode cX0_withdraw 8 = .ok (.i2l, 1) := dk_133 (dk_at dksX0_withdraw_0 8 rfl rfl)
theorem dX0_withdraw_9 : decode cX0_withdraw 9 = .ok (.lastore, 1) := dk_80 (dk_at dksX0_withdraw_0 9 rfl rfl)
theorem dX0_withdraw_10 : decode cX0_withdraw 10 = .ok (.goto 7, 3) := dk_167 0 7 (dk_at dksX0_withdraw_0 10 rfl rfl)
theorem dX0_withdraw_13 : decode cX0_withdraw 13 = .ok (.astore 4, 2) := dk_58 4 (dk_at dksX0_withdraw_0 13 rfl rfl)
theorem dX0_withdraw_15 : decode cX0_withdraw 15 = .ok (.iconst 1, 1) := dk_4 (dk_at dksX0_withdraw_0 15 rfl rfl)
theorem dX0_withdraw_16 : decode cX0_withdraw 16 = .ok (.ireturn, 1) := dk_172 (dk_at dksX0_withdraw_0 16 rfl rfl)
theorem dX0_withdraw_17 : decode cX0_withdraw 17 = .ok (.iconst 0, 1) := dk_3 (dk_at dksX0_withdraw_0 17 rfl rfl)
theorem dX0_withdraw_18 : decode cX0_withdraw 18 = .ok (.ireturn, 1) := dk_172 (dk_at dksX0_withdraw_0 18 rfl rfl)
abbrev cX0_need : ByteArray := method_26_code
def yX0_need : MethodName := ⟨RX0, "need", "(LKeyringCourt;II[J)I"⟩
def dkwX0_need_0 : List UInt8 := [45, 3, 42, 27, 28, 182, 0, 93, 133, 80, 167, 0, 11, 58, 4, 4, 172, 58, 4, 5, 172, 3, 172]
abbrev dktX0_need_0 : List UInt8 := dkwX0_need_0 ++ []
theorem dksX0_need_0 : cX0_need.data.toList.drop 0 = dktX0_need_0 := by decide +kernel
theorem dX0_need_0 : decode cX0_need 0 = .ok (.aload_n 3, 1) := dk_45 (dk_at dksX0_need_0 0 rfl rfl)
theorem dX0_need_1 : decode cX0_need 1 = .ok (.iconst 0, 1) := dk_3 (dk_at dksX0_need_0 1 rfl rfl)
theorem dX0_need_2 : decode cX0_need 2 = .ok (.aload_n 0, 1) := dk_42 (dk_at dksX0_need_0 2 rfl rfl)
theorem dX0_need_3 : decode cX0_need 3 = .ok (.iload_n 1, 1) := dk_27 (dk_at dksX0_need_0 3 rfl rfl)
theorem dX0_need_4 : decode cX0_need 4 = .ok (.iload_n 2, 1) := dk_28 (dk_at dksX0_need_0 4 rfl rfl)
theorem dX0_need_5 : decode cX0_need 5 = .ok (.invokevirtual 93, 3) := dk_182 0 93 (dk_at dksX0_need_0 5 rfl rfl)
theorem dX0_need_8 : decode cX0_need 8 = .ok (.i2l, 1) := dk_133 (dk_at dksX0_need_0 8 rfl rfl)
theorem dX0_need_9 : decode cX0_need 9 = .ok (.lastore, 1) := dk_80 (dk_at dksX0_need_0 9 rfl rfl)
theorem dX0_need_10 : decode cX0_need 10 = .ok (.goto 11, 3) := dk_167 0 11 (dk_at dksX0_need_0 10 rfl rfl)
theorem dX0_need_13 : decode cX0_need 13 = .ok (.astore 4, 2) := dk_58 4 (dk_at dksX0_need_0 13 rfl rfl)
theorem dX0_need_15 : decode cX0_need 15 = .ok (.iconst 1, 1) := dk_4 (dk_at dksX0_need_0 15 rfl rfl)
theorem dX0_need_16 : decode cX0_need 16 = .ok (.ireturn, 1) := dk_172 (dk_at dksX0_need_0 16 rfl rfl)
theorem dX0_need_17 : decode cX0_need 17 = .ok (.astore 4, 2) := dk_58 4 (dk_at dksX0_need_0 17 rfl rfl)
theorem dX0_need_19 : decode cX0_need 19 = .ok (.iconst 2, 1) := dk_5 (dk_at dksX0_need_0 19 rfl rfl)
theorem dX0_need_20 : decode cX0_need 20 = .ok (.ireturn, 1) := dk_172 (dk_at dksX0_need_0 20 rfl rfl)
theorem dX0_need_21 : decode cX0_need 21 = .ok (.iconst 0, 1) := dk_3 (dk_at dksX0_need_0 21 rfl rfl)
theorem dX0_need_22 : decode cX0_need 22 = .ok (.ireturn, 1) := dk_172 (dk_at dksX0_need_0 22 rfl rfl)
abbrev cX0_authorize : ByteArray := method_27_code
def yX0_authorize : MethodName := ⟨RX0, "authorize", "(LKeyringCourt;IIII[J)I"⟩
def dkwX0_authorize_1 : List UInt8 := [172, 58, 6, 6, 172, 3, 172]
abbrev dktX0_authorize_1 : List UInt8 := dkwX0_authorize_1 ++ []
def dkwX0_authorize_0 : List UInt8 := [25, 5, 3, 42, 27, 28, 29, 21, 4, 182, 0, 96, 133, 80, 167, 0, 15, 58, 6, 4, 172, 58, 6, 5]
abbrev dktX0_authorize_0 : List UInt8 := dkwX0_authorize_0 ++ dktX0_authorize_1
theorem dksX0_authorize_0 : cX0_authorize.data.toList.drop 0 = dktX0_authorize_0 := by decide +kernel
theorem dksX0_authorize_1 : cX0_authorize.data.toList.drop 24 = dktX0_authorize_1 := dk_seg dksX0_authorize_0 24 rfl rfl
theorem dX0_authorize_0 : decode cX0_authorize 0 = .ok (.aload 5, 2) := dk_25 5 (dk_at dksX0_authorize_0 0 rfl rfl)
theorem dX0_authorize_2 : decode cX0_authorize 2 = .ok (.iconst 0, 1) := dk_3 (dk_at dksX0_authorize_0 2 rfl rfl)
theorem dX0_authorize_3 : decode cX0_authorize 3 = .ok (.aload_n 0, 1) := dk_42 (dk_at dksX0_authorize_0 3 rfl rfl)
theorem dX0_authorize_4 : decode cX0_authorize 4 = .ok (.iload_n 1, 1) := dk_27 (dk_at dksX0_authorize_0 4 rfl rfl)
theorem dX0_authorize_5 : decode cX0_authorize 5 = .ok (.iload_n 2, 1) := dk_28 (dk_at dksX0_authorize_0 5 rfl rfl)
theorem dX0_authorize_6 : decode cX0_authorize 6 = .ok (.iload_n 3, 1) := dk_29 (dk_at dksX0_authorize_0 6 rfl rfl)
theorem dX0_authorize_7 : decode cX0_authorize 7 = .ok (.iload 4, 2) := dk_21 4 (dk_at dksX0_authorize_0 7 rfl rfl)
theorem dX0_authorize_9 : decode cX0_authorize 9 = .ok (.invokevirtual 96, 3) := dk_182 0 96 (dk_at dksX0_authorize_0 9 rfl rfl)
theorem dX0_authorize_12 : decode cX0_authorize 12 = .ok (.i2l, 1) := dk_133 (dk_at dksX0_authorize_0 12 rfl rfl)
theorem dX0_authorize_13 : decode cX0_authorize 13 = .ok (.lastore, 1) := dk_80 (dk_at dksX0_authorize_0 13 rfl rfl)
theorem dX0_authorize_14 : decode cX0_authorize 14 = .ok (.goto 15, 3) := dk_167 0 15 (dk_at dksX0_authorize_0 14 rfl rfl)
theorem dX0_authorize_17 : decode cX0_authorize 17 = .ok (.astore 6, 2) := dk_58 6 (dk_at dksX0_authorize_0 17 rfl rfl)
theorem dX0_authorize_19 : decode cX0_authorize 19 = .ok (.iconst 1, 1) := dk_4 (dk_at dksX0_authorize_0 19 rfl rfl)
theorem dX0_authorize_20 : decode cX0_authorize 20 = .ok (.ireturn, 1) := dk_172 (dk_at dksX0_authorize_0 20 rfl rfl)
theorem dX0_authorize_21 : decode cX0_authorize 21 = .ok (.astore 6, 2) := dk_58 6 (dk_at dksX0_authorize_0 21 rfl rfl)
theorem dX0_authorize_23 : decode cX0_authorize 23 = .ok (.iconst 2, 1) := dk_5 (dk_at dksX0_authorize_0 23 rfl rfl)
theorem dX0_authorize_24 : decode cX0_authorize 24 = .ok (.ireturn, 1) := dk_172 (dk_at dksX0_authorize_1 0 rfl rfl)
theorem dX0_authorize_25 : decode cX0_authorize 25 = .ok (.astore 6, 2) := dk_58 6 (dk_at dksX0_authorize_1 1 rfl rfl)
theorem dX0_authorize_27 : decode cX0_authorize 27 = .ok (.iconst 3, 1) := dk_6 (dk_at dksX0_authorize_1 3 rfl rfl)
theorem dX0_authorize_28 : decode cX0_authorize 28 = .ok (.ireturn, 1) := dk_172 (dk_at dksX0_authorize_1 4 rfl rfl)
theorem dX0_authorize_29 : decode cX0_authorize 29 = .ok (.iconst 0, 1) := dk_3 (dk_at dksX0_authorize_1 5 rfl rfl)
theorem dX0_authorize_30 : decode cX0_authorize 30 = .ok (.ireturn, 1) := dk_172 (dk_at dksX0_authorize_1 6 rfl rfl)
abbrev cX0_redeem : ByteArray := method_28_code
def yX0_redeem : MethodName := ⟨RX0, "redeem", "(LKeyringCourt;I[J)I"⟩
def dkwX0_redeem_0 : List UInt8 := [44, 3, 42, 27, 182, 0, 100, 133, 80, 167, 0, 9, 78, 4, 172, 78, 5, 172, 3, 172]
abbrev dktX0_redeem_0 : List UInt8 := dkwX0_redeem_0 ++ []
theorem dksX0_redeem_0 : cX0_redeem.data.toList.drop 0 = dktX0_redeem_0 := by decide +kernel
theorem dX0_redeem_0 : decode cX0_redeem 0 = .ok (.aload_n 2, 1) := dk_44 (dk_at dksX0_redeem_0 0 rfl rfl)
theorem dX0_redeem_1 : decode cX0_redeem 1 = .ok (.iconst 0, 1) := dk_3 (dk_at dksX0_redeem_0 1 rfl rfl)
theorem dX0_redeem_2 : decode cX0_redeem 2 = .ok (.aload_n 0, 1) := dk_42 (dk_at dksX0_redeem_0 2 rfl rfl)
theorem dX0_redeem_3 : decode cX0_redeem 3 = .ok (.iload_n 1, 1) := dk_27 (dk_at dksX0_redeem_0 3 rfl rfl)
theorem dX0_redeem_4 : decode cX0_redeem 4 = .ok (.invokevirtual 100, 3) := dk_182 0 100 (dk_at dksX0_redeem_0 4 rfl rfl)
theorem dX0_redeem_7 : decode cX0_redeem 7 = .ok (.i2l, 1) := dk_133 (dk_at dksX0_redeem_0 7 rfl rfl)
theorem dX0_redeem_8 : decode cX0_redeem 8 = .ok (.lastore, 1) := dk_80 (dk_at dksX0_redeem_0 8 rfl rfl)
theorem dX0_redeem_9 : decode cX0_redeem 9 = .ok (.goto 9, 3) := dk_167 0 9 (dk_at dksX0_redeem_0 9 rfl rfl)
theorem dX0_redeem_12 : decode cX0_redeem 12 = .ok (.astore_n 3, 1) := dk_78 (dk_at dksX0_redeem_0 12 rfl rfl)
theorem dX0_redeem_13 : decode cX0_redeem 13 = .ok (.iconst 1, 1) := dk_4 (dk_at dksX0_redeem_0 13 rfl rfl)
theorem dX0_redeem_14 : decode cX0_redeem 14 = .ok (.ireturn, 1) := dk_172 (dk_at dksX0_redeem_0 14 rfl rfl)
theorem dX0_redeem_15 : decode cX0_redeem 15 = .ok (.astore_n 3, 1) := dk_78 (dk_at dksX0_redeem_0 15 rfl rfl)
theorem dX0_redeem_16 : decode cX0_redeem 16 = .ok (.iconst 2, 1) := dk_5 (dk_at dksX0_redeem_0 16 rfl rfl)
theorem dX0_redeem_17 : decode cX0_redeem 17 = .ok (.ireturn, 1) := dk_172 (dk_at dksX0_redeem_0 17 rfl rfl)
theorem dX0_redeem_18 : decode cX0_redeem 18 = .ok (.iconst 0, 1) := dk_3 (dk_at dksX0_redeem_0 18 rfl rfl)
theorem dX0_redeem_19 : decode cX0_redeem 19 = .ok (.ireturn, 1) := dk_172 (dk_at dksX0_redeem_0 19 rfl rfl)
abbrev cX0_refresh : ByteArray := method_29_code
def yX0_refresh : MethodName := ⟨RX0, "refresh", "(LKeyringCourt;II[J)I"⟩
def dkwX0_refresh_1 : List UInt8 := [172, 3, 172]
abbrev dktX0_refresh_1 : List UInt8 := dkwX0_refresh_1 ++ []
def dkwX0_refresh_0 : List UInt8 := [45, 3, 42, 27, 28, 182, 0, 103, 133, 80, 167, 0, 15, 58, 4, 4, 172, 58, 4, 5, 172, 58, 4, 6]
abbrev dktX0_refresh_0 : List UInt8 := dkwX0_refresh_0 ++ dktX0_refresh_1
theorem dksX0_refresh_0 : cX0_refresh.data.toList.drop 0 = dktX0_refresh_0 := by decide +kernel
theorem dksX0_refresh_1 : cX0_refresh.data.toList.drop 24 = dktX0_refresh_1 := dk_seg dksX0_refresh_0 24 rfl rfl
theorem dX0_refresh_0 : decode cX0_refresh 0 = .ok (.aload_n 3, 1) := dk_45 (dk_at dksX0_refresh_0 0 rfl rfl)
theorem dX0_refresh_1 : decode cX0_refresh 1 = .ok (.iconst 0, 1) := dk_3 (dk_at dksX0_refresh_0 1 rfl rfl)
theorem dX0_refresh_2 : decode cX0_refresh 2 = .ok (.aload_n 0, 1) := dk_42 (dk_at dksX0_refresh_0 2 rfl rfl)
theorem dX0_refresh_3 : decode cX0_refresh 3 = .ok (.iload_n 1, 1) := dk_27 (dk_at dksX0_refresh_0 3 rfl rfl)
theorem dX0_refresh_4 : decode cX0_refresh 4 = .ok (.iload_n 2, 1) := dk_28 (dk_at dksX0_refresh_0 4 rfl rfl)
theorem dX0_refresh_5 : decode cX0_refresh 5 = .ok (.invokevirtual 103, 3) := dk_182 0 103 (dk_at dksX0_refresh_0 5 rfl rfl)
theorem dX0_refresh_8 : decode cX0_refresh 8 = .ok (.i2l, 1) := dk_133 (dk_at dksX0_refresh_0 8 rfl rfl)
theorem dX0_refresh_9 : decode cX0_refresh 9 = .ok (.lastore, 1) := dk_80 (dk_at dksX0_refresh_0 9 rfl rfl)
theorem dX0_refresh_10 : decode cX0_refresh 10 = .ok (.goto 15, 3) := dk_167 0 15 (dk_at dksX0_refresh_0 10 rfl rfl)
theorem dX0_refresh_13 : decode cX0_refresh 13 = .ok (.astore 4, 2) := dk_58 4 (dk_at dksX0_refresh_0 13 rfl rfl)
theorem dX0_refresh_15 : decode cX0_refresh 15 = .ok (.iconst 1, 1) := dk_4 (dk_at dksX0_refresh_0 15 rfl rfl)
theorem dX0_refresh_16 : decode cX0_refresh 16 = .ok (.ireturn, 1) := dk_172 (dk_at dksX0_refresh_0 16 rfl rfl)
theorem dX0_refresh_17 : decode cX0_refresh 17 = .ok (.astore 4, 2) := dk_58 4 (dk_at dksX0_refresh_0 17 rfl rfl)
theorem dX0_refresh_19 : decode cX0_refresh 19 = .ok (.iconst 2, 1) := dk_5 (dk_at dksX0_refresh_0 19 rfl rfl)
theorem dX0_refresh_20 : decode cX0_refresh 20 = .ok (.ireturn, 1) := dk_172 (dk_at dksX0_refresh_0 20 rfl rfl)
theorem dX0_refresh_21 : decode cX0_refresh 21 = .ok (.astore 4, 2) := dk_58 4 (dk_at dksX0_refresh_0 21 rfl rfl)
theorem dX0_refresh_23 : decode cX0_refresh 23 = .ok (.iconst 3, 1) := dk_6 (dk_at dksX0_refresh_0 23 rfl rfl)
theorem dX0_refresh_24 : decode cX0_refresh 24 = .ok (.ireturn, 1) := dk_172 (dk_at dksX0_refresh_1 0 rfl rfl)
theorem dX0_refresh_25 : decode cX0_refresh 25 = .ok (.iconst 0, 1) := dk_3 (dk_at dksX0_refresh_1 1 rfl rfl)
theorem dX0_refresh_26 : decode cX0_refresh 26 = .ok (.ireturn, 1) := dk_172 (dk_at dksX0_refresh_1 2 rfl rfl)
abbrev cX0_isGood : ByteArray := method_30_code
def yX0_isGood : MethodName := ⟨RX0, "isGood", "(LKeyringCourt;I[J)I"⟩
def dkwX0_isGood_0 : List UInt8 := [44, 3, 42, 27, 182, 0, 106, 153, 0, 7, 10, 167, 0, 4, 9, 80, 167, 0, 6, 78, 4, 172, 3, 172]
abbrev dktX0_isGood_0 : List UInt8 := dkwX0_isGood_0 ++ []
theorem dksX0_isGood_0 : cX0_isGood.data.toList.drop 0 = dktX0_isGood_0 := by decide +kernel
theorem dX0_isGood_0 : decode cX0_isGood 0 = .ok (.aload_n 2, 1) := dk_44 (dk_at dksX0_isGood_0 0 rfl rfl)
theorem dX0_isGood_1 : decode cX0_isGood 1 = .ok (.iconst 0, 1) := dk_3 (dk_at dksX0_isGood_0 1 rfl rfl)
theorem dX0_isGood_2 : decode cX0_isGood 2 = .ok (.aload_n 0, 1) := dk_42 (dk_at dksX0_isGood_0 2 rfl rfl)
theorem dX0_isGood_3 : decode cX0_isGood 3 = .ok (.iload_n 1, 1) := dk_27 (dk_at dksX0_isGood_0 3 rfl rfl)
theorem dX0_isGood_4 : decode cX0_isGood 4 = .ok (.invokevirtual 106, 3) := dk_182 0 106 (dk_at dksX0_isGood_0 4 rfl rfl)
theorem dX0_isGood_7 : decode cX0_isGood 7 = .ok (.ifCond .eq 7, 3) := dk_153 0 7 (dk_at dksX0_isGood_0 7 rfl rfl)
theorem dX0_isGood_10 : decode cX0_isGood 10 = .ok (.lconst 1, 1) := dk_10 (dk_at dksX0_isGood_0 10 rfl rfl)
theorem dX0_isGood_11 : decode cX0_isGood 11 = .ok (.goto 4, 3) := dk_167 0 4 (dk_at dksX0_isGood_0 11 rfl rfl)
theorem dX0_isGood_14 : decode cX0_isGood 14 = .ok (.lconst 0, 1) := dk_9 (dk_at dksX0_isGood_0 14 rfl rfl)
theorem dX0_isGood_15 : decode cX0_isGood 15 = .ok (.lastore, 1) := dk_80 (dk_at dksX0_isGood_0 15 rfl rfl)
theorem dX0_isGood_16 : decode cX0_isGood 16 = .ok (.goto 6, 3) := dk_167 0 6 (dk_at dksX0_isGood_0 16 rfl rfl)
theorem dX0_isGood_19 : decode cX0_isGood 19 = .ok (.astore_n 3, 1) := dk_78 (dk_at dksX0_isGood_0 19 rfl rfl)
theorem dX0_isGood_20 : decode cX0_isGood 20 = .ok (.iconst 1, 1) := dk_4 (dk_at dksX0_isGood_0 20 rfl rfl)
theorem dX0_isGood_21 : decode cX0_isGood 21 = .ok (.ireturn, 1) := dk_172 (dk_at dksX0_isGood_0 21 rfl rfl)
theorem dX0_isGood_22 : decode cX0_isGood 22 = .ok (.iconst 0, 1) := dk_3 (dk_at dksX0_isGood_0 22 rfl rfl)
theorem dX0_isGood_23 : decode cX0_isGood 23 = .ok (.ireturn, 1) := dk_172 (dk_at dksX0_isGood_0 23 rfl rfl)
abbrev cX0_tokenOf : ByteArray := method_31_code
def yX0_tokenOf : MethodName := ⟨RX0, "tokenOf", "(LKeyringCourt;I[J)I"⟩
def dkwX0_tokenOf_0 : List UInt8 := [44, 3, 42, 27, 182, 0, 109, 133, 80, 167, 0, 6, 78, 4, 172, 3, 172]
abbrev dktX0_tokenOf_0 : List UInt8 := dkwX0_tokenOf_0 ++ []
theorem dksX0_tokenOf_0 : cX0_tokenOf.data.toList.drop 0 = dktX0_tokenOf_0 := by decide +kernel
theorem dX0_tokenOf_0 : decode cX0_tokenOf 0 = .ok (.aload_n 2, 1) := dk_44 (dk_at dksX0_tokenOf_0 0 rfl rfl)
theorem dX0_tokenOf_1 : decode cX0_tokenOf 1 = .ok (.iconst 0, 1) := dk_3 (dk_at dksX0_tokenOf_0 1 rfl rfl)
theorem dX0_tokenOf_2 : decode cX0_tokenOf 2 = .ok (.aload_n 0, 1) := dk_42 (dk_at dksX0_tokenOf_0 2 rfl rfl)
theorem dX0_tokenOf_3 : decode cX0_tokenOf 3 = .ok (.iload_n 1, 1) := dk_27 (dk_at dksX0_tokenOf_0 3 rfl rfl)
theorem dX0_tokenOf_4 : decode cX0_tokenOf 4 = .ok (.invokevirtual 109, 3) := dk_182 0 109 (dk_at dksX0_tokenOf_0 4 rfl rfl)
theorem dX0_tokenOf_7 : decode cX0_tokenOf 7 = .ok (.i2l, 1) := dk_133 (dk_at dksX0_tokenOf_0 7 rfl rfl)
theorem dX0_tokenOf_8 : decode cX0_tokenOf 8 = .ok (.lastore, 1) := dk_80 (dk_at dksX0_tokenOf_0 8 rfl rfl)
theorem dX0_tokenOf_9 : decode cX0_tokenOf 9 = .ok (.goto 6, 3) := dk_167 0 6 (dk_at dksX0_tokenOf_0 9 rfl rfl)
theorem dX0_tokenOf_12 : decode cX0_tokenOf 12 = .ok (.astore_n 3, 1) := dk_78 (dk_at dksX0_tokenOf_0 12 rfl rfl)
theorem dX0_tokenOf_13 : decode cX0_tokenOf 13 = .ok (.iconst 1, 1) := dk_4 (dk_at dksX0_tokenOf_0 13 rfl rfl)
theorem dX0_tokenOf_14 : decode cX0_tokenOf 14 = .ok (.ireturn, 1) := dk_172 (dk_at dksX0_tokenOf_0 14 rfl rfl)
theorem dX0_tokenOf_15 : decode cX0_tokenOf 15 = .ok (.iconst 0, 1) := dk_3 (dk_at dksX0_tokenOf_0 15 rfl rfl)
theorem dX0_tokenOf_16 : decode cX0_tokenOf 16 = .ok (.ireturn, 1) := dk_172 (dk_at dksX0_tokenOf_0 16 rfl rfl)
abbrev cX0_exchange : ByteArray := method_32_code
def yX0_exchange : MethodName := ⟨RX0, "exchange", "(LKeyringCourt;III[J)I"⟩
def dkwX0_exchange_1 : List UInt8 := [58, 5, 6, 172, 3, 172]
abbrev dktX0_exchange_1 : List UInt8 := dkwX0_exchange_1 ++ []
def dkwX0_exchange_0 : List UInt8 := [25, 4, 3, 42, 27, 28, 29, 182, 0, 112, 133, 80, 167, 0, 15, 58, 5, 4, 172, 58, 5, 5, 172]
abbrev dktX0_exchange_0 : List UInt8 := dkwX0_exchange_0 ++ dktX0_exchange_1
theorem dksX0_exchange_0 : cX0_exchange.data.toList.drop 0 = dktX0_exchange_0 := by decide +kernel
theorem dksX0_exchange_1 : cX0_exchange.data.toList.drop 23 = dktX0_exchange_1 := dk_seg dksX0_exchange_0 23 rfl rfl
theorem dX0_exchange_0 : decode cX0_exchange 0 = .ok (.aload 4, 2) := dk_25 4 (dk_at dksX0_exchange_0 0 rfl rfl)
theorem dX0_exchange_2 : decode cX0_exchange 2 = .ok (.iconst 0, 1) := dk_3 (dk_at dksX0_exchange_0 2 rfl rfl)
theorem dX0_exchange_3 : decode cX0_exchange 3 = .ok (.aload_n 0, 1) := dk_42 (dk_at dksX0_exchange_0 3 rfl rfl)
theorem dX0_exchange_4 : decode cX0_exchange 4 = .ok (.iload_n 1, 1) := dk_27 (dk_at dksX0_exchange_0 4 rfl rfl)
theorem dX0_exchange_5 : decode cX0_exchange 5 = .ok (.iload_n 2, 1) := dk_28 (dk_at dksX0_exchange_0 5 rfl rfl)
theorem dX0_exchange_6 : decode cX0_exchange 6 = .ok (.iload_n 3, 1) := dk_29 (dk_at dksX0_exchange_0 6 rfl rfl)
theorem dX0_exchange_7 : decode cX0_exchange 7 = .ok (.invokevirtual 112, 3) := dk_182 0 112 (dk_at dksX0_exchange_0 7 rfl rfl)
theorem dX0_exchange_10 : decode cX0_exchange 10 = .ok (.i2l, 1) := dk_133 (dk_at dksX0_exchange_0 10 rfl rfl)
theorem dX0_exchange_11 : decode cX0_exchange 11 = .ok (.lastore, 1) := dk_80 (dk_at dksX0_exchange_0 11 rfl rfl)
theorem dX0_exchange_12 : decode cX0_exchange 12 = .ok (.goto 15, 3) := dk_167 0 15 (dk_at dksX0_exchange_0 12 rfl rfl)
theorem dX0_exchange_15 : decode cX0_exchange 15 = .ok (.astore 5, 2) := dk_58 5 (dk_at dksX0_exchange_0 15 rfl rfl)
theorem dX0_exchange_17 : decode cX0_exchange 17 = .ok (.iconst 1, 1) := dk_4 (dk_at dksX0_exchange_0 17 rfl rfl)
theorem dX0_exchange_18 : decode cX0_exchange 18 = .ok (.ireturn, 1) := dk_172 (dk_at dksX0_exchange_0 18 rfl rfl)
theorem dX0_exchange_19 : decode cX0_exchange 19 = .ok (.astore 5, 2) := dk_58 5 (dk_at dksX0_exchange_0 19 rfl rfl)
theorem dX0_exchange_21 : decode cX0_exchange 21 = .ok (.iconst 2, 1) := dk_5 (dk_at dksX0_exchange_0 21 rfl rfl)
theorem dX0_exchange_22 : decode cX0_exchange 22 = .ok (.ireturn, 1) := dk_172 (dk_at dksX0_exchange_0 22 rfl rfl)
theorem dX0_exchange_23 : decode cX0_exchange 23 = .ok (.astore 5, 2) := dk_58 5 (dk_at dksX0_exchange_1 0 rfl rfl)
theorem dX0_exchange_25 : decode cX0_exchange 25 = .ok (.iconst 3, 1) := dk_6 (dk_at dksX0_exchange_1 2 rfl rfl)
theorem dX0_exchange_26 : decode cX0_exchange 26 = .ok (.ireturn, 1) := dk_172 (dk_at dksX0_exchange_1 3 rfl rfl)
theorem dX0_exchange_27 : decode cX0_exchange 27 = .ok (.iconst 0, 1) := dk_3 (dk_at dksX0_exchange_1 4 rfl rfl)
theorem dX0_exchange_28 : decode cX0_exchange 28 = .ok (.ireturn, 1) := dk_172 (dk_at dksX0_exchange_1 5 rfl rfl)
abbrev cX0_token : ByteArray := method_33_code
def yX0_token : MethodName := ⟨RX0, "token", "(LKeyringCourt;I[J)I"⟩
def dkwX0_token_0 : List UInt8 := [44, 3, 42, 27, 182, 0, 115, 133, 80, 167, 0, 6, 78, 4, 172, 3, 172]
abbrev dktX0_token_0 : List UInt8 := dkwX0_token_0 ++ []
theorem dksX0_token_0 : cX0_token.data.toList.drop 0 = dktX0_token_0 := by decide +kernel
theorem dX0_token_0 : decode cX0_token 0 = .ok (.aload_n 2, 1) := dk_44 (dk_at dksX0_token_0 0 rfl rfl)
theorem dX0_token_1 : decode cX0_token 1 = .ok (.iconst 0, 1) := dk_3 (dk_at dksX0_token_0 1 rfl rfl)
theorem dX0_token_2 : decode cX0_token 2 = .ok (.aload_n 0, 1) := dk_42 (dk_at dksX0_token_0 2 rfl rfl)
theorem dX0_token_3 : decode cX0_token 3 = .ok (.iload_n 1, 1) := dk_27 (dk_at dksX0_token_0 3 rfl rfl)
theorem dX0_token_4 : decode cX0_token 4 = .ok (.invokevirtual 115, 3) := dk_182 0 115 (dk_at dksX0_token_0 4 rfl rfl)
theorem dX0_token_7 : decode cX0_token 7 = .ok (.i2l, 1) := dk_133 (dk_at dksX0_token_0 7 rfl rfl)
theorem dX0_token_8 : decode cX0_token 8 = .ok (.lastore, 1) := dk_80 (dk_at dksX0_token_0 8 rfl rfl)
theorem dX0_token_9 : decode cX0_token 9 = .ok (.goto 6, 3) := dk_167 0 6 (dk_at dksX0_token_0 9 rfl rfl)
theorem dX0_token_12 : decode cX0_token 12 = .ok (.astore_n 3, 1) := dk_78 (dk_at dksX0_token_0 12 rfl rfl)
theorem dX0_token_13 : decode cX0_token 13 = .ok (.iconst 1, 1) := dk_4 (dk_at dksX0_token_0 13 rfl rfl)
theorem dX0_token_14 : decode cX0_token 14 = .ok (.ireturn, 1) := dk_172 (dk_at dksX0_token_0 14 rfl rfl)
theorem dX0_token_15 : decode cX0_token 15 = .ok (.iconst 0, 1) := dk_3 (dk_at dksX0_token_0 15 rfl rfl)
theorem dX0_token_16 : decode cX0_token 16 = .ok (.ireturn, 1) := dk_172 (dk_at dksX0_token_0 16 rfl rfl)
abbrev cX0_turn : ByteArray := method_34_code
def yX0_turn : MethodName := ⟨RX0, "turn", "(LKeyringCourt;[J)I"⟩
def dkwX0_turn_0 : List UInt8 := [43, 3, 42, 182, 0, 118, 133, 80, 167, 0, 6, 77, 4, 172, 3, 172]
abbrev dktX0_turn_0 : List UInt8 := dkwX0_turn_0 ++ []
theorem dksX0_turn_0 : cX0_turn.data.toList.drop 0 = dktX0_turn_0 := by decide +kernel
theorem dX0_turn_0 : decode cX0_turn 0 = .ok (.aload_n 1, 1) := dk_43 (dk_at dksX0_turn_0 0 rfl rfl)
theorem dX0_turn_1 : decode cX0_turn 1 = .ok (.iconst 0, 1) := dk_3 (dk_at dksX0_turn_0 1 rfl rfl)
theorem dX0_turn_2 : decode cX0_turn 2 = .ok (.aload_n 0, 1) := dk_42 (dk_at dksX0_turn_0 2 rfl rfl)
theorem dX0_turn_3 : decode cX0_turn 3 = .ok (.invokevirtual 118, 3) := dk_182 0 118 (dk_at dksX0_turn_0 3 rfl rfl)
theorem dX0_turn_6 : decode cX0_turn 6 = .ok (.i2l, 1) := dk_133 (dk_at dksX0_turn_0 6 rfl rfl)
theorem dX0_turn_7 : decode cX0_turn 7 = .ok (.lastore, 1) := dk_80 (dk_at dksX0_turn_0 7 rfl rfl)
theorem dX0_turn_8 : decode cX0_turn 8 = .ok (.goto 6, 3) := dk_167 0 6 (dk_at dksX0_turn_0 8 rfl rfl)
theorem dX0_turn_11 : decode cX0_turn 11 = .ok (.astore_n 2, 1) := dk_77 (dk_at dksX0_turn_0 11 rfl rfl)
theorem dX0_turn_12 : decode cX0_turn 12 = .ok (.iconst 1, 1) := dk_4 (dk_at dksX0_turn_0 12 rfl rfl)
theorem dX0_turn_13 : decode cX0_turn 13 = .ok (.ireturn, 1) := dk_172 (dk_at dksX0_turn_0 13 rfl rfl)
theorem dX0_turn_14 : decode cX0_turn 14 = .ok (.iconst 0, 1) := dk_3 (dk_at dksX0_turn_0 14 rfl rfl)
theorem dX0_turn_15 : decode cX0_turn 15 = .ok (.ireturn, 1) := dk_172 (dk_at dksX0_turn_0 15 rfl rfl)
abbrev cX0_emergency : ByteArray := method_35_code
def yX0_emergency : MethodName := ⟨RX0, "emergency", "(LKeyringCourt;[J)I"⟩
def dkwX0_emergency_0 : List UInt8 := [43, 3, 42, 182, 0, 121, 133, 80, 167, 0, 6, 77, 4, 172, 3, 172]
abbrev dktX0_emergency_0 : List UInt8 := dkwX0_emergency_0 ++ []
theorem dksX0_emergency_0 : cX0_emergency.data.toList.drop 0 = dktX0_emergency_0 := by decide +kernel
theorem dX0_emergency_0 : decode cX0_emergency 0 = .ok (.aload_n 1, 1) := dk_43 (dk_at dksX0_emergency_0 0 rfl rfl)
theorem dX0_emergency_1 : decode cX0_emergency 1 = .ok (.iconst 0, 1) := dk_3 (dk_at dksX0_emergency_0 1 rfl rfl)
theorem dX0_emergency_2 : decode cX0_emergency 2 = .ok (.aload_n 0, 1) := dk_42 (dk_at dksX0_emergency_0 2 rfl rfl)
theorem dX0_emergency_3 : decode cX0_emergency 3 = .ok (.invokevirtual 121, 3) := dk_182 0 121 (dk_at dksX0_emergency_0 3 rfl rfl)
theorem dX0_emergency_6 : decode cX0_emergency 6 = .ok (.i2l, 1) := dk_133 (dk_at dksX0_emergency_0 6 rfl rfl)
theorem dX0_emergency_7 : decode cX0_emergency 7 = .ok (.lastore, 1) := dk_80 (dk_at dksX0_emergency_0 7 rfl rfl)
theorem dX0_emergency_8 : decode cX0_emergency 8 = .ok (.goto 6, 3) := dk_167 0 6 (dk_at dksX0_emergency_0 8 rfl rfl)
theorem dX0_emergency_11 : decode cX0_emergency 11 = .ok (.astore_n 2, 1) := dk_77 (dk_at dksX0_emergency_0 11 rfl rfl)
theorem dX0_emergency_12 : decode cX0_emergency 12 = .ok (.iconst 1, 1) := dk_4 (dk_at dksX0_emergency_0 12 rfl rfl)
theorem dX0_emergency_13 : decode cX0_emergency 13 = .ok (.ireturn, 1) := dk_172 (dk_at dksX0_emergency_0 13 rfl rfl)
theorem dX0_emergency_14 : decode cX0_emergency 14 = .ok (.iconst 0, 1) := dk_3 (dk_at dksX0_emergency_0 14 rfl rfl)
theorem dX0_emergency_15 : decode cX0_emergency 15 = .ok (.ireturn, 1) := dk_172 (dk_at dksX0_emergency_0 15 rfl rfl)
abbrev cX0_isPublished : ByteArray := method_36_code
def yX0_isPublished : MethodName := ⟨RX0, "isPublished", "(LKeyringCourt;I[J)I"⟩
def dkwX0_isPublished_0 : List UInt8 := [44, 3, 42, 27, 182, 0, 124, 153, 0, 7, 10, 167, 0, 4, 9, 80, 167, 0, 6, 78, 4, 172, 3, 172]
abbrev dktX0_isPublished_0 : List UInt8 := dkwX0_isPublished_0 ++ []
theorem dksX0_isPublished_0 : cX0_isPublished.data.toList.drop 0 = dktX0_isPublished_0 := by decide +kernel
theorem dX0_isPublished_0 : decode cX0_isPublished 0 = .ok (.aload_n 2, 1) := dk_44 (dk_at dksX0_isPublished_0 0 rfl rfl)
theorem dX0_isPublished_1 : decode cX0_isPublished 1 = .ok (.iconst 0, 1) := dk_3 (dk_at dksX0_isPublished_0 1 rfl rfl)
theorem dX0_isPublished_2 : decode cX0_isPublished 2 = .ok (.aload_n 0, 1) := dk_42 (dk_at dksX0_isPublished_0 2 rfl rfl)
theorem dX0_isPublished_3 : decode cX0_isPublished 3 = .ok (.iload_n 1, 1) := dk_27 (dk_at dksX0_isPublished_0 3 rfl rfl)
theorem dX0_isPublished_4 : decode cX0_isPublished 4 = .ok (.invokevirtual 124, 3) := dk_182 0 124 (dk_at dksX0_isPublished_0 4 rfl rfl)
theorem dX0_isPublished_7 : decode cX0_isPublished 7 = .ok (.ifCond .eq 7, 3) := dk_153 0 7 (dk_at dksX0_isPublished_0 7 rfl rfl)
theorem dX0_isPublished_10 : decode cX0_isPublished 10 = .ok (.lconst 1, 1) := dk_10 (dk_at dksX0_isPublished_0 10 rfl rfl)
theorem dX0_isPublished_11 : decode cX0_isPublished 11 = .ok (.goto 4, 3) := dk_167 0 4 (dk_at dksX0_isPublished_0 11 rfl rfl)
theorem dX0_isPublished_14 : decode cX0_isPublished 14 = .ok (.lconst 0, 1) := dk_9 (dk_at dksX0_isPublished_0 14 rfl rfl)
theorem dX0_isPublished_15 : decode cX0_isPublished 15 = .ok (.lastore, 1) := dk_80 (dk_at dksX0_isPublished_0 15 rfl rfl)
theorem dX0_isPublished_16 : decode cX0_isPublished 16 = .ok (.goto 6, 3) := dk_167 0 6 (dk_at dksX0_isPublished_0 16 rfl rfl)
theorem dX0_isPublished_19 : decode cX0_isPublished 19 = .ok (.astore_n 3, 1) := dk_78 (dk_at dksX0_isPublished_0 19 rfl rfl)
theorem dX0_isPublished_20 : decode cX0_isPublished 20 = .ok (.iconst 1, 1) := dk_4 (dk_at dksX0_isPublished_0 20 rfl rfl)
theorem dX0_isPublished_21 : decode cX0_isPublished 21 = .ok (.ireturn, 1) := dk_172 (dk_at dksX0_isPublished_0 21 rfl rfl)
theorem dX0_isPublished_22 : decode cX0_isPublished 22 = .ok (.iconst 0, 1) := dk_3 (dk_at dksX0_isPublished_0 22 rfl rfl)
theorem dX0_isPublished_23 : decode cX0_isPublished 23 = .ok (.ireturn, 1) := dk_172 (dk_at dksX0_isPublished_0 23 rfl rfl)
abbrev cX0_line : ByteArray := method_37_code
def yX0_line : MethodName := ⟨RX0, "line", "(LKeyringCourt;I[J)I"⟩
def dkwX0_line_0 : List UInt8 := [44, 3, 42, 27, 182, 0, 127, 133, 80, 167, 0, 6, 78, 4, 172, 3, 172]
abbrev dktX0_line_0 : List UInt8 := dkwX0_line_0 ++ []
theorem dksX0_line_0 : cX0_line.data.toList.drop 0 = dktX0_line_0 := by decide +kernel
theorem dX0_line_0 : decode cX0_line 0 = .ok (.aload_n 2, 1) := dk_44 (dk_at dksX0_line_0 0 rfl rfl)
theorem dX0_line_1 : decode cX0_line 1 = .ok (.iconst 0, 1) := dk_3 (dk_at dksX0_line_0 1 rfl rfl)
theorem dX0_line_2 : decode cX0_line 2 = .ok (.aload_n 0, 1) := dk_42 (dk_at dksX0_line_0 2 rfl rfl)
theorem dX0_line_3 : decode cX0_line 3 = .ok (.iload_n 1, 1) := dk_27 (dk_at dksX0_line_0 3 rfl rfl)
theorem dX0_line_4 : decode cX0_line 4 = .ok (.invokevirtual 127, 3) := dk_182 0 127 (dk_at dksX0_line_0 4 rfl rfl)
theorem dX0_line_7 : decode cX0_line 7 = .ok (.i2l, 1) := dk_133 (dk_at dksX0_line_0 7 rfl rfl)
theorem dX0_line_8 : decode cX0_line 8 = .ok (.lastore, 1) := dk_80 (dk_at dksX0_line_0 8 rfl rfl)
theorem dX0_line_9 : decode cX0_line 9 = .ok (.goto 6, 3) := dk_167 0 6 (dk_at dksX0_line_0 9 rfl rfl)
theorem dX0_line_12 : decode cX0_line 12 = .ok (.astore_n 3, 1) := dk_78 (dk_at dksX0_line_0 12 rfl rfl)
theorem dX0_line_13 : decode cX0_line 13 = .ok (.iconst 1, 1) := dk_4 (dk_at dksX0_line_0 13 rfl rfl)
theorem dX0_line_14 : decode cX0_line 14 = .ok (.ireturn, 1) := dk_172 (dk_at dksX0_line_0 14 rfl rfl)
theorem dX0_line_15 : decode cX0_line 15 = .ok (.iconst 0, 1) := dk_3 (dk_at dksX0_line_0 15 rfl rfl)
theorem dX0_line_16 : decode cX0_line 16 = .ok (.ireturn, 1) := dk_172 (dk_at dksX0_line_0 16 rfl rfl)
abbrev cX0_check : ByteArray := method_38_code
def yX0_check : MethodName := ⟨RX0, "check", "(LKeyringCourt;III[J)I"⟩
def dkwX0_check_1 : List UInt8 := [172]
abbrev dktX0_check_1 : List UInt8 := dkwX0_check_1 ++ []
def dkwX0_check_0 : List UInt8 := [25, 4, 3, 42, 27, 28, 29, 182, 0, 130, 133, 80, 167, 0, 11, 58, 5, 4, 172, 58, 5, 5, 172, 3]
abbrev dktX0_check_0 : List UInt8 := dkwX0_check_0 ++ dktX0_check_1
theorem dksX0_check_0 : cX0_check.data.toList.drop 0 = dktX0_check_0 := by decide +kernel
theorem dksX0_check_1 : cX0_check.data.toList.drop 24 = dktX0_check_1 := dk_seg dksX0_check_0 24 rfl rfl
theorem dX0_check_0 : decode cX0_check 0 = .ok (.aload 4, 2) := dk_25 4 (dk_at dksX0_check_0 0 rfl rfl)
theorem dX0_check_2 : decode cX0_check 2 = .ok (.iconst 0, 1) := dk_3 (dk_at dksX0_check_0 2 rfl rfl)
theorem dX0_check_3 : decode cX0_check 3 = .ok (.aload_n 0, 1) := dk_42 (dk_at dksX0_check_0 3 rfl rfl)
theorem dX0_check_4 : decode cX0_check 4 = .ok (.iload_n 1, 1) := dk_27 (dk_at dksX0_check_0 4 rfl rfl)
theorem dX0_check_5 : decode cX0_check 5 = .ok (.iload_n 2, 1) := dk_28 (dk_at dksX0_check_0 5 rfl rfl)
theorem dX0_check_6 : decode cX0_check 6 = .ok (.iload_n 3, 1) := dk_29 (dk_at dksX0_check_0 6 rfl rfl)
theorem dX0_check_7 : decode cX0_check 7 = .ok (.invokevirtual 130, 3) := dk_182 0 130 (dk_at dksX0_check_0 7 rfl rfl)
theorem dX0_check_10 : decode cX0_check 10 = .ok (.i2l, 1) := dk_133 (dk_at dksX0_check_0 10 rfl rfl)
theorem dX0_check_11 : decode cX0_check 11 = .ok (.lastore, 1) := dk_80 (dk_at dksX0_check_0 11 rfl rfl)
theorem dX0_check_12 : decode cX0_check 12 = .ok (.goto 11, 3) := dk_167 0 11 (dk_at dksX0_check_0 12 rfl rfl)
theorem dX0_check_15 : decode cX0_check 15 = .ok (.astore 5, 2) := dk_58 5 (dk_at dksX0_check_0 15 rfl rfl)
theorem dX0_check_17 : decode cX0_check 17 = .ok (.iconst 1, 1) := dk_4 (dk_at dksX0_check_0 17 rfl rfl)
theorem dX0_check_18 : decode cX0_check 18 = .ok (.ireturn, 1) := dk_172 (dk_at dksX0_check_0 18 rfl rfl)
theorem dX0_check_19 : decode cX0_check 19 = .ok (.astore 5, 2) := dk_58 5 (dk_at dksX0_check_0 19 rfl rfl)
theorem dX0_check_21 : decode cX0_check 21 = .ok (.iconst 2, 1) := dk_5 (dk_at dksX0_check_0 21 rfl rfl)
theorem dX0_check_22 : decode cX0_check 22 = .ok (.ireturn, 1) := dk_172 (dk_at dksX0_check_0 22 rfl rfl)
theorem dX0_check_23 : decode cX0_check 23 = .ok (.iconst 0, 1) := dk_3 (dk_at dksX0_check_0 23 rfl rfl)
theorem dX0_check_24 : decode cX0_check 24 = .ok (.ireturn, 1) := dk_172 (dk_at dksX0_check_1 0 rfl rfl)
abbrev cX0_lag : ByteArray := method_39_code
def yX0_lag : MethodName := ⟨RX0, "lag", "(LKeyringCourt;I[J)I"⟩
def dkwX0_lag_0 : List UInt8 := [44, 3, 42, 27, 182, 0, 133, 133, 80, 167, 0, 6, 78, 4, 172, 3, 172]
abbrev dktX0_lag_0 : List UInt8 := dkwX0_lag_0 ++ []
theorem dksX0_lag_0 : cX0_lag.data.toList.drop 0 = dktX0_lag_0 := by decide +kernel
theorem dX0_lag_0 : decode cX0_lag 0 = .ok (.aload_n 2, 1) := dk_44 (dk_at dksX0_lag_0 0 rfl rfl)
theorem dX0_lag_1 : decode cX0_lag 1 = .ok (.iconst 0, 1) := dk_3 (dk_at dksX0_lag_0 1 rfl rfl)
theorem dX0_lag_2 : decode cX0_lag 2 = .ok (.aload_n 0, 1) := dk_42 (dk_at dksX0_lag_0 2 rfl rfl)
theorem dX0_lag_3 : decode cX0_lag 3 = .ok (.iload_n 1, 1) := dk_27 (dk_at dksX0_lag_0 3 rfl rfl)
theorem dX0_lag_4 : decode cX0_lag 4 = .ok (.invokevirtual 133, 3) := dk_182 0 133 (dk_at dksX0_lag_0 4 rfl rfl)
theorem dX0_lag_7 : decode cX0_lag 7 = .ok (.i2l, 1) := dk_133 (dk_at dksX0_lag_0 7 rfl rfl)
theorem dX0_lag_8 : decode cX0_lag 8 = .ok (.lastore, 1) := dk_80 (dk_at dksX0_lag_0 8 rfl rfl)
theorem dX0_lag_9 : decode cX0_lag 9 = .ok (.goto 6, 3) := dk_167 0 6 (dk_at dksX0_lag_0 9 rfl rfl)
theorem dX0_lag_12 : decode cX0_lag 12 = .ok (.astore_n 3, 1) := dk_78 (dk_at dksX0_lag_0 12 rfl rfl)
theorem dX0_lag_13 : decode cX0_lag 13 = .ok (.iconst 1, 1) := dk_4 (dk_at dksX0_lag_0 13 rfl rfl)
theorem dX0_lag_14 : decode cX0_lag 14 = .ok (.ireturn, 1) := dk_172 (dk_at dksX0_lag_0 14 rfl rfl)
theorem dX0_lag_15 : decode cX0_lag 15 = .ok (.iconst 0, 1) := dk_3 (dk_at dksX0_lag_0 15 rfl rfl)
theorem dX0_lag_16 : decode cX0_lag 16 = .ok (.ireturn, 1) := dk_172 (dk_at dksX0_lag_0 16 rfl rfl)
abbrev cX0_recover : ByteArray := method_40_code
def yX0_recover : MethodName := ⟨RX0, "recover", "(LKeyringCourt;I[J)I"⟩
def dkwX0_recover_0 : List UInt8 := [44, 3, 42, 27, 182, 0, 136, 133, 80, 167, 0, 9, 78, 4, 172, 78, 5, 172, 3, 172]
abbrev dktX0_recover_0 : List UInt8 := dkwX0_recover_0 ++ []
theorem dksX0_recover_0 : cX0_recover.data.toList.drop 0 = dktX0_recover_0 := by decide +kernel
theorem dX0_recover_0 : decode cX0_recover 0 = .ok (.aload_n 2, 1) := dk_44 (dk_at dksX0_recover_0 0 rfl rfl)
theorem dX0_recover_1 : decode cX0_recover 1 = .ok (.iconst 0, 1) := dk_3 (dk_at dksX0_recover_0 1 rfl rfl)
theorem dX0_recover_2 : decode cX0_recover 2 = .ok (.aload_n 0, 1) := dk_42 (dk_at dksX0_recover_0 2 rfl rfl)
theorem dX0_recover_3 : decode cX0_recover 3 = .ok (.iload_n 1, 1) := dk_27 (dk_at dksX0_recover_0 3 rfl rfl)
theorem dX0_recover_4 : decode cX0_recover 4 = .ok (.invokevirtual 136, 3) := dk_182 0 136 (dk_at dksX0_recover_0 4 rfl rfl)
theorem dX0_recover_7 : decode cX0_recover 7 = .ok (.i2l, 1) := dk_133 (dk_at dksX0_recover_0 7 rfl rfl)
theorem dX0_recover_8 : decode cX0_recover 8 = .ok (.lastore, 1) := dk_80 (dk_at dksX0_recover_0 8 rfl rfl)
theorem dX0_recover_9 : decode cX0_recover 9 = .ok (.goto 9, 3) := dk_167 0 9 (dk_at dksX0_recover_0 9 rfl rfl)
theorem dX0_recover_12 : decode cX0_recover 12 = .ok (.astore_n 3, 1) := dk_78 (dk_at dksX0_recover_0 12 rfl rfl)
theorem dX0_recover_13 : decode cX0_recover 13 = .ok (.iconst 1, 1) := dk_4 (dk_at dksX0_recover_0 13 rfl rfl)
theorem dX0_recover_14 : decode cX0_recover 14 = .ok (.ireturn, 1) := dk_172 (dk_at dksX0_recover_0 14 rfl rfl)
theorem dX0_recover_15 : decode cX0_recover 15 = .ok (.astore_n 3, 1) := dk_78 (dk_at dksX0_recover_0 15 rfl rfl)
theorem dX0_recover_16 : decode cX0_recover 16 = .ok (.iconst 2, 1) := dk_5 (dk_at dksX0_recover_0 16 rfl rfl)
theorem dX0_recover_17 : decode cX0_recover 17 = .ok (.ireturn, 1) := dk_172 (dk_at dksX0_recover_0 17 rfl rfl)
theorem dX0_recover_18 : decode cX0_recover 18 = .ok (.iconst 0, 1) := dk_3 (dk_at dksX0_recover_0 18 rfl rfl)
theorem dX0_recover_19 : decode cX0_recover 19 = .ok (.ireturn, 1) := dk_172 (dk_at dksX0_recover_0 19 rfl rfl)
abbrev cX0_vouch : ByteArray := method_41_code
def yX0_vouch : MethodName := ⟨RX0, "vouch", "(LKeyringCourt;II[J)I"⟩
def dkwX0_vouch_0 : List UInt8 := [45, 3, 42, 27, 28, 182, 0, 139, 133, 80, 167, 0, 11, 58, 4, 4, 172, 58, 4, 5, 172, 3, 172]
abbrev dktX0_vouch_0 : List UInt8 := dkwX0_vouch_0 ++ []
theorem dksX0_vouch_0 : cX0_vouch.data.toList.drop 0 = dktX0_vouch_0 := by decide +kernel
theorem dX0_vouch_0 : decode cX0_vouch 0 = .ok (.aload_n 3, 1) := dk_45 (dk_at dksX0_vouch_0 0 rfl rfl)
theorem dX0_vouch_1 : decode cX0_vouch 1 = .ok (.iconst 0, 1) := dk_3 (dk_at dksX0_vouch_0 1 rfl rfl)
theorem dX0_vouch_2 : decode cX0_vouch 2 = .ok (.aload_n 0, 1) := dk_42 (dk_at dksX0_vouch_0 2 rfl rfl)
theorem dX0_vouch_3 : decode cX0_vouch 3 = .ok (.iload_n 1, 1) := dk_27 (dk_at dksX0_vouch_0 3 rfl rfl)
theorem dX0_vouch_4 : decode cX0_vouch 4 = .ok (.iload_n 2, 1) := dk_28 (dk_at dksX0_vouch_0 4 rfl rfl)
theorem dX0_vouch_5 : decode cX0_vouch 5 = .ok (.invokevirtual 139, 3) := dk_182 0 139 (dk_at dksX0_vouch_0 5 rfl rfl)
theorem dX0_vouch_8 : decode cX0_vouch 8 = .ok (.i2l, 1) := dk_133 (dk_at dksX0_vouch_0 8 rfl rfl)
theorem dX0_vouch_9 : decode cX0_vouch 9 = .ok (.lastore, 1) := dk_80 (dk_at dksX0_vouch_0 9 rfl rfl)
theorem dX0_vouch_10 : decode cX0_vouch 10 = .ok (.goto 11, 3) := dk_167 0 11 (dk_at dksX0_vouch_0 10 rfl rfl)
theorem dX0_vouch_13 : decode cX0_vouch 13 = .ok (.astore 4, 2) := dk_58 4 (dk_at dksX0_vouch_0 13 rfl rfl)
theorem dX0_vouch_15 : decode cX0_vouch 15 = .ok (.iconst 1, 1) := dk_4 (dk_at dksX0_vouch_0 15 rfl rfl)
theorem dX0_vouch_16 : decode cX0_vouch 16 = .ok (.ireturn, 1) := dk_172 (dk_at dksX0_vouch_0 16 rfl rfl)
theorem dX0_vouch_17 : decode cX0_vouch 17 = .ok (.astore 4, 2) := dk_58 4 (dk_at dksX0_vouch_0 17 rfl rfl)
theorem dX0_vouch_19 : decode cX0_vouch 19 = .ok (.iconst 2, 1) := dk_5 (dk_at dksX0_vouch_0 19 rfl rfl)
theorem dX0_vouch_20 : decode cX0_vouch 20 = .ok (.ireturn, 1) := dk_172 (dk_at dksX0_vouch_0 20 rfl rfl)
theorem dX0_vouch_21 : decode cX0_vouch 21 = .ok (.iconst 0, 1) := dk_3 (dk_at dksX0_vouch_0 21 rfl rfl)
theorem dX0_vouch_22 : decode cX0_vouch 22 = .ok (.ireturn, 1) := dk_172 (dk_at dksX0_vouch_0 22 rfl rfl)
abbrev cX0_stop : ByteArray := method_42_code
def yX0_stop : MethodName := ⟨RX0, "stop", "(LKeyringCourt;II[J)I"⟩
def dkwX0_stop_0 : List UInt8 := [45, 3, 42, 27, 28, 182, 0, 142, 133, 80, 167, 0, 11, 58, 4, 4, 172, 58, 4, 5, 172, 3, 172]
abbrev dktX0_stop_0 : List UInt8 := dkwX0_stop_0 ++ []
theorem dksX0_stop_0 : cX0_stop.data.toList.drop 0 = dktX0_stop_0 := by decide +kernel
theorem dX0_stop_0 : decode cX0_stop 0 = .ok (.aload_n 3, 1) := dk_45 (dk_at dksX0_stop_0 0 rfl rfl)
theorem dX0_stop_1 : decode cX0_stop 1 = .ok (.iconst 0, 1) := dk_3 (dk_at dksX0_stop_0 1 rfl rfl)
theorem dX0_stop_2 : decode cX0_stop 2 = .ok (.aload_n 0, 1) := dk_42 (dk_at dksX0_stop_0 2 rfl rfl)
theorem dX0_stop_3 : decode cX0_stop 3 = .ok (.iload_n 1, 1) := dk_27 (dk_at dksX0_stop_0 3 rfl rfl)
theorem dX0_stop_4 : decode cX0_stop 4 = .ok (.iload_n 2, 1) := dk_28 (dk_at dksX0_stop_0 4 rfl rfl)
theorem dX0_stop_5 : decode cX0_stop 5 = .ok (.invokevirtual 142, 3) := dk_182 0 142 (dk_at dksX0_stop_0 5 rfl rfl)
theorem dX0_stop_8 : decode cX0_stop 8 = .ok (.i2l, 1) := dk_133 (dk_at dksX0_stop_0 8 rfl rfl)
theorem dX0_stop_9 : decode cX0_stop 9 = .ok (.lastore, 1) := dk_80 (dk_at dksX0_stop_0 9 rfl rfl)
theorem dX0_stop_10 : decode cX0_stop 10 = .ok (.goto 11, 3) := dk_167 0 11 (dk_at dksX0_stop_0 10 rfl rfl)
theorem dX0_stop_13 : decode cX0_stop 13 = .ok (.astore 4, 2) := dk_58 4 (dk_at dksX0_stop_0 13 rfl rfl)
theorem dX0_stop_15 : decode cX0_stop 15 = .ok (.iconst 1, 1) := dk_4 (dk_at dksX0_stop_0 15 rfl rfl)
theorem dX0_stop_16 : decode cX0_stop 16 = .ok (.ireturn, 1) := dk_172 (dk_at dksX0_stop_0 16 rfl rfl)
theorem dX0_stop_17 : decode cX0_stop 17 = .ok (.astore 4, 2) := dk_58 4 (dk_at dksX0_stop_0 17 rfl rfl)
theorem dX0_stop_19 : decode cX0_stop 19 = .ok (.iconst 2, 1) := dk_5 (dk_at dksX0_stop_0 19 rfl rfl)
theorem dX0_stop_20 : decode cX0_stop 20 = .ok (.ireturn, 1) := dk_172 (dk_at dksX0_stop_0 20 rfl rfl)
theorem dX0_stop_21 : decode cX0_stop 21 = .ok (.iconst 0, 1) := dk_3 (dk_at dksX0_stop_0 21 rfl rfl)
theorem dX0_stop_22 : decode cX0_stop 22 = .ok (.ireturn, 1) := dk_172 (dk_at dksX0_stop_0 22 rfl rfl)
abbrev cX0_finish : ByteArray := method_43_code
def yX0_finish : MethodName := ⟨RX0, "finish", "(LKeyringCourt;I[J)I"⟩
def dkwX0_finish_0 : List UInt8 := [44, 3, 42, 27, 182, 0, 145, 133, 80, 167, 0, 9, 78, 4, 172, 78, 5, 172, 3, 172]
abbrev dktX0_finish_0 : List UInt8 := dkwX0_finish_0 ++ []
theorem dksX0_finish_0 : cX0_finish.data.toList.drop 0 = dktX0_finish_0 := by decide +kernel
theorem dX0_finish_0 : decode cX0_finish 0 = .ok (.aload_n 2, 1) := dk_44 (dk_at dksX0_finish_0 0 rfl rfl)
theorem dX0_finish_1 : decode cX0_finish 1 = .ok (.iconst 0, 1) := dk_3 (dk_at dksX0_finish_0 1 rfl rfl)
theorem dX0_finish_2 : decode cX0_finish 2 = .ok (.aload_n 0, 1) := dk_42 (dk_at dksX0_finish_0 2 rfl rfl)
theorem dX0_finish_3 : decode cX0_finish 3 = .ok (.iload_n 1, 1) := dk_27 (dk_at dksX0_finish_0 3 rfl rfl)
theorem dX0_finish_4 : decode cX0_finish 4 = .ok (.invokevirtual 145, 3) := dk_182 0 145 (dk_at dksX0_finish_0 4 rfl rfl)
theorem dX0_finish_7 : decode cX0_finish 7 = .ok (.i2l, 1) := dk_133 (dk_at dksX0_finish_0 7 rfl rfl)
theorem dX0_finish_8 : decode cX0_finish 8 = .ok (.lastore, 1) := dk_80 (dk_at dksX0_finish_0 8 rfl rfl)
theorem dX0_finish_9 : decode cX0_finish 9 = .ok (.goto 9, 3) := dk_167 0 9 (dk_at dksX0_finish_0 9 rfl rfl)
theorem dX0_finish_12 : decode cX0_finish 12 = .ok (.astore_n 3, 1) := dk_78 (dk_at dksX0_finish_0 12 rfl rfl)
theorem dX0_finish_13 : decode cX0_finish 13 = .ok (.iconst 1, 1) := dk_4 (dk_at dksX0_finish_0 13 rfl rfl)
theorem dX0_finish_14 : decode cX0_finish 14 = .ok (.ireturn, 1) := dk_172 (dk_at dksX0_finish_0 14 rfl rfl)
theorem dX0_finish_15 : decode cX0_finish 15 = .ok (.astore_n 3, 1) := dk_78 (dk_at dksX0_finish_0 15 rfl rfl)
theorem dX0_finish_16 : decode cX0_finish 16 = .ok (.iconst 2, 1) := dk_5 (dk_at dksX0_finish_0 16 rfl rfl)
theorem dX0_finish_17 : decode cX0_finish 17 = .ok (.ireturn, 1) := dk_172 (dk_at dksX0_finish_0 17 rfl rfl)
theorem dX0_finish_18 : decode cX0_finish 18 = .ok (.iconst 0, 1) := dk_3 (dk_at dksX0_finish_0 18 rfl rfl)
theorem dX0_finish_19 : decode cX0_finish 19 = .ok (.ireturn, 1) := dk_172 (dk_at dksX0_finish_0 19 rfl rfl)
abbrev cX0_link : ByteArray := method_44_code
def yX0_link : MethodName := ⟨RX0, "link", "(LKeyringCourt;II[J)I"⟩
def dkwX0_link_0 : List UInt8 := [45, 3, 42, 27, 28, 182, 0, 148, 133, 80, 167, 0, 11, 58, 4, 4, 172, 58, 4, 5, 172, 3, 172]
abbrev dktX0_link_0 : List UInt8 := dkwX0_link_0 ++ []
theorem dksX0_link_0 : cX0_link.data.toList.drop 0 = dktX0_link_0 := by decide +kernel
theorem dX0_link_0 : decode cX0_link 0 = .ok (.aload_n 3, 1) := dk_45 (dk_at dksX0_link_0 0 rfl rfl)
theorem dX0_link_1 : decode cX0_link 1 = .ok (.iconst 0, 1) := dk_3 (dk_at dksX0_link_0 1 rfl rfl)
theorem dX0_link_2 : decode cX0_link 2 = .ok (.aload_n 0, 1) := dk_42 (dk_at dksX0_link_0 2 rfl rfl)
theorem dX0_link_3 : decode cX0_link 3 = .ok (.iload_n 1, 1) := dk_27 (dk_at dksX0_link_0 3 rfl rfl)
theorem dX0_link_4 : decode cX0_link 4 = .ok (.iload_n 2, 1) := dk_28 (dk_at dksX0_link_0 4 rfl rfl)
theorem dX0_link_5 : decode cX0_link 5 = .ok (.invokevirtual 148, 3) := dk_182 0 148 (dk_at dksX0_link_0 5 rfl rfl)
theorem dX0_link_8 : decode cX0_link 8 = .ok (.i2l, 1) := dk_133 (dk_at dksX0_link_0 8 rfl rfl)
theorem dX0_link_9 : decode cX0_link 9 = .ok (.lastore, 1) := dk_80 (dk_at dksX0_link_0 9 rfl rfl)
theorem dX0_link_10 : decode cX0_link 10 = .ok (.goto 11, 3) := dk_167 0 11 (dk_at dksX0_link_0 10 rfl rfl)
theorem dX0_link_13 : decode cX0_link 13 = .ok (.astore 4, 2) := dk_58 4 (dk_at dksX0_link_0 13 rfl rfl)
theorem dX0_link_15 : decode cX0_link 15 = .ok (.iconst 1, 1) := dk_4 (dk_at dksX0_link_0 15 rfl rfl)
theorem dX0_link_16 : decode cX0_link 16 = .ok (.ireturn, 1) := dk_172 (dk_at dksX0_link_0 16 rfl rfl)
theorem dX0_link_17 : decode cX0_link 17 = .ok (.astore 4, 2) := dk_58 4 (dk_at dksX0_link_0 17 rfl rfl)
theorem dX0_link_19 : decode cX0_link 19 = .ok (.iconst 2, 1) := dk_5 (dk_at dksX0_link_0 19 rfl rfl)
theorem dX0_link_20 : decode cX0_link 20 = .ok (.ireturn, 1) := dk_172 (dk_at dksX0_link_0 20 rfl rfl)
theorem dX0_link_21 : decode cX0_link 21 = .ok (.iconst 0, 1) := dk_3 (dk_at dksX0_link_0 21 rfl rfl)
theorem dX0_link_22 : decode cX0_link 22 = .ok (.ireturn, 1) := dk_172 (dk_at dksX0_link_0 22 rfl rfl)
abbrev cX0_foreign : ByteArray := method_45_code
def yX0_foreign : MethodName := ⟨RX0, "foreign", "(LKeyringCourt;I[J)I"⟩
def dkwX0_foreign_0 : List UInt8 := [44, 3, 42, 27, 182, 0, 151, 133, 80, 167, 0, 9, 78, 4, 172, 78, 5, 172, 3, 172]
abbrev dktX0_foreign_0 : List UInt8 := dkwX0_foreign_0 ++ []
theorem dksX0_foreign_0 : cX0_foreign.data.toList.drop 0 = dktX0_foreign_0 := by decide +kernel
theorem dX0_foreign_0 : decode cX0_foreign 0 = .ok (.aload_n 2, 1) := dk_44 (dk_at dksX0_foreign_0 0 rfl rfl)
theorem dX0_foreign_1 : decode cX0_foreign 1 = .ok (.iconst 0, 1) := dk_3 (dk_at dksX0_foreign_0 1 rfl rfl)
theorem dX0_foreign_2 : decode cX0_foreign 2 = .ok (.aload_n 0, 1) := dk_42 (dk_at dksX0_foreign_0 2 rfl rfl)
theorem dX0_foreign_3 : decode cX0_foreign 3 = .ok (.iload_n 1, 1) := dk_27 (dk_at dksX0_foreign_0 3 rfl rfl)
theorem dX0_foreign_4 : decode cX0_foreign 4 = .ok (.invokevirtual 151, 3) := dk_182 0 151 (dk_at dksX0_foreign_0 4 rfl rfl)
theorem dX0_foreign_7 : decode cX0_foreign 7 = .ok (.i2l, 1) := dk_133 (dk_at dksX0_foreign_0 7 rfl rfl)
theorem dX0_foreign_8 : decode cX0_foreign 8 = .ok (.lastore, 1) := dk_80 (dk_at dksX0_foreign_0 8 rfl rfl)
theorem dX0_foreign_9 : decode cX0_foreign 9 = .ok (.goto 9, 3) := dk_167 0 9 (dk_at dksX0_foreign_0 9 rfl rfl)
theorem dX0_foreign_12 : decode cX0_foreign 12 = .ok (.astore_n 3, 1) := dk_78 (dk_at dksX0_foreign_0 12 rfl rfl)
theorem dX0_foreign_13 : decode cX0_foreign 13 = .ok (.iconst 1, 1) := dk_4 (dk_at dksX0_foreign_0 13 rfl rfl)
theorem dX0_foreign_14 : decode cX0_foreign 14 = .ok (.ireturn, 1) := dk_172 (dk_at dksX0_foreign_0 14 rfl rfl)
theorem dX0_foreign_15 : decode cX0_foreign 15 = .ok (.astore_n 3, 1) := dk_78 (dk_at dksX0_foreign_0 15 rfl rfl)
theorem dX0_foreign_16 : decode cX0_foreign 16 = .ok (.iconst 2, 1) := dk_5 (dk_at dksX0_foreign_0 16 rfl rfl)
theorem dX0_foreign_17 : decode cX0_foreign 17 = .ok (.ireturn, 1) := dk_172 (dk_at dksX0_foreign_0 17 rfl rfl)
theorem dX0_foreign_18 : decode cX0_foreign 18 = .ok (.iconst 0, 1) := dk_3 (dk_at dksX0_foreign_0 18 rfl rfl)
theorem dX0_foreign_19 : decode cX0_foreign 19 = .ok (.ireturn, 1) := dk_172 (dk_at dksX0_foreign_0 19 rfl rfl)
abbrev cX0_leave : ByteArray := method_46_code
def yX0_leave : MethodName := ⟨RX0, "leave", "(LKeyringCourt;I[J)I"⟩
def dkwX0_leave_0 : List UInt8 := [44, 3, 42, 27, 182, 0, 154, 133, 80, 167, 0, 6, 78, 4, 172, 3, 172]
abbrev dktX0_leave_0 : List UInt8 := dkwX0_leave_0 ++ []
theorem dksX0_leave_0 : cX0_leave.data.toList.drop 0 = dktX0_leave_0 := by decide +kernel
theorem dX0_leave_0 : decode cX0_leave 0 = .ok (.aload_n 2, 1) := dk_44 (dk_at dksX0_leave_0 0 rfl rfl)
theorem dX0_leave_1 : decode cX0_leave 1 = .ok (.iconst 0, 1) := dk_3 (dk_at dksX0_leave_0 1 rfl rfl)
theorem dX0_leave_2 : decode cX0_leave 2 = .ok (.aload_n 0, 1) := dk_42 (dk_at dksX0_leave_0 2 rfl rfl)
theorem dX0_leave_3 : decode cX0_leave 3 = .ok (.iload_n 1, 1) := dk_27 (dk_at dksX0_leave_0 3 rfl rfl)
theorem dX0_leave_4 : decode cX0_leave 4 = .ok (.invokevirtual 154, 3) := dk_182 0 154 (dk_at dksX0_leave_0 4 rfl rfl)
theorem dX0_leave_7 : decode cX0_leave 7 = .ok (.i2l, 1) := dk_133 (dk_at dksX0_leave_0 7 rfl rfl)
theorem dX0_leave_8 : decode cX0_leave 8 = .ok (.lastore, 1) := dk_80 (dk_at dksX0_leave_0 8 rfl rfl)
theorem dX0_leave_9 : decode cX0_leave 9 = .ok (.goto 6, 3) := dk_167 0 6 (dk_at dksX0_leave_0 9 rfl rfl)
theorem dX0_leave_12 : decode cX0_leave 12 = .ok (.astore_n 3, 1) := dk_78 (dk_at dksX0_leave_0 12 rfl rfl)
theorem dX0_leave_13 : decode cX0_leave 13 = .ok (.iconst 1, 1) := dk_4 (dk_at dksX0_leave_0 13 rfl rfl)
theorem dX0_leave_14 : decode cX0_leave 14 = .ok (.ireturn, 1) := dk_172 (dk_at dksX0_leave_0 14 rfl rfl)
theorem dX0_leave_15 : decode cX0_leave 15 = .ok (.iconst 0, 1) := dk_3 (dk_at dksX0_leave_0 15 rfl rfl)
theorem dX0_leave_16 : decode cX0_leave 16 = .ok (.ireturn, 1) := dk_172 (dk_at dksX0_leave_0 16 rfl rfl)
abbrev cX0_audit : ByteArray := method_47_code
def yX0_audit : MethodName := ⟨RX0, "audit", "(LKeyringCourt;I[J)I"⟩
def dkwX0_audit_0 : List UInt8 := [44, 3, 42, 27, 182, 0, 157, 133, 80, 167, 0, 6, 78, 4, 172, 3, 172]
abbrev dktX0_audit_0 : List UInt8 := dkwX0_audit_0 ++ []
theorem dksX0_audit_0 : cX0_audit.data.toList.drop 0 = dktX0_audit_0 := by decide +kernel
theorem dX0_audit_0 : decode cX0_audit 0 = .ok (.aload_n 2, 1) := dk_44 (dk_at dksX0_audit_0 0 rfl rfl)
theorem dX0_audit_1 : decode cX0_audit 1 = .ok (.iconst 0, 1) := dk_3 (dk_at dksX0_audit_0 1 rfl rfl)
theorem dX0_audit_2 : decode cX0_audit 2 = .ok (.aload_n 0, 1) := dk_42 (dk_at dksX0_audit_0 2 rfl rfl)
theorem dX0_audit_3 : decode cX0_audit 3 = .ok (.iload_n 1, 1) := dk_27 (dk_at dksX0_audit_0 3 rfl rfl)
theorem dX0_audit_4 : decode cX0_audit 4 = .ok (.invokevirtual 157, 3) := dk_182 0 157 (dk_at dksX0_audit_0 4 rfl rfl)
theorem dX0_audit_7 : decode cX0_audit 7 = .ok (.i2l, 1) := dk_133 (dk_at dksX0_audit_0 7 rfl rfl)
theorem dX0_audit_8 : decode cX0_audit 8 = .ok (.lastore, 1) := dk_80 (dk_at dksX0_audit_0 8 rfl rfl)
theorem dX0_audit_9 : decode cX0_audit 9 = .ok (.goto 6, 3) := dk_167 0 6 (dk_at dksX0_audit_0 9 rfl rfl)
theorem dX0_audit_12 : decode cX0_audit 12 = .ok (.astore_n 3, 1) := dk_78 (dk_at dksX0_audit_0 12 rfl rfl)
theorem dX0_audit_13 : decode cX0_audit 13 = .ok (.iconst 1, 1) := dk_4 (dk_at dksX0_audit_0 13 rfl rfl)
theorem dX0_audit_14 : decode cX0_audit 14 = .ok (.ireturn, 1) := dk_172 (dk_at dksX0_audit_0 14 rfl rfl)
theorem dX0_audit_15 : decode cX0_audit 15 = .ok (.iconst 0, 1) := dk_3 (dk_at dksX0_audit_0 15 rfl rfl)
theorem dX0_audit_16 : decode cX0_audit 16 = .ok (.ireturn, 1) := dk_172 (dk_at dksX0_audit_0 16 rfl rfl)
abbrev cX0_sumAnew : ByteArray := method_48_code
def yX0_sumAnew : MethodName := ⟨RX0, "sumAnew", "(LKeyringCourt;I[J)I"⟩
def dkwX0_sumAnew_0 : List UInt8 := [44, 3, 42, 27, 182, 0, 160, 133, 80, 167, 0, 6, 78, 4, 172, 3, 172]
abbrev dktX0_sumAnew_0 : List UInt8 := dkwX0_sumAnew_0 ++ []
theorem dksX0_sumAnew_0 : cX0_sumAnew.data.toList.drop 0 = dktX0_sumAnew_0 := by decide +kernel
theorem dX0_sumAnew_0 : decode cX0_sumAnew 0 = .ok (.aload_n 2, 1) := dk_44 (dk_at dksX0_sumAnew_0 0 rfl rfl)
theorem dX0_sumAnew_1 : decode cX0_sumAnew 1 = .ok (.iconst 0, 1) := dk_3 (dk_at dksX0_sumAnew_0 1 rfl rfl)
theorem dX0_sumAnew_2 : decode cX0_sumAnew 2 = .ok (.aload_n 0, 1) := dk_42 (dk_at dksX0_sumAnew_0 2 rfl rfl)
theorem dX0_sumAnew_3 : decode cX0_sumAnew 3 = .ok (.iload_n 1, 1) := dk_27 (dk_at dksX0_sumAnew_0 3 rfl rfl)
theorem dX0_sumAnew_4 : decode cX0_sumAnew 4 = .ok (.invokevirtual 160, 3) := dk_182 0 160 (dk_at dksX0_sumAnew_0 4 rfl rfl)
theorem dX0_sumAnew_7 : decode cX0_sumAnew 7 = .ok (.i2l, 1) := dk_133 (dk_at dksX0_sumAnew_0 7 rfl rfl)
theorem dX0_sumAnew_8 : decode cX0_sumAnew 8 = .ok (.lastore, 1) := dk_80 (dk_at dksX0_sumAnew_0 8 rfl rfl)
theorem dX0_sumAnew_9 : decode cX0_sumAnew 9 = .ok (.goto 6, 3) := dk_167 0 6 (dk_at dksX0_sumAnew_0 9 rfl rfl)
theorem dX0_sumAnew_12 : decode cX0_sumAnew 12 = .ok (.astore_n 3, 1) := dk_78 (dk_at dksX0_sumAnew_0 12 rfl rfl)
theorem dX0_sumAnew_13 : decode cX0_sumAnew 13 = .ok (.iconst 1, 1) := dk_4 (dk_at dksX0_sumAnew_0 13 rfl rfl)
theorem dX0_sumAnew_14 : decode cX0_sumAnew 14 = .ok (.ireturn, 1) := dk_172 (dk_at dksX0_sumAnew_0 14 rfl rfl)
theorem dX0_sumAnew_15 : decode cX0_sumAnew 15 = .ok (.iconst 0, 1) := dk_3 (dk_at dksX0_sumAnew_0 15 rfl rfl)
theorem dX0_sumAnew_16 : decode cX0_sumAnew 16 = .ok (.ireturn, 1) := dk_172 (dk_at dksX0_sumAnew_0 16 rfl rfl)
theorem q70 : (Jvm.Cond.initialized "KeyringCourtLaw") ∈ lw_all := lw_g (lw_at lw_m1 0 rfl) rfl
theorem q122 : (Jvm.Cond.classLink "KeyringCourtLaw" (8 : Nat) "KeyringCourt") ∈ lw_all := lw_g (lw_at lw_m1 52 rfl) rfl
theorem q124 : (Jvm.Cond.methodLink "KeyringCourtLaw" (163 : Nat) ({ cls := "KeyringCourt", name := "<init>", desc := "()V" } : Jvm.MethodName)) ∈ lw_all := lw_g (lw_at lw_m1 54 rfl) rfl
theorem q762 : (Jvm.Cond.methodLink "KeyringCourtLaw" (187 : Nat) ({ cls := "KeyringCourt", name := "clear", desc := "()I" } : Jvm.MethodName)) ∈ lw_all := lw_g (lw_at lw_m3 212 rfl) rfl
theorem q782 : (Jvm.Cond.methodLink "KeyringCourtLaw" (225 : Nat) ({ cls := "KeyringCourt", name := "sessions", desc := "()I" } : Jvm.MethodName)) ∈ lw_all := lw_g (lw_at lw_m3 232 rfl) rfl
theorem q786 : (Jvm.Cond.methodLink "KeyringCourtLaw" (288 : Nat) ({ cls := "KeyringCourt", name := "signing", desc := "()I" } : Jvm.MethodName)) ∈ lw_all := lw_g (lw_at lw_m3 236 rfl) rfl
theorem q790 : (Jvm.Cond.methodLink "KeyringCourtLaw" (325 : Nat) ({ cls := "KeyringCourt", name := "audits", desc := "()I" } : Jvm.MethodName)) ∈ lw_all := lw_g (lw_at lw_m4 0 rfl) rfl
theorem q794 : (Jvm.Cond.methodLink "KeyringCourtLaw" (332 : Nat) ({ cls := "KeyringCourt", name := "sum", desc := "()I" } : Jvm.MethodName)) ∈ lw_all := lw_g (lw_at lw_m4 4 rfl) rfl
theorem q798 : (Jvm.Cond.methodLink "KeyringCourtLaw" (167 : Nat) ({ cls := "KeyringCourtLaw", name := "pass", desc := "(LKeyringCourt;I[J)I" } : Jvm.MethodName)) ∈ lw_all := lw_g (lw_at lw_m4 8 rfl) rfl
theorem q799 : (Jvm.Cond.static ({ cls := "KeyringCourtLaw", name := "pass", desc := "(LKeyringCourt;I[J)I" } : Jvm.MethodName)) ∈ lw_all := lw_g (lw_at lw_m4 9 rfl) rfl
theorem q800 : (Jvm.Cond.codeWith ({ cls := "KeyringCourtLaw", name := "pass", desc := "(LKeyringCourt;I[J)I" } : Jvm.MethodName) method_3_code (4 : Nat) (Option.some Jvm.ClassFile.FieldType.int) [((0 : Nat), (9 : Nat), (12 : Nat), (13 : Nat)), ((0 : Nat), (9 : Nat), (15 : Nat), (15 : Nat))]) ∈ lw_all := lw_g (lw_at lw_m4 10 rfl) rfl
theorem q801 : (Jvm.Cond.classLink "KeyringCourtLaw" (13 : Nat) "java/lang/IllegalArgumentException") ∈ lw_all := lw_g (lw_at lw_m4 11 rfl) rfl
theorem q802 : (Jvm.Cond.classLink "KeyringCourtLaw" (15 : Nat) "java/lang/IllegalStateException") ∈ lw_all := lw_g (lw_at lw_m4 12 rfl) rfl
theorem q803 : (Jvm.Cond.methodLink "KeyringCourtLaw" (7 : Nat) ({ cls := "KeyringCourt", name := "pass", desc := "(I)I" } : Jvm.MethodName)) ∈ lw_all := lw_g (lw_at lw_m4 13 rfl) rfl
theorem q1079 : (Jvm.Cond.methodLink "KeyringCourtLaw" (176 : Nat) ({ cls := "KeyringCourtLaw", name := "enroll", desc := "(LKeyringCourt;II[J)I" } : Jvm.MethodName)) ∈ lw_all := lw_g (lw_at lw_m5 49 rfl) rfl
theorem q1080 : (Jvm.Cond.static ({ cls := "KeyringCourtLaw", name := "enroll", desc := "(LKeyringCourt;II[J)I" } : Jvm.MethodName)) ∈ lw_all := lw_g (lw_at lw_m5 50 rfl) rfl
theorem q1081 : (Jvm.Cond.codeWith ({ cls := "KeyringCourtLaw", name := "enroll", desc := "(LKeyringCourt;II[J)I" } : Jvm.MethodName) method_4_code (5 : Nat) (Option.some Jvm.ClassFile.FieldType.int) [((0 : Nat), (10 : Nat), (13 : Nat), (21 : Nat)), ((0 : Nat), (10 : Nat), (17 : Nat), (13 : Nat))]) ∈ lw_all := lw_g (lw_at lw_m5 51 rfl) rfl
theorem q1082 : (Jvm.Cond.classLink "KeyringCourtLaw" (21 : Nat) "java/lang/IndexOutOfBoundsException") ∈ lw_all := lw_g (lw_at lw_m5 52 rfl) rfl
theorem q1098 : (Jvm.Cond.methodLink "KeyringCourtLaw" (17 : Nat) ({ cls := "KeyringCourt", name := "enroll", desc := "(II)I" } : Jvm.MethodName)) ∈ lw_all := lw_g (lw_at lw_m5 68 rfl) rfl
theorem q1121 : (Jvm.Cond.methodLink "KeyringCourtLaw" (180 : Nat) ({ cls := "KeyringCourtLaw", name := "factor", desc := "(LKeyringCourt;II[J)I" } : Jvm.MethodName)) ∈ lw_all := lw_g (lw_at lw_m5 91 rfl) rfl
theorem q1122 : (Jvm.Cond.static ({ cls := "KeyringCourtLaw", name := "factor", desc := "(LKeyringCourt;II[J)I" } : Jvm.MethodName)) ∈ lw_all := lw_g (lw_at lw_m5 92 rfl) rfl
theorem q1123 : (Jvm.Cond.codeWith ({ cls := "KeyringCourtLaw", name := "factor", desc := "(LKeyringCourt;II[J)I" } : Jvm.MethodName) method_5_code (5 : Nat) (Option.some Jvm.ClassFile.FieldType.int) [((0 : Nat), (10 : Nat), (13 : Nat), (21 : Nat)), ((0 : Nat), (10 : Nat), (17 : Nat), (13 : Nat))]) ∈ lw_all := lw_g (lw_at lw_m5 93 rfl) rfl
theorem q1124 : (Jvm.Cond.methodLink "KeyringCourtLaw" (23 : Nat) ({ cls := "KeyringCourt", name := "factor", desc := "(II)I" } : Jvm.MethodName)) ∈ lw_all := lw_g (lw_at lw_m5 94 rfl) rfl
theorem q1128 : (Jvm.Cond.methodLink "KeyringCourtLaw" (183 : Nat) ({ cls := "KeyringCourtLaw", name := "step", desc := "(LKeyringCourt;IIIII[J)I" } : Jvm.MethodName)) ∈ lw_all := lw_g (lw_at lw_m5 98 rfl) rfl
theorem q1129 : (Jvm.Cond.static ({ cls := "KeyringCourtLaw", name := "step", desc := "(LKeyringCourt;IIIII[J)I" } : Jvm.MethodName)) ∈ lw_all := lw_g (lw_at lw_m5 99 rfl) rfl
theorem q1130 : (Jvm.Cond.codeWith ({ cls := "KeyringCourtLaw", name := "step", desc := "(LKeyringCourt;IIIII[J)I" } : Jvm.MethodName) method_6_code (8 : Nat) (Option.some Jvm.ClassFile.FieldType.int) [((0 : Nat), (16 : Nat), (19 : Nat), (13 : Nat)), ((0 : Nat), (16 : Nat), (23 : Nat), (15 : Nat))]) ∈ lw_all := lw_g (lw_at lw_m5 100 rfl) rfl
theorem q1131 : (Jvm.Cond.methodLink "KeyringCourtLaw" (26 : Nat) ({ cls := "KeyringCourt", name := "step", desc := "(IIIII)I" } : Jvm.MethodName)) ∈ lw_all := lw_g (lw_at lw_m5 101 rfl) rfl
theorem q1169 : (Jvm.Cond.methodLink "KeyringCourtLaw" (191 : Nat) ({ cls := "KeyringCourtLaw", name := "publish", desc := "(LKeyringCourt;[J)I" } : Jvm.MethodName)) ∈ lw_all := lw_g (lw_at lw_m5 139 rfl) rfl
theorem q1170 : (Jvm.Cond.static ({ cls := "KeyringCourtLaw", name := "publish", desc := "(LKeyringCourt;[J)I" } : Jvm.MethodName)) ∈ lw_all := lw_g (lw_at lw_m5 140 rfl) rfl
theorem q1171 : (Jvm.Cond.codeWith ({ cls := "KeyringCourtLaw", name := "publish", desc := "(LKeyringCourt;[J)I" } : Jvm.MethodName) method_7_code (3 : Nat) (Option.some Jvm.ClassFile.FieldType.int) [((0 : Nat), (8 : Nat), (11 : Nat), (15 : Nat))]) ∈ lw_all := lw_g (lw_at lw_m5 141 rfl) rfl
theorem q1172 : (Jvm.Cond.methodLink "KeyringCourtLaw" (30 : Nat) ({ cls := "KeyringCourt", name := "publish", desc := "()I" } : Jvm.MethodName)) ∈ lw_all := lw_g (lw_at lw_m5 142 rfl) rfl
theorem q1343 : (Jvm.Cond.methodLink "KeyringCourtLaw" (195 : Nat) ({ cls := "KeyringCourtLaw", name := "weakest", desc := "(LKeyringCourt;I[J)I" } : Jvm.MethodName)) ∈ lw_all := lw_g (lw_at lw_m6 73 rfl) rfl
theorem q1344 : (Jvm.Cond.static ({ cls := "KeyringCourtLaw", name := "weakest", desc := "(LKeyringCourt;I[J)I" } : Jvm.MethodName)) ∈ lw_all := lw_g (lw_at lw_m6 74 rfl) rfl
theorem q1345 : (Jvm.Cond.codeWith ({ cls := "KeyringCourtLaw", name := "weakest", desc := "(LKeyringCourt;I[J)I" } : Jvm.MethodName) method_8_code (4 : Nat) (Option.some Jvm.ClassFile.FieldType.int) [((0 : Nat), (9 : Nat), (12 : Nat), (21 : Nat))]) ∈ lw_all := lw_g (lw_at lw_m6 75 rfl) rfl
theorem q1346 : (Jvm.Cond.methodLink "KeyringCourtLaw" (34 : Nat) ({ cls := "KeyringCourt", name := "weakest", desc := "(I)I" } : Jvm.MethodName)) ∈ lw_all := lw_g (lw_at lw_m6 76 rfl) rfl
theorem q1364 : (Jvm.Cond.methodLink "KeyringCourtLaw" (198 : Nat) ({ cls := "KeyringCourtLaw", name := "points", desc := "(LKeyringCourt;IIZ[J)I" } : Jvm.MethodName)) ∈ lw_all := lw_g (lw_at lw_m6 94 rfl) rfl
theorem q1365 : (Jvm.Cond.static ({ cls := "KeyringCourtLaw", name := "points", desc := "(LKeyringCourt;IIZ[J)I" } : Jvm.MethodName)) ∈ lw_all := lw_g (lw_at lw_m6 95 rfl) rfl
theorem q1366 : (Jvm.Cond.codeWith ({ cls := "KeyringCourtLaw", name := "points", desc := "(LKeyringCourt;IIZ[J)I" } : Jvm.MethodName) method_9_code (6 : Nat) (Option.some Jvm.ClassFile.FieldType.int) [((0 : Nat), (12 : Nat), (15 : Nat), (13 : Nat))]) ∈ lw_all := lw_g (lw_at lw_m6 96 rfl) rfl
theorem q1367 : (Jvm.Cond.methodLink "KeyringCourtLaw" (37 : Nat) ({ cls := "KeyringCourt", name := "points", desc := "(IIZ)I" } : Jvm.MethodName)) ∈ lw_all := lw_g (lw_at lw_m6 97 rfl) rfl
theorem q1371 : (Jvm.Cond.methodLink "KeyringCourtLaw" (202 : Nat) ({ cls := "KeyringCourtLaw", name := "begin", desc := "(LKeyringCourt;III[J)I" } : Jvm.MethodName)) ∈ lw_all := lw_g (lw_at lw_m6 101 rfl) rfl
theorem q1372 : (Jvm.Cond.static ({ cls := "KeyringCourtLaw", name := "begin", desc := "(LKeyringCourt;III[J)I" } : Jvm.MethodName)) ∈ lw_all := lw_g (lw_at lw_m6 102 rfl) rfl
theorem q1373 : (Jvm.Cond.codeWith ({ cls := "KeyringCourtLaw", name := "begin", desc := "(LKeyringCourt;III[J)I" } : Jvm.MethodName) method_10_code (6 : Nat) (Option.some Jvm.ClassFile.FieldType.int) [((0 : Nat), (12 : Nat), (15 : Nat), (21 : Nat)), ((0 : Nat), (12 : Nat), (19 : Nat), (15 : Nat))]) ∈ lw_all := lw_g (lw_at lw_m6 103 rfl) rfl
theorem q1374 : (Jvm.Cond.methodLink "KeyringCourtLaw" (41 : Nat) ({ cls := "KeyringCourt", name := "begin", desc := "(III)I" } : Jvm.MethodName)) ∈ lw_all := lw_g (lw_at lw_m6 104 rfl) rfl
theorem q1696 : (Jvm.Cond.methodLink "KeyringCourtLaw" (206 : Nat) ({ cls := "KeyringCourtLaw", name := "answer", desc := "(LKeyringCourt;IZI[J)I" } : Jvm.MethodName)) ∈ lw_all := lw_g (lw_at lw_m7 186 rfl) rfl
theorem q1697 : (Jvm.Cond.static ({ cls := "KeyringCourtLaw", name := "answer", desc := "(LKeyringCourt;IZI[J)I" } : Jvm.MethodName)) ∈ lw_all := lw_g (lw_at lw_m7 187 rfl) rfl
theorem q1698 : (Jvm.Cond.codeWith ({ cls := "KeyringCourtLaw", name := "answer", desc := "(LKeyringCourt;IZI[J)I" } : Jvm.MethodName) method_11_code (6 : Nat) (Option.some Jvm.ClassFile.FieldType.int) [((0 : Nat), (12 : Nat), (15 : Nat), (21 : Nat)), ((0 : Nat), (12 : Nat), (19 : Nat), (13 : Nat)), ((0 : Nat), (12 : Nat), (23 : Nat), (15 : Nat))]) ∈ lw_all := lw_g (lw_at lw_m7 188 rfl) rfl
theorem q1699 : (Jvm.Cond.methodLink "KeyringCourtLaw" (45 : Nat) ({ cls := "KeyringCourt", name := "answer", desc := "(IZI)I" } : Jvm.MethodName)) ∈ lw_all := lw_g (lw_at lw_m7 189 rfl) rfl
theorem q1722 : (Jvm.Cond.methodLink "KeyringCourtLaw" (210 : Nat) ({ cls := "KeyringCourtLaw", name := "state", desc := "(LKeyringCourt;I[J)I" } : Jvm.MethodName)) ∈ lw_all := lw_g (lw_at lw_m7 212 rfl) rfl
theorem q1723 : (Jvm.Cond.static ({ cls := "KeyringCourtLaw", name := "state", desc := "(LKeyringCourt;I[J)I" } : Jvm.MethodName)) ∈ lw_all := lw_g (lw_at lw_m7 213 rfl) rfl
theorem q1724 : (Jvm.Cond.codeWith ({ cls := "KeyringCourtLaw", name := "state", desc := "(LKeyringCourt;I[J)I" } : Jvm.MethodName) method_12_code (4 : Nat) (Option.some Jvm.ClassFile.FieldType.int) [((0 : Nat), (9 : Nat), (12 : Nat), (21 : Nat))]) ∈ lw_all := lw_g (lw_at lw_m7 214 rfl) rfl
theorem q1725 : (Jvm.Cond.methodLink "KeyringCourtLaw" (49 : Nat) ({ cls := "KeyringCourt", name := "state", desc := "(I)I" } : Jvm.MethodName)) ∈ lw_all := lw_g (lw_at lw_m7 215 rfl) rfl
theorem q1729 : (Jvm.Cond.methodLink "KeyringCourtLaw" (213 : Nat) ({ cls := "KeyringCourtLaw", name := "asked", desc := "(LKeyringCourt;I[J)I" } : Jvm.MethodName)) ∈ lw_all := lw_g (lw_at lw_m7 219 rfl) rfl
theorem q1730 : (Jvm.Cond.static ({ cls := "KeyringCourtLaw", name := "asked", desc := "(LKeyringCourt;I[J)I" } : Jvm.MethodName)) ∈ lw_all := lw_g (lw_at lw_m7 220 rfl) rfl
theorem q1731 : (Jvm.Cond.codeWith ({ cls := "KeyringCourtLaw", name := "asked", desc := "(LKeyringCourt;I[J)I" } : Jvm.MethodName) method_13_code (4 : Nat) (Option.some Jvm.ClassFile.FieldType.int) [((0 : Nat), (9 : Nat), (12 : Nat), (21 : Nat))]) ∈ lw_all := lw_g (lw_at lw_m7 221 rfl) rfl
theorem q1732 : (Jvm.Cond.methodLink "KeyringCourtLaw" (52 : Nat) ({ cls := "KeyringCourt", name := "asked", desc := "(I)I" } : Jvm.MethodName)) ∈ lw_all := lw_g (lw_at lw_m7 222 rfl) rfl
theorem q1740 : (Jvm.Cond.methodLink "KeyringCourtLaw" (216 : Nat) ({ cls := "KeyringCourtLaw", name := "sessionOf", desc := "(LKeyringCourt;I[J)I" } : Jvm.MethodName)) ∈ lw_all := lw_g (lw_at lw_m7 230 rfl) rfl
theorem q1741 : (Jvm.Cond.static ({ cls := "KeyringCourtLaw", name := "sessionOf", desc := "(LKeyringCourt;I[J)I" } : Jvm.MethodName)) ∈ lw_all := lw_g (lw_at lw_m7 231 rfl) rfl
theorem q1742 : (Jvm.Cond.codeWith ({ cls := "KeyringCourtLaw", name := "sessionOf", desc := "(LKeyringCourt;I[J)I" } : Jvm.MethodName) method_14_code (4 : Nat) (Option.some Jvm.ClassFile.FieldType.int) [((0 : Nat), (9 : Nat), (12 : Nat), (21 : Nat))]) ∈ lw_all := lw_g (lw_at lw_m7 232 rfl) rfl
theorem q1743 : (Jvm.Cond.methodLink "KeyringCourtLaw" (55 : Nat) ({ cls := "KeyringCourt", name := "sessionOf", desc := "(I)I" } : Jvm.MethodName)) ∈ lw_all := lw_g (lw_at lw_m7 233 rfl) rfl
theorem q1747 : (Jvm.Cond.methodLink "KeyringCourtLaw" (219 : Nat) ({ cls := "KeyringCourtLaw", name := "risk", desc := "(LKeyringCourt;I[J)I" } : Jvm.MethodName)) ∈ lw_all := lw_g (lw_at lw_m7 237 rfl) rfl
theorem q1748 : (Jvm.Cond.static ({ cls := "KeyringCourtLaw", name := "risk", desc := "(LKeyringCourt;I[J)I" } : Jvm.MethodName)) ∈ lw_all := lw_g (lw_at lw_m7 238 rfl) rfl
theorem q1749 : (Jvm.Cond.codeWith ({ cls := "KeyringCourtLaw", name := "risk", desc := "(LKeyringCourt;I[J)I" } : Jvm.MethodName) method_15_code (4 : Nat) (Option.some Jvm.ClassFile.FieldType.int) [((0 : Nat), (9 : Nat), (12 : Nat), (21 : Nat))]) ∈ lw_all := lw_g (lw_at lw_m7 239 rfl) rfl
theorem q1750 : (Jvm.Cond.methodLink "KeyringCourtLaw" (58 : Nat) ({ cls := "KeyringCourt", name := "risk", desc := "(I)I" } : Jvm.MethodName)) ∈ lw_all := lw_g (lw_at lw_m8 0 rfl) rfl
theorem q1755 : (Jvm.Cond.methodLink "KeyringCourtLaw" (222 : Nat) ({ cls := "KeyringCourtLaw", name := "trialRisk", desc := "(LKeyringCourt;I[J)I" } : Jvm.MethodName)) ∈ lw_all := lw_g (lw_at lw_m8 5 rfl) rfl
theorem q1756 : (Jvm.Cond.static ({ cls := "KeyringCourtLaw", name := "trialRisk", desc := "(LKeyringCourt;I[J)I" } : Jvm.MethodName)) ∈ lw_all := lw_g (lw_at lw_m8 6 rfl) rfl
theorem q1757 : (Jvm.Cond.codeWith ({ cls := "KeyringCourtLaw", name := "trialRisk", desc := "(LKeyringCourt;I[J)I" } : Jvm.MethodName) method_16_code (4 : Nat) (Option.some Jvm.ClassFile.FieldType.int) [((0 : Nat), (9 : Nat), (12 : Nat), (21 : Nat))]) ∈ lw_all := lw_g (lw_at lw_m8 7 rfl) rfl
theorem q1758 : (Jvm.Cond.methodLink "KeyringCourtLaw" (61 : Nat) ({ cls := "KeyringCourt", name := "trialRisk", desc := "(I)I" } : Jvm.MethodName)) ∈ lw_all := lw_g (lw_at lw_m8 8 rfl) rfl
theorem q1762 : (Jvm.Cond.methodLink "KeyringCourtLaw" (229 : Nat) ({ cls := "KeyringCourtLaw", name := "isLive", desc := "(LKeyringCourt;I[J)I" } : Jvm.MethodName)) ∈ lw_all := lw_g (lw_at lw_m8 12 rfl) rfl
theorem q1763 : (Jvm.Cond.static ({ cls := "KeyringCourtLaw", name := "isLive", desc := "(LKeyringCourt;I[J)I" } : Jvm.MethodName)) ∈ lw_all := lw_g (lw_at lw_m8 13 rfl) rfl
theorem q1764 : (Jvm.Cond.codeWith ({ cls := "KeyringCourtLaw", name := "isLive", desc := "(LKeyringCourt;I[J)I" } : Jvm.MethodName) method_17_code (4 : Nat) (Option.some Jvm.ClassFile.FieldType.int) [((0 : Nat), (16 : Nat), (19 : Nat), (21 : Nat))]) ∈ lw_all := lw_g (lw_at lw_m8 14 rfl) rfl
theorem q1765 : (Jvm.Cond.methodLink "KeyringCourtLaw" (64 : Nat) ({ cls := "KeyringCourt", name := "isLive", desc := "(I)Z" } : Jvm.MethodName)) ∈ lw_all := lw_g (lw_at lw_m8 15 rfl) rfl
theorem q1769 : (Jvm.Cond.methodLink "KeyringCourtLaw" (232 : Nat) ({ cls := "KeyringCourtLaw", name := "isLiveByAudit", desc := "(LKeyringCourt;I[J)I" } : Jvm.MethodName)) ∈ lw_all := lw_g (lw_at lw_m8 19 rfl) rfl
theorem q1770 : (Jvm.Cond.static ({ cls := "KeyringCourtLaw", name := "isLiveByAudit", desc := "(LKeyringCourt;I[J)I" } : Jvm.MethodName)) ∈ lw_all := lw_g (lw_at lw_m8 20 rfl) rfl
theorem q1771 : (Jvm.Cond.codeWith ({ cls := "KeyringCourtLaw", name := "isLiveByAudit", desc := "(LKeyringCourt;I[J)I" } : Jvm.MethodName) method_18_code (4 : Nat) (Option.some Jvm.ClassFile.FieldType.int) [((0 : Nat), (16 : Nat), (19 : Nat), (21 : Nat))]) ∈ lw_all := lw_g (lw_at lw_m8 21 rfl) rfl
theorem q1772 : (Jvm.Cond.methodLink "KeyringCourtLaw" (68 : Nat) ({ cls := "KeyringCourt", name := "isLiveByAudit", desc := "(I)Z" } : Jvm.MethodName)) ∈ lw_all := lw_g (lw_at lw_m8 22 rfl) rfl
theorem q1776 : (Jvm.Cond.methodLink "KeyringCourtLaw" (235 : Nat) ({ cls := "KeyringCourtLaw", name := "level", desc := "(LKeyringCourt;I[J)I" } : Jvm.MethodName)) ∈ lw_all := lw_g (lw_at lw_m8 26 rfl) rfl
theorem q1777 : (Jvm.Cond.static ({ cls := "KeyringCourtLaw", name := "level", desc := "(LKeyringCourt;I[J)I" } : Jvm.MethodName)) ∈ lw_all := lw_g (lw_at lw_m8 27 rfl) rfl
theorem q1778 : (Jvm.Cond.codeWith ({ cls := "KeyringCourtLaw", name := "level", desc := "(LKeyringCourt;I[J)I" } : Jvm.MethodName) method_19_code (4 : Nat) (Option.some Jvm.ClassFile.FieldType.int) [((0 : Nat), (9 : Nat), (12 : Nat), (21 : Nat))]) ∈ lw_all := lw_g (lw_at lw_m8 28 rfl) rfl
theorem q1779 : (Jvm.Cond.methodLink "KeyringCourtLaw" (71 : Nat) ({ cls := "KeyringCourt", name := "level", desc := "(I)I" } : Jvm.MethodName)) ∈ lw_all := lw_g (lw_at lw_m8 29 rfl) rfl
theorem q1788 : (Jvm.Cond.methodLink "KeyringCourtLaw" (238 : Nat) ({ cls := "KeyringCourtLaw", name := "stepUp", desc := "(LKeyringCourt;IIZI[J)I" } : Jvm.MethodName)) ∈ lw_all := lw_g (lw_at lw_m8 38 rfl) rfl
theorem q1789 : (Jvm.Cond.static ({ cls := "KeyringCourtLaw", name := "stepUp", desc := "(LKeyringCourt;IIZI[J)I" } : Jvm.MethodName)) ∈ lw_all := lw_g (lw_at lw_m8 39 rfl) rfl
theorem q1790 : (Jvm.Cond.codeWith ({ cls := "KeyringCourtLaw", name := "stepUp", desc := "(LKeyringCourt;IIZI[J)I" } : Jvm.MethodName) method_20_code (7 : Nat) (Option.some Jvm.ClassFile.FieldType.int) [((0 : Nat), (14 : Nat), (17 : Nat), (21 : Nat)), ((0 : Nat), (14 : Nat), (21 : Nat), (13 : Nat)), ((0 : Nat), (14 : Nat), (25 : Nat), (15 : Nat))]) ∈ lw_all := lw_g (lw_at lw_m8 40 rfl) rfl
theorem q1791 : (Jvm.Cond.methodLink "KeyringCourtLaw" (74 : Nat) ({ cls := "KeyringCourt", name := "stepUp", desc := "(IIZI)I" } : Jvm.MethodName)) ∈ lw_all := lw_g (lw_at lw_m8 41 rfl) rfl
theorem q1800 : (Jvm.Cond.methodLink "KeyringCourtLaw" (242 : Nat) ({ cls := "KeyringCourtLaw", name := "signOut", desc := "(LKeyringCourt;I[J)I" } : Jvm.MethodName)) ∈ lw_all := lw_g (lw_at lw_m8 50 rfl) rfl
theorem q1801 : (Jvm.Cond.static ({ cls := "KeyringCourtLaw", name := "signOut", desc := "(LKeyringCourt;I[J)I" } : Jvm.MethodName)) ∈ lw_all := lw_g (lw_at lw_m8 51 rfl) rfl
theorem q1802 : (Jvm.Cond.codeWith ({ cls := "KeyringCourtLaw", name := "signOut", desc := "(LKeyringCourt;I[J)I" } : Jvm.MethodName) method_21_code (4 : Nat) (Option.some Jvm.ClassFile.FieldType.int) [((0 : Nat), (9 : Nat), (12 : Nat), (21 : Nat)), ((0 : Nat), (9 : Nat), (15 : Nat), (15 : Nat))]) ∈ lw_all := lw_g (lw_at lw_m8 52 rfl) rfl
theorem q1803 : (Jvm.Cond.methodLink "KeyringCourtLaw" (78 : Nat) ({ cls := "KeyringCourt", name := "signOut", desc := "(I)I" } : Jvm.MethodName)) ∈ lw_all := lw_g (lw_at lw_m8 53 rfl) rfl
theorem q1807 : (Jvm.Cond.methodLink "KeyringCourtLaw" (245 : Nat) ({ cls := "KeyringCourtLaw", name := "helper", desc := "(LKeyringCourt;I[J)I" } : Jvm.MethodName)) ∈ lw_all := lw_g (lw_at lw_m8 57 rfl) rfl
theorem q1808 : (Jvm.Cond.static ({ cls := "KeyringCourtLaw", name := "helper", desc := "(LKeyringCourt;I[J)I" } : Jvm.MethodName)) ∈ lw_all := lw_g (lw_at lw_m8 58 rfl) rfl
theorem q1809 : (Jvm.Cond.codeWith ({ cls := "KeyringCourtLaw", name := "helper", desc := "(LKeyringCourt;I[J)I" } : Jvm.MethodName) method_22_code (4 : Nat) (Option.some Jvm.ClassFile.FieldType.int) [((0 : Nat), (16 : Nat), (19 : Nat), (21 : Nat))]) ∈ lw_all := lw_g (lw_at lw_m8 59 rfl) rfl
theorem q1810 : (Jvm.Cond.methodLink "KeyringCourtLaw" (81 : Nat) ({ cls := "KeyringCourt", name := "helper", desc := "(I)Z" } : Jvm.MethodName)) ∈ lw_all := lw_g (lw_at lw_m8 60 rfl) rfl
theorem q1814 : (Jvm.Cond.methodLink "KeyringCourtLaw" (248 : Nat) ({ cls := "KeyringCourtLaw", name := "act", desc := "(LKeyringCourt;II[J)I" } : Jvm.MethodName)) ∈ lw_all := lw_g (lw_at lw_m8 64 rfl) rfl
theorem q1815 : (Jvm.Cond.static ({ cls := "KeyringCourtLaw", name := "act", desc := "(LKeyringCourt;II[J)I" } : Jvm.MethodName)) ∈ lw_all := lw_g (lw_at lw_m8 65 rfl) rfl
theorem q1816 : (Jvm.Cond.codeWith ({ cls := "KeyringCourtLaw", name := "act", desc := "(LKeyringCourt;II[J)I" } : Jvm.MethodName) method_23_code (5 : Nat) (Option.some Jvm.ClassFile.FieldType.int) [((0 : Nat), (10 : Nat), (13 : Nat), (21 : Nat)), ((0 : Nat), (10 : Nat), (17 : Nat), (15 : Nat))]) ∈ lw_all := lw_g (lw_at lw_m8 66 rfl) rfl
theorem q1817 : (Jvm.Cond.methodLink "KeyringCourtLaw" (84 : Nat) ({ cls := "KeyringCourt", name := "act", desc := "(II)I" } : Jvm.MethodName)) ∈ lw_all := lw_g (lw_at lw_m8 67 rfl) rfl
theorem q1822 : (Jvm.Cond.methodLink "KeyringCourtLaw" (251 : Nat) ({ cls := "KeyringCourtLaw", name := "consent", desc := "(LKeyringCourt;III[J)I" } : Jvm.MethodName)) ∈ lw_all := lw_g (lw_at lw_m8 72 rfl) rfl
theorem q1823 : (Jvm.Cond.static ({ cls := "KeyringCourtLaw", name := "consent", desc := "(LKeyringCourt;III[J)I" } : Jvm.MethodName)) ∈ lw_all := lw_g (lw_at lw_m8 73 rfl) rfl
theorem q1824 : (Jvm.Cond.codeWith ({ cls := "KeyringCourtLaw", name := "consent", desc := "(LKeyringCourt;III[J)I" } : Jvm.MethodName) method_24_code (6 : Nat) (Option.some Jvm.ClassFile.FieldType.int) [((0 : Nat), (12 : Nat), (15 : Nat), (21 : Nat)), ((0 : Nat), (12 : Nat), (19 : Nat), (13 : Nat))]) ∈ lw_all := lw_g (lw_at lw_m8 74 rfl) rfl
theorem q1825 : (Jvm.Cond.methodLink "KeyringCourtLaw" (87 : Nat) ({ cls := "KeyringCourt", name := "consent", desc := "(III)I" } : Jvm.MethodName)) ∈ lw_all := lw_g (lw_at lw_m8 75 rfl) rfl
theorem q1833 : (Jvm.Cond.methodLink "KeyringCourtLaw" (254 : Nat) ({ cls := "KeyringCourtLaw", name := "withdraw", desc := "(LKeyringCourt;II[J)I" } : Jvm.MethodName)) ∈ lw_all := lw_g (lw_at lw_m8 83 rfl) rfl
theorem q1834 : (Jvm.Cond.static ({ cls := "KeyringCourtLaw", name := "withdraw", desc := "(LKeyringCourt;II[J)I" } : Jvm.MethodName)) ∈ lw_all := lw_g (lw_at lw_m8 84 rfl) rfl
theorem q1835 : (Jvm.Cond.codeWith ({ cls := "KeyringCourtLaw", name := "withdraw", desc := "(LKeyringCourt;II[J)I" } : Jvm.MethodName) method_25_code (5 : Nat) (Option.some Jvm.ClassFile.FieldType.int) [((0 : Nat), (10 : Nat), (13 : Nat), (21 : Nat))]) ∈ lw_all := lw_g (lw_at lw_m8 85 rfl) rfl
theorem q1836 : (Jvm.Cond.methodLink "KeyringCourtLaw" (90 : Nat) ({ cls := "KeyringCourt", name := "withdraw", desc := "(II)I" } : Jvm.MethodName)) ∈ lw_all := lw_g (lw_at lw_m8 86 rfl) rfl
theorem q1842 : (Jvm.Cond.methodLink "KeyringCourtLaw" (257 : Nat) ({ cls := "KeyringCourtLaw", name := "need", desc := "(LKeyringCourt;II[J)I" } : Jvm.MethodName)) ∈ lw_all := lw_g (lw_at lw_m8 92 rfl) rfl
theorem q1843 : (Jvm.Cond.static ({ cls := "KeyringCourtLaw", name := "need", desc := "(LKeyringCourt;II[J)I" } : Jvm.MethodName)) ∈ lw_all := lw_g (lw_at lw_m8 93 rfl) rfl
theorem q1844 : (Jvm.Cond.codeWith ({ cls := "KeyringCourtLaw", name := "need", desc := "(LKeyringCourt;II[J)I" } : Jvm.MethodName) method_26_code (5 : Nat) (Option.some Jvm.ClassFile.FieldType.int) [((0 : Nat), (10 : Nat), (13 : Nat), (21 : Nat)), ((0 : Nat), (10 : Nat), (17 : Nat), (13 : Nat))]) ∈ lw_all := lw_g (lw_at lw_m8 94 rfl) rfl
theorem q1845 : (Jvm.Cond.methodLink "KeyringCourtLaw" (93 : Nat) ({ cls := "KeyringCourt", name := "need", desc := "(II)I" } : Jvm.MethodName)) ∈ lw_all := lw_g (lw_at lw_m8 95 rfl) rfl
theorem q1849 : (Jvm.Cond.methodLink "KeyringCourtLaw" (260 : Nat) ({ cls := "KeyringCourtLaw", name := "authorize", desc := "(LKeyringCourt;IIII[J)I" } : Jvm.MethodName)) ∈ lw_all := lw_g (lw_at lw_m8 99 rfl) rfl
theorem q1850 : (Jvm.Cond.static ({ cls := "KeyringCourtLaw", name := "authorize", desc := "(LKeyringCourt;IIII[J)I" } : Jvm.MethodName)) ∈ lw_all := lw_g (lw_at lw_m8 100 rfl) rfl
theorem q1851 : (Jvm.Cond.codeWith ({ cls := "KeyringCourtLaw", name := "authorize", desc := "(LKeyringCourt;IIII[J)I" } : Jvm.MethodName) method_27_code (7 : Nat) (Option.some Jvm.ClassFile.FieldType.int) [((0 : Nat), (14 : Nat), (17 : Nat), (21 : Nat)), ((0 : Nat), (14 : Nat), (21 : Nat), (13 : Nat)), ((0 : Nat), (14 : Nat), (25 : Nat), (15 : Nat))]) ∈ lw_all := lw_g (lw_at lw_m8 101 rfl) rfl
theorem q1852 : (Jvm.Cond.methodLink "KeyringCourtLaw" (96 : Nat) ({ cls := "KeyringCourt", name := "authorize", desc := "(IIII)I" } : Jvm.MethodName)) ∈ lw_all := lw_g (lw_at lw_m8 102 rfl) rfl
theorem q1887 : (Jvm.Cond.methodLink "KeyringCourtLaw" (264 : Nat) ({ cls := "KeyringCourtLaw", name := "redeem", desc := "(LKeyringCourt;I[J)I" } : Jvm.MethodName)) ∈ lw_all := lw_g (lw_at lw_m8 137 rfl) rfl
theorem q1888 : (Jvm.Cond.static ({ cls := "KeyringCourtLaw", name := "redeem", desc := "(LKeyringCourt;I[J)I" } : Jvm.MethodName)) ∈ lw_all := lw_g (lw_at lw_m8 138 rfl) rfl
theorem q1889 : (Jvm.Cond.codeWith ({ cls := "KeyringCourtLaw", name := "redeem", desc := "(LKeyringCourt;I[J)I" } : Jvm.MethodName) method_28_code (4 : Nat) (Option.some Jvm.ClassFile.FieldType.int) [((0 : Nat), (9 : Nat), (12 : Nat), (21 : Nat)), ((0 : Nat), (9 : Nat), (15 : Nat), (15 : Nat))]) ∈ lw_all := lw_g (lw_at lw_m8 139 rfl) rfl
theorem q1890 : (Jvm.Cond.methodLink "KeyringCourtLaw" (100 : Nat) ({ cls := "KeyringCourt", name := "redeem", desc := "(I)I" } : Jvm.MethodName)) ∈ lw_all := lw_g (lw_at lw_m8 140 rfl) rfl
theorem q1994 : (Jvm.Cond.methodLink "KeyringCourtLaw" (267 : Nat) ({ cls := "KeyringCourtLaw", name := "refresh", desc := "(LKeyringCourt;II[J)I" } : Jvm.MethodName)) ∈ lw_all := lw_g (lw_at lw_m9 4 rfl) rfl
theorem q1995 : (Jvm.Cond.static ({ cls := "KeyringCourtLaw", name := "refresh", desc := "(LKeyringCourt;II[J)I" } : Jvm.MethodName)) ∈ lw_all := lw_g (lw_at lw_m9 5 rfl) rfl
theorem q1996 : (Jvm.Cond.codeWith ({ cls := "KeyringCourtLaw", name := "refresh", desc := "(LKeyringCourt;II[J)I" } : Jvm.MethodName) method_29_code (5 : Nat) (Option.some Jvm.ClassFile.FieldType.int) [((0 : Nat), (10 : Nat), (13 : Nat), (21 : Nat)), ((0 : Nat), (10 : Nat), (17 : Nat), (13 : Nat)), ((0 : Nat), (10 : Nat), (21 : Nat), (15 : Nat))]) ∈ lw_all := lw_g (lw_at lw_m9 6 rfl) rfl
theorem q1997 : (Jvm.Cond.methodLink "KeyringCourtLaw" (103 : Nat) ({ cls := "KeyringCourt", name := "refresh", desc := "(II)I" } : Jvm.MethodName)) ∈ lw_all := lw_g (lw_at lw_m9 7 rfl) rfl
theorem q2008 : (Jvm.Cond.methodLink "KeyringCourtLaw" (270 : Nat) ({ cls := "KeyringCourtLaw", name := "isGood", desc := "(LKeyringCourt;I[J)I" } : Jvm.MethodName)) ∈ lw_all := lw_g (lw_at lw_m9 18 rfl) rfl
theorem q2009 : (Jvm.Cond.static ({ cls := "KeyringCourtLaw", name := "isGood", desc := "(LKeyringCourt;I[J)I" } : Jvm.MethodName)) ∈ lw_all := lw_g (lw_at lw_m9 19 rfl) rfl
theorem q2010 : (Jvm.Cond.codeWith ({ cls := "KeyringCourtLaw", name := "isGood", desc := "(LKeyringCourt;I[J)I" } : Jvm.MethodName) method_30_code (4 : Nat) (Option.some Jvm.ClassFile.FieldType.int) [((0 : Nat), (16 : Nat), (19 : Nat), (21 : Nat))]) ∈ lw_all := lw_g (lw_at lw_m9 20 rfl) rfl
theorem q2011 : (Jvm.Cond.methodLink "KeyringCourtLaw" (106 : Nat) ({ cls := "KeyringCourt", name := "isGood", desc := "(I)Z" } : Jvm.MethodName)) ∈ lw_all := lw_g (lw_at lw_m9 21 rfl) rfl
theorem q2015 : (Jvm.Cond.methodLink "KeyringCourtLaw" (273 : Nat) ({ cls := "KeyringCourtLaw", name := "tokenOf", desc := "(LKeyringCourt;I[J)I" } : Jvm.MethodName)) ∈ lw_all := lw_g (lw_at lw_m9 25 rfl) rfl
theorem q2016 : (Jvm.Cond.static ({ cls := "KeyringCourtLaw", name := "tokenOf", desc := "(LKeyringCourt;I[J)I" } : Jvm.MethodName)) ∈ lw_all := lw_g (lw_at lw_m9 26 rfl) rfl
theorem q2017 : (Jvm.Cond.codeWith ({ cls := "KeyringCourtLaw", name := "tokenOf", desc := "(LKeyringCourt;I[J)I" } : Jvm.MethodName) method_31_code (4 : Nat) (Option.some Jvm.ClassFile.FieldType.int) [((0 : Nat), (9 : Nat), (12 : Nat), (21 : Nat))]) ∈ lw_all := lw_g (lw_at lw_m9 27 rfl) rfl
theorem q2018 : (Jvm.Cond.methodLink "KeyringCourtLaw" (109 : Nat) ({ cls := "KeyringCourt", name := "tokenOf", desc := "(I)I" } : Jvm.MethodName)) ∈ lw_all := lw_g (lw_at lw_m9 28 rfl) rfl
theorem q2022 : (Jvm.Cond.methodLink "KeyringCourtLaw" (276 : Nat) ({ cls := "KeyringCourtLaw", name := "exchange", desc := "(LKeyringCourt;III[J)I" } : Jvm.MethodName)) ∈ lw_all := lw_g (lw_at lw_m9 32 rfl) rfl
theorem q2023 : (Jvm.Cond.static ({ cls := "KeyringCourtLaw", name := "exchange", desc := "(LKeyringCourt;III[J)I" } : Jvm.MethodName)) ∈ lw_all := lw_g (lw_at lw_m9 33 rfl) rfl
theorem q2024 : (Jvm.Cond.codeWith ({ cls := "KeyringCourtLaw", name := "exchange", desc := "(LKeyringCourt;III[J)I" } : Jvm.MethodName) method_32_code (6 : Nat) (Option.some Jvm.ClassFile.FieldType.int) [((0 : Nat), (12 : Nat), (15 : Nat), (21 : Nat)), ((0 : Nat), (12 : Nat), (19 : Nat), (13 : Nat)), ((0 : Nat), (12 : Nat), (23 : Nat), (15 : Nat))]) ∈ lw_all := lw_g (lw_at lw_m9 34 rfl) rfl
theorem q2025 : (Jvm.Cond.methodLink "KeyringCourtLaw" (112 : Nat) ({ cls := "KeyringCourt", name := "exchange", desc := "(III)I" } : Jvm.MethodName)) ∈ lw_all := lw_g (lw_at lw_m9 35 rfl) rfl
theorem q2034 : (Jvm.Cond.methodLink "KeyringCourtLaw" (279 : Nat) ({ cls := "KeyringCourtLaw", name := "token", desc := "(LKeyringCourt;I[J)I" } : Jvm.MethodName)) ∈ lw_all := lw_g (lw_at lw_m9 44 rfl) rfl
theorem q2035 : (Jvm.Cond.static ({ cls := "KeyringCourtLaw", name := "token", desc := "(LKeyringCourt;I[J)I" } : Jvm.MethodName)) ∈ lw_all := lw_g (lw_at lw_m9 45 rfl) rfl
theorem q2036 : (Jvm.Cond.codeWith ({ cls := "KeyringCourtLaw", name := "token", desc := "(LKeyringCourt;I[J)I" } : Jvm.MethodName) method_33_code (4 : Nat) (Option.some Jvm.ClassFile.FieldType.int) [((0 : Nat), (9 : Nat), (12 : Nat), (21 : Nat))]) ∈ lw_all := lw_g (lw_at lw_m9 46 rfl) rfl
theorem q2037 : (Jvm.Cond.methodLink "KeyringCourtLaw" (115 : Nat) ({ cls := "KeyringCourt", name := "token", desc := "(I)I" } : Jvm.MethodName)) ∈ lw_all := lw_g (lw_at lw_m9 47 rfl) rfl
theorem q2041 : (Jvm.Cond.methodLink "KeyringCourtLaw" (282 : Nat) ({ cls := "KeyringCourtLaw", name := "turn", desc := "(LKeyringCourt;[J)I" } : Jvm.MethodName)) ∈ lw_all := lw_g (lw_at lw_m9 51 rfl) rfl
theorem q2042 : (Jvm.Cond.static ({ cls := "KeyringCourtLaw", name := "turn", desc := "(LKeyringCourt;[J)I" } : Jvm.MethodName)) ∈ lw_all := lw_g (lw_at lw_m9 52 rfl) rfl
theorem q2043 : (Jvm.Cond.codeWith ({ cls := "KeyringCourtLaw", name := "turn", desc := "(LKeyringCourt;[J)I" } : Jvm.MethodName) method_34_code (3 : Nat) (Option.some Jvm.ClassFile.FieldType.int) [((0 : Nat), (8 : Nat), (11 : Nat), (15 : Nat))]) ∈ lw_all := lw_g (lw_at lw_m9 53 rfl) rfl
theorem q2044 : (Jvm.Cond.methodLink "KeyringCourtLaw" (118 : Nat) ({ cls := "KeyringCourt", name := "turn", desc := "()I" } : Jvm.MethodName)) ∈ lw_all := lw_g (lw_at lw_m9 54 rfl) rfl
theorem q2052 : (Jvm.Cond.methodLink "KeyringCourtLaw" (285 : Nat) ({ cls := "KeyringCourtLaw", name := "emergency", desc := "(LKeyringCourt;[J)I" } : Jvm.MethodName)) ∈ lw_all := lw_g (lw_at lw_m9 62 rfl) rfl
theorem q2053 : (Jvm.Cond.static ({ cls := "KeyringCourtLaw", name := "emergency", desc := "(LKeyringCourt;[J)I" } : Jvm.MethodName)) ∈ lw_all := lw_g (lw_at lw_m9 63 rfl) rfl
theorem q2054 : (Jvm.Cond.codeWith ({ cls := "KeyringCourtLaw", name := "emergency", desc := "(LKeyringCourt;[J)I" } : Jvm.MethodName) method_35_code (3 : Nat) (Option.some Jvm.ClassFile.FieldType.int) [((0 : Nat), (8 : Nat), (11 : Nat), (15 : Nat))]) ∈ lw_all := lw_g (lw_at lw_m9 64 rfl) rfl
theorem q2055 : (Jvm.Cond.methodLink "KeyringCourtLaw" (121 : Nat) ({ cls := "KeyringCourt", name := "emergency", desc := "()I" } : Jvm.MethodName)) ∈ lw_all := lw_g (lw_at lw_m9 65 rfl) rfl
theorem q2060 : (Jvm.Cond.methodLink "KeyringCourtLaw" (292 : Nat) ({ cls := "KeyringCourtLaw", name := "isPublished", desc := "(LKeyringCourt;I[J)I" } : Jvm.MethodName)) ∈ lw_all := lw_g (lw_at lw_m9 70 rfl) rfl
theorem q2061 : (Jvm.Cond.static ({ cls := "KeyringCourtLaw", name := "isPublished", desc := "(LKeyringCourt;I[J)I" } : Jvm.MethodName)) ∈ lw_all := lw_g (lw_at lw_m9 71 rfl) rfl
theorem q2062 : (Jvm.Cond.codeWith ({ cls := "KeyringCourtLaw", name := "isPublished", desc := "(LKeyringCourt;I[J)I" } : Jvm.MethodName) method_36_code (4 : Nat) (Option.some Jvm.ClassFile.FieldType.int) [((0 : Nat), (16 : Nat), (19 : Nat), (21 : Nat))]) ∈ lw_all := lw_g (lw_at lw_m9 72 rfl) rfl
theorem q2063 : (Jvm.Cond.methodLink "KeyringCourtLaw" (124 : Nat) ({ cls := "KeyringCourt", name := "isPublished", desc := "(I)Z" } : Jvm.MethodName)) ∈ lw_all := lw_g (lw_at lw_m9 73 rfl) rfl
theorem q2067 : (Jvm.Cond.methodLink "KeyringCourtLaw" (295 : Nat) ({ cls := "KeyringCourtLaw", name := "line", desc := "(LKeyringCourt;I[J)I" } : Jvm.MethodName)) ∈ lw_all := lw_g (lw_at lw_m9 77 rfl) rfl
theorem q2068 : (Jvm.Cond.static ({ cls := "KeyringCourtLaw", name := "line", desc := "(LKeyringCourt;I[J)I" } : Jvm.MethodName)) ∈ lw_all := lw_g (lw_at lw_m9 78 rfl) rfl
theorem q2069 : (Jvm.Cond.codeWith ({ cls := "KeyringCourtLaw", name := "line", desc := "(LKeyringCourt;I[J)I" } : Jvm.MethodName) method_37_code (4 : Nat) (Option.some Jvm.ClassFile.FieldType.int) [((0 : Nat), (9 : Nat), (12 : Nat), (21 : Nat))]) ∈ lw_all := lw_g (lw_at lw_m9 79 rfl) rfl
theorem q2070 : (Jvm.Cond.methodLink "KeyringCourtLaw" (127 : Nat) ({ cls := "KeyringCourt", name := "line", desc := "(I)I" } : Jvm.MethodName)) ∈ lw_all := lw_g (lw_at lw_m9 80 rfl) rfl
theorem q2224 : (Jvm.Cond.methodLink "KeyringCourtLaw" (298 : Nat) ({ cls := "KeyringCourtLaw", name := "check", desc := "(LKeyringCourt;III[J)I" } : Jvm.MethodName)) ∈ lw_all := lw_g (lw_at lw_m9 234 rfl) rfl
theorem q2225 : (Jvm.Cond.static ({ cls := "KeyringCourtLaw", name := "check", desc := "(LKeyringCourt;III[J)I" } : Jvm.MethodName)) ∈ lw_all := lw_g (lw_at lw_m9 235 rfl) rfl
theorem q2226 : (Jvm.Cond.codeWith ({ cls := "KeyringCourtLaw", name := "check", desc := "(LKeyringCourt;III[J)I" } : Jvm.MethodName) method_38_code (6 : Nat) (Option.some Jvm.ClassFile.FieldType.int) [((0 : Nat), (12 : Nat), (15 : Nat), (21 : Nat)), ((0 : Nat), (12 : Nat), (19 : Nat), (13 : Nat))]) ∈ lw_all := lw_g (lw_at lw_m9 236 rfl) rfl
theorem q2227 : (Jvm.Cond.methodLink "KeyringCourtLaw" (130 : Nat) ({ cls := "KeyringCourt", name := "check", desc := "(III)I" } : Jvm.MethodName)) ∈ lw_all := lw_g (lw_at lw_m9 237 rfl) rfl
theorem q2252 : (Jvm.Cond.methodLink "KeyringCourtLaw" (301 : Nat) ({ cls := "KeyringCourtLaw", name := "lag", desc := "(LKeyringCourt;I[J)I" } : Jvm.MethodName)) ∈ lw_all := lw_g (lw_at lw_m10 22 rfl) rfl
theorem q2253 : (Jvm.Cond.static ({ cls := "KeyringCourtLaw", name := "lag", desc := "(LKeyringCourt;I[J)I" } : Jvm.MethodName)) ∈ lw_all := lw_g (lw_at lw_m10 23 rfl) rfl
theorem q2254 : (Jvm.Cond.codeWith ({ cls := "KeyringCourtLaw", name := "lag", desc := "(LKeyringCourt;I[J)I" } : Jvm.MethodName) method_39_code (4 : Nat) (Option.some Jvm.ClassFile.FieldType.int) [((0 : Nat), (9 : Nat), (12 : Nat), (21 : Nat))]) ∈ lw_all := lw_g (lw_at lw_m10 24 rfl) rfl
theorem q2255 : (Jvm.Cond.methodLink "KeyringCourtLaw" (133 : Nat) ({ cls := "KeyringCourt", name := "lag", desc := "(I)I" } : Jvm.MethodName)) ∈ lw_all := lw_g (lw_at lw_m10 25 rfl) rfl
theorem q2261 : (Jvm.Cond.methodLink "KeyringCourtLaw" (304 : Nat) ({ cls := "KeyringCourtLaw", name := "recover", desc := "(LKeyringCourt;I[J)I" } : Jvm.MethodName)) ∈ lw_all := lw_g (lw_at lw_m10 31 rfl) rfl
theorem q2262 : (Jvm.Cond.static ({ cls := "KeyringCourtLaw", name := "recover", desc := "(LKeyringCourt;I[J)I" } : Jvm.MethodName)) ∈ lw_all := lw_g (lw_at lw_m10 32 rfl) rfl
theorem q2263 : (Jvm.Cond.codeWith ({ cls := "KeyringCourtLaw", name := "recover", desc := "(LKeyringCourt;I[J)I" } : Jvm.MethodName) method_40_code (4 : Nat) (Option.some Jvm.ClassFile.FieldType.int) [((0 : Nat), (9 : Nat), (12 : Nat), (21 : Nat)), ((0 : Nat), (9 : Nat), (15 : Nat), (15 : Nat))]) ∈ lw_all := lw_g (lw_at lw_m10 33 rfl) rfl
theorem q2264 : (Jvm.Cond.methodLink "KeyringCourtLaw" (136 : Nat) ({ cls := "KeyringCourt", name := "recover", desc := "(I)I" } : Jvm.MethodName)) ∈ lw_all := lw_g (lw_at lw_m10 34 rfl) rfl
theorem q2301 : (Jvm.Cond.methodLink "KeyringCourtLaw" (307 : Nat) ({ cls := "KeyringCourtLaw", name := "vouch", desc := "(LKeyringCourt;II[J)I" } : Jvm.MethodName)) ∈ lw_all := lw_g (lw_at lw_m10 71 rfl) rfl
theorem q2302 : (Jvm.Cond.static ({ cls := "KeyringCourtLaw", name := "vouch", desc := "(LKeyringCourt;II[J)I" } : Jvm.MethodName)) ∈ lw_all := lw_g (lw_at lw_m10 72 rfl) rfl
theorem q2303 : (Jvm.Cond.codeWith ({ cls := "KeyringCourtLaw", name := "vouch", desc := "(LKeyringCourt;II[J)I" } : Jvm.MethodName) method_41_code (5 : Nat) (Option.some Jvm.ClassFile.FieldType.int) [((0 : Nat), (10 : Nat), (13 : Nat), (21 : Nat)), ((0 : Nat), (10 : Nat), (17 : Nat), (15 : Nat))]) ∈ lw_all := lw_g (lw_at lw_m10 73 rfl) rfl
theorem q2304 : (Jvm.Cond.methodLink "KeyringCourtLaw" (139 : Nat) ({ cls := "KeyringCourt", name := "vouch", desc := "(II)I" } : Jvm.MethodName)) ∈ lw_all := lw_g (lw_at lw_m10 74 rfl) rfl
theorem q2319 : (Jvm.Cond.methodLink "KeyringCourtLaw" (310 : Nat) ({ cls := "KeyringCourtLaw", name := "stop", desc := "(LKeyringCourt;II[J)I" } : Jvm.MethodName)) ∈ lw_all := lw_g (lw_at lw_m10 89 rfl) rfl
theorem q2320 : (Jvm.Cond.static ({ cls := "KeyringCourtLaw", name := "stop", desc := "(LKeyringCourt;II[J)I" } : Jvm.MethodName)) ∈ lw_all := lw_g (lw_at lw_m10 90 rfl) rfl
theorem q2321 : (Jvm.Cond.codeWith ({ cls := "KeyringCourtLaw", name := "stop", desc := "(LKeyringCourt;II[J)I" } : Jvm.MethodName) method_42_code (5 : Nat) (Option.some Jvm.ClassFile.FieldType.int) [((0 : Nat), (10 : Nat), (13 : Nat), (21 : Nat)), ((0 : Nat), (10 : Nat), (17 : Nat), (15 : Nat))]) ∈ lw_all := lw_g (lw_at lw_m10 91 rfl) rfl
theorem q2322 : (Jvm.Cond.methodLink "KeyringCourtLaw" (142 : Nat) ({ cls := "KeyringCourt", name := "stop", desc := "(II)I" } : Jvm.MethodName)) ∈ lw_all := lw_g (lw_at lw_m10 92 rfl) rfl
theorem q2344 : (Jvm.Cond.methodLink "KeyringCourtLaw" (313 : Nat) ({ cls := "KeyringCourtLaw", name := "finish", desc := "(LKeyringCourt;I[J)I" } : Jvm.MethodName)) ∈ lw_all := lw_g (lw_at lw_m10 114 rfl) rfl
theorem q2345 : (Jvm.Cond.static ({ cls := "KeyringCourtLaw", name := "finish", desc := "(LKeyringCourt;I[J)I" } : Jvm.MethodName)) ∈ lw_all := lw_g (lw_at lw_m10 115 rfl) rfl
theorem q2346 : (Jvm.Cond.codeWith ({ cls := "KeyringCourtLaw", name := "finish", desc := "(LKeyringCourt;I[J)I" } : Jvm.MethodName) method_43_code (4 : Nat) (Option.some Jvm.ClassFile.FieldType.int) [((0 : Nat), (9 : Nat), (12 : Nat), (21 : Nat)), ((0 : Nat), (9 : Nat), (15 : Nat), (15 : Nat))]) ∈ lw_all := lw_g (lw_at lw_m10 116 rfl) rfl
theorem q2347 : (Jvm.Cond.methodLink "KeyringCourtLaw" (145 : Nat) ({ cls := "KeyringCourt", name := "finish", desc := "(I)I" } : Jvm.MethodName)) ∈ lw_all := lw_g (lw_at lw_m10 117 rfl) rfl
theorem q2370 : (Jvm.Cond.methodLink "KeyringCourtLaw" (316 : Nat) ({ cls := "KeyringCourtLaw", name := "link", desc := "(LKeyringCourt;II[J)I" } : Jvm.MethodName)) ∈ lw_all := lw_g (lw_at lw_m10 140 rfl) rfl
theorem q2371 : (Jvm.Cond.static ({ cls := "KeyringCourtLaw", name := "link", desc := "(LKeyringCourt;II[J)I" } : Jvm.MethodName)) ∈ lw_all := lw_g (lw_at lw_m10 141 rfl) rfl
theorem q2372 : (Jvm.Cond.codeWith ({ cls := "KeyringCourtLaw", name := "link", desc := "(LKeyringCourt;II[J)I" } : Jvm.MethodName) method_44_code (5 : Nat) (Option.some Jvm.ClassFile.FieldType.int) [((0 : Nat), (10 : Nat), (13 : Nat), (21 : Nat)), ((0 : Nat), (10 : Nat), (17 : Nat), (15 : Nat))]) ∈ lw_all := lw_g (lw_at lw_m10 142 rfl) rfl
theorem q2373 : (Jvm.Cond.methodLink "KeyringCourtLaw" (148 : Nat) ({ cls := "KeyringCourt", name := "link", desc := "(II)I" } : Jvm.MethodName)) ∈ lw_all := lw_g (lw_at lw_m10 143 rfl) rfl
theorem q2377 : (Jvm.Cond.methodLink "KeyringCourtLaw" (319 : Nat) ({ cls := "KeyringCourtLaw", name := "foreign", desc := "(LKeyringCourt;I[J)I" } : Jvm.MethodName)) ∈ lw_all := lw_g (lw_at lw_m10 147 rfl) rfl
theorem q2378 : (Jvm.Cond.static ({ cls := "KeyringCourtLaw", name := "foreign", desc := "(LKeyringCourt;I[J)I" } : Jvm.MethodName)) ∈ lw_all := lw_g (lw_at lw_m10 148 rfl) rfl
theorem q2379 : (Jvm.Cond.codeWith ({ cls := "KeyringCourtLaw", name := "foreign", desc := "(LKeyringCourt;I[J)I" } : Jvm.MethodName) method_45_code (4 : Nat) (Option.some Jvm.ClassFile.FieldType.int) [((0 : Nat), (9 : Nat), (12 : Nat), (21 : Nat)), ((0 : Nat), (9 : Nat), (15 : Nat), (15 : Nat))]) ∈ lw_all := lw_g (lw_at lw_m10 149 rfl) rfl
theorem q2380 : (Jvm.Cond.methodLink "KeyringCourtLaw" (151 : Nat) ({ cls := "KeyringCourt", name := "foreign", desc := "(I)I" } : Jvm.MethodName)) ∈ lw_all := lw_g (lw_at lw_m10 150 rfl) rfl
theorem q2384 : (Jvm.Cond.methodLink "KeyringCourtLaw" (322 : Nat) ({ cls := "KeyringCourtLaw", name := "leave", desc := "(LKeyringCourt;I[J)I" } : Jvm.MethodName)) ∈ lw_all := lw_g (lw_at lw_m10 154 rfl) rfl
theorem q2385 : (Jvm.Cond.static ({ cls := "KeyringCourtLaw", name := "leave", desc := "(LKeyringCourt;I[J)I" } : Jvm.MethodName)) ∈ lw_all := lw_g (lw_at lw_m10 155 rfl) rfl
theorem q2386 : (Jvm.Cond.codeWith ({ cls := "KeyringCourtLaw", name := "leave", desc := "(LKeyringCourt;I[J)I" } : Jvm.MethodName) method_46_code (4 : Nat) (Option.some Jvm.ClassFile.FieldType.int) [((0 : Nat), (9 : Nat), (12 : Nat), (21 : Nat))]) ∈ lw_all := lw_g (lw_at lw_m10 156 rfl) rfl
theorem q2387 : (Jvm.Cond.methodLink "KeyringCourtLaw" (154 : Nat) ({ cls := "KeyringCourt", name := "leave", desc := "(I)I" } : Jvm.MethodName)) ∈ lw_all := lw_g (lw_at lw_m10 157 rfl) rfl
theorem q2396 : (Jvm.Cond.methodLink "KeyringCourtLaw" (329 : Nat) ({ cls := "KeyringCourtLaw", name := "audit", desc := "(LKeyringCourt;I[J)I" } : Jvm.MethodName)) ∈ lw_all := lw_g (lw_at lw_m10 166 rfl) rfl
theorem q2397 : (Jvm.Cond.static ({ cls := "KeyringCourtLaw", name := "audit", desc := "(LKeyringCourt;I[J)I" } : Jvm.MethodName)) ∈ lw_all := lw_g (lw_at lw_m10 167 rfl) rfl
theorem q2398 : (Jvm.Cond.codeWith ({ cls := "KeyringCourtLaw", name := "audit", desc := "(LKeyringCourt;I[J)I" } : Jvm.MethodName) method_47_code (4 : Nat) (Option.some Jvm.ClassFile.FieldType.int) [((0 : Nat), (9 : Nat), (12 : Nat), (21 : Nat))]) ∈ lw_all := lw_g (lw_at lw_m10 168 rfl) rfl
theorem q2399 : (Jvm.Cond.methodLink "KeyringCourtLaw" (157 : Nat) ({ cls := "KeyringCourt", name := "audit", desc := "(I)I" } : Jvm.MethodName)) ∈ lw_all := lw_g (lw_at lw_m10 169 rfl) rfl
theorem q2403 : (Jvm.Cond.methodLink "KeyringCourtLaw" (336 : Nat) ({ cls := "KeyringCourtLaw", name := "sumAnew", desc := "(LKeyringCourt;I[J)I" } : Jvm.MethodName)) ∈ lw_all := lw_g (lw_at lw_m10 173 rfl) rfl
theorem q2404 : (Jvm.Cond.static ({ cls := "KeyringCourtLaw", name := "sumAnew", desc := "(LKeyringCourt;I[J)I" } : Jvm.MethodName)) ∈ lw_all := lw_g (lw_at lw_m10 174 rfl) rfl
theorem q2405 : (Jvm.Cond.codeWith ({ cls := "KeyringCourtLaw", name := "sumAnew", desc := "(LKeyringCourt;I[J)I" } : Jvm.MethodName) method_48_code (4 : Nat) (Option.some Jvm.ClassFile.FieldType.int) [((0 : Nat), (9 : Nat), (12 : Nat), (21 : Nat))]) ∈ lw_all := lw_g (lw_at lw_m10 175 rfl) rfl
theorem q2406 : (Jvm.Cond.methodLink "KeyringCourtLaw" (160 : Nat) ({ cls := "KeyringCourt", name := "sumAnew", desc := "(I)I" } : Jvm.MethodName)) ∈ lw_all := lw_g (lw_at lw_m10 176 rfl) rfl
theorem q2410 : (Jvm.Cond.classLink "KeyringCourtLaw" (164 : Nat) "KeyringCourtModel") ∈ lw_all := lw_g (lw_at lw_m10 180 rfl) rfl
theorem q2412 : (Jvm.Cond.methodLink "KeyringCourtLaw" (166 : Nat) ({ cls := "KeyringCourtModel", name := "<init>", desc := "()V" } : Jvm.MethodName)) ∈ lw_all := lw_g (lw_at lw_m10 182 rfl) rfl
theorem q2667 : (Jvm.Cond.methodLink "KeyringCourtLaw" (173 : Nat) ({ cls := "KeyringCourtModel", name := "thrown", desc := "()I" } : Jvm.MethodName)) ∈ lw_all := lw_g (lw_at lw_m11 197 rfl) rfl
theorem q2671 : (Jvm.Cond.methodLink "KeyringCourtLaw" (328 : Nat) ({ cls := "KeyringCourtModel", name := "audits", desc := "()I" } : Jvm.MethodName)) ∈ lw_all := lw_g (lw_at lw_m11 201 rfl) rfl
theorem q2675 : (Jvm.Cond.methodLink "KeyringCourtLaw" (331 : Nat) ({ cls := "KeyringCourtModel", name := "audit", desc := "(I)I" } : Jvm.MethodName)) ∈ lw_all := lw_g (lw_at lw_m11 205 rfl) rfl
theorem q2686 : (Jvm.Cond.methodLink "KeyringCourtLaw" (335 : Nat) ({ cls := "KeyringCourtModel", name := "sum", desc := "()I" } : Jvm.MethodName)) ∈ lw_all := lw_g (lw_at lw_m11 216 rfl) rfl
theorem q2690 : (Jvm.Cond.methodLink "KeyringCourtLaw" (338 : Nat) ({ cls := "KeyringCourtModel", name := "sumAnew", desc := "(I)I" } : Jvm.MethodName)) ∈ lw_all := lw_g (lw_at lw_m11 220 rfl) rfl
theorem q2695 : (Jvm.Cond.methodLink "KeyringCourtLaw" (172 : Nat) ({ cls := "KeyringCourtModel", name := "pass", desc := "(I)I" } : Jvm.MethodName)) ∈ lw_all := lw_g (lw_at lw_m11 225 rfl) rfl
theorem q2723 : (Jvm.Cond.methodLink "KeyringCourtLaw" (179 : Nat) ({ cls := "KeyringCourtModel", name := "enroll", desc := "(II)I" } : Jvm.MethodName)) ∈ lw_all := lw_g (lw_at lw_m12 13 rfl) rfl
theorem q2737 : (Jvm.Cond.methodLink "KeyringCourtLaw" (182 : Nat) ({ cls := "KeyringCourtModel", name := "factor", desc := "(II)I" } : Jvm.MethodName)) ∈ lw_all := lw_g (lw_at lw_m12 27 rfl) rfl
theorem q2741 : (Jvm.Cond.methodLink "KeyringCourtLaw" (186 : Nat) ({ cls := "KeyringCourtModel", name := "step", desc := "(IIIII)I" } : Jvm.MethodName)) ∈ lw_all := lw_g (lw_at lw_m12 31 rfl) rfl
theorem q2748 : (Jvm.Cond.methodLink "KeyringCourtLaw" (190 : Nat) ({ cls := "KeyringCourtModel", name := "clear", desc := "()I" } : Jvm.MethodName)) ∈ lw_all := lw_g (lw_at lw_m12 38 rfl) rfl
theorem q2752 : (Jvm.Cond.methodLink "KeyringCourtLaw" (194 : Nat) ({ cls := "KeyringCourtModel", name := "publish", desc := "()I" } : Jvm.MethodName)) ∈ lw_all := lw_g (lw_at lw_m12 42 rfl) rfl
theorem q2763 : (Jvm.Cond.methodLink "KeyringCourtLaw" (197 : Nat) ({ cls := "KeyringCourtModel", name := "weakest", desc := "(I)I" } : Jvm.MethodName)) ∈ lw_all := lw_g (lw_at lw_m12 53 rfl) rfl
theorem q2774 : (Jvm.Cond.methodLink "KeyringCourtLaw" (201 : Nat) ({ cls := "KeyringCourtModel", name := "points", desc := "(IIZ)I" } : Jvm.MethodName)) ∈ lw_all := lw_g (lw_at lw_m12 64 rfl) rfl
theorem q2778 : (Jvm.Cond.methodLink "KeyringCourtLaw" (205 : Nat) ({ cls := "KeyringCourtModel", name := "begin", desc := "(III)I" } : Jvm.MethodName)) ∈ lw_all := lw_g (lw_at lw_m12 68 rfl) rfl
theorem q2814 : (Jvm.Cond.methodLink "KeyringCourtLaw" (209 : Nat) ({ cls := "KeyringCourtModel", name := "answer", desc := "(IZI)I" } : Jvm.MethodName)) ∈ lw_all := lw_g (lw_at lw_m12 104 rfl) rfl
theorem q2834 : (Jvm.Cond.methodLink "KeyringCourtLaw" (212 : Nat) ({ cls := "KeyringCourtModel", name := "state", desc := "(I)I" } : Jvm.MethodName)) ∈ lw_all := lw_g (lw_at lw_m12 124 rfl) rfl
theorem q2838 : (Jvm.Cond.methodLink "KeyringCourtLaw" (215 : Nat) ({ cls := "KeyringCourtModel", name := "asked", desc := "(I)I" } : Jvm.MethodName)) ∈ lw_all := lw_g (lw_at lw_m12 128 rfl) rfl
theorem q2842 : (Jvm.Cond.methodLink "KeyringCourtLaw" (218 : Nat) ({ cls := "KeyringCourtModel", name := "sessionOf", desc := "(I)I" } : Jvm.MethodName)) ∈ lw_all := lw_g (lw_at lw_m12 132 rfl) rfl
theorem q2846 : (Jvm.Cond.methodLink "KeyringCourtLaw" (221 : Nat) ({ cls := "KeyringCourtModel", name := "risk", desc := "(I)I" } : Jvm.MethodName)) ∈ lw_all := lw_g (lw_at lw_m12 136 rfl) rfl
theorem q2850 : (Jvm.Cond.methodLink "KeyringCourtLaw" (224 : Nat) ({ cls := "KeyringCourtModel", name := "trialRisk", desc := "(I)I" } : Jvm.MethodName)) ∈ lw_all := lw_g (lw_at lw_m12 140 rfl) rfl
theorem q2854 : (Jvm.Cond.methodLink "KeyringCourtLaw" (228 : Nat) ({ cls := "KeyringCourtModel", name := "sessions", desc := "()I" } : Jvm.MethodName)) ∈ lw_all := lw_g (lw_at lw_m12 144 rfl) rfl
theorem q2858 : (Jvm.Cond.methodLink "KeyringCourtLaw" (231 : Nat) ({ cls := "KeyringCourtModel", name := "isLive", desc := "(I)Z" } : Jvm.MethodName)) ∈ lw_all := lw_g (lw_at lw_m12 148 rfl) rfl
theorem q2866 : (Jvm.Cond.methodLink "KeyringCourtLaw" (234 : Nat) ({ cls := "KeyringCourtModel", name := "isLiveByAudit", desc := "(I)Z" } : Jvm.MethodName)) ∈ lw_all := lw_g (lw_at lw_m12 156 rfl) rfl
theorem q2870 : (Jvm.Cond.methodLink "KeyringCourtLaw" (237 : Nat) ({ cls := "KeyringCourtModel", name := "level", desc := "(I)I" } : Jvm.MethodName)) ∈ lw_all := lw_g (lw_at lw_m12 160 rfl) rfl
theorem q2878 : (Jvm.Cond.methodLink "KeyringCourtLaw" (241 : Nat) ({ cls := "KeyringCourtModel", name := "stepUp", desc := "(IIZI)I" } : Jvm.MethodName)) ∈ lw_all := lw_g (lw_at lw_m12 168 rfl) rfl
theorem q2882 : (Jvm.Cond.methodLink "KeyringCourtLaw" (244 : Nat) ({ cls := "KeyringCourtModel", name := "signOut", desc := "(I)I" } : Jvm.MethodName)) ∈ lw_all := lw_g (lw_at lw_m12 172 rfl) rfl
theorem q2886 : (Jvm.Cond.methodLink "KeyringCourtLaw" (247 : Nat) ({ cls := "KeyringCourtModel", name := "helper", desc := "(I)Z" } : Jvm.MethodName)) ∈ lw_all := lw_g (lw_at lw_m12 176 rfl) rfl
theorem q2890 : (Jvm.Cond.methodLink "KeyringCourtLaw" (250 : Nat) ({ cls := "KeyringCourtModel", name := "act", desc := "(II)I" } : Jvm.MethodName)) ∈ lw_all := lw_g (lw_at lw_m12 180 rfl) rfl
theorem q2894 : (Jvm.Cond.methodLink "KeyringCourtLaw" (253 : Nat) ({ cls := "KeyringCourtModel", name := "consent", desc := "(III)I" } : Jvm.MethodName)) ∈ lw_all := lw_g (lw_at lw_m12 184 rfl) rfl
theorem q2901 : (Jvm.Cond.methodLink "KeyringCourtLaw" (256 : Nat) ({ cls := "KeyringCourtModel", name := "withdraw", desc := "(II)I" } : Jvm.MethodName)) ∈ lw_all := lw_g (lw_at lw_m12 191 rfl) rfl
theorem q2905 : (Jvm.Cond.methodLink "KeyringCourtLaw" (259 : Nat) ({ cls := "KeyringCourtModel", name := "need", desc := "(II)I" } : Jvm.MethodName)) ∈ lw_all := lw_g (lw_at lw_m12 195 rfl) rfl
theorem q2909 : (Jvm.Cond.methodLink "KeyringCourtLaw" (263 : Nat) ({ cls := "KeyringCourtModel", name := "authorize", desc := "(IIII)I" } : Jvm.MethodName)) ∈ lw_all := lw_g (lw_at lw_m12 199 rfl) rfl
theorem q2913 : (Jvm.Cond.methodLink "KeyringCourtLaw" (266 : Nat) ({ cls := "KeyringCourtModel", name := "redeem", desc := "(I)I" } : Jvm.MethodName)) ∈ lw_all := lw_g (lw_at lw_m12 203 rfl) rfl
theorem q2925 : (Jvm.Cond.methodLink "KeyringCourtLaw" (269 : Nat) ({ cls := "KeyringCourtModel", name := "refresh", desc := "(II)I" } : Jvm.MethodName)) ∈ lw_all := lw_g (lw_at lw_m12 215 rfl) rfl
theorem q2933 : (Jvm.Cond.methodLink "KeyringCourtLaw" (272 : Nat) ({ cls := "KeyringCourtModel", name := "isGood", desc := "(I)Z" } : Jvm.MethodName)) ∈ lw_all := lw_g (lw_at lw_m12 223 rfl) rfl
theorem q2937 : (Jvm.Cond.methodLink "KeyringCourtLaw" (275 : Nat) ({ cls := "KeyringCourtModel", name := "tokenOf", desc := "(I)I" } : Jvm.MethodName)) ∈ lw_all := lw_g (lw_at lw_m12 227 rfl) rfl
theorem q2941 : (Jvm.Cond.methodLink "KeyringCourtLaw" (278 : Nat) ({ cls := "KeyringCourtModel", name := "exchange", desc := "(III)I" } : Jvm.MethodName)) ∈ lw_all := lw_g (lw_at lw_m12 231 rfl) rfl
theorem q2949 : (Jvm.Cond.methodLink "KeyringCourtLaw" (281 : Nat) ({ cls := "KeyringCourtModel", name := "token", desc := "(I)I" } : Jvm.MethodName)) ∈ lw_all := lw_g (lw_at lw_m12 239 rfl) rfl
theorem q2953 : (Jvm.Cond.methodLink "KeyringCourtLaw" (284 : Nat) ({ cls := "KeyringCourtModel", name := "turn", desc := "()I" } : Jvm.MethodName)) ∈ lw_all := lw_g (lw_at lw_m13 3 rfl) rfl
theorem q2957 : (Jvm.Cond.methodLink "KeyringCourtLaw" (287 : Nat) ({ cls := "KeyringCourtModel", name := "emergency", desc := "()I" } : Jvm.MethodName)) ∈ lw_all := lw_g (lw_at lw_m13 7 rfl) rfl
theorem q2961 : (Jvm.Cond.methodLink "KeyringCourtLaw" (291 : Nat) ({ cls := "KeyringCourtModel", name := "signing", desc := "()I" } : Jvm.MethodName)) ∈ lw_all := lw_g (lw_at lw_m13 11 rfl) rfl
theorem q2965 : (Jvm.Cond.methodLink "KeyringCourtLaw" (294 : Nat) ({ cls := "KeyringCourtModel", name := "isPublished", desc := "(I)Z" } : Jvm.MethodName)) ∈ lw_all := lw_g (lw_at lw_m13 15 rfl) rfl
theorem q2973 : (Jvm.Cond.methodLink "KeyringCourtLaw" (297 : Nat) ({ cls := "KeyringCourtModel", name := "line", desc := "(I)I" } : Jvm.MethodName)) ∈ lw_all := lw_g (lw_at lw_m13 23 rfl) rfl
theorem q2977 : (Jvm.Cond.methodLink "KeyringCourtLaw" (300 : Nat) ({ cls := "KeyringCourtModel", name := "check", desc := "(III)I" } : Jvm.MethodName)) ∈ lw_all := lw_g (lw_at lw_m13 27 rfl) rfl
theorem q2981 : (Jvm.Cond.methodLink "KeyringCourtLaw" (303 : Nat) ({ cls := "KeyringCourtModel", name := "lag", desc := "(I)I" } : Jvm.MethodName)) ∈ lw_all := lw_g (lw_at lw_m13 31 rfl) rfl
theorem q2985 : (Jvm.Cond.methodLink "KeyringCourtLaw" (306 : Nat) ({ cls := "KeyringCourtModel", name := "recover", desc := "(I)I" } : Jvm.MethodName)) ∈ lw_all := lw_g (lw_at lw_m13 35 rfl) rfl
theorem q2989 : (Jvm.Cond.methodLink "KeyringCourtLaw" (309 : Nat) ({ cls := "KeyringCourtModel", name := "vouch", desc := "(II)I" } : Jvm.MethodName)) ∈ lw_all := lw_g (lw_at lw_m13 39 rfl) rfl
theorem q3001 : (Jvm.Cond.methodLink "KeyringCourtLaw" (312 : Nat) ({ cls := "KeyringCourtModel", name := "stop", desc := "(II)I" } : Jvm.MethodName)) ∈ lw_all := lw_g (lw_at lw_m13 51 rfl) rfl
theorem q3008 : (Jvm.Cond.methodLink "KeyringCourtLaw" (315 : Nat) ({ cls := "KeyringCourtModel", name := "finish", desc := "(I)I" } : Jvm.MethodName)) ∈ lw_all := lw_g (lw_at lw_m13 58 rfl) rfl
theorem q3019 : (Jvm.Cond.methodLink "KeyringCourtLaw" (318 : Nat) ({ cls := "KeyringCourtModel", name := "link", desc := "(II)I" } : Jvm.MethodName)) ∈ lw_all := lw_g (lw_at lw_m13 69 rfl) rfl
theorem q3023 : (Jvm.Cond.methodLink "KeyringCourtLaw" (321 : Nat) ({ cls := "KeyringCourtModel", name := "foreign", desc := "(I)I" } : Jvm.MethodName)) ∈ lw_all := lw_g (lw_at lw_m13 73 rfl) rfl
theorem q3027 : (Jvm.Cond.methodLink "KeyringCourtLaw" (324 : Nat) ({ cls := "KeyringCourtModel", name := "leave", desc := "(I)I" } : Jvm.MethodName)) ∈ lw_all := lw_g (lw_at lw_m13 77 rfl) rfl
/-! the law's own entry -/
set_option maxRecDepth 100000
abbrev cL_law : ByteArray := code
def dkwL_law_134 : List UInt8 := [167, 0, 3, 132, 4, 6, 167, 243, 28, 4, 172]
abbrev dktL_law_134 : List UInt8 := dkwL_law_134 ++ []
def dkwL_law_133 : List UInt8 := [159, 0, 5, 3, 172, 21, 5, 154, 0, 15, 45, 3, 47, 21, 6, 133, 148, 153, 0, 5, 3, 172]
abbrev dktL_law_133 : List UInt8 := dkwL_law_133 ++ dktL_law_134
def dkwL_law_132 : List UInt8 := [184, 1, 80, 54, 5, 44, 42, 21, 4, 4, 96, 46, 182, 1, 82, 54, 6, 44, 182, 0, 173, 21, 5]
abbrev dktL_law_132 : List UInt8 := dkwL_law_132 ++ dktL_law_133
def dkwL_law_131 : List UInt8 := [167, 0, 72, 43, 182, 1, 76, 44, 182, 1, 79, 159, 0, 61, 3, 172, 43, 42, 21, 4, 4, 96, 46, 45]
abbrev dktL_law_131 : List UInt8 := dkwL_law_131 ++ dktL_law_132
def dkwL_law_130 : List UInt8 := [159, 0, 5, 3, 172, 21, 5, 154, 0, 15, 45, 3, 47, 21, 6, 133, 148, 153, 0, 5, 3, 172]
abbrev dktL_law_130 : List UInt8 := dkwL_law_130 ++ dktL_law_131
def dkwL_law_129 : List UInt8 := [184, 1, 73, 54, 5, 44, 42, 21, 4, 4, 96, 46, 182, 1, 75, 54, 6, 44, 182, 0, 173, 21, 5]
abbrev dktL_law_129 : List UInt8 := dkwL_law_129 ++ dktL_law_130
def dkwL_law_128 : List UInt8 := [167, 0, 141, 43, 182, 1, 69, 44, 182, 1, 72, 159, 0, 130, 3, 172, 43, 42, 21, 4, 4, 96, 46, 45]
abbrev dktL_law_128 : List UInt8 := dkwL_law_128 ++ dktL_law_129
def dkwL_law_127 : List UInt8 := [21, 5, 159, 0, 5, 3, 172, 21, 5, 154, 0, 15, 45, 3, 47, 21, 6, 133, 148, 153, 0, 5, 3, 172]
abbrev dktL_law_127 : List UInt8 := dkwL_law_127 ++ dktL_law_128
def dkwL_law_126 : List UInt8 := [46, 45, 184, 1, 66, 54, 5, 44, 42, 21, 4, 4, 96, 46, 182, 1, 68, 54, 6, 44, 182, 0, 173]
abbrev dktL_law_126 : List UInt8 := dkwL_law_126 ++ dktL_law_127
def dkwL_law_125 : List UInt8 := [154, 0, 15, 45, 3, 47, 21, 6, 133, 148, 153, 0, 5, 3, 172, 167, 0, 197, 43, 42, 21, 4, 4, 96]
abbrev dktL_law_125 : List UInt8 := dkwL_law_125 ++ dktL_law_126
def dkwL_law_124 : List UInt8 := [21, 4, 4, 96, 46, 182, 1, 65, 54, 6, 44, 182, 0, 173, 21, 5, 159, 0, 5, 3, 172, 21, 5]
abbrev dktL_law_124 : List UInt8 := dkwL_law_124 ++ dktL_law_125
def dkwL_law_123 : List UInt8 := [148, 153, 0, 5, 3, 172, 167, 0, 253, 43, 42, 21, 4, 4, 96, 46, 45, 184, 1, 63, 54, 5, 44, 42]
abbrev dktL_law_123 : List UInt8 := dkwL_law_123 ++ dktL_law_124
def dkwL_law_122 : List UInt8 := [54, 6, 44, 182, 0, 173, 21, 5, 159, 0, 5, 3, 172, 21, 5, 154, 0, 15, 45, 3, 47, 21, 6, 133]
abbrev dktL_law_122 : List UInt8 := dkwL_law_122 ++ dktL_law_123
def dkwL_law_121 : List UInt8 := [46, 45, 184, 1, 60, 54, 5, 44, 42, 21, 4, 4, 96, 46, 42, 21, 4, 5, 96, 46, 182, 1, 62]
abbrev dktL_law_121 : List UInt8 := dkwL_law_121 ++ dktL_law_122
def dkwL_law_120 : List UInt8 := [21, 6, 133, 148, 153, 0, 5, 3, 172, 167, 1, 65, 43, 42, 21, 4, 4, 96, 46, 42, 21, 4, 5, 96]
abbrev dktL_law_120 : List UInt8 := dkwL_law_120 ++ dktL_law_121
def dkwL_law_119 : List UInt8 := [182, 1, 59, 54, 6, 44, 182, 0, 173, 21, 5, 159, 0, 5, 3, 172, 21, 5, 154, 0, 15, 45, 3, 47]
abbrev dktL_law_119 : List UInt8 := dkwL_law_119 ++ dktL_law_120
def dkwL_law_118 : List UInt8 := [167, 1, 121, 43, 42, 21, 4, 4, 96, 46, 45, 184, 1, 57, 54, 5, 44, 42, 21, 4, 4, 96, 46]
abbrev dktL_law_118 : List UInt8 := dkwL_law_118 ++ dktL_law_119
def dkwL_law_117 : List UInt8 := [159, 0, 5, 3, 172, 21, 5, 154, 0, 15, 45, 3, 47, 21, 6, 133, 148, 153, 0, 5, 3, 172]
abbrev dktL_law_117 : List UInt8 := dkwL_law_117 ++ dktL_law_118
def dkwL_law_116 : List UInt8 := [21, 4, 4, 96, 46, 42, 21, 4, 5, 96, 46, 182, 1, 56, 54, 6, 44, 182, 0, 173, 21, 5]
abbrev dktL_law_116 : List UInt8 := dkwL_law_116 ++ dktL_law_117
def dkwL_law_115 : List UInt8 := [167, 1, 189, 43, 42, 21, 4, 4, 96, 46, 42, 21, 4, 5, 96, 46, 45, 184, 1, 54, 54, 5, 44, 42]
abbrev dktL_law_115 : List UInt8 := dkwL_law_115 ++ dktL_law_116
def dkwL_law_114 : List UInt8 := [159, 0, 5, 3, 172, 21, 5, 154, 0, 15, 45, 3, 47, 21, 6, 133, 148, 153, 0, 5, 3, 172]
abbrev dktL_law_114 : List UInt8 := dkwL_law_114 ++ dktL_law_115
def dkwL_law_113 : List UInt8 := [21, 4, 4, 96, 46, 42, 21, 4, 5, 96, 46, 182, 1, 53, 54, 6, 44, 182, 0, 173, 21, 5]
abbrev dktL_law_113 : List UInt8 := dkwL_law_113 ++ dktL_law_114
def dkwL_law_112 : List UInt8 := [167, 2, 1, 43, 42, 21, 4, 4, 96, 46, 42, 21, 4, 5, 96, 46, 45, 184, 1, 51, 54, 5, 44, 42]
abbrev dktL_law_112 : List UInt8 := dkwL_law_112 ++ dktL_law_113
def dkwL_law_111 : List UInt8 := [21, 5, 159, 0, 5, 3, 172, 21, 5, 154, 0, 15, 45, 3, 47, 21, 6, 133, 148, 153, 0, 5, 3, 172]
abbrev dktL_law_111 : List UInt8 := dkwL_law_111 ++ dktL_law_112
def dkwL_law_110 : List UInt8 := [46, 45, 184, 1, 48, 54, 5, 44, 42, 21, 4, 4, 96, 46, 182, 1, 50, 54, 6, 44, 182, 0, 173]
abbrev dktL_law_110 : List UInt8 := dkwL_law_110 ++ dktL_law_111
def dkwL_law_109 : List UInt8 := [154, 0, 15, 45, 3, 47, 21, 6, 133, 148, 153, 0, 5, 3, 172, 167, 2, 57, 43, 42, 21, 4, 4, 96]
abbrev dktL_law_109 : List UInt8 := dkwL_law_109 ++ dktL_law_110
def dkwL_law_108 : List UInt8 := [21, 4, 4, 96, 46, 182, 1, 47, 54, 6, 44, 182, 0, 173, 21, 5, 159, 0, 5, 3, 172, 21, 5]
abbrev dktL_law_108 : List UInt8 := dkwL_law_108 ++ dktL_law_109
def dkwL_law_107 : List UInt8 := [153, 0, 5, 3, 172, 167, 2, 113, 43, 42, 21, 4, 4, 96, 46, 45, 184, 1, 45, 54, 5, 44, 42]
abbrev dktL_law_107 : List UInt8 := dkwL_law_107 ++ dktL_law_108
def dkwL_law_106 : List UInt8 := [182, 0, 173, 21, 5, 159, 0, 5, 3, 172, 21, 5, 154, 0, 15, 45, 3, 47, 21, 6, 133, 148]
abbrev dktL_law_106 : List UInt8 := dkwL_law_106 ++ dktL_law_107
def dkwL_law_105 : List UInt8 := [42, 21, 4, 4, 96, 46, 42, 21, 4, 5, 96, 46, 42, 21, 4, 6, 96, 46, 182, 1, 44, 54, 6, 44]
abbrev dktL_law_105 : List UInt8 := dkwL_law_105 ++ dktL_law_106
def dkwL_law_104 : List UInt8 := [21, 4, 4, 96, 46, 42, 21, 4, 5, 96, 46, 42, 21, 4, 6, 96, 46, 45, 184, 1, 42, 54, 5, 44]
abbrev dktL_law_104 : List UInt8 := dkwL_law_104 ++ dktL_law_105
def dkwL_law_103 : List UInt8 := [172, 21, 5, 154, 0, 15, 45, 3, 47, 21, 6, 133, 148, 153, 0, 5, 3, 172, 167, 2, 193, 43, 42]
abbrev dktL_law_103 : List UInt8 := dkwL_law_103 ++ dktL_law_104
def dkwL_law_102 : List UInt8 := [54, 5, 44, 42, 21, 4, 4, 96, 46, 182, 1, 41, 54, 6, 44, 182, 0, 173, 21, 5, 159, 0, 5, 3]
abbrev dktL_law_102 : List UInt8 := dkwL_law_102 ++ dktL_law_103
def dkwL_law_101 : List UInt8 := [167, 0, 4, 9, 148, 153, 0, 5, 3, 172, 167, 2, 249, 43, 42, 21, 4, 4, 96, 46, 45, 184, 1, 39]
abbrev dktL_law_101 : List UInt8 := dkwL_law_101 ++ dktL_law_102
def dkwL_law_100 : List UInt8 := [182, 0, 173, 21, 5, 159, 0, 5, 3, 172, 21, 5, 154, 0, 22, 45, 3, 47, 21, 6, 153, 0, 7, 10]
abbrev dktL_law_100 : List UInt8 := dkwL_law_100 ++ dktL_law_101
def dkwL_law_99 : List UInt8 := [21, 4, 4, 96, 46, 45, 184, 1, 36, 54, 5, 44, 42, 21, 4, 4, 96, 46, 182, 1, 38, 54, 6, 44]
abbrev dktL_law_99 : List UInt8 := dkwL_law_99 ++ dktL_law_100
def dkwL_law_98 : List UInt8 := [153, 0, 5, 3, 172, 167, 3, 69, 43, 182, 1, 32, 44, 182, 1, 35, 159, 3, 58, 3, 172, 43, 42]
abbrev dktL_law_98 : List UInt8 := dkwL_law_98 ++ dktL_law_99
def dkwL_law_97 : List UInt8 := [182, 0, 173, 21, 5, 159, 0, 5, 3, 172, 21, 5, 154, 0, 15, 45, 3, 47, 21, 6, 133, 148]
abbrev dktL_law_97 : List UInt8 := dkwL_law_97 ++ dktL_law_98
def dkwL_law_96 : List UInt8 := [148, 153, 0, 5, 3, 172, 167, 3, 113, 43, 45, 184, 1, 29, 54, 5, 44, 182, 1, 31, 54, 6, 44]
abbrev dktL_law_96 : List UInt8 := dkwL_law_96 ++ dktL_law_97
def dkwL_law_95 : List UInt8 := [54, 6, 44, 182, 0, 173, 21, 5, 159, 0, 5, 3, 172, 21, 5, 154, 0, 15, 45, 3, 47, 21, 6, 133]
abbrev dktL_law_95 : List UInt8 := dkwL_law_95 ++ dktL_law_96
def dkwL_law_94 : List UInt8 := [21, 6, 133, 148, 153, 0, 5, 3, 172, 167, 3, 157, 43, 45, 184, 1, 26, 54, 5, 44, 182, 1, 28]
abbrev dktL_law_94 : List UInt8 := dkwL_law_94 ++ dktL_law_95
def dkwL_law_93 : List UInt8 := [182, 1, 25, 54, 6, 44, 182, 0, 173, 21, 5, 159, 0, 5, 3, 172, 21, 5, 154, 0, 15, 45, 3, 47]
abbrev dktL_law_93 : List UInt8 := dkwL_law_93 ++ dktL_law_94
def dkwL_law_92 : List UInt8 := [167, 3, 213, 43, 42, 21, 4, 4, 96, 46, 45, 184, 1, 23, 54, 5, 44, 42, 21, 4, 4, 96, 46]
abbrev dktL_law_92 : List UInt8 := dkwL_law_92 ++ dktL_law_93
def dkwL_law_91 : List UInt8 := [21, 5, 159, 0, 5, 3, 172, 21, 5, 154, 0, 15, 45, 3, 47, 21, 6, 133, 148, 153, 0, 5, 3, 172]
abbrev dktL_law_91 : List UInt8 := dkwL_law_91 ++ dktL_law_92
def dkwL_law_90 : List UInt8 := [96, 46, 42, 21, 4, 5, 96, 46, 42, 21, 4, 6, 96, 46, 182, 1, 22, 54, 6, 44, 182, 0, 173]
abbrev dktL_law_90 : List UInt8 := dkwL_law_90 ++ dktL_law_91
def dkwL_law_89 : List UInt8 := [46, 42, 21, 4, 5, 96, 46, 42, 21, 4, 6, 96, 46, 45, 184, 1, 20, 54, 5, 44, 42, 21, 4, 4]
abbrev dktL_law_89 : List UInt8 := dkwL_law_89 ++ dktL_law_90
def dkwL_law_88 : List UInt8 := [154, 0, 15, 45, 3, 47, 21, 6, 133, 148, 153, 0, 5, 3, 172, 167, 4, 37, 43, 42, 21, 4, 4, 96]
abbrev dktL_law_88 : List UInt8 := dkwL_law_88 ++ dktL_law_89
def dkwL_law_87 : List UInt8 := [21, 4, 4, 96, 46, 182, 1, 19, 54, 6, 44, 182, 0, 173, 21, 5, 159, 0, 5, 3, 172, 21, 5]
abbrev dktL_law_87 : List UInt8 := dkwL_law_87 ++ dktL_law_88
def dkwL_law_86 : List UInt8 := [153, 0, 5, 3, 172, 167, 4, 93, 43, 42, 21, 4, 4, 96, 46, 45, 184, 1, 17, 54, 5, 44, 42]
abbrev dktL_law_86 : List UInt8 := dkwL_law_86 ++ dktL_law_87
def dkwL_law_85 : List UInt8 := [159, 0, 5, 3, 172, 21, 5, 154, 0, 22, 45, 3, 47, 21, 6, 153, 0, 7, 10, 167, 0, 4, 9, 148]
abbrev dktL_law_85 : List UInt8 := dkwL_law_85 ++ dktL_law_86
def dkwL_law_84 : List UInt8 := [184, 1, 14, 54, 5, 44, 42, 21, 4, 4, 96, 46, 182, 1, 16, 54, 6, 44, 182, 0, 173, 21, 5]
abbrev dktL_law_84 : List UInt8 := dkwL_law_84 ++ dktL_law_85
def dkwL_law_83 : List UInt8 := [3, 47, 21, 6, 133, 148, 153, 0, 5, 3, 172, 167, 4, 156, 43, 42, 21, 4, 4, 96, 46, 45]
abbrev dktL_law_83 : List UInt8 := dkwL_law_83 ++ dktL_law_84
def dkwL_law_82 : List UInt8 := [96, 46, 182, 1, 13, 54, 6, 44, 182, 0, 173, 21, 5, 159, 0, 5, 3, 172, 21, 5, 154, 0, 15, 45]
abbrev dktL_law_82 : List UInt8 := dkwL_law_82 ++ dktL_law_83
def dkwL_law_81 : List UInt8 := [46, 42, 21, 4, 5, 96, 46, 45, 184, 1, 11, 54, 5, 44, 42, 21, 4, 4, 96, 46, 42, 21, 4, 5]
abbrev dktL_law_81 : List UInt8 := dkwL_law_81 ++ dktL_law_82
def dkwL_law_80 : List UInt8 := [154, 0, 15, 45, 3, 47, 21, 6, 133, 148, 153, 0, 5, 3, 172, 167, 4, 224, 43, 42, 21, 4, 4, 96]
abbrev dktL_law_80 : List UInt8 := dkwL_law_80 ++ dktL_law_81
def dkwL_law_79 : List UInt8 := [21, 4, 4, 96, 46, 182, 1, 10, 54, 6, 44, 182, 0, 173, 21, 5, 159, 0, 5, 3, 172, 21, 5]
abbrev dktL_law_79 : List UInt8 := dkwL_law_79 ++ dktL_law_80
def dkwL_law_78 : List UInt8 := [153, 0, 5, 3, 172, 167, 5, 24, 43, 42, 21, 4, 4, 96, 46, 45, 184, 1, 8, 54, 5, 44, 42]
abbrev dktL_law_78 : List UInt8 := dkwL_law_78 ++ dktL_law_79
def dkwL_law_77 : List UInt8 := [182, 0, 173, 21, 5, 159, 0, 5, 3, 172, 21, 5, 154, 0, 15, 45, 3, 47, 21, 6, 133, 148]
abbrev dktL_law_77 : List UInt8 := dkwL_law_77 ++ dktL_law_78
def dkwL_law_76 : List UInt8 := [21, 4, 5, 96, 46, 42, 21, 4, 6, 96, 46, 42, 21, 4, 7, 96, 46, 182, 1, 7, 54, 6, 44]
abbrev dktL_law_76 : List UInt8 := dkwL_law_76 ++ dktL_law_77
def dkwL_law_75 : List UInt8 := [6, 96, 46, 42, 21, 4, 7, 96, 46, 45, 184, 1, 4, 54, 5, 44, 42, 21, 4, 4, 96, 46, 42]
abbrev dktL_law_75 : List UInt8 := dkwL_law_75 ++ dktL_law_76
def dkwL_law_74 : List UInt8 := [153, 0, 5, 3, 172, 167, 5, 116, 43, 42, 21, 4, 4, 96, 46, 42, 21, 4, 5, 96, 46, 42, 21, 4]
abbrev dktL_law_74 : List UInt8 := dkwL_law_74 ++ dktL_law_75
def dkwL_law_73 : List UInt8 := [182, 0, 173, 21, 5, 159, 0, 5, 3, 172, 21, 5, 154, 0, 15, 45, 3, 47, 21, 6, 133, 148]
abbrev dktL_law_73 : List UInt8 := dkwL_law_73 ++ dktL_law_74
def dkwL_law_72 : List UInt8 := [184, 1, 1, 54, 5, 44, 42, 21, 4, 4, 96, 46, 42, 21, 4, 5, 96, 46, 182, 1, 3, 54, 6, 44]
abbrev dktL_law_72 : List UInt8 := dkwL_law_72 ++ dktL_law_73
def dkwL_law_71 : List UInt8 := [148, 153, 0, 5, 3, 172, 167, 5, 184, 43, 42, 21, 4, 4, 96, 46, 42, 21, 4, 5, 96, 46, 45]
abbrev dktL_law_71 : List UInt8 := dkwL_law_71 ++ dktL_law_72
def dkwL_law_70 : List UInt8 := [54, 6, 44, 182, 0, 173, 21, 5, 159, 0, 5, 3, 172, 21, 5, 154, 0, 15, 45, 3, 47, 21, 6, 133]
abbrev dktL_law_70 : List UInt8 := dkwL_law_70 ++ dktL_law_71
def dkwL_law_69 : List UInt8 := [46, 45, 184, 0, 254, 54, 5, 44, 42, 21, 4, 4, 96, 46, 42, 21, 4, 5, 96, 46, 182, 1, 0]
abbrev dktL_law_69 : List UInt8 := dkwL_law_69 ++ dktL_law_70
def dkwL_law_68 : List UInt8 := [21, 6, 133, 148, 153, 0, 5, 3, 172, 167, 5, 252, 43, 42, 21, 4, 4, 96, 46, 42, 21, 4, 5, 96]
abbrev dktL_law_68 : List UInt8 := dkwL_law_68 ++ dktL_law_69
def dkwL_law_67 : List UInt8 := [182, 0, 253, 54, 6, 44, 182, 0, 173, 21, 5, 159, 0, 5, 3, 172, 21, 5, 154, 0, 15, 45, 3, 47]
abbrev dktL_law_67 : List UInt8 := dkwL_law_67 ++ dktL_law_68
def dkwL_law_66 : List UInt8 := [184, 0, 251, 54, 5, 44, 42, 21, 4, 4, 96, 46, 42, 21, 4, 5, 96, 46, 42, 21, 4, 6, 96, 46]
abbrev dktL_law_66 : List UInt8 := dkwL_law_66 ++ dktL_law_67
def dkwL_law_65 : List UInt8 := [167, 6, 76, 43, 42, 21, 4, 4, 96, 46, 42, 21, 4, 5, 96, 46, 42, 21, 4, 6, 96, 46, 45]
abbrev dktL_law_65 : List UInt8 := dkwL_law_65 ++ dktL_law_66
def dkwL_law_64 : List UInt8 := [159, 0, 5, 3, 172, 21, 5, 154, 0, 15, 45, 3, 47, 21, 6, 133, 148, 153, 0, 5, 3, 172]
abbrev dktL_law_64 : List UInt8 := dkwL_law_64 ++ dktL_law_65
def dkwL_law_63 : List UInt8 := [42, 21, 4, 4, 96, 46, 42, 21, 4, 5, 96, 46, 182, 0, 250, 54, 6, 44, 182, 0, 173, 21, 5]
abbrev dktL_law_63 : List UInt8 := dkwL_law_63 ++ dktL_law_64
def dkwL_law_62 : List UInt8 := [172, 167, 6, 144, 43, 42, 21, 4, 4, 96, 46, 42, 21, 4, 5, 96, 46, 45, 184, 0, 248, 54, 5, 44]
abbrev dktL_law_62 : List UInt8 := dkwL_law_62 ++ dktL_law_63
def dkwL_law_61 : List UInt8 := [172, 21, 5, 154, 0, 22, 45, 3, 47, 21, 6, 153, 0, 7, 10, 167, 0, 4, 9, 148, 153, 0, 5, 3]
abbrev dktL_law_61 : List UInt8 := dkwL_law_61 ++ dktL_law_62
def dkwL_law_60 : List UInt8 := [54, 5, 44, 42, 21, 4, 4, 96, 46, 182, 0, 247, 54, 6, 44, 182, 0, 173, 21, 5, 159, 0, 5, 3]
abbrev dktL_law_60 : List UInt8 := dkwL_law_60 ++ dktL_law_61
def dkwL_law_59 : List UInt8 := [21, 6, 133, 148, 153, 0, 5, 3, 172, 167, 6, 207, 43, 42, 21, 4, 4, 96, 46, 45, 184, 0, 245]
abbrev dktL_law_59 : List UInt8 := dkwL_law_59 ++ dktL_law_60
def dkwL_law_58 : List UInt8 := [182, 0, 244, 54, 6, 44, 182, 0, 173, 21, 5, 159, 0, 5, 3, 172, 21, 5, 154, 0, 15, 45, 3, 47]
abbrev dktL_law_58 : List UInt8 := dkwL_law_58 ++ dktL_law_59
def dkwL_law_57 : List UInt8 := [167, 7, 7, 43, 42, 21, 4, 4, 96, 46, 45, 184, 0, 242, 54, 5, 44, 42, 21, 4, 4, 96, 46]
abbrev dktL_law_57 : List UInt8 := dkwL_law_57 ++ dktL_law_58
def dkwL_law_56 : List UInt8 := [21, 5, 159, 0, 5, 3, 172, 21, 5, 154, 0, 15, 45, 3, 47, 21, 6, 133, 148, 153, 0, 5, 3, 172]
abbrev dktL_law_56 : List UInt8 := dkwL_law_56 ++ dktL_law_57
def dkwL_law_55 : List UInt8 := [153, 0, 7, 4, 167, 0, 4, 3, 42, 21, 4, 7, 96, 46, 182, 0, 241, 54, 6, 44, 182, 0, 173]
abbrev dktL_law_55 : List UInt8 := dkwL_law_55 ++ dktL_law_56
def dkwL_law_54 : List UInt8 := [184, 0, 238, 54, 5, 44, 42, 21, 4, 4, 96, 46, 42, 21, 4, 5, 96, 46, 42, 21, 4, 6, 96, 46]
abbrev dktL_law_54 : List UInt8 := dkwL_law_54 ++ dktL_law_55
def dkwL_law_53 : List UInt8 := [46, 42, 21, 4, 6, 96, 46, 153, 0, 7, 4, 167, 0, 4, 3, 42, 21, 4, 7, 96, 46, 45]
abbrev dktL_law_53 : List UInt8 := dkwL_law_53 ++ dktL_law_54
def dkwL_law_52 : List UInt8 := [21, 6, 133, 148, 153, 0, 5, 3, 172, 167, 7, 115, 43, 42, 21, 4, 4, 96, 46, 42, 21, 4, 5, 96]
abbrev dktL_law_52 : List UInt8 := dkwL_law_52 ++ dktL_law_53
def dkwL_law_51 : List UInt8 := [182, 0, 237, 54, 6, 44, 182, 0, 173, 21, 5, 159, 0, 5, 3, 172, 21, 5, 154, 0, 15, 45, 3, 47]
abbrev dktL_law_51 : List UInt8 := dkwL_law_51 ++ dktL_law_52
def dkwL_law_50 : List UInt8 := [172, 167, 7, 171, 43, 42, 21, 4, 4, 96, 46, 45, 184, 0, 235, 54, 5, 44, 42, 21, 4, 4, 96, 46]
abbrev dktL_law_50 : List UInt8 := dkwL_law_50 ++ dktL_law_51
def dkwL_law_49 : List UInt8 := [172, 21, 5, 154, 0, 22, 45, 3, 47, 21, 6, 153, 0, 7, 10, 167, 0, 4, 9, 148, 153, 0, 5, 3]
abbrev dktL_law_49 : List UInt8 := dkwL_law_49 ++ dktL_law_50
def dkwL_law_48 : List UInt8 := [54, 5, 44, 42, 21, 4, 4, 96, 46, 182, 0, 234, 54, 6, 44, 182, 0, 173, 21, 5, 159, 0, 5, 3]
abbrev dktL_law_48 : List UInt8 := dkwL_law_48 ++ dktL_law_49
def dkwL_law_47 : List UInt8 := [167, 0, 4, 9, 148, 153, 0, 5, 3, 172, 167, 7, 234, 43, 42, 21, 4, 4, 96, 46, 45, 184, 0, 232]
abbrev dktL_law_47 : List UInt8 := dkwL_law_47 ++ dktL_law_48
def dkwL_law_46 : List UInt8 := [182, 0, 173, 21, 5, 159, 0, 5, 3, 172, 21, 5, 154, 0, 22, 45, 3, 47, 21, 6, 153, 0, 7, 10]
abbrev dktL_law_46 : List UInt8 := dkwL_law_46 ++ dktL_law_47
def dkwL_law_45 : List UInt8 := [21, 4, 4, 96, 46, 45, 184, 0, 229, 54, 5, 44, 42, 21, 4, 4, 96, 46, 182, 0, 231, 54, 6, 44]
abbrev dktL_law_45 : List UInt8 := dkwL_law_45 ++ dktL_law_46
def dkwL_law_44 : List UInt8 := [153, 0, 5, 3, 172, 167, 8, 54, 43, 182, 0, 225, 44, 182, 0, 228, 159, 8, 43, 3, 172, 43, 42]
abbrev dktL_law_44 : List UInt8 := dkwL_law_44 ++ dktL_law_45
def dkwL_law_43 : List UInt8 := [182, 0, 173, 21, 5, 159, 0, 5, 3, 172, 21, 5, 154, 0, 15, 45, 3, 47, 21, 6, 133, 148]
abbrev dktL_law_43 : List UInt8 := dkwL_law_43 ++ dktL_law_44
def dkwL_law_42 : List UInt8 := [21, 4, 4, 96, 46, 45, 184, 0, 222, 54, 5, 44, 42, 21, 4, 4, 96, 46, 182, 0, 224, 54, 6, 44]
abbrev dktL_law_42 : List UInt8 := dkwL_law_42 ++ dktL_law_43
def dkwL_law_41 : List UInt8 := [172, 21, 5, 154, 0, 15, 45, 3, 47, 21, 6, 133, 148, 153, 0, 5, 3, 172, 167, 8, 110, 43, 42]
abbrev dktL_law_41 : List UInt8 := dkwL_law_41 ++ dktL_law_42
def dkwL_law_40 : List UInt8 := [54, 5, 44, 42, 21, 4, 4, 96, 46, 182, 0, 221, 54, 6, 44, 182, 0, 173, 21, 5, 159, 0, 5, 3]
abbrev dktL_law_40 : List UInt8 := dkwL_law_40 ++ dktL_law_41
def dkwL_law_39 : List UInt8 := [21, 6, 133, 148, 153, 0, 5, 3, 172, 167, 8, 166, 43, 42, 21, 4, 4, 96, 46, 45, 184, 0, 219]
abbrev dktL_law_39 : List UInt8 := dkwL_law_39 ++ dktL_law_40
def dkwL_law_38 : List UInt8 := [182, 0, 218, 54, 6, 44, 182, 0, 173, 21, 5, 159, 0, 5, 3, 172, 21, 5, 154, 0, 15, 45, 3, 47]
abbrev dktL_law_38 : List UInt8 := dkwL_law_38 ++ dktL_law_39
def dkwL_law_37 : List UInt8 := [167, 8, 222, 43, 42, 21, 4, 4, 96, 46, 45, 184, 0, 216, 54, 5, 44, 42, 21, 4, 4, 96, 46]
abbrev dktL_law_37 : List UInt8 := dkwL_law_37 ++ dktL_law_38
def dkwL_law_36 : List UInt8 := [21, 5, 159, 0, 5, 3, 172, 21, 5, 154, 0, 15, 45, 3, 47, 21, 6, 133, 148, 153, 0, 5, 3, 172]
abbrev dktL_law_36 : List UInt8 := dkwL_law_36 ++ dktL_law_37
def dkwL_law_35 : List UInt8 := [46, 45, 184, 0, 213, 54, 5, 44, 42, 21, 4, 4, 96, 46, 182, 0, 215, 54, 6, 44, 182, 0, 173]
abbrev dktL_law_35 : List UInt8 := dkwL_law_35 ++ dktL_law_36
def dkwL_law_34 : List UInt8 := [154, 0, 15, 45, 3, 47, 21, 6, 133, 148, 153, 0, 5, 3, 172, 167, 9, 22, 43, 42, 21, 4, 4, 96]
abbrev dktL_law_34 : List UInt8 := dkwL_law_34 ++ dktL_law_35
def dkwL_law_33 : List UInt8 := [21, 4, 4, 96, 46, 182, 0, 212, 54, 6, 44, 182, 0, 173, 21, 5, 159, 0, 5, 3, 172, 21, 5]
abbrev dktL_law_33 : List UInt8 := dkwL_law_33 ++ dktL_law_34
def dkwL_law_32 : List UInt8 := [148, 153, 0, 5, 3, 172, 167, 9, 78, 43, 42, 21, 4, 4, 96, 46, 45, 184, 0, 210, 54, 5, 44, 42]
abbrev dktL_law_32 : List UInt8 := dkwL_law_32 ++ dktL_law_33
def dkwL_law_31 : List UInt8 := [54, 6, 44, 182, 0, 173, 21, 5, 159, 0, 5, 3, 172, 21, 5, 154, 0, 15, 45, 3, 47, 21, 6, 133]
abbrev dktL_law_31 : List UInt8 := dkwL_law_31 ++ dktL_law_32
def dkwL_law_30 : List UInt8 := [42, 21, 4, 5, 96, 46, 153, 0, 7, 4, 167, 0, 4, 3, 42, 21, 4, 6, 96, 46, 182, 0, 209]
abbrev dktL_law_30 : List UInt8 := dkwL_law_30 ++ dktL_law_31
def dkwL_law_29 : List UInt8 := [4, 167, 0, 4, 3, 42, 21, 4, 6, 96, 46, 45, 184, 0, 206, 54, 5, 44, 42, 21, 4, 4, 96, 46]
abbrev dktL_law_29 : List UInt8 := dkwL_law_29 ++ dktL_law_30
def dkwL_law_28 : List UInt8 := [153, 0, 5, 3, 172, 167, 9, 174, 43, 42, 21, 4, 4, 96, 46, 42, 21, 4, 5, 96, 46, 153, 0, 7]
abbrev dktL_law_28 : List UInt8 := dkwL_law_28 ++ dktL_law_29
def dkwL_law_27 : List UInt8 := [182, 0, 173, 21, 5, 159, 0, 5, 3, 172, 21, 5, 154, 0, 15, 45, 3, 47, 21, 6, 133, 148]
abbrev dktL_law_27 : List UInt8 := dkwL_law_27 ++ dktL_law_28
def dkwL_law_26 : List UInt8 := [21, 4, 4, 96, 46, 42, 21, 4, 5, 96, 46, 42, 21, 4, 6, 96, 46, 182, 0, 205, 54, 6, 44]
abbrev dktL_law_26 : List UInt8 := dkwL_law_26 ++ dktL_law_27
def dkwL_law_25 : List UInt8 := [4, 96, 46, 42, 21, 4, 5, 96, 46, 42, 21, 4, 6, 96, 46, 45, 184, 0, 202, 54, 5, 44, 42]
abbrev dktL_law_25 : List UInt8 := dkwL_law_25 ++ dktL_law_26
def dkwL_law_24 : List UInt8 := [21, 5, 154, 0, 15, 45, 3, 47, 21, 6, 133, 148, 153, 0, 5, 3, 172, 167, 9, 254, 43, 42, 21, 4]
abbrev dktL_law_24 : List UInt8 := dkwL_law_24 ++ dktL_law_25
def dkwL_law_23 : List UInt8 := [153, 0, 7, 4, 167, 0, 4, 3, 182, 0, 201, 54, 6, 44, 182, 0, 173, 21, 5, 159, 0, 5, 3, 172]
abbrev dktL_law_23 : List UInt8 := dkwL_law_23 ++ dktL_law_24
def dkwL_law_22 : List UInt8 := [184, 0, 198, 54, 5, 44, 42, 21, 4, 4, 96, 46, 42, 21, 4, 5, 96, 46, 42, 21, 4, 6, 96, 46]
abbrev dktL_law_22 : List UInt8 := dkwL_law_22 ++ dktL_law_23
def dkwL_law_21 : List UInt8 := [46, 42, 21, 4, 5, 96, 46, 42, 21, 4, 6, 96, 46, 153, 0, 7, 4, 167, 0, 4, 3, 45]
abbrev dktL_law_21 : List UInt8 := dkwL_law_21 ++ dktL_law_22
def dkwL_law_20 : List UInt8 := [154, 0, 15, 45, 3, 47, 21, 6, 133, 148, 153, 0, 5, 3, 172, 167, 10, 94, 43, 42, 21, 4, 4, 96]
abbrev dktL_law_20 : List UInt8 := dkwL_law_20 ++ dktL_law_21
def dkwL_law_19 : List UInt8 := [21, 4, 4, 96, 46, 182, 0, 197, 54, 6, 44, 182, 0, 173, 21, 5, 159, 0, 5, 3, 172, 21, 5]
abbrev dktL_law_19 : List UInt8 := dkwL_law_19 ++ dktL_law_20
def dkwL_law_18 : List UInt8 := [153, 0, 5, 3, 172, 167, 10, 150, 43, 42, 21, 4, 4, 96, 46, 45, 184, 0, 195, 54, 5, 44, 42]
abbrev dktL_law_18 : List UInt8 := dkwL_law_18 ++ dktL_law_19
def dkwL_law_17 : List UInt8 := [182, 0, 173, 21, 5, 159, 0, 5, 3, 172, 21, 5, 154, 0, 15, 45, 3, 47, 21, 6, 133, 148]
abbrev dktL_law_17 : List UInt8 := dkwL_law_17 ++ dktL_law_18
def dkwL_law_16 : List UInt8 := [182, 0, 190, 159, 10, 196, 3, 172, 43, 45, 184, 0, 191, 54, 5, 44, 182, 0, 194, 54, 6, 44]
abbrev dktL_law_16 : List UInt8 := dkwL_law_16 ++ dktL_law_17
def dkwL_law_15 : List UInt8 := [154, 0, 15, 45, 3, 47, 21, 6, 133, 148, 153, 0, 5, 3, 172, 167, 10, 207, 43, 182, 0, 187, 44]
abbrev dktL_law_15 : List UInt8 := dkwL_law_15 ++ dktL_law_16
def dkwL_law_14 : List UInt8 := [21, 4, 8, 96, 46, 182, 0, 186, 54, 6, 44, 182, 0, 173, 21, 5, 159, 0, 5, 3, 172, 21, 5]
abbrev dktL_law_14 : List UInt8 := dkwL_law_14 ++ dktL_law_15
def dkwL_law_13 : List UInt8 := [21, 4, 4, 96, 46, 42, 21, 4, 5, 96, 46, 42, 21, 4, 6, 96, 46, 42, 21, 4, 7, 96, 46, 42]
abbrev dktL_law_13 : List UInt8 := dkwL_law_13 ++ dktL_law_14
def dkwL_law_12 : List UInt8 := [6, 96, 46, 42, 21, 4, 7, 96, 46, 42, 21, 4, 8, 96, 46, 45, 184, 0, 183, 54, 5, 44, 42]
abbrev dktL_law_12 : List UInt8 := dkwL_law_12 ++ dktL_law_13
def dkwL_law_11 : List UInt8 := [153, 0, 5, 3, 172, 167, 11, 55, 43, 42, 21, 4, 4, 96, 46, 42, 21, 4, 5, 96, 46, 42, 21, 4]
abbrev dktL_law_11 : List UInt8 := dkwL_law_11 ++ dktL_law_12
def dkwL_law_10 : List UInt8 := [182, 0, 173, 21, 5, 159, 0, 5, 3, 172, 21, 5, 154, 0, 15, 45, 3, 47, 21, 6, 133, 148]
abbrev dktL_law_10 : List UInt8 := dkwL_law_10 ++ dktL_law_11
def dkwL_law_9 : List UInt8 := [184, 0, 180, 54, 5, 44, 42, 21, 4, 4, 96, 46, 42, 21, 4, 5, 96, 46, 182, 0, 182, 54, 6, 44]
abbrev dktL_law_9 : List UInt8 := dkwL_law_9 ++ dktL_law_10
def dkwL_law_8 : List UInt8 := [153, 0, 5, 3, 172, 167, 11, 123, 43, 42, 21, 4, 4, 96, 46, 42, 21, 4, 5, 96, 46, 45]
abbrev dktL_law_8 : List UInt8 := dkwL_law_8 ++ dktL_law_9
def dkwL_law_7 : List UInt8 := [182, 0, 173, 21, 5, 159, 0, 5, 3, 172, 21, 5, 154, 0, 15, 45, 3, 47, 21, 6, 133, 148]
abbrev dktL_law_7 : List UInt8 := dkwL_law_7 ++ dktL_law_8
def dkwL_law_6 : List UInt8 := [184, 0, 176, 54, 5, 44, 42, 21, 4, 4, 96, 46, 42, 21, 4, 5, 96, 46, 182, 0, 179, 54, 6, 44]
abbrev dktL_law_6 : List UInt8 := dkwL_law_6 ++ dktL_law_7
def dkwL_law_5 : List UInt8 := [148, 153, 0, 5, 3, 172, 167, 11, 191, 43, 42, 21, 4, 4, 96, 46, 42, 21, 4, 5, 96, 46, 45]
abbrev dktL_law_5 : List UInt8 := dkwL_law_5 ++ dktL_law_6
def dkwL_law_4 : List UInt8 := [54, 6, 44, 182, 0, 173, 21, 5, 159, 0, 5, 3, 172, 21, 5, 154, 0, 15, 45, 3, 47, 21, 6, 133]
abbrev dktL_law_4 : List UInt8 := dkwL_law_4 ++ dktL_law_5
def dkwL_law_3 : List UInt8 := [43, 42, 21, 4, 4, 96, 46, 45, 184, 0, 167, 54, 5, 44, 42, 21, 4, 4, 96, 46, 182, 0, 172]
abbrev dktL_law_3 : List UInt8 := dkwL_law_3 ++ dktL_law_4
def dkwL_law_2 : List UInt8 := [170, 0, 0, 0, 0, 0, 12, 208, 0, 0, 0, 0, 0, 0, 0, 50, 0, 0, 0, 220, 0, 0, 1, 20, 0, 0, 1, 88, 0, 0, 1, 156, 0, 0, 2, 4, 0, 0, 2, 17, 0, 0, 2, 61, 0, 0, 2, 117, 0, 0, 2, 213, 0, 0, 3, 37, 0, 0, 3, 133, 0, 0, 3, 189, 0, 0, 3, 245, 0, 0, 4, 45, 0, 0, 4, 101, 0, 0, 4, 157, 0, 0, 4, 170, 0, 0, 4, 233, 0, 0, 5, 40, 0, 0, 5, 96, 0, 0, 5, 204, 0, 0, 6, 4, 0, 0, 6, 67, 0, 0, 6, 135, 0, 0, 6, 215, 0, 0, 7, 27, 0, 0, 7, 95, 0, 0, 7, 187, 0, 0, 7, 243, 0, 0, 8, 55, 0, 0, 8, 118, 0, 0, 8, 174, 0, 0, 8, 254, 0, 0, 9, 54, 0, 0, 9, 98, 0, 0, 9, 142, 0, 0, 9, 155, 0, 0, 9, 218, 0, 0, 10, 18, 0, 0, 10, 98, 0, 0, 10, 154, 0, 0, 10, 210, 0, 0, 11, 22, 0, 0, 11, 90, 0, 0, 11, 146, 0, 0, 11, 214, 0, 0, 12, 14, 0, 0, 12, 70, 0, 0, 12, 83, 0, 0, 12, 139, 0, 0, 12, 152]
abbrev dktL_law_2 : List UInt8 := dkwL_law_2 ++ dktL_law_3
def dkwL_law_1 : List UInt8 := [21, 4, 42, 190, 16, 6, 100, 163, 12, 224, 42, 21, 4, 46, 16, 63, 126]
abbrev dktL_law_1 : List UInt8 := dkwL_law_1 ++ dktL_law_2
def dkwL_law_0 : List UInt8 := [187, 0, 8, 89, 183, 0, 163, 76, 187, 0, 164, 89, 183, 0, 166, 77, 4, 188, 11, 78, 3, 54, 4]
abbrev dktL_law_0 : List UInt8 := dkwL_law_0 ++ dktL_law_1
theorem dksL_law_0 : cL_law.data.toList.drop 0 = dktL_law_0 := by decide +kernel
theorem dksL_law_1 : cL_law.data.toList.drop 23 = dktL_law_1 := dk_seg dksL_law_0 23 rfl rfl
theorem dksL_law_2 : cL_law.data.toList.drop 40 = dktL_law_2 := dk_seg dksL_law_1 17 rfl rfl
theorem dksL_law_3 : cL_law.data.toList.drop 260 = dktL_law_3 := dk_seg dksL_law_2 220 rfl rfl
theorem dksL_law_4 : cL_law.data.toList.drop 283 = dktL_law_4 := dk_seg dksL_law_3 23 rfl rfl
theorem dksL_law_5 : cL_law.data.toList.drop 307 = dktL_law_5 := dk_seg dksL_law_4 24 rfl rfl
theorem dksL_law_6 : cL_law.data.toList.drop 330 = dktL_law_6 := dk_seg dksL_law_5 23 rfl rfl
theorem dksL_law_7 : cL_law.data.toList.drop 354 = dktL_law_7 := dk_seg dksL_law_6 24 rfl rfl
theorem dksL_law_8 : cL_law.data.toList.drop 376 = dktL_law_8 := dk_seg dksL_law_7 22 rfl rfl
theorem dksL_law_9 : cL_law.data.toList.drop 398 = dktL_law_9 := dk_seg dksL_law_8 22 rfl rfl
theorem dksL_law_10 : cL_law.data.toList.drop 422 = dktL_law_10 := dk_seg dksL_law_9 24 rfl rfl
theorem dksL_law_11 : cL_law.data.toList.drop 444 = dktL_law_11 := dk_seg dksL_law_10 22 rfl rfl
theorem dksL_law_12 : cL_law.data.toList.drop 468 = dktL_law_12 := dk_seg dksL_law_11 24 rfl rfl
theorem dksL_law_13 : cL_law.data.toList.drop 491 = dktL_law_13 := dk_seg dksL_law_12 23 rfl rfl
theorem dksL_law_14 : cL_law.data.toList.drop 515 = dktL_law_14 := dk_seg dksL_law_13 24 rfl rfl
theorem dksL_law_15 : cL_law.data.toList.drop 538 = dktL_law_15 := dk_seg dksL_law_14 23 rfl rfl
theorem dksL_law_16 : cL_law.data.toList.drop 561 = dktL_law_16 := dk_seg dksL_law_15 23 rfl rfl
theorem dksL_law_17 : cL_law.data.toList.drop 583 = dktL_law_17 := dk_seg dksL_law_16 22 rfl rfl
theorem dksL_law_18 : cL_law.data.toList.drop 605 = dktL_law_18 := dk_seg dksL_law_17 22 rfl rfl
theorem dksL_law_19 : cL_law.data.toList.drop 628 = dktL_law_19 := dk_seg dksL_law_18 23 rfl rfl
theorem dksL_law_20 : cL_law.data.toList.drop 651 = dktL_law_20 := dk_seg dksL_law_19 23 rfl rfl
theorem dksL_law_21 : cL_law.data.toList.drop 675 = dktL_law_21 := dk_seg dksL_law_20 24 rfl rfl
theorem dksL_law_22 : cL_law.data.toList.drop 697 = dktL_law_22 := dk_seg dksL_law_21 22 rfl rfl
theorem dksL_law_23 : cL_law.data.toList.drop 721 = dktL_law_23 := dk_seg dksL_law_22 24 rfl rfl
theorem dksL_law_24 : cL_law.data.toList.drop 745 = dktL_law_24 := dk_seg dksL_law_23 24 rfl rfl
theorem dksL_law_25 : cL_law.data.toList.drop 769 = dktL_law_25 := dk_seg dksL_law_24 24 rfl rfl
theorem dksL_law_26 : cL_law.data.toList.drop 792 = dktL_law_26 := dk_seg dksL_law_25 23 rfl rfl
theorem dksL_law_27 : cL_law.data.toList.drop 815 = dktL_law_27 := dk_seg dksL_law_26 23 rfl rfl
theorem dksL_law_28 : cL_law.data.toList.drop 837 = dktL_law_28 := dk_seg dksL_law_27 22 rfl rfl
theorem dksL_law_29 : cL_law.data.toList.drop 861 = dktL_law_29 := dk_seg dksL_law_28 24 rfl rfl
theorem dksL_law_30 : cL_law.data.toList.drop 885 = dktL_law_30 := dk_seg dksL_law_29 24 rfl rfl
theorem dksL_law_31 : cL_law.data.toList.drop 908 = dktL_law_31 := dk_seg dksL_law_30 23 rfl rfl
theorem dksL_law_32 : cL_law.data.toList.drop 932 = dktL_law_32 := dk_seg dksL_law_31 24 rfl rfl
theorem dksL_law_33 : cL_law.data.toList.drop 956 = dktL_law_33 := dk_seg dksL_law_32 24 rfl rfl
theorem dksL_law_34 : cL_law.data.toList.drop 979 = dktL_law_34 := dk_seg dksL_law_33 23 rfl rfl
theorem dksL_law_35 : cL_law.data.toList.drop 1003 = dktL_law_35 := dk_seg dksL_law_34 24 rfl rfl
theorem dksL_law_36 : cL_law.data.toList.drop 1026 = dktL_law_36 := dk_seg dksL_law_35 23 rfl rfl
theorem dksL_law_37 : cL_law.data.toList.drop 1050 = dktL_law_37 := dk_seg dksL_law_36 24 rfl rfl
theorem dksL_law_38 : cL_law.data.toList.drop 1073 = dktL_law_38 := dk_seg dksL_law_37 23 rfl rfl
theorem dksL_law_39 : cL_law.data.toList.drop 1097 = dktL_law_39 := dk_seg dksL_law_38 24 rfl rfl
theorem dksL_law_40 : cL_law.data.toList.drop 1120 = dktL_law_40 := dk_seg dksL_law_39 23 rfl rfl
theorem dksL_law_41 : cL_law.data.toList.drop 1144 = dktL_law_41 := dk_seg dksL_law_40 24 rfl rfl
theorem dksL_law_42 : cL_law.data.toList.drop 1167 = dktL_law_42 := dk_seg dksL_law_41 23 rfl rfl
theorem dksL_law_43 : cL_law.data.toList.drop 1191 = dktL_law_43 := dk_seg dksL_law_42 24 rfl rfl
theorem dksL_law_44 : cL_law.data.toList.drop 1213 = dktL_law_44 := dk_seg dksL_law_43 22 rfl rfl
theorem dksL_law_45 : cL_law.data.toList.drop 1236 = dktL_law_45 := dk_seg dksL_law_44 23 rfl rfl
theorem dksL_law_46 : cL_law.data.toList.drop 1260 = dktL_law_46 := dk_seg dksL_law_45 24 rfl rfl
theorem dksL_law_47 : cL_law.data.toList.drop 1284 = dktL_law_47 := dk_seg dksL_law_46 24 rfl rfl
theorem dksL_law_48 : cL_law.data.toList.drop 1308 = dktL_law_48 := dk_seg dksL_law_47 24 rfl rfl
theorem dksL_law_49 : cL_law.data.toList.drop 1332 = dktL_law_49 := dk_seg dksL_law_48 24 rfl rfl
theorem dksL_law_50 : cL_law.data.toList.drop 1356 = dktL_law_50 := dk_seg dksL_law_49 24 rfl rfl
theorem dksL_law_51 : cL_law.data.toList.drop 1380 = dktL_law_51 := dk_seg dksL_law_50 24 rfl rfl
theorem dksL_law_52 : cL_law.data.toList.drop 1404 = dktL_law_52 := dk_seg dksL_law_51 24 rfl rfl
theorem dksL_law_53 : cL_law.data.toList.drop 1428 = dktL_law_53 := dk_seg dksL_law_52 24 rfl rfl
theorem dksL_law_54 : cL_law.data.toList.drop 1450 = dktL_law_54 := dk_seg dksL_law_53 22 rfl rfl
theorem dksL_law_55 : cL_law.data.toList.drop 1474 = dktL_law_55 := dk_seg dksL_law_54 24 rfl rfl
theorem dksL_law_56 : cL_law.data.toList.drop 1497 = dktL_law_56 := dk_seg dksL_law_55 23 rfl rfl
theorem dksL_law_57 : cL_law.data.toList.drop 1521 = dktL_law_57 := dk_seg dksL_law_56 24 rfl rfl
theorem dksL_law_58 : cL_law.data.toList.drop 1544 = dktL_law_58 := dk_seg dksL_law_57 23 rfl rfl
theorem dksL_law_59 : cL_law.data.toList.drop 1568 = dktL_law_59 := dk_seg dksL_law_58 24 rfl rfl
theorem dksL_law_60 : cL_law.data.toList.drop 1591 = dktL_law_60 := dk_seg dksL_law_59 23 rfl rfl
theorem dksL_law_61 : cL_law.data.toList.drop 1615 = dktL_law_61 := dk_seg dksL_law_60 24 rfl rfl
theorem dksL_law_62 : cL_law.data.toList.drop 1639 = dktL_law_62 := dk_seg dksL_law_61 24 rfl rfl
theorem dksL_law_63 : cL_law.data.toList.drop 1663 = dktL_law_63 := dk_seg dksL_law_62 24 rfl rfl
theorem dksL_law_64 : cL_law.data.toList.drop 1686 = dktL_law_64 := dk_seg dksL_law_63 23 rfl rfl
theorem dksL_law_65 : cL_law.data.toList.drop 1708 = dktL_law_65 := dk_seg dksL_law_64 22 rfl rfl
theorem dksL_law_66 : cL_law.data.toList.drop 1731 = dktL_law_66 := dk_seg dksL_law_65 23 rfl rfl
theorem dksL_law_67 : cL_law.data.toList.drop 1755 = dktL_law_67 := dk_seg dksL_law_66 24 rfl rfl
theorem dksL_law_68 : cL_law.data.toList.drop 1779 = dktL_law_68 := dk_seg dksL_law_67 24 rfl rfl
theorem dksL_law_69 : cL_law.data.toList.drop 1803 = dktL_law_69 := dk_seg dksL_law_68 24 rfl rfl
theorem dksL_law_70 : cL_law.data.toList.drop 1826 = dktL_law_70 := dk_seg dksL_law_69 23 rfl rfl
theorem dksL_law_71 : cL_law.data.toList.drop 1850 = dktL_law_71 := dk_seg dksL_law_70 24 rfl rfl
theorem dksL_law_72 : cL_law.data.toList.drop 1873 = dktL_law_72 := dk_seg dksL_law_71 23 rfl rfl
theorem dksL_law_73 : cL_law.data.toList.drop 1897 = dktL_law_73 := dk_seg dksL_law_72 24 rfl rfl
theorem dksL_law_74 : cL_law.data.toList.drop 1919 = dktL_law_74 := dk_seg dksL_law_73 22 rfl rfl
theorem dksL_law_75 : cL_law.data.toList.drop 1943 = dktL_law_75 := dk_seg dksL_law_74 24 rfl rfl
theorem dksL_law_76 : cL_law.data.toList.drop 1966 = dktL_law_76 := dk_seg dksL_law_75 23 rfl rfl
theorem dksL_law_77 : cL_law.data.toList.drop 1989 = dktL_law_77 := dk_seg dksL_law_76 23 rfl rfl
theorem dksL_law_78 : cL_law.data.toList.drop 2011 = dktL_law_78 := dk_seg dksL_law_77 22 rfl rfl
theorem dksL_law_79 : cL_law.data.toList.drop 2034 = dktL_law_79 := dk_seg dksL_law_78 23 rfl rfl
theorem dksL_law_80 : cL_law.data.toList.drop 2057 = dktL_law_80 := dk_seg dksL_law_79 23 rfl rfl
theorem dksL_law_81 : cL_law.data.toList.drop 2081 = dktL_law_81 := dk_seg dksL_law_80 24 rfl rfl
theorem dksL_law_82 : cL_law.data.toList.drop 2105 = dktL_law_82 := dk_seg dksL_law_81 24 rfl rfl
theorem dksL_law_83 : cL_law.data.toList.drop 2129 = dktL_law_83 := dk_seg dksL_law_82 24 rfl rfl
theorem dksL_law_84 : cL_law.data.toList.drop 2151 = dktL_law_84 := dk_seg dksL_law_83 22 rfl rfl
theorem dksL_law_85 : cL_law.data.toList.drop 2174 = dktL_law_85 := dk_seg dksL_law_84 23 rfl rfl
theorem dksL_law_86 : cL_law.data.toList.drop 2198 = dktL_law_86 := dk_seg dksL_law_85 24 rfl rfl
theorem dksL_law_87 : cL_law.data.toList.drop 2221 = dktL_law_87 := dk_seg dksL_law_86 23 rfl rfl
theorem dksL_law_88 : cL_law.data.toList.drop 2244 = dktL_law_88 := dk_seg dksL_law_87 23 rfl rfl
theorem dksL_law_89 : cL_law.data.toList.drop 2268 = dktL_law_89 := dk_seg dksL_law_88 24 rfl rfl
theorem dksL_law_90 : cL_law.data.toList.drop 2292 = dktL_law_90 := dk_seg dksL_law_89 24 rfl rfl
theorem dksL_law_91 : cL_law.data.toList.drop 2315 = dktL_law_91 := dk_seg dksL_law_90 23 rfl rfl
theorem dksL_law_92 : cL_law.data.toList.drop 2339 = dktL_law_92 := dk_seg dksL_law_91 24 rfl rfl
theorem dksL_law_93 : cL_law.data.toList.drop 2362 = dktL_law_93 := dk_seg dksL_law_92 23 rfl rfl
theorem dksL_law_94 : cL_law.data.toList.drop 2386 = dktL_law_94 := dk_seg dksL_law_93 24 rfl rfl
theorem dksL_law_95 : cL_law.data.toList.drop 2409 = dktL_law_95 := dk_seg dksL_law_94 23 rfl rfl
theorem dksL_law_96 : cL_law.data.toList.drop 2433 = dktL_law_96 := dk_seg dksL_law_95 24 rfl rfl
theorem dksL_law_97 : cL_law.data.toList.drop 2456 = dktL_law_97 := dk_seg dksL_law_96 23 rfl rfl
theorem dksL_law_98 : cL_law.data.toList.drop 2478 = dktL_law_98 := dk_seg dksL_law_97 22 rfl rfl
theorem dksL_law_99 : cL_law.data.toList.drop 2501 = dktL_law_99 := dk_seg dksL_law_98 23 rfl rfl
theorem dksL_law_100 : cL_law.data.toList.drop 2525 = dktL_law_100 := dk_seg dksL_law_99 24 rfl rfl
theorem dksL_law_101 : cL_law.data.toList.drop 2549 = dktL_law_101 := dk_seg dksL_law_100 24 rfl rfl
theorem dksL_law_102 : cL_law.data.toList.drop 2573 = dktL_law_102 := dk_seg dksL_law_101 24 rfl rfl
theorem dksL_law_103 : cL_law.data.toList.drop 2597 = dktL_law_103 := dk_seg dksL_law_102 24 rfl rfl
theorem dksL_law_104 : cL_law.data.toList.drop 2620 = dktL_law_104 := dk_seg dksL_law_103 23 rfl rfl
theorem dksL_law_105 : cL_law.data.toList.drop 2644 = dktL_law_105 := dk_seg dksL_law_104 24 rfl rfl
theorem dksL_law_106 : cL_law.data.toList.drop 2668 = dktL_law_106 := dk_seg dksL_law_105 24 rfl rfl
theorem dksL_law_107 : cL_law.data.toList.drop 2690 = dktL_law_107 := dk_seg dksL_law_106 22 rfl rfl
theorem dksL_law_108 : cL_law.data.toList.drop 2713 = dktL_law_108 := dk_seg dksL_law_107 23 rfl rfl
theorem dksL_law_109 : cL_law.data.toList.drop 2736 = dktL_law_109 := dk_seg dksL_law_108 23 rfl rfl
theorem dksL_law_110 : cL_law.data.toList.drop 2760 = dktL_law_110 := dk_seg dksL_law_109 24 rfl rfl
theorem dksL_law_111 : cL_law.data.toList.drop 2783 = dktL_law_111 := dk_seg dksL_law_110 23 rfl rfl
theorem dksL_law_112 : cL_law.data.toList.drop 2807 = dktL_law_112 := dk_seg dksL_law_111 24 rfl rfl
theorem dksL_law_113 : cL_law.data.toList.drop 2831 = dktL_law_113 := dk_seg dksL_law_112 24 rfl rfl
theorem dksL_law_114 : cL_law.data.toList.drop 2853 = dktL_law_114 := dk_seg dksL_law_113 22 rfl rfl
theorem dksL_law_115 : cL_law.data.toList.drop 2875 = dktL_law_115 := dk_seg dksL_law_114 22 rfl rfl
theorem dksL_law_116 : cL_law.data.toList.drop 2899 = dktL_law_116 := dk_seg dksL_law_115 24 rfl rfl
theorem dksL_law_117 : cL_law.data.toList.drop 2921 = dktL_law_117 := dk_seg dksL_law_116 22 rfl rfl
theorem dksL_law_118 : cL_law.data.toList.drop 2943 = dktL_law_118 := dk_seg dksL_law_117 22 rfl rfl
theorem dksL_law_119 : cL_law.data.toList.drop 2966 = dktL_law_119 := dk_seg dksL_law_118 23 rfl rfl
theorem dksL_law_120 : cL_law.data.toList.drop 2990 = dktL_law_120 := dk_seg dksL_law_119 24 rfl rfl
theorem dksL_law_121 : cL_law.data.toList.drop 3014 = dktL_law_121 := dk_seg dksL_law_120 24 rfl rfl
theorem dksL_law_122 : cL_law.data.toList.drop 3037 = dktL_law_122 := dk_seg dksL_law_121 23 rfl rfl
theorem dksL_law_123 : cL_law.data.toList.drop 3061 = dktL_law_123 := dk_seg dksL_law_122 24 rfl rfl
theorem dksL_law_124 : cL_law.data.toList.drop 3085 = dktL_law_124 := dk_seg dksL_law_123 24 rfl rfl
theorem dksL_law_125 : cL_law.data.toList.drop 3108 = dktL_law_125 := dk_seg dksL_law_124 23 rfl rfl
theorem dksL_law_126 : cL_law.data.toList.drop 3132 = dktL_law_126 := dk_seg dksL_law_125 24 rfl rfl
theorem dksL_law_127 : cL_law.data.toList.drop 3155 = dktL_law_127 := dk_seg dksL_law_126 23 rfl rfl
theorem dksL_law_128 : cL_law.data.toList.drop 3179 = dktL_law_128 := dk_seg dksL_law_127 24 rfl rfl
theorem dksL_law_129 : cL_law.data.toList.drop 3203 = dktL_law_129 := dk_seg dksL_law_128 24 rfl rfl
theorem dksL_law_130 : cL_law.data.toList.drop 3226 = dktL_law_130 := dk_seg dksL_law_129 23 rfl rfl
theorem dksL_law_131 : cL_law.data.toList.drop 3248 = dktL_law_131 := dk_seg dksL_law_130 22 rfl rfl
theorem dksL_law_132 : cL_law.data.toList.drop 3272 = dktL_law_132 := dk_seg dksL_law_131 24 rfl rfl
theorem dksL_law_133 : cL_law.data.toList.drop 3295 = dktL_law_133 := dk_seg dksL_law_132 23 rfl rfl
theorem dksL_law_134 : cL_law.data.toList.drop 3317 = dktL_law_134 := dk_seg dksL_law_133 22 rfl rfl
theorem dL_law_0 : decode cL_law 0 = .ok (.new 8, 3) := dk_187 0 8 (dk_at dksL_law_0 0 rfl rfl)
theorem dL_law_3 : decode cL_law 3 = .ok (.dup, 1) := dk_89 (dk_at dksL_law_0 3 rfl rfl)
theorem dL_law_4 : decode cL_law 4 = .ok (.invokespecial 163, 3) := dk_183 0 163 (dk_at dksL_law_0 4 rfl rfl)
theorem dL_law_7 : decode cL_law 7 = .ok (.astore_n 1, 1) := dk_76 (dk_at dksL_law_0 7 rfl rfl)
theorem dL_law_8 : decode cL_law 8 = .ok (.new 164, 3) := dk_187 0 164 (dk_at dksL_law_0 8 rfl rfl)
theorem dL_law_11 : decode cL_law 11 = .ok (.dup, 1) := dk_89 (dk_at dksL_law_0 11 rfl rfl)
theorem dL_law_12 : decode cL_law 12 = .ok (.invokespecial 166, 3) := dk_183 0 166 (dk_at dksL_law_0 12 rfl rfl)
theorem dL_law_15 : decode cL_law 15 = .ok (.astore_n 2, 1) := dk_77 (dk_at dksL_law_0 15 rfl rfl)
theorem dL_law_16 : decode cL_law 16 = .ok (.iconst 1, 1) := dk_4 (dk_at dksL_law_0 16 rfl rfl)
theorem dL_law_17 : decode cL_law 17 = .ok (.newarray .long, 2) := dk_188_11 (dk_at dksL_law_0 17 rfl rfl)
theorem dL_law_19 : decode cL_law 19 = .ok (.astore_n 3, 1) := dk_78 (dk_at dksL_law_0 19 rfl rfl)
theorem dL_law_20 : decode cL_law 20 = .ok (.iconst 0, 1) := dk_3 (dk_at dksL_law_0 20 rfl rfl)
theorem dL_law_21 : decode cL_law 21 = .ok (.istore 4, 2) := dk_54 4 (dk_at dksL_law_0 21 rfl rfl)
theorem dL_law_23 : decode cL_law 23 = .ok (.iload 4, 2) := dk_21 4 (dk_at dksL_law_1 0 rfl rfl)
theorem dL_law_25 : decode cL_law 25 = .ok (.aload_n 0, 1) := dk_42 (dk_at dksL_law_1 2 rfl rfl)
theorem dL_law_26 : decode cL_law 26 = .ok (.arraylength, 1) := dk_190 (dk_at dksL_law_1 3 rfl rfl)
theorem dL_law_27 : decode cL_law 27 = .ok (.bipush 6, 2) := dk_16 6 (dk_at dksL_law_1 4 rfl rfl)
theorem dL_law_29 : decode cL_law 29 = .ok (.isub, 1) := dk_100 (dk_at dksL_law_1 6 rfl rfl)
theorem dL_law_30 : decode cL_law 30 = .ok (.if_icmp .gt 3296, 3) := dk_163 12 224 (dk_at dksL_law_1 7 rfl rfl)
theorem dL_law_33 : decode cL_law 33 = .ok (.aload_n 0, 1) := dk_42 (dk_at dksL_law_1 10 rfl rfl)
theorem dL_law_34 : decode cL_law 34 = .ok (.iload 4, 2) := dk_21 4 (dk_at dksL_law_1 11 rfl rfl)
theorem dL_law_36 : decode cL_law 36 = .ok (.iaload, 1) := dk_46 (dk_at dksL_law_1 13 rfl rfl)
theorem dL_law_37 : decode cL_law 37 = .ok (.bipush 63, 2) := dk_16 63 (dk_at dksL_law_1 14 rfl rfl)
theorem dL_law_39 : decode cL_law 39 = .ok (.iand, 1) := dk_126 (dk_at dksL_law_1 16 rfl rfl)
theorem dL_law_40 : decode cL_law 40 = .ok (.tableswitch 3280 0 50 #[220, 276, 344, 412, 516, 529, 573, 629, 725, 805, 901, 957, 1013, 1069, 1125, 1181, 1194, 1257, 1320, 1376, 1484, 1540, 1603, 1671, 1751, 1819, 1887, 1979, 2035, 2103, 2166, 2222, 2302, 2358, 2402, 2446, 2459, 2522, 2578, 2658, 2714, 2770, 2838, 2906, 2962, 3030, 3086, 3142, 3155, 3211, 3224], 220) := by decide +kernel
theorem dL_law_260 : decode cL_law 260 = .ok (.aload_n 1, 1) := dk_43 (dk_at dksL_law_3 0 rfl rfl)
theorem dL_law_261 : decode cL_law 261 = .ok (.aload_n 0, 1) := dk_42 (dk_at dksL_law_3 1 rfl rfl)
theorem dL_law_262 : decode cL_law 262 = .ok (.iload 4, 2) := dk_21 4 (dk_at dksL_law_3 2 rfl rfl)
theorem dL_law_264 : decode cL_law 264 = .ok (.iconst 1, 1) := dk_4 (dk_at dksL_law_3 4 rfl rfl)
theorem dL_law_265 : decode cL_law 265 = .ok (.iadd, 1) := dk_96 (dk_at dksL_law_3 5 rfl rfl)
theorem dL_law_266 : decode cL_law 266 = .ok (.iaload, 1) := dk_46 (dk_at dksL_law_3 6 rfl rfl)
theorem dL_law_267 : decode cL_law 267 = .ok (.aload_n 3, 1) := dk_45 (dk_at dksL_law_3 7 rfl rfl)
theorem dL_law_268 : decode cL_law 268 = .ok (.invokestatic 167, 3) := dk_184 0 167 (dk_at dksL_law_3 8 rfl rfl)
theorem dL_law_271 : decode cL_law 271 = .ok (.istore 5, 2) := dk_54 5 (dk_at dksL_law_3 11 rfl rfl)
theorem dL_law_273 : decode cL_law 273 = .ok (.aload_n 2, 1) := dk_44 (dk_at dksL_law_3 13 rfl rfl)
theorem dL_law_274 : decode cL_law 274 = .ok (.aload_n 0, 1) := dk_42 (dk_at dksL_law_3 14 rfl rfl)
theorem dL_law_275 : decode cL_law 275 = .ok (.iload 4, 2) := dk_21 4 (dk_at dksL_law_3 15 rfl rfl)
theorem dL_law_277 : decode cL_law 277 = .ok (.iconst 1, 1) := dk_4 (dk_at dksL_law_3 17 rfl rfl)
theorem dL_law_278 : decode cL_law 278 = .ok (.iadd, 1) := dk_96 (dk_at dksL_law_3 18 rfl rfl)
theorem dL_law_279 : decode cL_law 279 = .ok (.iaload, 1) := dk_46 (dk_at dksL_law_3 19 rfl rfl)
theorem dL_law_280 : decode cL_law 280 = .ok (.invokevirtual 172, 3) := dk_182 0 172 (dk_at dksL_law_3 20 rfl rfl)
theorem dL_law_283 : decode cL_law 283 = .ok (.istore 6, 2) := dk_54 6 (dk_at dksL_law_4 0 rfl rfl)
theorem dL_law_285 : decode cL_law 285 = .ok (.aload_n 2, 1) := dk_44 (dk_at dksL_law_4 2 rfl rfl)
theorem dL_law_286 : decode cL_law 286 = .ok (.invokevirtual 173, 3) := dk_182 0 173 (dk_at dksL_law_4 3 rfl rfl)
theorem dL_law_289 : decode cL_law 289 = .ok (.iload 5, 2) := dk_21 5 (dk_at dksL_law_4 6 rfl rfl)
theorem dL_law_291 : decode cL_law 291 = .ok (.if_icmp .eq 5, 3) := dk_159 0 5 (dk_at dksL_law_4 8 rfl rfl)
theorem dL_law_294 : decode cL_law 294 = .ok (.iconst 0, 1) := dk_3 (dk_at dksL_law_4 11 rfl rfl)
theorem dL_law_295 : decode cL_law 295 = .ok (.ireturn, 1) := dk_172 (dk_at dksL_law_4 12 rfl rfl)
theorem dL_law_296 : decode cL_law 296 = .ok (.iload 5, 2) := dk_21 5 (dk_at dksL_law_4 13 rfl rfl)
theorem dL_law_298 : decode cL_law 298 = .ok (.ifCond .ne 15, 3) := dk_154 0 15 (dk_at dksL_law_4 15 rfl rfl)
theorem dL_law_301 : decode cL_law 301 = .ok (.aload_n 3, 1) := dk_45 (dk_at dksL_law_4 18 rfl rfl)
theorem dL_law_302 : decode cL_law 302 = .ok (.iconst 0, 1) := dk_3 (dk_at dksL_law_4 19 rfl rfl)
theorem dL_law_303 : decode cL_law 303 = .ok (.laload, 1) := dk_47 (dk_at dksL_law_4 20 rfl rfl)
theorem dL_law_304 : decode cL_law 304 = .ok (.iload 6, 2) := dk_21 6 (dk_at dksL_law_4 21 rfl rfl)
theorem dL_law_306 : decode cL_law 306 = .ok (.i2l, 1) := dk_133 (dk_at dksL_law_4 23 rfl rfl)
theorem dL_law_307 : decode cL_law 307 = .ok (.lcmp, 1) := dk_148 (dk_at dksL_law_5 0 rfl rfl)
theorem dL_law_308 : decode cL_law 308 = .ok (.ifCond .eq 5, 3) := dk_153 0 5 (dk_at dksL_law_5 1 rfl rfl)
theorem dL_law_311 : decode cL_law 311 = .ok (.iconst 0, 1) := dk_3 (dk_at dksL_law_5 4 rfl rfl)
theorem dL_law_312 : decode cL_law 312 = .ok (.ireturn, 1) := dk_172 (dk_at dksL_law_5 5 rfl rfl)
theorem dL_law_313 : decode cL_law 313 = .ok (.goto 3007, 3) := dk_167 11 191 (dk_at dksL_law_5 6 rfl rfl)
theorem dL_law_316 : decode cL_law 316 = .ok (.aload_n 1, 1) := dk_43 (dk_at dksL_law_5 9 rfl rfl)
theorem dL_law_317 : decode cL_law 317 = .ok (.aload_n 0, 1) := dk_42 (dk_at dksL_law_5 10 rfl rfl)
theorem dL_law_318 : decode cL_law 318 = .ok (.iload 4, 2) := dk_21 4 (dk_at dksL_law_5 11 rfl rfl)
theorem dL_law_320 : decode cL_law 320 = .ok (.iconst 1, 1) := dk_4 (dk_at dksL_law_5 13 rfl rfl)
theorem dL_law_321 : decode cL_law 321 = .ok (.iadd, 1) := dk_96 (dk_at dksL_law_5 14 rfl rfl)
theorem dL_law_322 : decode cL_law 322 = .ok (.iaload, 1) := dk_46 (dk_at dksL_law_5 15 rfl rfl)
theorem dL_law_323 : decode cL_law 323 = .ok (.aload_n 0, 1) := dk_42 (dk_at dksL_law_5 16 rfl rfl)
theorem dL_law_324 : decode cL_law 324 = .ok (.iload 4, 2) := dk_21 4 (dk_at dksL_law_5 17 rfl rfl)
theorem dL_law_326 : decode cL_law 326 = .ok (.iconst 2, 1) := dk_5 (dk_at dksL_law_5 19 rfl rfl)
theorem dL_law_327 : decode cL_law 327 = .ok (.iadd, 1) := dk_96 (dk_at dksL_law_5 20 rfl rfl)
theorem dL_law_328 : decode cL_law 328 = .ok (.iaload, 1) := dk_46 (dk_at dksL_law_5 21 rfl rfl)
theorem dL_law_329 : decode cL_law 329 = .ok (.aload_n 3, 1) := dk_45 (dk_at dksL_law_5 22 rfl rfl)
theorem dL_law_330 : decode cL_law 330 = .ok (.invokestatic 176, 3) := dk_184 0 176 (dk_at dksL_law_6 0 rfl rfl)
theorem dL_law_333 : decode cL_law 333 = .ok (.istore 5, 2) := dk_54 5 (dk_at dksL_law_6 3 rfl rfl)
theorem dL_law_335 : decode cL_law 335 = .ok (.aload_n 2, 1) := dk_44 (dk_at dksL_law_6 5 rfl rfl)
theorem dL_law_336 : decode cL_law 336 = .ok (.aload_n 0, 1) := dk_42 (dk_at dksL_law_6 6 rfl rfl)
theorem dL_law_337 : decode cL_law 337 = .ok (.iload 4, 2) := dk_21 4 (dk_at dksL_law_6 7 rfl rfl)
theorem dL_law_339 : decode cL_law 339 = .ok (.iconst 1, 1) := dk_4 (dk_at dksL_law_6 9 rfl rfl)
theorem dL_law_340 : decode cL_law 340 = .ok (.iadd, 1) := dk_96 (dk_at dksL_law_6 10 rfl rfl)
theorem dL_law_341 : decode cL_law 341 = .ok (.iaload, 1) := dk_46 (dk_at dksL_law_6 11 rfl rfl)
theorem dL_law_342 : decode cL_law 342 = .ok (.aload_n 0, 1) := dk_42 (dk_at dksL_law_6 12 rfl rfl)
theorem dL_law_343 : decode cL_law 343 = .ok (.iload 4, 2) := dk_21 4 (dk_at dksL_law_6 13 rfl rfl)
theorem dL_law_345 : decode cL_law 345 = .ok (.iconst 2, 1) := dk_5 (dk_at dksL_law_6 15 rfl rfl)
theorem dL_law_346 : decode cL_law 346 = .ok (.iadd, 1) := dk_96 (dk_at dksL_law_6 16 rfl rfl)
theorem dL_law_347 : decode cL_law 347 = .ok (.iaload, 1) := dk_46 (dk_at dksL_law_6 17 rfl rfl)
theorem dL_law_348 : decode cL_law 348 = .ok (.invokevirtual 179, 3) := dk_182 0 179 (dk_at dksL_law_6 18 rfl rfl)
theorem dL_law_351 : decode cL_law 351 = .ok (.istore 6, 2) := dk_54 6 (dk_at dksL_law_6 21 rfl rfl)
theorem dL_law_353 : decode cL_law 353 = .ok (.aload_n 2, 1) := dk_44 (dk_at dksL_law_6 23 rfl rfl)
theorem dL_law_354 : decode cL_law 354 = .ok (.invokevirtual 173, 3) := dk_182 0 173 (dk_at dksL_law_7 0 rfl rfl)
theorem dL_law_357 : decode cL_law 357 = .ok (.iload 5, 2) := dk_21 5 (dk_at dksL_law_7 3 rfl rfl)
theorem dL_law_359 : decode cL_law 359 = .ok (.if_icmp .eq 5, 3) := dk_159 0 5 (dk_at dksL_law_7 5 rfl rfl)
theorem dL_law_362 : decode cL_law 362 = .ok (.iconst 0, 1) := dk_3 (dk_at dksL_law_7 8 rfl rfl)
theorem dL_law_363 : decode cL_law 363 = .ok (.ireturn, 1) := dk_172 (dk_at dksL_law_7 9 rfl rfl)
theorem dL_law_364 : decode cL_law 364 = .ok (.iload 5, 2) := dk_21 5 (dk_at dksL_law_7 10 rfl rfl)
theorem dL_law_366 : decode cL_law 366 = .ok (.ifCond .ne 15, 3) := dk_154 0 15 (dk_at dksL_law_7 12 rfl rfl)
theorem dL_law_369 : decode cL_law 369 = .ok (.aload_n 3, 1) := dk_45 (dk_at dksL_law_7 15 rfl rfl)
theorem dL_law_370 : decode cL_law 370 = .ok (.iconst 0, 1) := dk_3 (dk_at dksL_law_7 16 rfl rfl)
theorem dL_law_371 : decode cL_law 371 = .ok (.laload, 1) := dk_47 (dk_at dksL_law_7 17 rfl rfl)
theorem dL_law_372 : decode cL_law 372 = .ok (.iload 6, 2) := dk_21 6 (dk_at dksL_law_7 18 rfl rfl)
theorem dL_law_374 : decode cL_law 374 = .ok (.i2l, 1) := dk_133 (dk_at dksL_law_7 20 rfl rfl)
theorem dL_law_375 : decode cL_law 375 = .ok (.lcmp, 1) := dk_148 (dk_at dksL_law_7 21 rfl rfl)
theorem dL_law_376 : decode cL_law 376 = .ok (.ifCond .eq 5, 3) := dk_153 0 5 (dk_at dksL_law_8 0 rfl rfl)
theorem dL_law_379 : decode cL_law 379 = .ok (.iconst 0, 1) := dk_3 (dk_at dksL_law_8 3 rfl rfl)
theorem dL_law_380 : decode cL_law 380 = .ok (.ireturn, 1) := dk_172 (dk_at dksL_law_8 4 rfl rfl)
theorem dL_law_381 : decode cL_law 381 = .ok (.goto 2939, 3) := dk_167 11 123 (dk_at dksL_law_8 5 rfl rfl)
theorem dL_law_384 : decode cL_law 384 = .ok (.aload_n 1, 1) := dk_43 (dk_at dksL_law_8 8 rfl rfl)
theorem dL_law_385 : decode cL_law 385 = .ok (.aload_n 0, 1) := dk_42 (dk_at dksL_law_8 9 rfl rfl)
theorem dL_law_386 : decode cL_law 386 = .ok (.iload 4, 2) := dk_21 4 (dk_at dksL_law_8 10 rfl rfl)
theorem dL_law_388 : decode cL_law 388 = .ok (.iconst 1, 1) := dk_4 (dk_at dksL_law_8 12 rfl rfl)
theorem dL_law_389 : decode cL_law 389 = .ok (.iadd, 1) := dk_96 (dk_at dksL_law_8 13 rfl rfl)
theorem dL_law_390 : decode cL_law 390 = .ok (.iaload, 1) := dk_46 (dk_at dksL_law_8 14 rfl rfl)
theorem dL_law_391 : decode cL_law 391 = .ok (.aload_n 0, 1) := dk_42 (dk_at dksL_law_8 15 rfl rfl)
theorem dL_law_392 : decode cL_law 392 = .ok (.iload 4, 2) := dk_21 4 (dk_at dksL_law_8 16 rfl rfl)
theorem dL_law_394 : decode cL_law 394 = .ok (.iconst 2, 1) := dk_5 (dk_at dksL_law_8 18 rfl rfl)
theorem dL_law_395 : decode cL_law 395 = .ok (.iadd, 1) := dk_96 (dk_at dksL_law_8 19 rfl rfl)
theorem dL_law_396 : decode cL_law 396 = .ok (.iaload, 1) := dk_46 (dk_at dksL_law_8 20 rfl rfl)
theorem dL_law_397 : decode cL_law 397 = .ok (.aload_n 3, 1) := dk_45 (dk_at dksL_law_8 21 rfl rfl)
theorem dL_law_398 : decode cL_law 398 = .ok (.invokestatic 180, 3) := dk_184 0 180 (dk_at dksL_law_9 0 rfl rfl)
theorem dL_law_401 : decode cL_law 401 = .ok (.istore 5, 2) := dk_54 5 (dk_at dksL_law_9 3 rfl rfl)
theorem dL_law_403 : decode cL_law 403 = .ok (.aload_n 2, 1) := dk_44 (dk_at dksL_law_9 5 rfl rfl)
theorem dL_law_404 : decode cL_law 404 = .ok (.aload_n 0, 1) := dk_42 (dk_at dksL_law_9 6 rfl rfl)
theorem dL_law_405 : decode cL_law 405 = .ok (.iload 4, 2) := dk_21 4 (dk_at dksL_law_9 7 rfl rfl)
theorem dL_law_407 : decode cL_law 407 = .ok (.iconst 1, 1) := dk_4 (dk_at dksL_law_9 9 rfl rfl)
theorem dL_law_408 : decode cL_law 408 = .ok (.iadd, 1) := dk_96 (dk_at dksL_law_9 10 rfl rfl)
theorem dL_law_409 : decode cL_law 409 = .ok (.iaload, 1) := dk_46 (dk_at dksL_law_9 11 rfl rfl)
theorem dL_law_410 : decode cL_law 410 = .ok (.aload_n 0, 1) := dk_42 (dk_at dksL_law_9 12 rfl rfl)
theorem dL_law_411 : decode cL_law 411 = .ok (.iload 4, 2) := dk_21 4 (dk_at dksL_law_9 13 rfl rfl)
theorem dL_law_413 : decode cL_law 413 = .ok (.iconst 2, 1) := dk_5 (dk_at dksL_law_9 15 rfl rfl)
theorem dL_law_414 : decode cL_law 414 = .ok (.iadd, 1) := dk_96 (dk_at dksL_law_9 16 rfl rfl)
theorem dL_law_415 : decode cL_law 415 = .ok (.iaload, 1) := dk_46 (dk_at dksL_law_9 17 rfl rfl)
theorem dL_law_416 : decode cL_law 416 = .ok (.invokevirtual 182, 3) := dk_182 0 182 (dk_at dksL_law_9 18 rfl rfl)
theorem dL_law_419 : decode cL_law 419 = .ok (.istore 6, 2) := dk_54 6 (dk_at dksL_law_9 21 rfl rfl)
theorem dL_law_421 : decode cL_law 421 = .ok (.aload_n 2, 1) := dk_44 (dk_at dksL_law_9 23 rfl rfl)
theorem dL_law_422 : decode cL_law 422 = .ok (.invokevirtual 173, 3) := dk_182 0 173 (dk_at dksL_law_10 0 rfl rfl)
theorem dL_law_425 : decode cL_law 425 = .ok (.iload 5, 2) := dk_21 5 (dk_at dksL_law_10 3 rfl rfl)
theorem dL_law_427 : decode cL_law 427 = .ok (.if_icmp .eq 5, 3) := dk_159 0 5 (dk_at dksL_law_10 5 rfl rfl)
theorem dL_law_430 : decode cL_law 430 = .ok (.iconst 0, 1) := dk_3 (dk_at dksL_law_10 8 rfl rfl)
theorem dL_law_431 : decode cL_law 431 = .ok (.ireturn, 1) := dk_172 (dk_at dksL_law_10 9 rfl rfl)
theorem dL_law_432 : decode cL_law 432 = .ok (.iload 5, 2) := dk_21 5 (dk_at dksL_law_10 10 rfl rfl)
theorem dL_law_434 : decode cL_law 434 = .ok (.ifCond .ne 15, 3) := dk_154 0 15 (dk_at dksL_law_10 12 rfl rfl)
theorem dL_law_437 : decode cL_law 437 = .ok (.aload_n 3, 1) := dk_45 (dk_at dksL_law_10 15 rfl rfl)
theorem dL_law_438 : decode cL_law 438 = .ok (.iconst 0, 1) := dk_3 (dk_at dksL_law_10 16 rfl rfl)
theorem dL_law_439 : decode cL_law 439 = .ok (.laload, 1) := dk_47 (dk_at dksL_law_10 17 rfl rfl)
theorem dL_law_440 : decode cL_law 440 = .ok (.iload 6, 2) := dk_21 6 (dk_at dksL_law_10 18 rfl rfl)
theorem dL_law_442 : decode cL_law 442 = .ok (.i2l, 1) := dk_133 (dk_at dksL_law_10 20 rfl rfl)
theorem dL_law_443 : decode cL_law 443 = .ok (.lcmp, 1) := dk_148 (dk_at dksL_law_10 21 rfl rfl)
theorem dL_law_444 : decode cL_law 444 = .ok (.ifCond .eq 5, 3) := dk_153 0 5 (dk_at dksL_law_11 0 rfl rfl)
theorem dL_law_447 : decode cL_law 447 = .ok (.iconst 0, 1) := dk_3 (dk_at dksL_law_11 3 rfl rfl)
theorem dL_law_448 : decode cL_law 448 = .ok (.ireturn, 1) := dk_172 (dk_at dksL_law_11 4 rfl rfl)
theorem dL_law_449 : decode cL_law 449 = .ok (.goto 2871, 3) := dk_167 11 55 (dk_at dksL_law_11 5 rfl rfl)
theorem dL_law_452 : decode cL_law 452 = .ok (.aload_n 1, 1) := dk_43 (dk_at dksL_law_11 8 rfl rfl)
theorem dL_law_453 : decode cL_law 453 = .ok (.aload_n 0, 1) := dk_42 (dk_at dksL_law_11 9 rfl rfl)
theorem dL_law_454 : decode cL_law 454 = .ok (.iload 4, 2) := dk_21 4 (dk_at dksL_law_11 10 rfl rfl)
theorem dL_law_456 : decode cL_law 456 = .ok (.iconst 1, 1) := dk_4 (dk_at dksL_law_11 12 rfl rfl)
theorem dL_law_457 : decode cL_law 457 = .ok (.iadd, 1) := dk_96 (dk_at dksL_law_11 13 rfl rfl)
theorem dL_law_458 : decode cL_law 458 = .ok (.iaload, 1) := dk_46 (dk_at dksL_law_11 14 rfl rfl)
theorem dL_law_459 : decode cL_law 459 = .ok (.aload_n 0, 1) := dk_42 (dk_at dksL_law_11 15 rfl rfl)
theorem dL_law_460 : decode cL_law 460 = .ok (.iload 4, 2) := dk_21 4 (dk_at dksL_law_11 16 rfl rfl)
theorem dL_law_462 : decode cL_law 462 = .ok (.iconst 2, 1) := dk_5 (dk_at dksL_law_11 18 rfl rfl)
theorem dL_law_463 : decode cL_law 463 = .ok (.iadd, 1) := dk_96 (dk_at dksL_law_11 19 rfl rfl)
theorem dL_law_464 : decode cL_law 464 = .ok (.iaload, 1) := dk_46 (dk_at dksL_law_11 20 rfl rfl)
theorem dL_law_465 : decode cL_law 465 = .ok (.aload_n 0, 1) := dk_42 (dk_at dksL_law_11 21 rfl rfl)
theorem dL_law_466 : decode cL_law 466 = .ok (.iload 4, 2) := dk_21 4 (dk_at dksL_law_11 22 rfl rfl)
theorem dL_law_468 : decode cL_law 468 = .ok (.iconst 3, 1) := dk_6 (dk_at dksL_law_12 0 rfl rfl)
theorem dL_law_469 : decode cL_law 469 = .ok (.iadd, 1) := dk_96 (dk_at dksL_law_12 1 rfl rfl)
theorem dL_law_470 : decode cL_law 470 = .ok (.iaload, 1) := dk_46 (dk_at dksL_law_12 2 rfl rfl)
theorem dL_law_471 : decode cL_law 471 = .ok (.aload_n 0, 1) := dk_42 (dk_at dksL_law_12 3 rfl rfl)
theorem dL_law_472 : decode cL_law 472 = .ok (.iload 4, 2) := dk_21 4 (dk_at dksL_law_12 4 rfl rfl)
theorem dL_law_474 : decode cL_law 474 = .ok (.iconst 4, 1) := dk_7 (dk_at dksL_law_12 6 rfl rfl)
theorem dL_law_475 : decode cL_law 475 = .ok (.iadd, 1) := dk_96 (dk_at dksL_law_12 7 rfl rfl)
theorem dL_law_476 : decode cL_law 476 = .ok (.iaload, 1) := dk_46 (dk_at dksL_law_12 8 rfl rfl)
theorem dL_law_477 : decode cL_law 477 = .ok (.aload_n 0, 1) := dk_42 (dk_at dksL_law_12 9 rfl rfl)
theorem dL_law_478 : decode cL_law 478 = .ok (.iload 4, 2) := dk_21 4 (dk_at dksL_law_12 10 rfl rfl)
theorem dL_law_480 : decode cL_law 480 = .ok (.iconst 5, 1) := dk_8 (dk_at dksL_law_12 12 rfl rfl)
theorem dL_law_481 : decode cL_law 481 = .ok (.iadd, 1) := dk_96 (dk_at dksL_law_12 13 rfl rfl)
theorem dL_law_482 : decode cL_law 482 = .ok (.iaload, 1) := dk_46 (dk_at dksL_law_12 14 rfl rfl)
theorem dL_law_483 : decode cL_law 483 = .ok (.aload_n 3, 1) := dk_45 (dk_at dksL_law_12 15 rfl rfl)
theorem dL_law_484 : decode cL_law 484 = .ok (.invokestatic 183, 3) := dk_184 0 183 (dk_at dksL_law_12 16 rfl rfl)
theorem dL_law_487 : decode cL_law 487 = .ok (.istore 5, 2) := dk_54 5 (dk_at dksL_law_12 19 rfl rfl)
theorem dL_law_489 : decode cL_law 489 = .ok (.aload_n 2, 1) := dk_44 (dk_at dksL_law_12 21 rfl rfl)
theorem dL_law_490 : decode cL_law 490 = .ok (.aload_n 0, 1) := dk_42 (dk_at dksL_law_12 22 rfl rfl)
theorem dL_law_491 : decode cL_law 491 = .ok (.iload 4, 2) := dk_21 4 (dk_at dksL_law_13 0 rfl rfl)
theorem dL_law_493 : decode cL_law 493 = .ok (.iconst 1, 1) := dk_4 (dk_at dksL_law_13 2 rfl rfl)
theorem dL_law_494 : decode cL_law 494 = .ok (.iadd, 1) := dk_96 (dk_at dksL_law_13 3 rfl rfl)
theorem dL_law_495 : decode cL_law 495 = .ok (.iaload, 1) := dk_46 (dk_at dksL_law_13 4 rfl rfl)
theorem dL_law_496 : decode cL_law 496 = .ok (.aload_n 0, 1) := dk_42 (dk_at dksL_law_13 5 rfl rfl)
theorem dL_law_497 : decode cL_law 497 = .ok (.iload 4, 2) := dk_21 4 (dk_at dksL_law_13 6 rfl rfl)
theorem dL_law_499 : decode cL_law 499 = .ok (.iconst 2, 1) := dk_5 (dk_at dksL_law_13 8 rfl rfl)
theorem dL_law_500 : decode cL_law 500 = .ok (.iadd, 1) := dk_96 (dk_at dksL_law_13 9 rfl rfl)
theorem dL_law_501 : decode cL_law 501 = .ok (.iaload, 1) := dk_46 (dk_at dksL_law_13 10 rfl rfl)
theorem dL_law_502 : decode cL_law 502 = .ok (.aload_n 0, 1) := dk_42 (dk_at dksL_law_13 11 rfl rfl)
theorem dL_law_503 : decode cL_law 503 = .ok (.iload 4, 2) := dk_21 4 (dk_at dksL_law_13 12 rfl rfl)
theorem dL_law_505 : decode cL_law 505 = .ok (.iconst 3, 1) := dk_6 (dk_at dksL_law_13 14 rfl rfl)
theorem dL_law_506 : decode cL_law 506 = .ok (.iadd, 1) := dk_96 (dk_at dksL_law_13 15 rfl rfl)
theorem dL_law_507 : decode cL_law 507 = .ok (.iaload, 1) := dk_46 (dk_at dksL_law_13 16 rfl rfl)
theorem dL_law_508 : decode cL_law 508 = .ok (.aload_n 0, 1) := dk_42 (dk_at dksL_law_13 17 rfl rfl)
theorem dL_law_509 : decode cL_law 509 = .ok (.iload 4, 2) := dk_21 4 (dk_at dksL_law_13 18 rfl rfl)
theorem dL_law_511 : decode cL_law 511 = .ok (.iconst 4, 1) := dk_7 (dk_at dksL_law_13 20 rfl rfl)
theorem dL_law_512 : decode cL_law 512 = .ok (.iadd, 1) := dk_96 (dk_at dksL_law_13 21 rfl rfl)
theorem dL_law_513 : decode cL_law 513 = .ok (.iaload, 1) := dk_46 (dk_at dksL_law_13 22 rfl rfl)
theorem dL_law_514 : decode cL_law 514 = .ok (.aload_n 0, 1) := dk_42 (dk_at dksL_law_13 23 rfl rfl)
theorem dL_law_515 : decode cL_law 515 = .ok (.iload 4, 2) := dk_21 4 (dk_at dksL_law_14 0 rfl rfl)
theorem dL_law_517 : decode cL_law 517 = .ok (.iconst 5, 1) := dk_8 (dk_at dksL_law_14 2 rfl rfl)
theorem dL_law_518 : decode cL_law 518 = .ok (.iadd, 1) := dk_96 (dk_at dksL_law_14 3 rfl rfl)
theorem dL_law_519 : decode cL_law 519 = .ok (.iaload, 1) := dk_46 (dk_at dksL_law_14 4 rfl rfl)
theorem dL_law_520 : decode cL_law 520 = .ok (.invokevirtual 186, 3) := dk_182 0 186 (dk_at dksL_law_14 5 rfl rfl)
theorem dL_law_523 : decode cL_law 523 = .ok (.istore 6, 2) := dk_54 6 (dk_at dksL_law_14 8 rfl rfl)
theorem dL_law_525 : decode cL_law 525 = .ok (.aload_n 2, 1) := dk_44 (dk_at dksL_law_14 10 rfl rfl)
theorem dL_law_526 : decode cL_law 526 = .ok (.invokevirtual 173, 3) := dk_182 0 173 (dk_at dksL_law_14 11 rfl rfl)
theorem dL_law_529 : decode cL_law 529 = .ok (.iload 5, 2) := dk_21 5 (dk_at dksL_law_14 14 rfl rfl)
theorem dL_law_531 : decode cL_law 531 = .ok (.if_icmp .eq 5, 3) := dk_159 0 5 (dk_at dksL_law_14 16 rfl rfl)
theorem dL_law_534 : decode cL_law 534 = .ok (.iconst 0, 1) := dk_3 (dk_at dksL_law_14 19 rfl rfl)
theorem dL_law_535 : decode cL_law 535 = .ok (.ireturn, 1) := dk_172 (dk_at dksL_law_14 20 rfl rfl)
theorem dL_law_536 : decode cL_law 536 = .ok (.iload 5, 2) := dk_21 5 (dk_at dksL_law_14 21 rfl rfl)
theorem dL_law_538 : decode cL_law 538 = .ok (.ifCond .ne 15, 3) := dk_154 0 15 (dk_at dksL_law_15 0 rfl rfl)
theorem dL_law_541 : decode cL_law 541 = .ok (.aload_n 3, 1) := dk_45 (dk_at dksL_law_15 3 rfl rfl)
theorem dL_law_542 : decode cL_law 542 = .ok (.iconst 0, 1) := dk_3 (dk_at dksL_law_15 4 rfl rfl)
theorem dL_law_543 : decode cL_law 543 = .ok (.laload, 1) := dk_47 (dk_at dksL_law_15 5 rfl rfl)
theorem dL_law_544 : decode cL_law 544 = .ok (.iload 6, 2) := dk_21 6 (dk_at dksL_law_15 6 rfl rfl)
theorem dL_law_546 : decode cL_law 546 = .ok (.i2l, 1) := dk_133 (dk_at dksL_law_15 8 rfl rfl)
theorem dL_law_547 : decode cL_law 547 = .ok (.lcmp, 1) := dk_148 (dk_at dksL_law_15 9 rfl rfl)
theorem dL_law_548 : decode cL_law 548 = .ok (.ifCond .eq 5, 3) := dk_153 0 5 (dk_at dksL_law_15 10 rfl rfl)
theorem dL_law_551 : decode cL_law 551 = .ok (.iconst 0, 1) := dk_3 (dk_at dksL_law_15 13 rfl rfl)
theorem dL_law_552 : decode cL_law 552 = .ok (.ireturn, 1) := dk_172 (dk_at dksL_law_15 14 rfl rfl)
theorem dL_law_553 : decode cL_law 553 = .ok (.goto 2767, 3) := dk_167 10 207 (dk_at dksL_law_15 15 rfl rfl)
theorem dL_law_556 : decode cL_law 556 = .ok (.aload_n 1, 1) := dk_43 (dk_at dksL_law_15 18 rfl rfl)
theorem dL_law_557 : decode cL_law 557 = .ok (.invokevirtual 187, 3) := dk_182 0 187 (dk_at dksL_law_15 19 rfl rfl)
theorem dL_law_560 : decode cL_law 560 = .ok (.aload_n 2, 1) := dk_44 (dk_at dksL_law_15 22 rfl rfl)
theorem dL_law_561 : decode cL_law 561 = .ok (.invokevirtual 190, 3) := dk_182 0 190 (dk_at dksL_law_16 0 rfl rfl)
theorem dL_law_564 : decode cL_law 564 = .ok (.if_icmp .eq 2756, 3) := dk_159 10 196 (dk_at dksL_law_16 3 rfl rfl)
theorem dL_law_567 : decode cL_law 567 = .ok (.iconst 0, 1) := dk_3 (dk_at dksL_law_16 6 rfl rfl)
theorem dL_law_568 : decode cL_law 568 = .ok (.ireturn, 1) := dk_172 (dk_at dksL_law_16 7 rfl rfl)
theorem dL_law_569 : decode cL_law 569 = .ok (.aload_n 1, 1) := dk_43 (dk_at dksL_law_16 8 rfl rfl)
theorem dL_law_570 : decode cL_law 570 = .ok (.aload_n 3, 1) := dk_45 (dk_at dksL_law_16 9 rfl rfl)
theorem dL_law_571 : decode cL_law 571 = .ok (.invokestatic 191, 3) := dk_184 0 191 (dk_at dksL_law_16 10 rfl rfl)
theorem dL_law_574 : decode cL_law 574 = .ok (.istore 5, 2) := dk_54 5 (dk_at dksL_law_16 13 rfl rfl)
theorem dL_law_576 : decode cL_law 576 = .ok (.aload_n 2, 1) := dk_44 (dk_at dksL_law_16 15 rfl rfl)
theorem dL_law_577 : decode cL_law 577 = .ok (.invokevirtual 194, 3) := dk_182 0 194 (dk_at dksL_law_16 16 rfl rfl)
theorem dL_law_580 : decode cL_law 580 = .ok (.istore 6, 2) := dk_54 6 (dk_at dksL_law_16 19 rfl rfl)
theorem dL_law_582 : decode cL_law 582 = .ok (.aload_n 2, 1) := dk_44 (dk_at dksL_law_16 21 rfl rfl)
theorem dL_law_583 : decode cL_law 583 = .ok (.invokevirtual 173, 3) := dk_182 0 173 (dk_at dksL_law_17 0 rfl rfl)
theorem dL_law_586 : decode cL_law 586 = .ok (.iload 5, 2) := dk_21 5 (dk_at dksL_law_17 3 rfl rfl)
theorem dL_law_588 : decode cL_law 588 = .ok (.if_icmp .eq 5, 3) := dk_159 0 5 (dk_at dksL_law_17 5 rfl rfl)
theorem dL_law_591 : decode cL_law 591 = .ok (.iconst 0, 1) := dk_3 (dk_at dksL_law_17 8 rfl rfl)
theorem dL_law_592 : decode cL_law 592 = .ok (.ireturn, 1) := dk_172 (dk_at dksL_law_17 9 rfl rfl)
theorem dL_law_593 : decode cL_law 593 = .ok (.iload 5, 2) := dk_21 5 (dk_at dksL_law_17 10 rfl rfl)
theorem dL_law_595 : decode cL_law 595 = .ok (.ifCond .ne 15, 3) := dk_154 0 15 (dk_at dksL_law_17 12 rfl rfl)
theorem dL_law_598 : decode cL_law 598 = .ok (.aload_n 3, 1) := dk_45 (dk_at dksL_law_17 15 rfl rfl)
theorem dL_law_599 : decode cL_law 599 = .ok (.iconst 0, 1) := dk_3 (dk_at dksL_law_17 16 rfl rfl)
theorem dL_law_600 : decode cL_law 600 = .ok (.laload, 1) := dk_47 (dk_at dksL_law_17 17 rfl rfl)
theorem dL_law_601 : decode cL_law 601 = .ok (.iload 6, 2) := dk_21 6 (dk_at dksL_law_17 18 rfl rfl)
theorem dL_law_603 : decode cL_law 603 = .ok (.i2l, 1) := dk_133 (dk_at dksL_law_17 20 rfl rfl)
theorem dL_law_604 : decode cL_law 604 = .ok (.lcmp, 1) := dk_148 (dk_at dksL_law_17 21 rfl rfl)
theorem dL_law_605 : decode cL_law 605 = .ok (.ifCond .eq 5, 3) := dk_153 0 5 (dk_at dksL_law_18 0 rfl rfl)
theorem dL_law_608 : decode cL_law 608 = .ok (.iconst 0, 1) := dk_3 (dk_at dksL_law_18 3 rfl rfl)
theorem dL_law_609 : decode cL_law 609 = .ok (.ireturn, 1) := dk_172 (dk_at dksL_law_18 4 rfl rfl)
theorem dL_law_610 : decode cL_law 610 = .ok (.goto 2710, 3) := dk_167 10 150 (dk_at dksL_law_18 5 rfl rfl)
theorem dL_law_613 : decode cL_law 613 = .ok (.aload_n 1, 1) := dk_43 (dk_at dksL_law_18 8 rfl rfl)
theorem dL_law_614 : decode cL_law 614 = .ok (.aload_n 0, 1) := dk_42 (dk_at dksL_law_18 9 rfl rfl)
theorem dL_law_615 : decode cL_law 615 = .ok (.iload 4, 2) := dk_21 4 (dk_at dksL_law_18 10 rfl rfl)
theorem dL_law_617 : decode cL_law 617 = .ok (.iconst 1, 1) := dk_4 (dk_at dksL_law_18 12 rfl rfl)
theorem dL_law_618 : decode cL_law 618 = .ok (.iadd, 1) := dk_96 (dk_at dksL_law_18 13 rfl rfl)
theorem dL_law_619 : decode cL_law 619 = .ok (.iaload, 1) := dk_46 (dk_at dksL_law_18 14 rfl rfl)
theorem dL_law_620 : decode cL_law 620 = .ok (.aload_n 3, 1) := dk_45 (dk_at dksL_law_18 15 rfl rfl)
theorem dL_law_621 : decode cL_law 621 = .ok (.invokestatic 195, 3) := dk_184 0 195 (dk_at dksL_law_18 16 rfl rfl)
theorem dL_law_624 : decode cL_law 624 = .ok (.istore 5, 2) := dk_54 5 (dk_at dksL_law_18 19 rfl rfl)
theorem dL_law_626 : decode cL_law 626 = .ok (.aload_n 2, 1) := dk_44 (dk_at dksL_law_18 21 rfl rfl)
theorem dL_law_627 : decode cL_law 627 = .ok (.aload_n 0, 1) := dk_42 (dk_at dksL_law_18 22 rfl rfl)
theorem dL_law_628 : decode cL_law 628 = .ok (.iload 4, 2) := dk_21 4 (dk_at dksL_law_19 0 rfl rfl)
theorem dL_law_630 : decode cL_law 630 = .ok (.iconst 1, 1) := dk_4 (dk_at dksL_law_19 2 rfl rfl)
theorem dL_law_631 : decode cL_law 631 = .ok (.iadd, 1) := dk_96 (dk_at dksL_law_19 3 rfl rfl)
theorem dL_law_632 : decode cL_law 632 = .ok (.iaload, 1) := dk_46 (dk_at dksL_law_19 4 rfl rfl)
theorem dL_law_633 : decode cL_law 633 = .ok (.invokevirtual 197, 3) := dk_182 0 197 (dk_at dksL_law_19 5 rfl rfl)
theorem dL_law_636 : decode cL_law 636 = .ok (.istore 6, 2) := dk_54 6 (dk_at dksL_law_19 8 rfl rfl)
theorem dL_law_638 : decode cL_law 638 = .ok (.aload_n 2, 1) := dk_44 (dk_at dksL_law_19 10 rfl rfl)
theorem dL_law_639 : decode cL_law 639 = .ok (.invokevirtual 173, 3) := dk_182 0 173 (dk_at dksL_law_19 11 rfl rfl)
theorem dL_law_642 : decode cL_law 642 = .ok (.iload 5, 2) := dk_21 5 (dk_at dksL_law_19 14 rfl rfl)
theorem dL_law_644 : decode cL_law 644 = .ok (.if_icmp .eq 5, 3) := dk_159 0 5 (dk_at dksL_law_19 16 rfl rfl)
theorem dL_law_647 : decode cL_law 647 = .ok (.iconst 0, 1) := dk_3 (dk_at dksL_law_19 19 rfl rfl)
theorem dL_law_648 : decode cL_law 648 = .ok (.ireturn, 1) := dk_172 (dk_at dksL_law_19 20 rfl rfl)
theorem dL_law_649 : decode cL_law 649 = .ok (.iload 5, 2) := dk_21 5 (dk_at dksL_law_19 21 rfl rfl)
theorem dL_law_651 : decode cL_law 651 = .ok (.ifCond .ne 15, 3) := dk_154 0 15 (dk_at dksL_law_20 0 rfl rfl)
theorem dL_law_654 : decode cL_law 654 = .ok (.aload_n 3, 1) := dk_45 (dk_at dksL_law_20 3 rfl rfl)
theorem dL_law_655 : decode cL_law 655 = .ok (.iconst 0, 1) := dk_3 (dk_at dksL_law_20 4 rfl rfl)
theorem dL_law_656 : decode cL_law 656 = .ok (.laload, 1) := dk_47 (dk_at dksL_law_20 5 rfl rfl)
theorem dL_law_657 : decode cL_law 657 = .ok (.iload 6, 2) := dk_21 6 (dk_at dksL_law_20 6 rfl rfl)
theorem dL_law_659 : decode cL_law 659 = .ok (.i2l, 1) := dk_133 (dk_at dksL_law_20 8 rfl rfl)
theorem dL_law_660 : decode cL_law 660 = .ok (.lcmp, 1) := dk_148 (dk_at dksL_law_20 9 rfl rfl)
theorem dL_law_661 : decode cL_law 661 = .ok (.ifCond .eq 5, 3) := dk_153 0 5 (dk_at dksL_law_20 10 rfl rfl)
theorem dL_law_664 : decode cL_law 664 = .ok (.iconst 0, 1) := dk_3 (dk_at dksL_law_20 13 rfl rfl)
theorem dL_law_665 : decode cL_law 665 = .ok (.ireturn, 1) := dk_172 (dk_at dksL_law_20 14 rfl rfl)
theorem dL_law_666 : decode cL_law 666 = .ok (.goto 2654, 3) := dk_167 10 94 (dk_at dksL_law_20 15 rfl rfl)
theorem dL_law_669 : decode cL_law 669 = .ok (.aload_n 1, 1) := dk_43 (dk_at dksL_law_20 18 rfl rfl)
theorem dL_law_670 : decode cL_law 670 = .ok (.aload_n 0, 1) := dk_42 (dk_at dksL_law_20 19 rfl rfl)
theorem dL_law_671 : decode cL_law 671 = .ok (.iload 4, 2) := dk_21 4 (dk_at dksL_law_20 20 rfl rfl)
theorem dL_law_673 : decode cL_law 673 = .ok (.iconst 1, 1) := dk_4 (dk_at dksL_law_20 22 rfl rfl)
theorem dL_law_674 : decode cL_law 674 = .ok (.iadd, 1) := dk_96 (dk_at dksL_law_20 23 rfl rfl)
theorem dL_law_675 : decode cL_law 675 = .ok (.iaload, 1) := dk_46 (dk_at dksL_law_21 0 rfl rfl)
theorem dL_law_676 : decode cL_law 676 = .ok (.aload_n 0, 1) := dk_42 (dk_at dksL_law_21 1 rfl rfl)
theorem dL_law_677 : decode cL_law 677 = .ok (.iload 4, 2) := dk_21 4 (dk_at dksL_law_21 2 rfl rfl)
theorem dL_law_679 : decode cL_law 679 = .ok (.iconst 2, 1) := dk_5 (dk_at dksL_law_21 4 rfl rfl)
theorem dL_law_680 : decode cL_law 680 = .ok (.iadd, 1) := dk_96 (dk_at dksL_law_21 5 rfl rfl)
theorem dL_law_681 : decode cL_law 681 = .ok (.iaload, 1) := dk_46 (dk_at dksL_law_21 6 rfl rfl)
theorem dL_law_682 : decode cL_law 682 = .ok (.aload_n 0, 1) := dk_42 (dk_at dksL_law_21 7 rfl rfl)
theorem dL_law_683 : decode cL_law 683 = .ok (.iload 4, 2) := dk_21 4 (dk_at dksL_law_21 8 rfl rfl)
theorem dL_law_685 : decode cL_law 685 = .ok (.iconst 3, 1) := dk_6 (dk_at dksL_law_21 10 rfl rfl)
theorem dL_law_686 : decode cL_law 686 = .ok (.iadd, 1) := dk_96 (dk_at dksL_law_21 11 rfl rfl)
theorem dL_law_687 : decode cL_law 687 = .ok (.iaload, 1) := dk_46 (dk_at dksL_law_21 12 rfl rfl)
theorem dL_law_688 : decode cL_law 688 = .ok (.ifCond .eq 7, 3) := dk_153 0 7 (dk_at dksL_law_21 13 rfl rfl)
theorem dL_law_691 : decode cL_law 691 = .ok (.iconst 1, 1) := dk_4 (dk_at dksL_law_21 16 rfl rfl)
theorem dL_law_692 : decode cL_law 692 = .ok (.goto 4, 3) := dk_167 0 4 (dk_at dksL_law_21 17 rfl rfl)
theorem dL_law_695 : decode cL_law 695 = .ok (.iconst 0, 1) := dk_3 (dk_at dksL_law_21 20 rfl rfl)
theorem dL_law_696 : decode cL_law 696 = .ok (.aload_n 3, 1) := dk_45 (dk_at dksL_law_21 21 rfl rfl)
theorem dL_law_697 : decode cL_law 697 = .ok (.invokestatic 198, 3) := dk_184 0 198 (dk_at dksL_law_22 0 rfl rfl)
theorem dL_law_700 : decode cL_law 700 = .ok (.istore 5, 2) := dk_54 5 (dk_at dksL_law_22 3 rfl rfl)
theorem dL_law_702 : decode cL_law 702 = .ok (.aload_n 2, 1) := dk_44 (dk_at dksL_law_22 5 rfl rfl)
theorem dL_law_703 : decode cL_law 703 = .ok (.aload_n 0, 1) := dk_42 (dk_at dksL_law_22 6 rfl rfl)
theorem dL_law_704 : decode cL_law 704 = .ok (.iload 4, 2) := dk_21 4 (dk_at dksL_law_22 7 rfl rfl)
theorem dL_law_706 : decode cL_law 706 = .ok (.iconst 1, 1) := dk_4 (dk_at dksL_law_22 9 rfl rfl)
theorem dL_law_707 : decode cL_law 707 = .ok (.iadd, 1) := dk_96 (dk_at dksL_law_22 10 rfl rfl)
theorem dL_law_708 : decode cL_law 708 = .ok (.iaload, 1) := dk_46 (dk_at dksL_law_22 11 rfl rfl)
theorem dL_law_709 : decode cL_law 709 = .ok (.aload_n 0, 1) := dk_42 (dk_at dksL_law_22 12 rfl rfl)
theorem dL_law_710 : decode cL_law 710 = .ok (.iload 4, 2) := dk_21 4 (dk_at dksL_law_22 13 rfl rfl)
theorem dL_law_712 : decode cL_law 712 = .ok (.iconst 2, 1) := dk_5 (dk_at dksL_law_22 15 rfl rfl)
theorem dL_law_713 : decode cL_law 713 = .ok (.iadd, 1) := dk_96 (dk_at dksL_law_22 16 rfl rfl)
theorem dL_law_714 : decode cL_law 714 = .ok (.iaload, 1) := dk_46 (dk_at dksL_law_22 17 rfl rfl)
theorem dL_law_715 : decode cL_law 715 = .ok (.aload_n 0, 1) := dk_42 (dk_at dksL_law_22 18 rfl rfl)
theorem dL_law_716 : decode cL_law 716 = .ok (.iload 4, 2) := dk_21 4 (dk_at dksL_law_22 19 rfl rfl)
theorem dL_law_718 : decode cL_law 718 = .ok (.iconst 3, 1) := dk_6 (dk_at dksL_law_22 21 rfl rfl)
theorem dL_law_719 : decode cL_law 719 = .ok (.iadd, 1) := dk_96 (dk_at dksL_law_22 22 rfl rfl)
theorem dL_law_720 : decode cL_law 720 = .ok (.iaload, 1) := dk_46 (dk_at dksL_law_22 23 rfl rfl)
theorem dL_law_721 : decode cL_law 721 = .ok (.ifCond .eq 7, 3) := dk_153 0 7 (dk_at dksL_law_23 0 rfl rfl)
theorem dL_law_724 : decode cL_law 724 = .ok (.iconst 1, 1) := dk_4 (dk_at dksL_law_23 3 rfl rfl)
theorem dL_law_725 : decode cL_law 725 = .ok (.goto 4, 3) := dk_167 0 4 (dk_at dksL_law_23 4 rfl rfl)
theorem dL_law_728 : decode cL_law 728 = .ok (.iconst 0, 1) := dk_3 (dk_at dksL_law_23 7 rfl rfl)
theorem dL_law_729 : decode cL_law 729 = .ok (.invokevirtual 201, 3) := dk_182 0 201 (dk_at dksL_law_23 8 rfl rfl)
theorem dL_law_732 : decode cL_law 732 = .ok (.istore 6, 2) := dk_54 6 (dk_at dksL_law_23 11 rfl rfl)
theorem dL_law_734 : decode cL_law 734 = .ok (.aload_n 2, 1) := dk_44 (dk_at dksL_law_23 13 rfl rfl)
theorem dL_law_735 : decode cL_law 735 = .ok (.invokevirtual 173, 3) := dk_182 0 173 (dk_at dksL_law_23 14 rfl rfl)
theorem dL_law_738 : decode cL_law 738 = .ok (.iload 5, 2) := dk_21 5 (dk_at dksL_law_23 17 rfl rfl)
theorem dL_law_740 : decode cL_law 740 = .ok (.if_icmp .eq 5, 3) := dk_159 0 5 (dk_at dksL_law_23 19 rfl rfl)
theorem dL_law_743 : decode cL_law 743 = .ok (.iconst 0, 1) := dk_3 (dk_at dksL_law_23 22 rfl rfl)
theorem dL_law_744 : decode cL_law 744 = .ok (.ireturn, 1) := dk_172 (dk_at dksL_law_23 23 rfl rfl)
theorem dL_law_745 : decode cL_law 745 = .ok (.iload 5, 2) := dk_21 5 (dk_at dksL_law_24 0 rfl rfl)
theorem dL_law_747 : decode cL_law 747 = .ok (.ifCond .ne 15, 3) := dk_154 0 15 (dk_at dksL_law_24 2 rfl rfl)
theorem dL_law_750 : decode cL_law 750 = .ok (.aload_n 3, 1) := dk_45 (dk_at dksL_law_24 5 rfl rfl)
theorem dL_law_751 : decode cL_law 751 = .ok (.iconst 0, 1) := dk_3 (dk_at dksL_law_24 6 rfl rfl)
theorem dL_law_752 : decode cL_law 752 = .ok (.laload, 1) := dk_47 (dk_at dksL_law_24 7 rfl rfl)
theorem dL_law_753 : decode cL_law 753 = .ok (.iload 6, 2) := dk_21 6 (dk_at dksL_law_24 8 rfl rfl)
theorem dL_law_755 : decode cL_law 755 = .ok (.i2l, 1) := dk_133 (dk_at dksL_law_24 10 rfl rfl)
theorem dL_law_756 : decode cL_law 756 = .ok (.lcmp, 1) := dk_148 (dk_at dksL_law_24 11 rfl rfl)
theorem dL_law_757 : decode cL_law 757 = .ok (.ifCond .eq 5, 3) := dk_153 0 5 (dk_at dksL_law_24 12 rfl rfl)
theorem dL_law_760 : decode cL_law 760 = .ok (.iconst 0, 1) := dk_3 (dk_at dksL_law_24 15 rfl rfl)
theorem dL_law_761 : decode cL_law 761 = .ok (.ireturn, 1) := dk_172 (dk_at dksL_law_24 16 rfl rfl)
theorem dL_law_762 : decode cL_law 762 = .ok (.goto 2558, 3) := dk_167 9 254 (dk_at dksL_law_24 17 rfl rfl)
theorem dL_law_765 : decode cL_law 765 = .ok (.aload_n 1, 1) := dk_43 (dk_at dksL_law_24 20 rfl rfl)
theorem dL_law_766 : decode cL_law 766 = .ok (.aload_n 0, 1) := dk_42 (dk_at dksL_law_24 21 rfl rfl)
theorem dL_law_767 : decode cL_law 767 = .ok (.iload 4, 2) := dk_21 4 (dk_at dksL_law_24 22 rfl rfl)
theorem dL_law_769 : decode cL_law 769 = .ok (.iconst 1, 1) := dk_4 (dk_at dksL_law_25 0 rfl rfl)
theorem dL_law_770 : decode cL_law 770 = .ok (.iadd, 1) := dk_96 (dk_at dksL_law_25 1 rfl rfl)
theorem dL_law_771 : decode cL_law 771 = .ok (.iaload, 1) := dk_46 (dk_at dksL_law_25 2 rfl rfl)
theorem dL_law_772 : decode cL_law 772 = .ok (.aload_n 0, 1) := dk_42 (dk_at dksL_law_25 3 rfl rfl)
theorem dL_law_773 : decode cL_law 773 = .ok (.iload 4, 2) := dk_21 4 (dk_at dksL_law_25 4 rfl rfl)
theorem dL_law_775 : decode cL_law 775 = .ok (.iconst 2, 1) := dk_5 (dk_at dksL_law_25 6 rfl rfl)
theorem dL_law_776 : decode cL_law 776 = .ok (.iadd, 1) := dk_96 (dk_at dksL_law_25 7 rfl rfl)
theorem dL_law_777 : decode cL_law 777 = .ok (.iaload, 1) := dk_46 (dk_at dksL_law_25 8 rfl rfl)
theorem dL_law_778 : decode cL_law 778 = .ok (.aload_n 0, 1) := dk_42 (dk_at dksL_law_25 9 rfl rfl)
theorem dL_law_779 : decode cL_law 779 = .ok (.iload 4, 2) := dk_21 4 (dk_at dksL_law_25 10 rfl rfl)
theorem dL_law_781 : decode cL_law 781 = .ok (.iconst 3, 1) := dk_6 (dk_at dksL_law_25 12 rfl rfl)
theorem dL_law_782 : decode cL_law 782 = .ok (.iadd, 1) := dk_96 (dk_at dksL_law_25 13 rfl rfl)
theorem dL_law_783 : decode cL_law 783 = .ok (.iaload, 1) := dk_46 (dk_at dksL_law_25 14 rfl rfl)
theorem dL_law_784 : decode cL_law 784 = .ok (.aload_n 3, 1) := dk_45 (dk_at dksL_law_25 15 rfl rfl)
theorem dL_law_785 : decode cL_law 785 = .ok (.invokestatic 202, 3) := dk_184 0 202 (dk_at dksL_law_25 16 rfl rfl)
theorem dL_law_788 : decode cL_law 788 = .ok (.istore 5, 2) := dk_54 5 (dk_at dksL_law_25 19 rfl rfl)
theorem dL_law_790 : decode cL_law 790 = .ok (.aload_n 2, 1) := dk_44 (dk_at dksL_law_25 21 rfl rfl)
theorem dL_law_791 : decode cL_law 791 = .ok (.aload_n 0, 1) := dk_42 (dk_at dksL_law_25 22 rfl rfl)
theorem dL_law_792 : decode cL_law 792 = .ok (.iload 4, 2) := dk_21 4 (dk_at dksL_law_26 0 rfl rfl)
theorem dL_law_794 : decode cL_law 794 = .ok (.iconst 1, 1) := dk_4 (dk_at dksL_law_26 2 rfl rfl)
theorem dL_law_795 : decode cL_law 795 = .ok (.iadd, 1) := dk_96 (dk_at dksL_law_26 3 rfl rfl)
theorem dL_law_796 : decode cL_law 796 = .ok (.iaload, 1) := dk_46 (dk_at dksL_law_26 4 rfl rfl)
theorem dL_law_797 : decode cL_law 797 = .ok (.aload_n 0, 1) := dk_42 (dk_at dksL_law_26 5 rfl rfl)
theorem dL_law_798 : decode cL_law 798 = .ok (.iload 4, 2) := dk_21 4 (dk_at dksL_law_26 6 rfl rfl)
theorem dL_law_800 : decode cL_law 800 = .ok (.iconst 2, 1) := dk_5 (dk_at dksL_law_26 8 rfl rfl)
theorem dL_law_801 : decode cL_law 801 = .ok (.iadd, 1) := dk_96 (dk_at dksL_law_26 9 rfl rfl)
theorem dL_law_802 : decode cL_law 802 = .ok (.iaload, 1) := dk_46 (dk_at dksL_law_26 10 rfl rfl)
theorem dL_law_803 : decode cL_law 803 = .ok (.aload_n 0, 1) := dk_42 (dk_at dksL_law_26 11 rfl rfl)
theorem dL_law_804 : decode cL_law 804 = .ok (.iload 4, 2) := dk_21 4 (dk_at dksL_law_26 12 rfl rfl)
theorem dL_law_806 : decode cL_law 806 = .ok (.iconst 3, 1) := dk_6 (dk_at dksL_law_26 14 rfl rfl)
theorem dL_law_807 : decode cL_law 807 = .ok (.iadd, 1) := dk_96 (dk_at dksL_law_26 15 rfl rfl)
theorem dL_law_808 : decode cL_law 808 = .ok (.iaload, 1) := dk_46 (dk_at dksL_law_26 16 rfl rfl)
theorem dL_law_809 : decode cL_law 809 = .ok (.invokevirtual 205, 3) := dk_182 0 205 (dk_at dksL_law_26 17 rfl rfl)
theorem dL_law_812 : decode cL_law 812 = .ok (.istore 6, 2) := dk_54 6 (dk_at dksL_law_26 20 rfl rfl)
theorem dL_law_814 : decode cL_law 814 = .ok (.aload_n 2, 1) := dk_44 (dk_at dksL_law_26 22 rfl rfl)
theorem dL_law_815 : decode cL_law 815 = .ok (.invokevirtual 173, 3) := dk_182 0 173 (dk_at dksL_law_27 0 rfl rfl)
theorem dL_law_818 : decode cL_law 818 = .ok (.iload 5, 2) := dk_21 5 (dk_at dksL_law_27 3 rfl rfl)
theorem dL_law_820 : decode cL_law 820 = .ok (.if_icmp .eq 5, 3) := dk_159 0 5 (dk_at dksL_law_27 5 rfl rfl)
theorem dL_law_823 : decode cL_law 823 = .ok (.iconst 0, 1) := dk_3 (dk_at dksL_law_27 8 rfl rfl)
theorem dL_law_824 : decode cL_law 824 = .ok (.ireturn, 1) := dk_172 (dk_at dksL_law_27 9 rfl rfl)
theorem dL_law_825 : decode cL_law 825 = .ok (.iload 5, 2) := dk_21 5 (dk_at dksL_law_27 10 rfl rfl)
theorem dL_law_827 : decode cL_law 827 = .ok (.ifCond .ne 15, 3) := dk_154 0 15 (dk_at dksL_law_27 12 rfl rfl)
theorem dL_law_830 : decode cL_law 830 = .ok (.aload_n 3, 1) := dk_45 (dk_at dksL_law_27 15 rfl rfl)
theorem dL_law_831 : decode cL_law 831 = .ok (.iconst 0, 1) := dk_3 (dk_at dksL_law_27 16 rfl rfl)
theorem dL_law_832 : decode cL_law 832 = .ok (.laload, 1) := dk_47 (dk_at dksL_law_27 17 rfl rfl)
theorem dL_law_833 : decode cL_law 833 = .ok (.iload 6, 2) := dk_21 6 (dk_at dksL_law_27 18 rfl rfl)
theorem dL_law_835 : decode cL_law 835 = .ok (.i2l, 1) := dk_133 (dk_at dksL_law_27 20 rfl rfl)
theorem dL_law_836 : decode cL_law 836 = .ok (.lcmp, 1) := dk_148 (dk_at dksL_law_27 21 rfl rfl)
theorem dL_law_837 : decode cL_law 837 = .ok (.ifCond .eq 5, 3) := dk_153 0 5 (dk_at dksL_law_28 0 rfl rfl)
theorem dL_law_840 : decode cL_law 840 = .ok (.iconst 0, 1) := dk_3 (dk_at dksL_law_28 3 rfl rfl)
theorem dL_law_841 : decode cL_law 841 = .ok (.ireturn, 1) := dk_172 (dk_at dksL_law_28 4 rfl rfl)
theorem dL_law_842 : decode cL_law 842 = .ok (.goto 2478, 3) := dk_167 9 174 (dk_at dksL_law_28 5 rfl rfl)
theorem dL_law_845 : decode cL_law 845 = .ok (.aload_n 1, 1) := dk_43 (dk_at dksL_law_28 8 rfl rfl)
theorem dL_law_846 : decode cL_law 846 = .ok (.aload_n 0, 1) := dk_42 (dk_at dksL_law_28 9 rfl rfl)
theorem dL_law_847 : decode cL_law 847 = .ok (.iload 4, 2) := dk_21 4 (dk_at dksL_law_28 10 rfl rfl)
theorem dL_law_849 : decode cL_law 849 = .ok (.iconst 1, 1) := dk_4 (dk_at dksL_law_28 12 rfl rfl)
theorem dL_law_850 : decode cL_law 850 = .ok (.iadd, 1) := dk_96 (dk_at dksL_law_28 13 rfl rfl)
theorem dL_law_851 : decode cL_law 851 = .ok (.iaload, 1) := dk_46 (dk_at dksL_law_28 14 rfl rfl)
theorem dL_law_852 : decode cL_law 852 = .ok (.aload_n 0, 1) := dk_42 (dk_at dksL_law_28 15 rfl rfl)
theorem dL_law_853 : decode cL_law 853 = .ok (.iload 4, 2) := dk_21 4 (dk_at dksL_law_28 16 rfl rfl)
theorem dL_law_855 : decode cL_law 855 = .ok (.iconst 2, 1) := dk_5 (dk_at dksL_law_28 18 rfl rfl)
theorem dL_law_856 : decode cL_law 856 = .ok (.iadd, 1) := dk_96 (dk_at dksL_law_28 19 rfl rfl)
theorem dL_law_857 : decode cL_law 857 = .ok (.iaload, 1) := dk_46 (dk_at dksL_law_28 20 rfl rfl)
theorem dL_law_858 : decode cL_law 858 = .ok (.ifCond .eq 7, 3) := dk_153 0 7 (dk_at dksL_law_28 21 rfl rfl)
theorem dL_law_861 : decode cL_law 861 = .ok (.iconst 1, 1) := dk_4 (dk_at dksL_law_29 0 rfl rfl)
theorem dL_law_862 : decode cL_law 862 = .ok (.goto 4, 3) := dk_167 0 4 (dk_at dksL_law_29 1 rfl rfl)
theorem dL_law_865 : decode cL_law 865 = .ok (.iconst 0, 1) := dk_3 (dk_at dksL_law_29 4 rfl rfl)
theorem dL_law_866 : decode cL_law 866 = .ok (.aload_n 0, 1) := dk_42 (dk_at dksL_law_29 5 rfl rfl)
theorem dL_law_867 : decode cL_law 867 = .ok (.iload 4, 2) := dk_21 4 (dk_at dksL_law_29 6 rfl rfl)
theorem dL_law_869 : decode cL_law 869 = .ok (.iconst 3, 1) := dk_6 (dk_at dksL_law_29 8 rfl rfl)
theorem dL_law_870 : decode cL_law 870 = .ok (.iadd, 1) := dk_96 (dk_at dksL_law_29 9 rfl rfl)
theorem dL_law_871 : decode cL_law 871 = .ok (.iaload, 1) := dk_46 (dk_at dksL_law_29 10 rfl rfl)
theorem dL_law_872 : decode cL_law 872 = .ok (.aload_n 3, 1) := dk_45 (dk_at dksL_law_29 11 rfl rfl)
theorem dL_law_873 : decode cL_law 873 = .ok (.invokestatic 206, 3) := dk_184 0 206 (dk_at dksL_law_29 12 rfl rfl)
theorem dL_law_876 : decode cL_law 876 = .ok (.istore 5, 2) := dk_54 5 (dk_at dksL_law_29 15 rfl rfl)
theorem dL_law_878 : decode cL_law 878 = .ok (.aload_n 2, 1) := dk_44 (dk_at dksL_law_29 17 rfl rfl)
theorem dL_law_879 : decode cL_law 879 = .ok (.aload_n 0, 1) := dk_42 (dk_at dksL_law_29 18 rfl rfl)
theorem dL_law_880 : decode cL_law 880 = .ok (.iload 4, 2) := dk_21 4 (dk_at dksL_law_29 19 rfl rfl)
theorem dL_law_882 : decode cL_law 882 = .ok (.iconst 1, 1) := dk_4 (dk_at dksL_law_29 21 rfl rfl)
theorem dL_law_883 : decode cL_law 883 = .ok (.iadd, 1) := dk_96 (dk_at dksL_law_29 22 rfl rfl)
theorem dL_law_884 : decode cL_law 884 = .ok (.iaload, 1) := dk_46 (dk_at dksL_law_29 23 rfl rfl)
theorem dL_law_885 : decode cL_law 885 = .ok (.aload_n 0, 1) := dk_42 (dk_at dksL_law_30 0 rfl rfl)
theorem dL_law_886 : decode cL_law 886 = .ok (.iload 4, 2) := dk_21 4 (dk_at dksL_law_30 1 rfl rfl)
theorem dL_law_888 : decode cL_law 888 = .ok (.iconst 2, 1) := dk_5 (dk_at dksL_law_30 3 rfl rfl)
theorem dL_law_889 : decode cL_law 889 = .ok (.iadd, 1) := dk_96 (dk_at dksL_law_30 4 rfl rfl)
theorem dL_law_890 : decode cL_law 890 = .ok (.iaload, 1) := dk_46 (dk_at dksL_law_30 5 rfl rfl)
theorem dL_law_891 : decode cL_law 891 = .ok (.ifCond .eq 7, 3) := dk_153 0 7 (dk_at dksL_law_30 6 rfl rfl)
theorem dL_law_894 : decode cL_law 894 = .ok (.iconst 1, 1) := dk_4 (dk_at dksL_law_30 9 rfl rfl)
theorem dL_law_895 : decode cL_law 895 = .ok (.goto 4, 3) := dk_167 0 4 (dk_at dksL_law_30 10 rfl rfl)
theorem dL_law_898 : decode cL_law 898 = .ok (.iconst 0, 1) := dk_3 (dk_at dksL_law_30 13 rfl rfl)
theorem dL_law_899 : decode cL_law 899 = .ok (.aload_n 0, 1) := dk_42 (dk_at dksL_law_30 14 rfl rfl)
theorem dL_law_900 : decode cL_law 900 = .ok (.iload 4, 2) := dk_21 4 (dk_at dksL_law_30 15 rfl rfl)
theorem dL_law_902 : decode cL_law 902 = .ok (.iconst 3, 1) := dk_6 (dk_at dksL_law_30 17 rfl rfl)
theorem dL_law_903 : decode cL_law 903 = .ok (.iadd, 1) := dk_96 (dk_at dksL_law_30 18 rfl rfl)
theorem dL_law_904 : decode cL_law 904 = .ok (.iaload, 1) := dk_46 (dk_at dksL_law_30 19 rfl rfl)
theorem dL_law_905 : decode cL_law 905 = .ok (.invokevirtual 209, 3) := dk_182 0 209 (dk_at dksL_law_30 20 rfl rfl)
theorem dL_law_908 : decode cL_law 908 = .ok (.istore 6, 2) := dk_54 6 (dk_at dksL_law_31 0 rfl rfl)
theorem dL_law_910 : decode cL_law 910 = .ok (.aload_n 2, 1) := dk_44 (dk_at dksL_law_31 2 rfl rfl)
theorem dL_law_911 : decode cL_law 911 = .ok (.invokevirtual 173, 3) := dk_182 0 173 (dk_at dksL_law_31 3 rfl rfl)
theorem dL_law_914 : decode cL_law 914 = .ok (.iload 5, 2) := dk_21 5 (dk_at dksL_law_31 6 rfl rfl)
theorem dL_law_916 : decode cL_law 916 = .ok (.if_icmp .eq 5, 3) := dk_159 0 5 (dk_at dksL_law_31 8 rfl rfl)
theorem dL_law_919 : decode cL_law 919 = .ok (.iconst 0, 1) := dk_3 (dk_at dksL_law_31 11 rfl rfl)
theorem dL_law_920 : decode cL_law 920 = .ok (.ireturn, 1) := dk_172 (dk_at dksL_law_31 12 rfl rfl)
theorem dL_law_921 : decode cL_law 921 = .ok (.iload 5, 2) := dk_21 5 (dk_at dksL_law_31 13 rfl rfl)
theorem dL_law_923 : decode cL_law 923 = .ok (.ifCond .ne 15, 3) := dk_154 0 15 (dk_at dksL_law_31 15 rfl rfl)
theorem dL_law_926 : decode cL_law 926 = .ok (.aload_n 3, 1) := dk_45 (dk_at dksL_law_31 18 rfl rfl)
theorem dL_law_927 : decode cL_law 927 = .ok (.iconst 0, 1) := dk_3 (dk_at dksL_law_31 19 rfl rfl)
theorem dL_law_928 : decode cL_law 928 = .ok (.laload, 1) := dk_47 (dk_at dksL_law_31 20 rfl rfl)
theorem dL_law_929 : decode cL_law 929 = .ok (.iload 6, 2) := dk_21 6 (dk_at dksL_law_31 21 rfl rfl)
theorem dL_law_931 : decode cL_law 931 = .ok (.i2l, 1) := dk_133 (dk_at dksL_law_31 23 rfl rfl)
theorem dL_law_932 : decode cL_law 932 = .ok (.lcmp, 1) := dk_148 (dk_at dksL_law_32 0 rfl rfl)
theorem dL_law_933 : decode cL_law 933 = .ok (.ifCond .eq 5, 3) := dk_153 0 5 (dk_at dksL_law_32 1 rfl rfl)
theorem dL_law_936 : decode cL_law 936 = .ok (.iconst 0, 1) := dk_3 (dk_at dksL_law_32 4 rfl rfl)
theorem dL_law_937 : decode cL_law 937 = .ok (.ireturn, 1) := dk_172 (dk_at dksL_law_32 5 rfl rfl)
theorem dL_law_938 : decode cL_law 938 = .ok (.goto 2382, 3) := dk_167 9 78 (dk_at dksL_law_32 6 rfl rfl)
theorem dL_law_941 : decode cL_law 941 = .ok (.aload_n 1, 1) := dk_43 (dk_at dksL_law_32 9 rfl rfl)
theorem dL_law_942 : decode cL_law 942 = .ok (.aload_n 0, 1) := dk_42 (dk_at dksL_law_32 10 rfl rfl)
theorem dL_law_943 : decode cL_law 943 = .ok (.iload 4, 2) := dk_21 4 (dk_at dksL_law_32 11 rfl rfl)
theorem dL_law_945 : decode cL_law 945 = .ok (.iconst 1, 1) := dk_4 (dk_at dksL_law_32 13 rfl rfl)
theorem dL_law_946 : decode cL_law 946 = .ok (.iadd, 1) := dk_96 (dk_at dksL_law_32 14 rfl rfl)
theorem dL_law_947 : decode cL_law 947 = .ok (.iaload, 1) := dk_46 (dk_at dksL_law_32 15 rfl rfl)
theorem dL_law_948 : decode cL_law 948 = .ok (.aload_n 3, 1) := dk_45 (dk_at dksL_law_32 16 rfl rfl)
theorem dL_law_949 : decode cL_law 949 = .ok (.invokestatic 210, 3) := dk_184 0 210 (dk_at dksL_law_32 17 rfl rfl)
theorem dL_law_952 : decode cL_law 952 = .ok (.istore 5, 2) := dk_54 5 (dk_at dksL_law_32 20 rfl rfl)
theorem dL_law_954 : decode cL_law 954 = .ok (.aload_n 2, 1) := dk_44 (dk_at dksL_law_32 22 rfl rfl)
theorem dL_law_955 : decode cL_law 955 = .ok (.aload_n 0, 1) := dk_42 (dk_at dksL_law_32 23 rfl rfl)
theorem dL_law_956 : decode cL_law 956 = .ok (.iload 4, 2) := dk_21 4 (dk_at dksL_law_33 0 rfl rfl)
theorem dL_law_958 : decode cL_law 958 = .ok (.iconst 1, 1) := dk_4 (dk_at dksL_law_33 2 rfl rfl)
theorem dL_law_959 : decode cL_law 959 = .ok (.iadd, 1) := dk_96 (dk_at dksL_law_33 3 rfl rfl)
theorem dL_law_960 : decode cL_law 960 = .ok (.iaload, 1) := dk_46 (dk_at dksL_law_33 4 rfl rfl)
theorem dL_law_961 : decode cL_law 961 = .ok (.invokevirtual 212, 3) := dk_182 0 212 (dk_at dksL_law_33 5 rfl rfl)
theorem dL_law_964 : decode cL_law 964 = .ok (.istore 6, 2) := dk_54 6 (dk_at dksL_law_33 8 rfl rfl)
theorem dL_law_966 : decode cL_law 966 = .ok (.aload_n 2, 1) := dk_44 (dk_at dksL_law_33 10 rfl rfl)
theorem dL_law_967 : decode cL_law 967 = .ok (.invokevirtual 173, 3) := dk_182 0 173 (dk_at dksL_law_33 11 rfl rfl)
theorem dL_law_970 : decode cL_law 970 = .ok (.iload 5, 2) := dk_21 5 (dk_at dksL_law_33 14 rfl rfl)
theorem dL_law_972 : decode cL_law 972 = .ok (.if_icmp .eq 5, 3) := dk_159 0 5 (dk_at dksL_law_33 16 rfl rfl)
theorem dL_law_975 : decode cL_law 975 = .ok (.iconst 0, 1) := dk_3 (dk_at dksL_law_33 19 rfl rfl)
theorem dL_law_976 : decode cL_law 976 = .ok (.ireturn, 1) := dk_172 (dk_at dksL_law_33 20 rfl rfl)
theorem dL_law_977 : decode cL_law 977 = .ok (.iload 5, 2) := dk_21 5 (dk_at dksL_law_33 21 rfl rfl)
theorem dL_law_979 : decode cL_law 979 = .ok (.ifCond .ne 15, 3) := dk_154 0 15 (dk_at dksL_law_34 0 rfl rfl)
theorem dL_law_982 : decode cL_law 982 = .ok (.aload_n 3, 1) := dk_45 (dk_at dksL_law_34 3 rfl rfl)
theorem dL_law_983 : decode cL_law 983 = .ok (.iconst 0, 1) := dk_3 (dk_at dksL_law_34 4 rfl rfl)
theorem dL_law_984 : decode cL_law 984 = .ok (.laload, 1) := dk_47 (dk_at dksL_law_34 5 rfl rfl)
theorem dL_law_985 : decode cL_law 985 = .ok (.iload 6, 2) := dk_21 6 (dk_at dksL_law_34 6 rfl rfl)
theorem dL_law_987 : decode cL_law 987 = .ok (.i2l, 1) := dk_133 (dk_at dksL_law_34 8 rfl rfl)
theorem dL_law_988 : decode cL_law 988 = .ok (.lcmp, 1) := dk_148 (dk_at dksL_law_34 9 rfl rfl)
theorem dL_law_989 : decode cL_law 989 = .ok (.ifCond .eq 5, 3) := dk_153 0 5 (dk_at dksL_law_34 10 rfl rfl)
theorem dL_law_992 : decode cL_law 992 = .ok (.iconst 0, 1) := dk_3 (dk_at dksL_law_34 13 rfl rfl)
theorem dL_law_993 : decode cL_law 993 = .ok (.ireturn, 1) := dk_172 (dk_at dksL_law_34 14 rfl rfl)
theorem dL_law_994 : decode cL_law 994 = .ok (.goto 2326, 3) := dk_167 9 22 (dk_at dksL_law_34 15 rfl rfl)
theorem dL_law_997 : decode cL_law 997 = .ok (.aload_n 1, 1) := dk_43 (dk_at dksL_law_34 18 rfl rfl)
theorem dL_law_998 : decode cL_law 998 = .ok (.aload_n 0, 1) := dk_42 (dk_at dksL_law_34 19 rfl rfl)
theorem dL_law_999 : decode cL_law 999 = .ok (.iload 4, 2) := dk_21 4 (dk_at dksL_law_34 20 rfl rfl)
theorem dL_law_1001 : decode cL_law 1001 = .ok (.iconst 1, 1) := dk_4 (dk_at dksL_law_34 22 rfl rfl)
theorem dL_law_1002 : decode cL_law 1002 = .ok (.iadd, 1) := dk_96 (dk_at dksL_law_34 23 rfl rfl)
theorem dL_law_1003 : decode cL_law 1003 = .ok (.iaload, 1) := dk_46 (dk_at dksL_law_35 0 rfl rfl)
theorem dL_law_1004 : decode cL_law 1004 = .ok (.aload_n 3, 1) := dk_45 (dk_at dksL_law_35 1 rfl rfl)
theorem dL_law_1005 : decode cL_law 1005 = .ok (.invokestatic 213, 3) := dk_184 0 213 (dk_at dksL_law_35 2 rfl rfl)
theorem dL_law_1008 : decode cL_law 1008 = .ok (.istore 5, 2) := dk_54 5 (dk_at dksL_law_35 5 rfl rfl)
theorem dL_law_1010 : decode cL_law 1010 = .ok (.aload_n 2, 1) := dk_44 (dk_at dksL_law_35 7 rfl rfl)
theorem dL_law_1011 : decode cL_law 1011 = .ok (.aload_n 0, 1) := dk_42 (dk_at dksL_law_35 8 rfl rfl)
theorem dL_law_1012 : decode cL_law 1012 = .ok (.iload 4, 2) := dk_21 4 (dk_at dksL_law_35 9 rfl rfl)
theorem dL_law_1014 : decode cL_law 1014 = .ok (.iconst 1, 1) := dk_4 (dk_at dksL_law_35 11 rfl rfl)
theorem dL_law_1015 : decode cL_law 1015 = .ok (.iadd, 1) := dk_96 (dk_at dksL_law_35 12 rfl rfl)
theorem dL_law_1016 : decode cL_law 1016 = .ok (.iaload, 1) := dk_46 (dk_at dksL_law_35 13 rfl rfl)
theorem dL_law_1017 : decode cL_law 1017 = .ok (.invokevirtual 215, 3) := dk_182 0 215 (dk_at dksL_law_35 14 rfl rfl)
theorem dL_law_1020 : decode cL_law 1020 = .ok (.istore 6, 2) := dk_54 6 (dk_at dksL_law_35 17 rfl rfl)
theorem dL_law_1022 : decode cL_law 1022 = .ok (.aload_n 2, 1) := dk_44 (dk_at dksL_law_35 19 rfl rfl)
theorem dL_law_1023 : decode cL_law 1023 = .ok (.invokevirtual 173, 3) := dk_182 0 173 (dk_at dksL_law_35 20 rfl rfl)
theorem dL_law_1026 : decode cL_law 1026 = .ok (.iload 5, 2) := dk_21 5 (dk_at dksL_law_36 0 rfl rfl)
theorem dL_law_1028 : decode cL_law 1028 = .ok (.if_icmp .eq 5, 3) := dk_159 0 5 (dk_at dksL_law_36 2 rfl rfl)
theorem dL_law_1031 : decode cL_law 1031 = .ok (.iconst 0, 1) := dk_3 (dk_at dksL_law_36 5 rfl rfl)
theorem dL_law_1032 : decode cL_law 1032 = .ok (.ireturn, 1) := dk_172 (dk_at dksL_law_36 6 rfl rfl)
theorem dL_law_1033 : decode cL_law 1033 = .ok (.iload 5, 2) := dk_21 5 (dk_at dksL_law_36 7 rfl rfl)
theorem dL_law_1035 : decode cL_law 1035 = .ok (.ifCond .ne 15, 3) := dk_154 0 15 (dk_at dksL_law_36 9 rfl rfl)
theorem dL_law_1038 : decode cL_law 1038 = .ok (.aload_n 3, 1) := dk_45 (dk_at dksL_law_36 12 rfl rfl)
theorem dL_law_1039 : decode cL_law 1039 = .ok (.iconst 0, 1) := dk_3 (dk_at dksL_law_36 13 rfl rfl)
theorem dL_law_1040 : decode cL_law 1040 = .ok (.laload, 1) := dk_47 (dk_at dksL_law_36 14 rfl rfl)
theorem dL_law_1041 : decode cL_law 1041 = .ok (.iload 6, 2) := dk_21 6 (dk_at dksL_law_36 15 rfl rfl)
theorem dL_law_1043 : decode cL_law 1043 = .ok (.i2l, 1) := dk_133 (dk_at dksL_law_36 17 rfl rfl)
theorem dL_law_1044 : decode cL_law 1044 = .ok (.lcmp, 1) := dk_148 (dk_at dksL_law_36 18 rfl rfl)
theorem dL_law_1045 : decode cL_law 1045 = .ok (.ifCond .eq 5, 3) := dk_153 0 5 (dk_at dksL_law_36 19 rfl rfl)
theorem dL_law_1048 : decode cL_law 1048 = .ok (.iconst 0, 1) := dk_3 (dk_at dksL_law_36 22 rfl rfl)
theorem dL_law_1049 : decode cL_law 1049 = .ok (.ireturn, 1) := dk_172 (dk_at dksL_law_36 23 rfl rfl)
theorem dL_law_1050 : decode cL_law 1050 = .ok (.goto 2270, 3) := dk_167 8 222 (dk_at dksL_law_37 0 rfl rfl)
theorem dL_law_1053 : decode cL_law 1053 = .ok (.aload_n 1, 1) := dk_43 (dk_at dksL_law_37 3 rfl rfl)
theorem dL_law_1054 : decode cL_law 1054 = .ok (.aload_n 0, 1) := dk_42 (dk_at dksL_law_37 4 rfl rfl)
theorem dL_law_1055 : decode cL_law 1055 = .ok (.iload 4, 2) := dk_21 4 (dk_at dksL_law_37 5 rfl rfl)
theorem dL_law_1057 : decode cL_law 1057 = .ok (.iconst 1, 1) := dk_4 (dk_at dksL_law_37 7 rfl rfl)
theorem dL_law_1058 : decode cL_law 1058 = .ok (.iadd, 1) := dk_96 (dk_at dksL_law_37 8 rfl rfl)
theorem dL_law_1059 : decode cL_law 1059 = .ok (.iaload, 1) := dk_46 (dk_at dksL_law_37 9 rfl rfl)
theorem dL_law_1060 : decode cL_law 1060 = .ok (.aload_n 3, 1) := dk_45 (dk_at dksL_law_37 10 rfl rfl)
theorem dL_law_1061 : decode cL_law 1061 = .ok (.invokestatic 216, 3) := dk_184 0 216 (dk_at dksL_law_37 11 rfl rfl)
theorem dL_law_1064 : decode cL_law 1064 = .ok (.istore 5, 2) := dk_54 5 (dk_at dksL_law_37 14 rfl rfl)
theorem dL_law_1066 : decode cL_law 1066 = .ok (.aload_n 2, 1) := dk_44 (dk_at dksL_law_37 16 rfl rfl)
theorem dL_law_1067 : decode cL_law 1067 = .ok (.aload_n 0, 1) := dk_42 (dk_at dksL_law_37 17 rfl rfl)
theorem dL_law_1068 : decode cL_law 1068 = .ok (.iload 4, 2) := dk_21 4 (dk_at dksL_law_37 18 rfl rfl)
theorem dL_law_1070 : decode cL_law 1070 = .ok (.iconst 1, 1) := dk_4 (dk_at dksL_law_37 20 rfl rfl)
theorem dL_law_1071 : decode cL_law 1071 = .ok (.iadd, 1) := dk_96 (dk_at dksL_law_37 21 rfl rfl)
theorem dL_law_1072 : decode cL_law 1072 = .ok (.iaload, 1) := dk_46 (dk_at dksL_law_37 22 rfl rfl)
theorem dL_law_1073 : decode cL_law 1073 = .ok (.invokevirtual 218, 3) := dk_182 0 218 (dk_at dksL_law_38 0 rfl rfl)
theorem dL_law_1076 : decode cL_law 1076 = .ok (.istore 6, 2) := dk_54 6 (dk_at dksL_law_38 3 rfl rfl)
theorem dL_law_1078 : decode cL_law 1078 = .ok (.aload_n 2, 1) := dk_44 (dk_at dksL_law_38 5 rfl rfl)
theorem dL_law_1079 : decode cL_law 1079 = .ok (.invokevirtual 173, 3) := dk_182 0 173 (dk_at dksL_law_38 6 rfl rfl)
theorem dL_law_1082 : decode cL_law 1082 = .ok (.iload 5, 2) := dk_21 5 (dk_at dksL_law_38 9 rfl rfl)
theorem dL_law_1084 : decode cL_law 1084 = .ok (.if_icmp .eq 5, 3) := dk_159 0 5 (dk_at dksL_law_38 11 rfl rfl)
theorem dL_law_1087 : decode cL_law 1087 = .ok (.iconst 0, 1) := dk_3 (dk_at dksL_law_38 14 rfl rfl)
theorem dL_law_1088 : decode cL_law 1088 = .ok (.ireturn, 1) := dk_172 (dk_at dksL_law_38 15 rfl rfl)
theorem dL_law_1089 : decode cL_law 1089 = .ok (.iload 5, 2) := dk_21 5 (dk_at dksL_law_38 16 rfl rfl)
theorem dL_law_1091 : decode cL_law 1091 = .ok (.ifCond .ne 15, 3) := dk_154 0 15 (dk_at dksL_law_38 18 rfl rfl)
theorem dL_law_1094 : decode cL_law 1094 = .ok (.aload_n 3, 1) := dk_45 (dk_at dksL_law_38 21 rfl rfl)
theorem dL_law_1095 : decode cL_law 1095 = .ok (.iconst 0, 1) := dk_3 (dk_at dksL_law_38 22 rfl rfl)
theorem dL_law_1096 : decode cL_law 1096 = .ok (.laload, 1) := dk_47 (dk_at dksL_law_38 23 rfl rfl)
theorem dL_law_1097 : decode cL_law 1097 = .ok (.iload 6, 2) := dk_21 6 (dk_at dksL_law_39 0 rfl rfl)
theorem dL_law_1099 : decode cL_law 1099 = .ok (.i2l, 1) := dk_133 (dk_at dksL_law_39 2 rfl rfl)
theorem dL_law_1100 : decode cL_law 1100 = .ok (.lcmp, 1) := dk_148 (dk_at dksL_law_39 3 rfl rfl)
theorem dL_law_1101 : decode cL_law 1101 = .ok (.ifCond .eq 5, 3) := dk_153 0 5 (dk_at dksL_law_39 4 rfl rfl)
theorem dL_law_1104 : decode cL_law 1104 = .ok (.iconst 0, 1) := dk_3 (dk_at dksL_law_39 7 rfl rfl)
theorem dL_law_1105 : decode cL_law 1105 = .ok (.ireturn, 1) := dk_172 (dk_at dksL_law_39 8 rfl rfl)
theorem dL_law_1106 : decode cL_law 1106 = .ok (.goto 2214, 3) := dk_167 8 166 (dk_at dksL_law_39 9 rfl rfl)
theorem dL_law_1109 : decode cL_law 1109 = .ok (.aload_n 1, 1) := dk_43 (dk_at dksL_law_39 12 rfl rfl)
theorem dL_law_1110 : decode cL_law 1110 = .ok (.aload_n 0, 1) := dk_42 (dk_at dksL_law_39 13 rfl rfl)
theorem dL_law_1111 : decode cL_law 1111 = .ok (.iload 4, 2) := dk_21 4 (dk_at dksL_law_39 14 rfl rfl)
theorem dL_law_1113 : decode cL_law 1113 = .ok (.iconst 1, 1) := dk_4 (dk_at dksL_law_39 16 rfl rfl)
theorem dL_law_1114 : decode cL_law 1114 = .ok (.iadd, 1) := dk_96 (dk_at dksL_law_39 17 rfl rfl)
theorem dL_law_1115 : decode cL_law 1115 = .ok (.iaload, 1) := dk_46 (dk_at dksL_law_39 18 rfl rfl)
theorem dL_law_1116 : decode cL_law 1116 = .ok (.aload_n 3, 1) := dk_45 (dk_at dksL_law_39 19 rfl rfl)
theorem dL_law_1117 : decode cL_law 1117 = .ok (.invokestatic 219, 3) := dk_184 0 219 (dk_at dksL_law_39 20 rfl rfl)
theorem dL_law_1120 : decode cL_law 1120 = .ok (.istore 5, 2) := dk_54 5 (dk_at dksL_law_40 0 rfl rfl)
theorem dL_law_1122 : decode cL_law 1122 = .ok (.aload_n 2, 1) := dk_44 (dk_at dksL_law_40 2 rfl rfl)
theorem dL_law_1123 : decode cL_law 1123 = .ok (.aload_n 0, 1) := dk_42 (dk_at dksL_law_40 3 rfl rfl)
theorem dL_law_1124 : decode cL_law 1124 = .ok (.iload 4, 2) := dk_21 4 (dk_at dksL_law_40 4 rfl rfl)
theorem dL_law_1126 : decode cL_law 1126 = .ok (.iconst 1, 1) := dk_4 (dk_at dksL_law_40 6 rfl rfl)
theorem dL_law_1127 : decode cL_law 1127 = .ok (.iadd, 1) := dk_96 (dk_at dksL_law_40 7 rfl rfl)
theorem dL_law_1128 : decode cL_law 1128 = .ok (.iaload, 1) := dk_46 (dk_at dksL_law_40 8 rfl rfl)
theorem dL_law_1129 : decode cL_law 1129 = .ok (.invokevirtual 221, 3) := dk_182 0 221 (dk_at dksL_law_40 9 rfl rfl)
theorem dL_law_1132 : decode cL_law 1132 = .ok (.istore 6, 2) := dk_54 6 (dk_at dksL_law_40 12 rfl rfl)
theorem dL_law_1134 : decode cL_law 1134 = .ok (.aload_n 2, 1) := dk_44 (dk_at dksL_law_40 14 rfl rfl)
theorem dL_law_1135 : decode cL_law 1135 = .ok (.invokevirtual 173, 3) := dk_182 0 173 (dk_at dksL_law_40 15 rfl rfl)
theorem dL_law_1138 : decode cL_law 1138 = .ok (.iload 5, 2) := dk_21 5 (dk_at dksL_law_40 18 rfl rfl)
theorem dL_law_1140 : decode cL_law 1140 = .ok (.if_icmp .eq 5, 3) := dk_159 0 5 (dk_at dksL_law_40 20 rfl rfl)
theorem dL_law_1143 : decode cL_law 1143 = .ok (.iconst 0, 1) := dk_3 (dk_at dksL_law_40 23 rfl rfl)
theorem dL_law_1144 : decode cL_law 1144 = .ok (.ireturn, 1) := dk_172 (dk_at dksL_law_41 0 rfl rfl)
theorem dL_law_1145 : decode cL_law 1145 = .ok (.iload 5, 2) := dk_21 5 (dk_at dksL_law_41 1 rfl rfl)
theorem dL_law_1147 : decode cL_law 1147 = .ok (.ifCond .ne 15, 3) := dk_154 0 15 (dk_at dksL_law_41 3 rfl rfl)
theorem dL_law_1150 : decode cL_law 1150 = .ok (.aload_n 3, 1) := dk_45 (dk_at dksL_law_41 6 rfl rfl)
theorem dL_law_1151 : decode cL_law 1151 = .ok (.iconst 0, 1) := dk_3 (dk_at dksL_law_41 7 rfl rfl)
theorem dL_law_1152 : decode cL_law 1152 = .ok (.laload, 1) := dk_47 (dk_at dksL_law_41 8 rfl rfl)
theorem dL_law_1153 : decode cL_law 1153 = .ok (.iload 6, 2) := dk_21 6 (dk_at dksL_law_41 9 rfl rfl)
theorem dL_law_1155 : decode cL_law 1155 = .ok (.i2l, 1) := dk_133 (dk_at dksL_law_41 11 rfl rfl)
theorem dL_law_1156 : decode cL_law 1156 = .ok (.lcmp, 1) := dk_148 (dk_at dksL_law_41 12 rfl rfl)
theorem dL_law_1157 : decode cL_law 1157 = .ok (.ifCond .eq 5, 3) := dk_153 0 5 (dk_at dksL_law_41 13 rfl rfl)
theorem dL_law_1160 : decode cL_law 1160 = .ok (.iconst 0, 1) := dk_3 (dk_at dksL_law_41 16 rfl rfl)
theorem dL_law_1161 : decode cL_law 1161 = .ok (.ireturn, 1) := dk_172 (dk_at dksL_law_41 17 rfl rfl)
theorem dL_law_1162 : decode cL_law 1162 = .ok (.goto 2158, 3) := dk_167 8 110 (dk_at dksL_law_41 18 rfl rfl)
theorem dL_law_1165 : decode cL_law 1165 = .ok (.aload_n 1, 1) := dk_43 (dk_at dksL_law_41 21 rfl rfl)
theorem dL_law_1166 : decode cL_law 1166 = .ok (.aload_n 0, 1) := dk_42 (dk_at dksL_law_41 22 rfl rfl)
theorem dL_law_1167 : decode cL_law 1167 = .ok (.iload 4, 2) := dk_21 4 (dk_at dksL_law_42 0 rfl rfl)
theorem dL_law_1169 : decode cL_law 1169 = .ok (.iconst 1, 1) := dk_4 (dk_at dksL_law_42 2 rfl rfl)
theorem dL_law_1170 : decode cL_law 1170 = .ok (.iadd, 1) := dk_96 (dk_at dksL_law_42 3 rfl rfl)
theorem dL_law_1171 : decode cL_law 1171 = .ok (.iaload, 1) := dk_46 (dk_at dksL_law_42 4 rfl rfl)
theorem dL_law_1172 : decode cL_law 1172 = .ok (.aload_n 3, 1) := dk_45 (dk_at dksL_law_42 5 rfl rfl)
theorem dL_law_1173 : decode cL_law 1173 = .ok (.invokestatic 222, 3) := dk_184 0 222 (dk_at dksL_law_42 6 rfl rfl)
theorem dL_law_1176 : decode cL_law 1176 = .ok (.istore 5, 2) := dk_54 5 (dk_at dksL_law_42 9 rfl rfl)
theorem dL_law_1178 : decode cL_law 1178 = .ok (.aload_n 2, 1) := dk_44 (dk_at dksL_law_42 11 rfl rfl)
theorem dL_law_1179 : decode cL_law 1179 = .ok (.aload_n 0, 1) := dk_42 (dk_at dksL_law_42 12 rfl rfl)
theorem dL_law_1180 : decode cL_law 1180 = .ok (.iload 4, 2) := dk_21 4 (dk_at dksL_law_42 13 rfl rfl)
theorem dL_law_1182 : decode cL_law 1182 = .ok (.iconst 1, 1) := dk_4 (dk_at dksL_law_42 15 rfl rfl)
theorem dL_law_1183 : decode cL_law 1183 = .ok (.iadd, 1) := dk_96 (dk_at dksL_law_42 16 rfl rfl)
theorem dL_law_1184 : decode cL_law 1184 = .ok (.iaload, 1) := dk_46 (dk_at dksL_law_42 17 rfl rfl)
theorem dL_law_1185 : decode cL_law 1185 = .ok (.invokevirtual 224, 3) := dk_182 0 224 (dk_at dksL_law_42 18 rfl rfl)
theorem dL_law_1188 : decode cL_law 1188 = .ok (.istore 6, 2) := dk_54 6 (dk_at dksL_law_42 21 rfl rfl)
theorem dL_law_1190 : decode cL_law 1190 = .ok (.aload_n 2, 1) := dk_44 (dk_at dksL_law_42 23 rfl rfl)
theorem dL_law_1191 : decode cL_law 1191 = .ok (.invokevirtual 173, 3) := dk_182 0 173 (dk_at dksL_law_43 0 rfl rfl)
theorem dL_law_1194 : decode cL_law 1194 = .ok (.iload 5, 2) := dk_21 5 (dk_at dksL_law_43 3 rfl rfl)
theorem dL_law_1196 : decode cL_law 1196 = .ok (.if_icmp .eq 5, 3) := dk_159 0 5 (dk_at dksL_law_43 5 rfl rfl)
theorem dL_law_1199 : decode cL_law 1199 = .ok (.iconst 0, 1) := dk_3 (dk_at dksL_law_43 8 rfl rfl)
theorem dL_law_1200 : decode cL_law 1200 = .ok (.ireturn, 1) := dk_172 (dk_at dksL_law_43 9 rfl rfl)
theorem dL_law_1201 : decode cL_law 1201 = .ok (.iload 5, 2) := dk_21 5 (dk_at dksL_law_43 10 rfl rfl)
theorem dL_law_1203 : decode cL_law 1203 = .ok (.ifCond .ne 15, 3) := dk_154 0 15 (dk_at dksL_law_43 12 rfl rfl)
theorem dL_law_1206 : decode cL_law 1206 = .ok (.aload_n 3, 1) := dk_45 (dk_at dksL_law_43 15 rfl rfl)
theorem dL_law_1207 : decode cL_law 1207 = .ok (.iconst 0, 1) := dk_3 (dk_at dksL_law_43 16 rfl rfl)
theorem dL_law_1208 : decode cL_law 1208 = .ok (.laload, 1) := dk_47 (dk_at dksL_law_43 17 rfl rfl)
theorem dL_law_1209 : decode cL_law 1209 = .ok (.iload 6, 2) := dk_21 6 (dk_at dksL_law_43 18 rfl rfl)
theorem dL_law_1211 : decode cL_law 1211 = .ok (.i2l, 1) := dk_133 (dk_at dksL_law_43 20 rfl rfl)
theorem dL_law_1212 : decode cL_law 1212 = .ok (.lcmp, 1) := dk_148 (dk_at dksL_law_43 21 rfl rfl)
theorem dL_law_1213 : decode cL_law 1213 = .ok (.ifCond .eq 5, 3) := dk_153 0 5 (dk_at dksL_law_44 0 rfl rfl)
theorem dL_law_1216 : decode cL_law 1216 = .ok (.iconst 0, 1) := dk_3 (dk_at dksL_law_44 3 rfl rfl)
theorem dL_law_1217 : decode cL_law 1217 = .ok (.ireturn, 1) := dk_172 (dk_at dksL_law_44 4 rfl rfl)
theorem dL_law_1218 : decode cL_law 1218 = .ok (.goto 2102, 3) := dk_167 8 54 (dk_at dksL_law_44 5 rfl rfl)
theorem dL_law_1221 : decode cL_law 1221 = .ok (.aload_n 1, 1) := dk_43 (dk_at dksL_law_44 8 rfl rfl)
theorem dL_law_1222 : decode cL_law 1222 = .ok (.invokevirtual 225, 3) := dk_182 0 225 (dk_at dksL_law_44 9 rfl rfl)
theorem dL_law_1225 : decode cL_law 1225 = .ok (.aload_n 2, 1) := dk_44 (dk_at dksL_law_44 12 rfl rfl)
theorem dL_law_1226 : decode cL_law 1226 = .ok (.invokevirtual 228, 3) := dk_182 0 228 (dk_at dksL_law_44 13 rfl rfl)
theorem dL_law_1229 : decode cL_law 1229 = .ok (.if_icmp .eq 2091, 3) := dk_159 8 43 (dk_at dksL_law_44 16 rfl rfl)
theorem dL_law_1232 : decode cL_law 1232 = .ok (.iconst 0, 1) := dk_3 (dk_at dksL_law_44 19 rfl rfl)
theorem dL_law_1233 : decode cL_law 1233 = .ok (.ireturn, 1) := dk_172 (dk_at dksL_law_44 20 rfl rfl)
theorem dL_law_1234 : decode cL_law 1234 = .ok (.aload_n 1, 1) := dk_43 (dk_at dksL_law_44 21 rfl rfl)
theorem dL_law_1235 : decode cL_law 1235 = .ok (.aload_n 0, 1) := dk_42 (dk_at dksL_law_44 22 rfl rfl)
theorem dL_law_1236 : decode cL_law 1236 = .ok (.iload 4, 2) := dk_21 4 (dk_at dksL_law_45 0 rfl rfl)
theorem dL_law_1238 : decode cL_law 1238 = .ok (.iconst 1, 1) := dk_4 (dk_at dksL_law_45 2 rfl rfl)
theorem dL_law_1239 : decode cL_law 1239 = .ok (.iadd, 1) := dk_96 (dk_at dksL_law_45 3 rfl rfl)
theorem dL_law_1240 : decode cL_law 1240 = .ok (.iaload, 1) := dk_46 (dk_at dksL_law_45 4 rfl rfl)
theorem dL_law_1241 : decode cL_law 1241 = .ok (.aload_n 3, 1) := dk_45 (dk_at dksL_law_45 5 rfl rfl)
theorem dL_law_1242 : decode cL_law 1242 = .ok (.invokestatic 229, 3) := dk_184 0 229 (dk_at dksL_law_45 6 rfl rfl)
theorem dL_law_1245 : decode cL_law 1245 = .ok (.istore 5, 2) := dk_54 5 (dk_at dksL_law_45 9 rfl rfl)
theorem dL_law_1247 : decode cL_law 1247 = .ok (.aload_n 2, 1) := dk_44 (dk_at dksL_law_45 11 rfl rfl)
theorem dL_law_1248 : decode cL_law 1248 = .ok (.aload_n 0, 1) := dk_42 (dk_at dksL_law_45 12 rfl rfl)
theorem dL_law_1249 : decode cL_law 1249 = .ok (.iload 4, 2) := dk_21 4 (dk_at dksL_law_45 13 rfl rfl)
theorem dL_law_1251 : decode cL_law 1251 = .ok (.iconst 1, 1) := dk_4 (dk_at dksL_law_45 15 rfl rfl)
theorem dL_law_1252 : decode cL_law 1252 = .ok (.iadd, 1) := dk_96 (dk_at dksL_law_45 16 rfl rfl)
theorem dL_law_1253 : decode cL_law 1253 = .ok (.iaload, 1) := dk_46 (dk_at dksL_law_45 17 rfl rfl)
theorem dL_law_1254 : decode cL_law 1254 = .ok (.invokevirtual 231, 3) := dk_182 0 231 (dk_at dksL_law_45 18 rfl rfl)
theorem dL_law_1257 : decode cL_law 1257 = .ok (.istore 6, 2) := dk_54 6 (dk_at dksL_law_45 21 rfl rfl)
theorem dL_law_1259 : decode cL_law 1259 = .ok (.aload_n 2, 1) := dk_44 (dk_at dksL_law_45 23 rfl rfl)
theorem dL_law_1260 : decode cL_law 1260 = .ok (.invokevirtual 173, 3) := dk_182 0 173 (dk_at dksL_law_46 0 rfl rfl)
theorem dL_law_1263 : decode cL_law 1263 = .ok (.iload 5, 2) := dk_21 5 (dk_at dksL_law_46 3 rfl rfl)
theorem dL_law_1265 : decode cL_law 1265 = .ok (.if_icmp .eq 5, 3) := dk_159 0 5 (dk_at dksL_law_46 5 rfl rfl)
theorem dL_law_1268 : decode cL_law 1268 = .ok (.iconst 0, 1) := dk_3 (dk_at dksL_law_46 8 rfl rfl)
theorem dL_law_1269 : decode cL_law 1269 = .ok (.ireturn, 1) := dk_172 (dk_at dksL_law_46 9 rfl rfl)
theorem dL_law_1270 : decode cL_law 1270 = .ok (.iload 5, 2) := dk_21 5 (dk_at dksL_law_46 10 rfl rfl)
theorem dL_law_1272 : decode cL_law 1272 = .ok (.ifCond .ne 22, 3) := dk_154 0 22 (dk_at dksL_law_46 12 rfl rfl)
theorem dL_law_1275 : decode cL_law 1275 = .ok (.aload_n 3, 1) := dk_45 (dk_at dksL_law_46 15 rfl rfl)
theorem dL_law_1276 : decode cL_law 1276 = .ok (.iconst 0, 1) := dk_3 (dk_at dksL_law_46 16 rfl rfl)
theorem dL_law_1277 : decode cL_law 1277 = .ok (.laload, 1) := dk_47 (dk_at dksL_law_46 17 rfl rfl)
theorem dL_law_1278 : decode cL_law 1278 = .ok (.iload 6, 2) := dk_21 6 (dk_at dksL_law_46 18 rfl rfl)
theorem dL_law_1280 : decode cL_law 1280 = .ok (.ifCond .eq 7, 3) := dk_153 0 7 (dk_at dksL_law_46 20 rfl rfl)
theorem dL_law_1283 : decode cL_law 1283 = .ok (.lconst 1, 1) := dk_10 (dk_at dksL_law_46 23 rfl rfl)
theorem dL_law_1284 : decode cL_law 1284 = .ok (.goto 4, 3) := dk_167 0 4 (dk_at dksL_law_47 0 rfl rfl)
theorem dL_law_1287 : decode cL_law 1287 = .ok (.lconst 0, 1) := dk_9 (dk_at dksL_law_47 3 rfl rfl)
theorem dL_law_1288 : decode cL_law 1288 = .ok (.lcmp, 1) := dk_148 (dk_at dksL_law_47 4 rfl rfl)
theorem dL_law_1289 : decode cL_law 1289 = .ok (.ifCond .eq 5, 3) := dk_153 0 5 (dk_at dksL_law_47 5 rfl rfl)
theorem dL_law_1292 : decode cL_law 1292 = .ok (.iconst 0, 1) := dk_3 (dk_at dksL_law_47 8 rfl rfl)
theorem dL_law_1293 : decode cL_law 1293 = .ok (.ireturn, 1) := dk_172 (dk_at dksL_law_47 9 rfl rfl)
theorem dL_law_1294 : decode cL_law 1294 = .ok (.goto 2026, 3) := dk_167 7 234 (dk_at dksL_law_47 10 rfl rfl)
theorem dL_law_1297 : decode cL_law 1297 = .ok (.aload_n 1, 1) := dk_43 (dk_at dksL_law_47 13 rfl rfl)
theorem dL_law_1298 : decode cL_law 1298 = .ok (.aload_n 0, 1) := dk_42 (dk_at dksL_law_47 14 rfl rfl)
theorem dL_law_1299 : decode cL_law 1299 = .ok (.iload 4, 2) := dk_21 4 (dk_at dksL_law_47 15 rfl rfl)
theorem dL_law_1301 : decode cL_law 1301 = .ok (.iconst 1, 1) := dk_4 (dk_at dksL_law_47 17 rfl rfl)
theorem dL_law_1302 : decode cL_law 1302 = .ok (.iadd, 1) := dk_96 (dk_at dksL_law_47 18 rfl rfl)
theorem dL_law_1303 : decode cL_law 1303 = .ok (.iaload, 1) := dk_46 (dk_at dksL_law_47 19 rfl rfl)
theorem dL_law_1304 : decode cL_law 1304 = .ok (.aload_n 3, 1) := dk_45 (dk_at dksL_law_47 20 rfl rfl)
theorem dL_law_1305 : decode cL_law 1305 = .ok (.invokestatic 232, 3) := dk_184 0 232 (dk_at dksL_law_47 21 rfl rfl)
theorem dL_law_1308 : decode cL_law 1308 = .ok (.istore 5, 2) := dk_54 5 (dk_at dksL_law_48 0 rfl rfl)
theorem dL_law_1310 : decode cL_law 1310 = .ok (.aload_n 2, 1) := dk_44 (dk_at dksL_law_48 2 rfl rfl)
theorem dL_law_1311 : decode cL_law 1311 = .ok (.aload_n 0, 1) := dk_42 (dk_at dksL_law_48 3 rfl rfl)
theorem dL_law_1312 : decode cL_law 1312 = .ok (.iload 4, 2) := dk_21 4 (dk_at dksL_law_48 4 rfl rfl)
theorem dL_law_1314 : decode cL_law 1314 = .ok (.iconst 1, 1) := dk_4 (dk_at dksL_law_48 6 rfl rfl)
theorem dL_law_1315 : decode cL_law 1315 = .ok (.iadd, 1) := dk_96 (dk_at dksL_law_48 7 rfl rfl)
theorem dL_law_1316 : decode cL_law 1316 = .ok (.iaload, 1) := dk_46 (dk_at dksL_law_48 8 rfl rfl)
theorem dL_law_1317 : decode cL_law 1317 = .ok (.invokevirtual 234, 3) := dk_182 0 234 (dk_at dksL_law_48 9 rfl rfl)
theorem dL_law_1320 : decode cL_law 1320 = .ok (.istore 6, 2) := dk_54 6 (dk_at dksL_law_48 12 rfl rfl)
theorem dL_law_1322 : decode cL_law 1322 = .ok (.aload_n 2, 1) := dk_44 (dk_at dksL_law_48 14 rfl rfl)
theorem dL_law_1323 : decode cL_law 1323 = .ok (.invokevirtual 173, 3) := dk_182 0 173 (dk_at dksL_law_48 15 rfl rfl)
theorem dL_law_1326 : decode cL_law 1326 = .ok (.iload 5, 2) := dk_21 5 (dk_at dksL_law_48 18 rfl rfl)
theorem dL_law_1328 : decode cL_law 1328 = .ok (.if_icmp .eq 5, 3) := dk_159 0 5 (dk_at dksL_law_48 20 rfl rfl)
theorem dL_law_1331 : decode cL_law 1331 = .ok (.iconst 0, 1) := dk_3 (dk_at dksL_law_48 23 rfl rfl)
theorem dL_law_1332 : decode cL_law 1332 = .ok (.ireturn, 1) := dk_172 (dk_at dksL_law_49 0 rfl rfl)
theorem dL_law_1333 : decode cL_law 1333 = .ok (.iload 5, 2) := dk_21 5 (dk_at dksL_law_49 1 rfl rfl)
theorem dL_law_1335 : decode cL_law 1335 = .ok (.ifCond .ne 22, 3) := dk_154 0 22 (dk_at dksL_law_49 3 rfl rfl)
theorem dL_law_1338 : decode cL_law 1338 = .ok (.aload_n 3, 1) := dk_45 (dk_at dksL_law_49 6 rfl rfl)
theorem dL_law_1339 : decode cL_law 1339 = .ok (.iconst 0, 1) := dk_3 (dk_at dksL_law_49 7 rfl rfl)
theorem dL_law_1340 : decode cL_law 1340 = .ok (.laload, 1) := dk_47 (dk_at dksL_law_49 8 rfl rfl)
theorem dL_law_1341 : decode cL_law 1341 = .ok (.iload 6, 2) := dk_21 6 (dk_at dksL_law_49 9 rfl rfl)
theorem dL_law_1343 : decode cL_law 1343 = .ok (.ifCond .eq 7, 3) := dk_153 0 7 (dk_at dksL_law_49 11 rfl rfl)
theorem dL_law_1346 : decode cL_law 1346 = .ok (.lconst 1, 1) := dk_10 (dk_at dksL_law_49 14 rfl rfl)
theorem dL_law_1347 : decode cL_law 1347 = .ok (.goto 4, 3) := dk_167 0 4 (dk_at dksL_law_49 15 rfl rfl)
theorem dL_law_1350 : decode cL_law 1350 = .ok (.lconst 0, 1) := dk_9 (dk_at dksL_law_49 18 rfl rfl)
theorem dL_law_1351 : decode cL_law 1351 = .ok (.lcmp, 1) := dk_148 (dk_at dksL_law_49 19 rfl rfl)
theorem dL_law_1352 : decode cL_law 1352 = .ok (.ifCond .eq 5, 3) := dk_153 0 5 (dk_at dksL_law_49 20 rfl rfl)
theorem dL_law_1355 : decode cL_law 1355 = .ok (.iconst 0, 1) := dk_3 (dk_at dksL_law_49 23 rfl rfl)
theorem dL_law_1356 : decode cL_law 1356 = .ok (.ireturn, 1) := dk_172 (dk_at dksL_law_50 0 rfl rfl)
theorem dL_law_1357 : decode cL_law 1357 = .ok (.goto 1963, 3) := dk_167 7 171 (dk_at dksL_law_50 1 rfl rfl)
theorem dL_law_1360 : decode cL_law 1360 = .ok (.aload_n 1, 1) := dk_43 (dk_at dksL_law_50 4 rfl rfl)
theorem dL_law_1361 : decode cL_law 1361 = .ok (.aload_n 0, 1) := dk_42 (dk_at dksL_law_50 5 rfl rfl)
theorem dL_law_1362 : decode cL_law 1362 = .ok (.iload 4, 2) := dk_21 4 (dk_at dksL_law_50 6 rfl rfl)
theorem dL_law_1364 : decode cL_law 1364 = .ok (.iconst 1, 1) := dk_4 (dk_at dksL_law_50 8 rfl rfl)
theorem dL_law_1365 : decode cL_law 1365 = .ok (.iadd, 1) := dk_96 (dk_at dksL_law_50 9 rfl rfl)
theorem dL_law_1366 : decode cL_law 1366 = .ok (.iaload, 1) := dk_46 (dk_at dksL_law_50 10 rfl rfl)
theorem dL_law_1367 : decode cL_law 1367 = .ok (.aload_n 3, 1) := dk_45 (dk_at dksL_law_50 11 rfl rfl)
theorem dL_law_1368 : decode cL_law 1368 = .ok (.invokestatic 235, 3) := dk_184 0 235 (dk_at dksL_law_50 12 rfl rfl)
theorem dL_law_1371 : decode cL_law 1371 = .ok (.istore 5, 2) := dk_54 5 (dk_at dksL_law_50 15 rfl rfl)
theorem dL_law_1373 : decode cL_law 1373 = .ok (.aload_n 2, 1) := dk_44 (dk_at dksL_law_50 17 rfl rfl)
theorem dL_law_1374 : decode cL_law 1374 = .ok (.aload_n 0, 1) := dk_42 (dk_at dksL_law_50 18 rfl rfl)
theorem dL_law_1375 : decode cL_law 1375 = .ok (.iload 4, 2) := dk_21 4 (dk_at dksL_law_50 19 rfl rfl)
theorem dL_law_1377 : decode cL_law 1377 = .ok (.iconst 1, 1) := dk_4 (dk_at dksL_law_50 21 rfl rfl)
theorem dL_law_1378 : decode cL_law 1378 = .ok (.iadd, 1) := dk_96 (dk_at dksL_law_50 22 rfl rfl)
theorem dL_law_1379 : decode cL_law 1379 = .ok (.iaload, 1) := dk_46 (dk_at dksL_law_50 23 rfl rfl)
theorem dL_law_1380 : decode cL_law 1380 = .ok (.invokevirtual 237, 3) := dk_182 0 237 (dk_at dksL_law_51 0 rfl rfl)
theorem dL_law_1383 : decode cL_law 1383 = .ok (.istore 6, 2) := dk_54 6 (dk_at dksL_law_51 3 rfl rfl)
theorem dL_law_1385 : decode cL_law 1385 = .ok (.aload_n 2, 1) := dk_44 (dk_at dksL_law_51 5 rfl rfl)
theorem dL_law_1386 : decode cL_law 1386 = .ok (.invokevirtual 173, 3) := dk_182 0 173 (dk_at dksL_law_51 6 rfl rfl)
theorem dL_law_1389 : decode cL_law 1389 = .ok (.iload 5, 2) := dk_21 5 (dk_at dksL_law_51 9 rfl rfl)
theorem dL_law_1391 : decode cL_law 1391 = .ok (.if_icmp .eq 5, 3) := dk_159 0 5 (dk_at dksL_law_51 11 rfl rfl)
theorem dL_law_1394 : decode cL_law 1394 = .ok (.iconst 0, 1) := dk_3 (dk_at dksL_law_51 14 rfl rfl)
theorem dL_law_1395 : decode cL_law 1395 = .ok (.ireturn, 1) := dk_172 (dk_at dksL_law_51 15 rfl rfl)
theorem dL_law_1396 : decode cL_law 1396 = .ok (.iload 5, 2) := dk_21 5 (dk_at dksL_law_51 16 rfl rfl)
theorem dL_law_1398 : decode cL_law 1398 = .ok (.ifCond .ne 15, 3) := dk_154 0 15 (dk_at dksL_law_51 18 rfl rfl)
theorem dL_law_1401 : decode cL_law 1401 = .ok (.aload_n 3, 1) := dk_45 (dk_at dksL_law_51 21 rfl rfl)
theorem dL_law_1402 : decode cL_law 1402 = .ok (.iconst 0, 1) := dk_3 (dk_at dksL_law_51 22 rfl rfl)
theorem dL_law_1403 : decode cL_law 1403 = .ok (.laload, 1) := dk_47 (dk_at dksL_law_51 23 rfl rfl)
theorem dL_law_1404 : decode cL_law 1404 = .ok (.iload 6, 2) := dk_21 6 (dk_at dksL_law_52 0 rfl rfl)
theorem dL_law_1406 : decode cL_law 1406 = .ok (.i2l, 1) := dk_133 (dk_at dksL_law_52 2 rfl rfl)
theorem dL_law_1407 : decode cL_law 1407 = .ok (.lcmp, 1) := dk_148 (dk_at dksL_law_52 3 rfl rfl)
theorem dL_law_1408 : decode cL_law 1408 = .ok (.ifCond .eq 5, 3) := dk_153 0 5 (dk_at dksL_law_52 4 rfl rfl)
theorem dL_law_1411 : decode cL_law 1411 = .ok (.iconst 0, 1) := dk_3 (dk_at dksL_law_52 7 rfl rfl)
theorem dL_law_1412 : decode cL_law 1412 = .ok (.ireturn, 1) := dk_172 (dk_at dksL_law_52 8 rfl rfl)
theorem dL_law_1413 : decode cL_law 1413 = .ok (.goto 1907, 3) := dk_167 7 115 (dk_at dksL_law_52 9 rfl rfl)
theorem dL_law_1416 : decode cL_law 1416 = .ok (.aload_n 1, 1) := dk_43 (dk_at dksL_law_52 12 rfl rfl)
theorem dL_law_1417 : decode cL_law 1417 = .ok (.aload_n 0, 1) := dk_42 (dk_at dksL_law_52 13 rfl rfl)
theorem dL_law_1418 : decode cL_law 1418 = .ok (.iload 4, 2) := dk_21 4 (dk_at dksL_law_52 14 rfl rfl)
theorem dL_law_1420 : decode cL_law 1420 = .ok (.iconst 1, 1) := dk_4 (dk_at dksL_law_52 16 rfl rfl)
theorem dL_law_1421 : decode cL_law 1421 = .ok (.iadd, 1) := dk_96 (dk_at dksL_law_52 17 rfl rfl)
theorem dL_law_1422 : decode cL_law 1422 = .ok (.iaload, 1) := dk_46 (dk_at dksL_law_52 18 rfl rfl)
theorem dL_law_1423 : decode cL_law 1423 = .ok (.aload_n 0, 1) := dk_42 (dk_at dksL_law_52 19 rfl rfl)
theorem dL_law_1424 : decode cL_law 1424 = .ok (.iload 4, 2) := dk_21 4 (dk_at dksL_law_52 20 rfl rfl)
theorem dL_law_1426 : decode cL_law 1426 = .ok (.iconst 2, 1) := dk_5 (dk_at dksL_law_52 22 rfl rfl)
theorem dL_law_1427 : decode cL_law 1427 = .ok (.iadd, 1) := dk_96 (dk_at dksL_law_52 23 rfl rfl)
theorem dL_law_1428 : decode cL_law 1428 = .ok (.iaload, 1) := dk_46 (dk_at dksL_law_53 0 rfl rfl)
theorem dL_law_1429 : decode cL_law 1429 = .ok (.aload_n 0, 1) := dk_42 (dk_at dksL_law_53 1 rfl rfl)
theorem dL_law_1430 : decode cL_law 1430 = .ok (.iload 4, 2) := dk_21 4 (dk_at dksL_law_53 2 rfl rfl)
theorem dL_law_1432 : decode cL_law 1432 = .ok (.iconst 3, 1) := dk_6 (dk_at dksL_law_53 4 rfl rfl)
theorem dL_law_1433 : decode cL_law 1433 = .ok (.iadd, 1) := dk_96 (dk_at dksL_law_53 5 rfl rfl)
theorem dL_law_1434 : decode cL_law 1434 = .ok (.iaload, 1) := dk_46 (dk_at dksL_law_53 6 rfl rfl)
theorem dL_law_1435 : decode cL_law 1435 = .ok (.ifCond .eq 7, 3) := dk_153 0 7 (dk_at dksL_law_53 7 rfl rfl)
theorem dL_law_1438 : decode cL_law 1438 = .ok (.iconst 1, 1) := dk_4 (dk_at dksL_law_53 10 rfl rfl)
theorem dL_law_1439 : decode cL_law 1439 = .ok (.goto 4, 3) := dk_167 0 4 (dk_at dksL_law_53 11 rfl rfl)
theorem dL_law_1442 : decode cL_law 1442 = .ok (.iconst 0, 1) := dk_3 (dk_at dksL_law_53 14 rfl rfl)
theorem dL_law_1443 : decode cL_law 1443 = .ok (.aload_n 0, 1) := dk_42 (dk_at dksL_law_53 15 rfl rfl)
theorem dL_law_1444 : decode cL_law 1444 = .ok (.iload 4, 2) := dk_21 4 (dk_at dksL_law_53 16 rfl rfl)
theorem dL_law_1446 : decode cL_law 1446 = .ok (.iconst 4, 1) := dk_7 (dk_at dksL_law_53 18 rfl rfl)
theorem dL_law_1447 : decode cL_law 1447 = .ok (.iadd, 1) := dk_96 (dk_at dksL_law_53 19 rfl rfl)
theorem dL_law_1448 : decode cL_law 1448 = .ok (.iaload, 1) := dk_46 (dk_at dksL_law_53 20 rfl rfl)
theorem dL_law_1449 : decode cL_law 1449 = .ok (.aload_n 3, 1) := dk_45 (dk_at dksL_law_53 21 rfl rfl)
theorem dL_law_1450 : decode cL_law 1450 = .ok (.invokestatic 238, 3) := dk_184 0 238 (dk_at dksL_law_54 0 rfl rfl)
theorem dL_law_1453 : decode cL_law 1453 = .ok (.istore 5, 2) := dk_54 5 (dk_at dksL_law_54 3 rfl rfl)
theorem dL_law_1455 : decode cL_law 1455 = .ok (.aload_n 2, 1) := dk_44 (dk_at dksL_law_54 5 rfl rfl)
theorem dL_law_1456 : decode cL_law 1456 = .ok (.aload_n 0, 1) := dk_42 (dk_at dksL_law_54 6 rfl rfl)
theorem dL_law_1457 : decode cL_law 1457 = .ok (.iload 4, 2) := dk_21 4 (dk_at dksL_law_54 7 rfl rfl)
theorem dL_law_1459 : decode cL_law 1459 = .ok (.iconst 1, 1) := dk_4 (dk_at dksL_law_54 9 rfl rfl)
theorem dL_law_1460 : decode cL_law 1460 = .ok (.iadd, 1) := dk_96 (dk_at dksL_law_54 10 rfl rfl)
theorem dL_law_1461 : decode cL_law 1461 = .ok (.iaload, 1) := dk_46 (dk_at dksL_law_54 11 rfl rfl)
theorem dL_law_1462 : decode cL_law 1462 = .ok (.aload_n 0, 1) := dk_42 (dk_at dksL_law_54 12 rfl rfl)
theorem dL_law_1463 : decode cL_law 1463 = .ok (.iload 4, 2) := dk_21 4 (dk_at dksL_law_54 13 rfl rfl)
theorem dL_law_1465 : decode cL_law 1465 = .ok (.iconst 2, 1) := dk_5 (dk_at dksL_law_54 15 rfl rfl)
theorem dL_law_1466 : decode cL_law 1466 = .ok (.iadd, 1) := dk_96 (dk_at dksL_law_54 16 rfl rfl)
theorem dL_law_1467 : decode cL_law 1467 = .ok (.iaload, 1) := dk_46 (dk_at dksL_law_54 17 rfl rfl)
theorem dL_law_1468 : decode cL_law 1468 = .ok (.aload_n 0, 1) := dk_42 (dk_at dksL_law_54 18 rfl rfl)
theorem dL_law_1469 : decode cL_law 1469 = .ok (.iload 4, 2) := dk_21 4 (dk_at dksL_law_54 19 rfl rfl)
theorem dL_law_1471 : decode cL_law 1471 = .ok (.iconst 3, 1) := dk_6 (dk_at dksL_law_54 21 rfl rfl)
theorem dL_law_1472 : decode cL_law 1472 = .ok (.iadd, 1) := dk_96 (dk_at dksL_law_54 22 rfl rfl)
theorem dL_law_1473 : decode cL_law 1473 = .ok (.iaload, 1) := dk_46 (dk_at dksL_law_54 23 rfl rfl)
theorem dL_law_1474 : decode cL_law 1474 = .ok (.ifCond .eq 7, 3) := dk_153 0 7 (dk_at dksL_law_55 0 rfl rfl)
theorem dL_law_1477 : decode cL_law 1477 = .ok (.iconst 1, 1) := dk_4 (dk_at dksL_law_55 3 rfl rfl)
theorem dL_law_1478 : decode cL_law 1478 = .ok (.goto 4, 3) := dk_167 0 4 (dk_at dksL_law_55 4 rfl rfl)
theorem dL_law_1481 : decode cL_law 1481 = .ok (.iconst 0, 1) := dk_3 (dk_at dksL_law_55 7 rfl rfl)
theorem dL_law_1482 : decode cL_law 1482 = .ok (.aload_n 0, 1) := dk_42 (dk_at dksL_law_55 8 rfl rfl)
theorem dL_law_1483 : decode cL_law 1483 = .ok (.iload 4, 2) := dk_21 4 (dk_at dksL_law_55 9 rfl rfl)
theorem dL_law_1485 : decode cL_law 1485 = .ok (.iconst 4, 1) := dk_7 (dk_at dksL_law_55 11 rfl rfl)
theorem dL_law_1486 : decode cL_law 1486 = .ok (.iadd, 1) := dk_96 (dk_at dksL_law_55 12 rfl rfl)
theorem dL_law_1487 : decode cL_law 1487 = .ok (.iaload, 1) := dk_46 (dk_at dksL_law_55 13 rfl rfl)
theorem dL_law_1488 : decode cL_law 1488 = .ok (.invokevirtual 241, 3) := dk_182 0 241 (dk_at dksL_law_55 14 rfl rfl)
theorem dL_law_1491 : decode cL_law 1491 = .ok (.istore 6, 2) := dk_54 6 (dk_at dksL_law_55 17 rfl rfl)
theorem dL_law_1493 : decode cL_law 1493 = .ok (.aload_n 2, 1) := dk_44 (dk_at dksL_law_55 19 rfl rfl)
theorem dL_law_1494 : decode cL_law 1494 = .ok (.invokevirtual 173, 3) := dk_182 0 173 (dk_at dksL_law_55 20 rfl rfl)
theorem dL_law_1497 : decode cL_law 1497 = .ok (.iload 5, 2) := dk_21 5 (dk_at dksL_law_56 0 rfl rfl)
theorem dL_law_1499 : decode cL_law 1499 = .ok (.if_icmp .eq 5, 3) := dk_159 0 5 (dk_at dksL_law_56 2 rfl rfl)
theorem dL_law_1502 : decode cL_law 1502 = .ok (.iconst 0, 1) := dk_3 (dk_at dksL_law_56 5 rfl rfl)
theorem dL_law_1503 : decode cL_law 1503 = .ok (.ireturn, 1) := dk_172 (dk_at dksL_law_56 6 rfl rfl)
theorem dL_law_1504 : decode cL_law 1504 = .ok (.iload 5, 2) := dk_21 5 (dk_at dksL_law_56 7 rfl rfl)
theorem dL_law_1506 : decode cL_law 1506 = .ok (.ifCond .ne 15, 3) := dk_154 0 15 (dk_at dksL_law_56 9 rfl rfl)
theorem dL_law_1509 : decode cL_law 1509 = .ok (.aload_n 3, 1) := dk_45 (dk_at dksL_law_56 12 rfl rfl)
theorem dL_law_1510 : decode cL_law 1510 = .ok (.iconst 0, 1) := dk_3 (dk_at dksL_law_56 13 rfl rfl)
theorem dL_law_1511 : decode cL_law 1511 = .ok (.laload, 1) := dk_47 (dk_at dksL_law_56 14 rfl rfl)
theorem dL_law_1512 : decode cL_law 1512 = .ok (.iload 6, 2) := dk_21 6 (dk_at dksL_law_56 15 rfl rfl)
theorem dL_law_1514 : decode cL_law 1514 = .ok (.i2l, 1) := dk_133 (dk_at dksL_law_56 17 rfl rfl)
theorem dL_law_1515 : decode cL_law 1515 = .ok (.lcmp, 1) := dk_148 (dk_at dksL_law_56 18 rfl rfl)
theorem dL_law_1516 : decode cL_law 1516 = .ok (.ifCond .eq 5, 3) := dk_153 0 5 (dk_at dksL_law_56 19 rfl rfl)
theorem dL_law_1519 : decode cL_law 1519 = .ok (.iconst 0, 1) := dk_3 (dk_at dksL_law_56 22 rfl rfl)
theorem dL_law_1520 : decode cL_law 1520 = .ok (.ireturn, 1) := dk_172 (dk_at dksL_law_56 23 rfl rfl)
theorem dL_law_1521 : decode cL_law 1521 = .ok (.goto 1799, 3) := dk_167 7 7 (dk_at dksL_law_57 0 rfl rfl)
theorem dL_law_1524 : decode cL_law 1524 = .ok (.aload_n 1, 1) := dk_43 (dk_at dksL_law_57 3 rfl rfl)
theorem dL_law_1525 : decode cL_law 1525 = .ok (.aload_n 0, 1) := dk_42 (dk_at dksL_law_57 4 rfl rfl)
theorem dL_law_1526 : decode cL_law 1526 = .ok (.iload 4, 2) := dk_21 4 (dk_at dksL_law_57 5 rfl rfl)
theorem dL_law_1528 : decode cL_law 1528 = .ok (.iconst 1, 1) := dk_4 (dk_at dksL_law_57 7 rfl rfl)
theorem dL_law_1529 : decode cL_law 1529 = .ok (.iadd, 1) := dk_96 (dk_at dksL_law_57 8 rfl rfl)
theorem dL_law_1530 : decode cL_law 1530 = .ok (.iaload, 1) := dk_46 (dk_at dksL_law_57 9 rfl rfl)
theorem dL_law_1531 : decode cL_law 1531 = .ok (.aload_n 3, 1) := dk_45 (dk_at dksL_law_57 10 rfl rfl)
theorem dL_law_1532 : decode cL_law 1532 = .ok (.invokestatic 242, 3) := dk_184 0 242 (dk_at dksL_law_57 11 rfl rfl)
theorem dL_law_1535 : decode cL_law 1535 = .ok (.istore 5, 2) := dk_54 5 (dk_at dksL_law_57 14 rfl rfl)
theorem dL_law_1537 : decode cL_law 1537 = .ok (.aload_n 2, 1) := dk_44 (dk_at dksL_law_57 16 rfl rfl)
theorem dL_law_1538 : decode cL_law 1538 = .ok (.aload_n 0, 1) := dk_42 (dk_at dksL_law_57 17 rfl rfl)
theorem dL_law_1539 : decode cL_law 1539 = .ok (.iload 4, 2) := dk_21 4 (dk_at dksL_law_57 18 rfl rfl)
theorem dL_law_1541 : decode cL_law 1541 = .ok (.iconst 1, 1) := dk_4 (dk_at dksL_law_57 20 rfl rfl)
theorem dL_law_1542 : decode cL_law 1542 = .ok (.iadd, 1) := dk_96 (dk_at dksL_law_57 21 rfl rfl)
theorem dL_law_1543 : decode cL_law 1543 = .ok (.iaload, 1) := dk_46 (dk_at dksL_law_57 22 rfl rfl)
theorem dL_law_1544 : decode cL_law 1544 = .ok (.invokevirtual 244, 3) := dk_182 0 244 (dk_at dksL_law_58 0 rfl rfl)
theorem dL_law_1547 : decode cL_law 1547 = .ok (.istore 6, 2) := dk_54 6 (dk_at dksL_law_58 3 rfl rfl)
theorem dL_law_1549 : decode cL_law 1549 = .ok (.aload_n 2, 1) := dk_44 (dk_at dksL_law_58 5 rfl rfl)
theorem dL_law_1550 : decode cL_law 1550 = .ok (.invokevirtual 173, 3) := dk_182 0 173 (dk_at dksL_law_58 6 rfl rfl)
theorem dL_law_1553 : decode cL_law 1553 = .ok (.iload 5, 2) := dk_21 5 (dk_at dksL_law_58 9 rfl rfl)
theorem dL_law_1555 : decode cL_law 1555 = .ok (.if_icmp .eq 5, 3) := dk_159 0 5 (dk_at dksL_law_58 11 rfl rfl)
theorem dL_law_1558 : decode cL_law 1558 = .ok (.iconst 0, 1) := dk_3 (dk_at dksL_law_58 14 rfl rfl)
theorem dL_law_1559 : decode cL_law 1559 = .ok (.ireturn, 1) := dk_172 (dk_at dksL_law_58 15 rfl rfl)
theorem dL_law_1560 : decode cL_law 1560 = .ok (.iload 5, 2) := dk_21 5 (dk_at dksL_law_58 16 rfl rfl)
theorem dL_law_1562 : decode cL_law 1562 = .ok (.ifCond .ne 15, 3) := dk_154 0 15 (dk_at dksL_law_58 18 rfl rfl)
theorem dL_law_1565 : decode cL_law 1565 = .ok (.aload_n 3, 1) := dk_45 (dk_at dksL_law_58 21 rfl rfl)
theorem dL_law_1566 : decode cL_law 1566 = .ok (.iconst 0, 1) := dk_3 (dk_at dksL_law_58 22 rfl rfl)
theorem dL_law_1567 : decode cL_law 1567 = .ok (.laload, 1) := dk_47 (dk_at dksL_law_58 23 rfl rfl)
theorem dL_law_1568 : decode cL_law 1568 = .ok (.iload 6, 2) := dk_21 6 (dk_at dksL_law_59 0 rfl rfl)
theorem dL_law_1570 : decode cL_law 1570 = .ok (.i2l, 1) := dk_133 (dk_at dksL_law_59 2 rfl rfl)
theorem dL_law_1571 : decode cL_law 1571 = .ok (.lcmp, 1) := dk_148 (dk_at dksL_law_59 3 rfl rfl)
theorem dL_law_1572 : decode cL_law 1572 = .ok (.ifCond .eq 5, 3) := dk_153 0 5 (dk_at dksL_law_59 4 rfl rfl)
theorem dL_law_1575 : decode cL_law 1575 = .ok (.iconst 0, 1) := dk_3 (dk_at dksL_law_59 7 rfl rfl)
theorem dL_law_1576 : decode cL_law 1576 = .ok (.ireturn, 1) := dk_172 (dk_at dksL_law_59 8 rfl rfl)
theorem dL_law_1577 : decode cL_law 1577 = .ok (.goto 1743, 3) := dk_167 6 207 (dk_at dksL_law_59 9 rfl rfl)
theorem dL_law_1580 : decode cL_law 1580 = .ok (.aload_n 1, 1) := dk_43 (dk_at dksL_law_59 12 rfl rfl)
theorem dL_law_1581 : decode cL_law 1581 = .ok (.aload_n 0, 1) := dk_42 (dk_at dksL_law_59 13 rfl rfl)
theorem dL_law_1582 : decode cL_law 1582 = .ok (.iload 4, 2) := dk_21 4 (dk_at dksL_law_59 14 rfl rfl)
theorem dL_law_1584 : decode cL_law 1584 = .ok (.iconst 1, 1) := dk_4 (dk_at dksL_law_59 16 rfl rfl)
theorem dL_law_1585 : decode cL_law 1585 = .ok (.iadd, 1) := dk_96 (dk_at dksL_law_59 17 rfl rfl)
theorem dL_law_1586 : decode cL_law 1586 = .ok (.iaload, 1) := dk_46 (dk_at dksL_law_59 18 rfl rfl)
theorem dL_law_1587 : decode cL_law 1587 = .ok (.aload_n 3, 1) := dk_45 (dk_at dksL_law_59 19 rfl rfl)
theorem dL_law_1588 : decode cL_law 1588 = .ok (.invokestatic 245, 3) := dk_184 0 245 (dk_at dksL_law_59 20 rfl rfl)
theorem dL_law_1591 : decode cL_law 1591 = .ok (.istore 5, 2) := dk_54 5 (dk_at dksL_law_60 0 rfl rfl)
theorem dL_law_1593 : decode cL_law 1593 = .ok (.aload_n 2, 1) := dk_44 (dk_at dksL_law_60 2 rfl rfl)
theorem dL_law_1594 : decode cL_law 1594 = .ok (.aload_n 0, 1) := dk_42 (dk_at dksL_law_60 3 rfl rfl)
theorem dL_law_1595 : decode cL_law 1595 = .ok (.iload 4, 2) := dk_21 4 (dk_at dksL_law_60 4 rfl rfl)
theorem dL_law_1597 : decode cL_law 1597 = .ok (.iconst 1, 1) := dk_4 (dk_at dksL_law_60 6 rfl rfl)
theorem dL_law_1598 : decode cL_law 1598 = .ok (.iadd, 1) := dk_96 (dk_at dksL_law_60 7 rfl rfl)
theorem dL_law_1599 : decode cL_law 1599 = .ok (.iaload, 1) := dk_46 (dk_at dksL_law_60 8 rfl rfl)
theorem dL_law_1600 : decode cL_law 1600 = .ok (.invokevirtual 247, 3) := dk_182 0 247 (dk_at dksL_law_60 9 rfl rfl)
theorem dL_law_1603 : decode cL_law 1603 = .ok (.istore 6, 2) := dk_54 6 (dk_at dksL_law_60 12 rfl rfl)
theorem dL_law_1605 : decode cL_law 1605 = .ok (.aload_n 2, 1) := dk_44 (dk_at dksL_law_60 14 rfl rfl)
theorem dL_law_1606 : decode cL_law 1606 = .ok (.invokevirtual 173, 3) := dk_182 0 173 (dk_at dksL_law_60 15 rfl rfl)
theorem dL_law_1609 : decode cL_law 1609 = .ok (.iload 5, 2) := dk_21 5 (dk_at dksL_law_60 18 rfl rfl)
theorem dL_law_1611 : decode cL_law 1611 = .ok (.if_icmp .eq 5, 3) := dk_159 0 5 (dk_at dksL_law_60 20 rfl rfl)
theorem dL_law_1614 : decode cL_law 1614 = .ok (.iconst 0, 1) := dk_3 (dk_at dksL_law_60 23 rfl rfl)
theorem dL_law_1615 : decode cL_law 1615 = .ok (.ireturn, 1) := dk_172 (dk_at dksL_law_61 0 rfl rfl)
theorem dL_law_1616 : decode cL_law 1616 = .ok (.iload 5, 2) := dk_21 5 (dk_at dksL_law_61 1 rfl rfl)
theorem dL_law_1618 : decode cL_law 1618 = .ok (.ifCond .ne 22, 3) := dk_154 0 22 (dk_at dksL_law_61 3 rfl rfl)
theorem dL_law_1621 : decode cL_law 1621 = .ok (.aload_n 3, 1) := dk_45 (dk_at dksL_law_61 6 rfl rfl)
theorem dL_law_1622 : decode cL_law 1622 = .ok (.iconst 0, 1) := dk_3 (dk_at dksL_law_61 7 rfl rfl)
theorem dL_law_1623 : decode cL_law 1623 = .ok (.laload, 1) := dk_47 (dk_at dksL_law_61 8 rfl rfl)
theorem dL_law_1624 : decode cL_law 1624 = .ok (.iload 6, 2) := dk_21 6 (dk_at dksL_law_61 9 rfl rfl)
theorem dL_law_1626 : decode cL_law 1626 = .ok (.ifCond .eq 7, 3) := dk_153 0 7 (dk_at dksL_law_61 11 rfl rfl)
theorem dL_law_1629 : decode cL_law 1629 = .ok (.lconst 1, 1) := dk_10 (dk_at dksL_law_61 14 rfl rfl)
theorem dL_law_1630 : decode cL_law 1630 = .ok (.goto 4, 3) := dk_167 0 4 (dk_at dksL_law_61 15 rfl rfl)
theorem dL_law_1633 : decode cL_law 1633 = .ok (.lconst 0, 1) := dk_9 (dk_at dksL_law_61 18 rfl rfl)
theorem dL_law_1634 : decode cL_law 1634 = .ok (.lcmp, 1) := dk_148 (dk_at dksL_law_61 19 rfl rfl)
theorem dL_law_1635 : decode cL_law 1635 = .ok (.ifCond .eq 5, 3) := dk_153 0 5 (dk_at dksL_law_61 20 rfl rfl)
theorem dL_law_1638 : decode cL_law 1638 = .ok (.iconst 0, 1) := dk_3 (dk_at dksL_law_61 23 rfl rfl)
theorem dL_law_1639 : decode cL_law 1639 = .ok (.ireturn, 1) := dk_172 (dk_at dksL_law_62 0 rfl rfl)
theorem dL_law_1640 : decode cL_law 1640 = .ok (.goto 1680, 3) := dk_167 6 144 (dk_at dksL_law_62 1 rfl rfl)
theorem dL_law_1643 : decode cL_law 1643 = .ok (.aload_n 1, 1) := dk_43 (dk_at dksL_law_62 4 rfl rfl)
theorem dL_law_1644 : decode cL_law 1644 = .ok (.aload_n 0, 1) := dk_42 (dk_at dksL_law_62 5 rfl rfl)
theorem dL_law_1645 : decode cL_law 1645 = .ok (.iload 4, 2) := dk_21 4 (dk_at dksL_law_62 6 rfl rfl)
theorem dL_law_1647 : decode cL_law 1647 = .ok (.iconst 1, 1) := dk_4 (dk_at dksL_law_62 8 rfl rfl)
theorem dL_law_1648 : decode cL_law 1648 = .ok (.iadd, 1) := dk_96 (dk_at dksL_law_62 9 rfl rfl)
theorem dL_law_1649 : decode cL_law 1649 = .ok (.iaload, 1) := dk_46 (dk_at dksL_law_62 10 rfl rfl)
theorem dL_law_1650 : decode cL_law 1650 = .ok (.aload_n 0, 1) := dk_42 (dk_at dksL_law_62 11 rfl rfl)
theorem dL_law_1651 : decode cL_law 1651 = .ok (.iload 4, 2) := dk_21 4 (dk_at dksL_law_62 12 rfl rfl)
theorem dL_law_1653 : decode cL_law 1653 = .ok (.iconst 2, 1) := dk_5 (dk_at dksL_law_62 14 rfl rfl)
theorem dL_law_1654 : decode cL_law 1654 = .ok (.iadd, 1) := dk_96 (dk_at dksL_law_62 15 rfl rfl)
theorem dL_law_1655 : decode cL_law 1655 = .ok (.iaload, 1) := dk_46 (dk_at dksL_law_62 16 rfl rfl)
theorem dL_law_1656 : decode cL_law 1656 = .ok (.aload_n 3, 1) := dk_45 (dk_at dksL_law_62 17 rfl rfl)
theorem dL_law_1657 : decode cL_law 1657 = .ok (.invokestatic 248, 3) := dk_184 0 248 (dk_at dksL_law_62 18 rfl rfl)
theorem dL_law_1660 : decode cL_law 1660 = .ok (.istore 5, 2) := dk_54 5 (dk_at dksL_law_62 21 rfl rfl)
theorem dL_law_1662 : decode cL_law 1662 = .ok (.aload_n 2, 1) := dk_44 (dk_at dksL_law_62 23 rfl rfl)
theorem dL_law_1663 : decode cL_law 1663 = .ok (.aload_n 0, 1) := dk_42 (dk_at dksL_law_63 0 rfl rfl)
theorem dL_law_1664 : decode cL_law 1664 = .ok (.iload 4, 2) := dk_21 4 (dk_at dksL_law_63 1 rfl rfl)
theorem dL_law_1666 : decode cL_law 1666 = .ok (.iconst 1, 1) := dk_4 (dk_at dksL_law_63 3 rfl rfl)
theorem dL_law_1667 : decode cL_law 1667 = .ok (.iadd, 1) := dk_96 (dk_at dksL_law_63 4 rfl rfl)
theorem dL_law_1668 : decode cL_law 1668 = .ok (.iaload, 1) := dk_46 (dk_at dksL_law_63 5 rfl rfl)
theorem dL_law_1669 : decode cL_law 1669 = .ok (.aload_n 0, 1) := dk_42 (dk_at dksL_law_63 6 rfl rfl)
theorem dL_law_1670 : decode cL_law 1670 = .ok (.iload 4, 2) := dk_21 4 (dk_at dksL_law_63 7 rfl rfl)
theorem dL_law_1672 : decode cL_law 1672 = .ok (.iconst 2, 1) := dk_5 (dk_at dksL_law_63 9 rfl rfl)
theorem dL_law_1673 : decode cL_law 1673 = .ok (.iadd, 1) := dk_96 (dk_at dksL_law_63 10 rfl rfl)
theorem dL_law_1674 : decode cL_law 1674 = .ok (.iaload, 1) := dk_46 (dk_at dksL_law_63 11 rfl rfl)
theorem dL_law_1675 : decode cL_law 1675 = .ok (.invokevirtual 250, 3) := dk_182 0 250 (dk_at dksL_law_63 12 rfl rfl)
theorem dL_law_1678 : decode cL_law 1678 = .ok (.istore 6, 2) := dk_54 6 (dk_at dksL_law_63 15 rfl rfl)
theorem dL_law_1680 : decode cL_law 1680 = .ok (.aload_n 2, 1) := dk_44 (dk_at dksL_law_63 17 rfl rfl)
theorem dL_law_1681 : decode cL_law 1681 = .ok (.invokevirtual 173, 3) := dk_182 0 173 (dk_at dksL_law_63 18 rfl rfl)
theorem dL_law_1684 : decode cL_law 1684 = .ok (.iload 5, 2) := dk_21 5 (dk_at dksL_law_63 21 rfl rfl)
theorem dL_law_1686 : decode cL_law 1686 = .ok (.if_icmp .eq 5, 3) := dk_159 0 5 (dk_at dksL_law_64 0 rfl rfl)
theorem dL_law_1689 : decode cL_law 1689 = .ok (.iconst 0, 1) := dk_3 (dk_at dksL_law_64 3 rfl rfl)
theorem dL_law_1690 : decode cL_law 1690 = .ok (.ireturn, 1) := dk_172 (dk_at dksL_law_64 4 rfl rfl)
theorem dL_law_1691 : decode cL_law 1691 = .ok (.iload 5, 2) := dk_21 5 (dk_at dksL_law_64 5 rfl rfl)
theorem dL_law_1693 : decode cL_law 1693 = .ok (.ifCond .ne 15, 3) := dk_154 0 15 (dk_at dksL_law_64 7 rfl rfl)
theorem dL_law_1696 : decode cL_law 1696 = .ok (.aload_n 3, 1) := dk_45 (dk_at dksL_law_64 10 rfl rfl)
theorem dL_law_1697 : decode cL_law 1697 = .ok (.iconst 0, 1) := dk_3 (dk_at dksL_law_64 11 rfl rfl)
theorem dL_law_1698 : decode cL_law 1698 = .ok (.laload, 1) := dk_47 (dk_at dksL_law_64 12 rfl rfl)
theorem dL_law_1699 : decode cL_law 1699 = .ok (.iload 6, 2) := dk_21 6 (dk_at dksL_law_64 13 rfl rfl)
theorem dL_law_1701 : decode cL_law 1701 = .ok (.i2l, 1) := dk_133 (dk_at dksL_law_64 15 rfl rfl)
theorem dL_law_1702 : decode cL_law 1702 = .ok (.lcmp, 1) := dk_148 (dk_at dksL_law_64 16 rfl rfl)
theorem dL_law_1703 : decode cL_law 1703 = .ok (.ifCond .eq 5, 3) := dk_153 0 5 (dk_at dksL_law_64 17 rfl rfl)
theorem dL_law_1706 : decode cL_law 1706 = .ok (.iconst 0, 1) := dk_3 (dk_at dksL_law_64 20 rfl rfl)
theorem dL_law_1707 : decode cL_law 1707 = .ok (.ireturn, 1) := dk_172 (dk_at dksL_law_64 21 rfl rfl)
theorem dL_law_1708 : decode cL_law 1708 = .ok (.goto 1612, 3) := dk_167 6 76 (dk_at dksL_law_65 0 rfl rfl)
theorem dL_law_1711 : decode cL_law 1711 = .ok (.aload_n 1, 1) := dk_43 (dk_at dksL_law_65 3 rfl rfl)
theorem dL_law_1712 : decode cL_law 1712 = .ok (.aload_n 0, 1) := dk_42 (dk_at dksL_law_65 4 rfl rfl)
theorem dL_law_1713 : decode cL_law 1713 = .ok (.iload 4, 2) := dk_21 4 (dk_at dksL_law_65 5 rfl rfl)
theorem dL_law_1715 : decode cL_law 1715 = .ok (.iconst 1, 1) := dk_4 (dk_at dksL_law_65 7 rfl rfl)
theorem dL_law_1716 : decode cL_law 1716 = .ok (.iadd, 1) := dk_96 (dk_at dksL_law_65 8 rfl rfl)
theorem dL_law_1717 : decode cL_law 1717 = .ok (.iaload, 1) := dk_46 (dk_at dksL_law_65 9 rfl rfl)
theorem dL_law_1718 : decode cL_law 1718 = .ok (.aload_n 0, 1) := dk_42 (dk_at dksL_law_65 10 rfl rfl)
theorem dL_law_1719 : decode cL_law 1719 = .ok (.iload 4, 2) := dk_21 4 (dk_at dksL_law_65 11 rfl rfl)
theorem dL_law_1721 : decode cL_law 1721 = .ok (.iconst 2, 1) := dk_5 (dk_at dksL_law_65 13 rfl rfl)
theorem dL_law_1722 : decode cL_law 1722 = .ok (.iadd, 1) := dk_96 (dk_at dksL_law_65 14 rfl rfl)
theorem dL_law_1723 : decode cL_law 1723 = .ok (.iaload, 1) := dk_46 (dk_at dksL_law_65 15 rfl rfl)
theorem dL_law_1724 : decode cL_law 1724 = .ok (.aload_n 0, 1) := dk_42 (dk_at dksL_law_65 16 rfl rfl)
theorem dL_law_1725 : decode cL_law 1725 = .ok (.iload 4, 2) := dk_21 4 (dk_at dksL_law_65 17 rfl rfl)
theorem dL_law_1727 : decode cL_law 1727 = .ok (.iconst 3, 1) := dk_6 (dk_at dksL_law_65 19 rfl rfl)
theorem dL_law_1728 : decode cL_law 1728 = .ok (.iadd, 1) := dk_96 (dk_at dksL_law_65 20 rfl rfl)
theorem dL_law_1729 : decode cL_law 1729 = .ok (.iaload, 1) := dk_46 (dk_at dksL_law_65 21 rfl rfl)
theorem dL_law_1730 : decode cL_law 1730 = .ok (.aload_n 3, 1) := dk_45 (dk_at dksL_law_65 22 rfl rfl)
theorem dL_law_1731 : decode cL_law 1731 = .ok (.invokestatic 251, 3) := dk_184 0 251 (dk_at dksL_law_66 0 rfl rfl)
theorem dL_law_1734 : decode cL_law 1734 = .ok (.istore 5, 2) := dk_54 5 (dk_at dksL_law_66 3 rfl rfl)
theorem dL_law_1736 : decode cL_law 1736 = .ok (.aload_n 2, 1) := dk_44 (dk_at dksL_law_66 5 rfl rfl)
theorem dL_law_1737 : decode cL_law 1737 = .ok (.aload_n 0, 1) := dk_42 (dk_at dksL_law_66 6 rfl rfl)
theorem dL_law_1738 : decode cL_law 1738 = .ok (.iload 4, 2) := dk_21 4 (dk_at dksL_law_66 7 rfl rfl)
theorem dL_law_1740 : decode cL_law 1740 = .ok (.iconst 1, 1) := dk_4 (dk_at dksL_law_66 9 rfl rfl)
theorem dL_law_1741 : decode cL_law 1741 = .ok (.iadd, 1) := dk_96 (dk_at dksL_law_66 10 rfl rfl)
theorem dL_law_1742 : decode cL_law 1742 = .ok (.iaload, 1) := dk_46 (dk_at dksL_law_66 11 rfl rfl)
theorem dL_law_1743 : decode cL_law 1743 = .ok (.aload_n 0, 1) := dk_42 (dk_at dksL_law_66 12 rfl rfl)
theorem dL_law_1744 : decode cL_law 1744 = .ok (.iload 4, 2) := dk_21 4 (dk_at dksL_law_66 13 rfl rfl)
theorem dL_law_1746 : decode cL_law 1746 = .ok (.iconst 2, 1) := dk_5 (dk_at dksL_law_66 15 rfl rfl)
theorem dL_law_1747 : decode cL_law 1747 = .ok (.iadd, 1) := dk_96 (dk_at dksL_law_66 16 rfl rfl)
theorem dL_law_1748 : decode cL_law 1748 = .ok (.iaload, 1) := dk_46 (dk_at dksL_law_66 17 rfl rfl)
theorem dL_law_1749 : decode cL_law 1749 = .ok (.aload_n 0, 1) := dk_42 (dk_at dksL_law_66 18 rfl rfl)
theorem dL_law_1750 : decode cL_law 1750 = .ok (.iload 4, 2) := dk_21 4 (dk_at dksL_law_66 19 rfl rfl)
theorem dL_law_1752 : decode cL_law 1752 = .ok (.iconst 3, 1) := dk_6 (dk_at dksL_law_66 21 rfl rfl)
theorem dL_law_1753 : decode cL_law 1753 = .ok (.iadd, 1) := dk_96 (dk_at dksL_law_66 22 rfl rfl)
theorem dL_law_1754 : decode cL_law 1754 = .ok (.iaload, 1) := dk_46 (dk_at dksL_law_66 23 rfl rfl)
theorem dL_law_1755 : decode cL_law 1755 = .ok (.invokevirtual 253, 3) := dk_182 0 253 (dk_at dksL_law_67 0 rfl rfl)
theorem dL_law_1758 : decode cL_law 1758 = .ok (.istore 6, 2) := dk_54 6 (dk_at dksL_law_67 3 rfl rfl)
theorem dL_law_1760 : decode cL_law 1760 = .ok (.aload_n 2, 1) := dk_44 (dk_at dksL_law_67 5 rfl rfl)
theorem dL_law_1761 : decode cL_law 1761 = .ok (.invokevirtual 173, 3) := dk_182 0 173 (dk_at dksL_law_67 6 rfl rfl)
theorem dL_law_1764 : decode cL_law 1764 = .ok (.iload 5, 2) := dk_21 5 (dk_at dksL_law_67 9 rfl rfl)
theorem dL_law_1766 : decode cL_law 1766 = .ok (.if_icmp .eq 5, 3) := dk_159 0 5 (dk_at dksL_law_67 11 rfl rfl)
theorem dL_law_1769 : decode cL_law 1769 = .ok (.iconst 0, 1) := dk_3 (dk_at dksL_law_67 14 rfl rfl)
theorem dL_law_1770 : decode cL_law 1770 = .ok (.ireturn, 1) := dk_172 (dk_at dksL_law_67 15 rfl rfl)
theorem dL_law_1771 : decode cL_law 1771 = .ok (.iload 5, 2) := dk_21 5 (dk_at dksL_law_67 16 rfl rfl)
theorem dL_law_1773 : decode cL_law 1773 = .ok (.ifCond .ne 15, 3) := dk_154 0 15 (dk_at dksL_law_67 18 rfl rfl)
theorem dL_law_1776 : decode cL_law 1776 = .ok (.aload_n 3, 1) := dk_45 (dk_at dksL_law_67 21 rfl rfl)
theorem dL_law_1777 : decode cL_law 1777 = .ok (.iconst 0, 1) := dk_3 (dk_at dksL_law_67 22 rfl rfl)
theorem dL_law_1778 : decode cL_law 1778 = .ok (.laload, 1) := dk_47 (dk_at dksL_law_67 23 rfl rfl)
theorem dL_law_1779 : decode cL_law 1779 = .ok (.iload 6, 2) := dk_21 6 (dk_at dksL_law_68 0 rfl rfl)
theorem dL_law_1781 : decode cL_law 1781 = .ok (.i2l, 1) := dk_133 (dk_at dksL_law_68 2 rfl rfl)
theorem dL_law_1782 : decode cL_law 1782 = .ok (.lcmp, 1) := dk_148 (dk_at dksL_law_68 3 rfl rfl)
theorem dL_law_1783 : decode cL_law 1783 = .ok (.ifCond .eq 5, 3) := dk_153 0 5 (dk_at dksL_law_68 4 rfl rfl)
theorem dL_law_1786 : decode cL_law 1786 = .ok (.iconst 0, 1) := dk_3 (dk_at dksL_law_68 7 rfl rfl)
theorem dL_law_1787 : decode cL_law 1787 = .ok (.ireturn, 1) := dk_172 (dk_at dksL_law_68 8 rfl rfl)
theorem dL_law_1788 : decode cL_law 1788 = .ok (.goto 1532, 3) := dk_167 5 252 (dk_at dksL_law_68 9 rfl rfl)
theorem dL_law_1791 : decode cL_law 1791 = .ok (.aload_n 1, 1) := dk_43 (dk_at dksL_law_68 12 rfl rfl)
theorem dL_law_1792 : decode cL_law 1792 = .ok (.aload_n 0, 1) := dk_42 (dk_at dksL_law_68 13 rfl rfl)
theorem dL_law_1793 : decode cL_law 1793 = .ok (.iload 4, 2) := dk_21 4 (dk_at dksL_law_68 14 rfl rfl)
theorem dL_law_1795 : decode cL_law 1795 = .ok (.iconst 1, 1) := dk_4 (dk_at dksL_law_68 16 rfl rfl)
theorem dL_law_1796 : decode cL_law 1796 = .ok (.iadd, 1) := dk_96 (dk_at dksL_law_68 17 rfl rfl)
theorem dL_law_1797 : decode cL_law 1797 = .ok (.iaload, 1) := dk_46 (dk_at dksL_law_68 18 rfl rfl)
theorem dL_law_1798 : decode cL_law 1798 = .ok (.aload_n 0, 1) := dk_42 (dk_at dksL_law_68 19 rfl rfl)
theorem dL_law_1799 : decode cL_law 1799 = .ok (.iload 4, 2) := dk_21 4 (dk_at dksL_law_68 20 rfl rfl)
theorem dL_law_1801 : decode cL_law 1801 = .ok (.iconst 2, 1) := dk_5 (dk_at dksL_law_68 22 rfl rfl)
theorem dL_law_1802 : decode cL_law 1802 = .ok (.iadd, 1) := dk_96 (dk_at dksL_law_68 23 rfl rfl)
theorem dL_law_1803 : decode cL_law 1803 = .ok (.iaload, 1) := dk_46 (dk_at dksL_law_69 0 rfl rfl)
theorem dL_law_1804 : decode cL_law 1804 = .ok (.aload_n 3, 1) := dk_45 (dk_at dksL_law_69 1 rfl rfl)
theorem dL_law_1805 : decode cL_law 1805 = .ok (.invokestatic 254, 3) := dk_184 0 254 (dk_at dksL_law_69 2 rfl rfl)
theorem dL_law_1808 : decode cL_law 1808 = .ok (.istore 5, 2) := dk_54 5 (dk_at dksL_law_69 5 rfl rfl)
theorem dL_law_1810 : decode cL_law 1810 = .ok (.aload_n 2, 1) := dk_44 (dk_at dksL_law_69 7 rfl rfl)
theorem dL_law_1811 : decode cL_law 1811 = .ok (.aload_n 0, 1) := dk_42 (dk_at dksL_law_69 8 rfl rfl)
theorem dL_law_1812 : decode cL_law 1812 = .ok (.iload 4, 2) := dk_21 4 (dk_at dksL_law_69 9 rfl rfl)
theorem dL_law_1814 : decode cL_law 1814 = .ok (.iconst 1, 1) := dk_4 (dk_at dksL_law_69 11 rfl rfl)
theorem dL_law_1815 : decode cL_law 1815 = .ok (.iadd, 1) := dk_96 (dk_at dksL_law_69 12 rfl rfl)
theorem dL_law_1816 : decode cL_law 1816 = .ok (.iaload, 1) := dk_46 (dk_at dksL_law_69 13 rfl rfl)
theorem dL_law_1817 : decode cL_law 1817 = .ok (.aload_n 0, 1) := dk_42 (dk_at dksL_law_69 14 rfl rfl)
theorem dL_law_1818 : decode cL_law 1818 = .ok (.iload 4, 2) := dk_21 4 (dk_at dksL_law_69 15 rfl rfl)
theorem dL_law_1820 : decode cL_law 1820 = .ok (.iconst 2, 1) := dk_5 (dk_at dksL_law_69 17 rfl rfl)
theorem dL_law_1821 : decode cL_law 1821 = .ok (.iadd, 1) := dk_96 (dk_at dksL_law_69 18 rfl rfl)
theorem dL_law_1822 : decode cL_law 1822 = .ok (.iaload, 1) := dk_46 (dk_at dksL_law_69 19 rfl rfl)
theorem dL_law_1823 : decode cL_law 1823 = .ok (.invokevirtual 256, 3) := dk_182 1 0 (dk_at dksL_law_69 20 rfl rfl)
theorem dL_law_1826 : decode cL_law 1826 = .ok (.istore 6, 2) := dk_54 6 (dk_at dksL_law_70 0 rfl rfl)
theorem dL_law_1828 : decode cL_law 1828 = .ok (.aload_n 2, 1) := dk_44 (dk_at dksL_law_70 2 rfl rfl)
theorem dL_law_1829 : decode cL_law 1829 = .ok (.invokevirtual 173, 3) := dk_182 0 173 (dk_at dksL_law_70 3 rfl rfl)
theorem dL_law_1832 : decode cL_law 1832 = .ok (.iload 5, 2) := dk_21 5 (dk_at dksL_law_70 6 rfl rfl)
theorem dL_law_1834 : decode cL_law 1834 = .ok (.if_icmp .eq 5, 3) := dk_159 0 5 (dk_at dksL_law_70 8 rfl rfl)
theorem dL_law_1837 : decode cL_law 1837 = .ok (.iconst 0, 1) := dk_3 (dk_at dksL_law_70 11 rfl rfl)
theorem dL_law_1838 : decode cL_law 1838 = .ok (.ireturn, 1) := dk_172 (dk_at dksL_law_70 12 rfl rfl)
theorem dL_law_1839 : decode cL_law 1839 = .ok (.iload 5, 2) := dk_21 5 (dk_at dksL_law_70 13 rfl rfl)
theorem dL_law_1841 : decode cL_law 1841 = .ok (.ifCond .ne 15, 3) := dk_154 0 15 (dk_at dksL_law_70 15 rfl rfl)
theorem dL_law_1844 : decode cL_law 1844 = .ok (.aload_n 3, 1) := dk_45 (dk_at dksL_law_70 18 rfl rfl)
theorem dL_law_1845 : decode cL_law 1845 = .ok (.iconst 0, 1) := dk_3 (dk_at dksL_law_70 19 rfl rfl)
theorem dL_law_1846 : decode cL_law 1846 = .ok (.laload, 1) := dk_47 (dk_at dksL_law_70 20 rfl rfl)
theorem dL_law_1847 : decode cL_law 1847 = .ok (.iload 6, 2) := dk_21 6 (dk_at dksL_law_70 21 rfl rfl)
theorem dL_law_1849 : decode cL_law 1849 = .ok (.i2l, 1) := dk_133 (dk_at dksL_law_70 23 rfl rfl)
theorem dL_law_1850 : decode cL_law 1850 = .ok (.lcmp, 1) := dk_148 (dk_at dksL_law_71 0 rfl rfl)
theorem dL_law_1851 : decode cL_law 1851 = .ok (.ifCond .eq 5, 3) := dk_153 0 5 (dk_at dksL_law_71 1 rfl rfl)
theorem dL_law_1854 : decode cL_law 1854 = .ok (.iconst 0, 1) := dk_3 (dk_at dksL_law_71 4 rfl rfl)
theorem dL_law_1855 : decode cL_law 1855 = .ok (.ireturn, 1) := dk_172 (dk_at dksL_law_71 5 rfl rfl)
theorem dL_law_1856 : decode cL_law 1856 = .ok (.goto 1464, 3) := dk_167 5 184 (dk_at dksL_law_71 6 rfl rfl)
theorem dL_law_1859 : decode cL_law 1859 = .ok (.aload_n 1, 1) := dk_43 (dk_at dksL_law_71 9 rfl rfl)
theorem dL_law_1860 : decode cL_law 1860 = .ok (.aload_n 0, 1) := dk_42 (dk_at dksL_law_71 10 rfl rfl)
theorem dL_law_1861 : decode cL_law 1861 = .ok (.iload 4, 2) := dk_21 4 (dk_at dksL_law_71 11 rfl rfl)
theorem dL_law_1863 : decode cL_law 1863 = .ok (.iconst 1, 1) := dk_4 (dk_at dksL_law_71 13 rfl rfl)
theorem dL_law_1864 : decode cL_law 1864 = .ok (.iadd, 1) := dk_96 (dk_at dksL_law_71 14 rfl rfl)
theorem dL_law_1865 : decode cL_law 1865 = .ok (.iaload, 1) := dk_46 (dk_at dksL_law_71 15 rfl rfl)
theorem dL_law_1866 : decode cL_law 1866 = .ok (.aload_n 0, 1) := dk_42 (dk_at dksL_law_71 16 rfl rfl)
theorem dL_law_1867 : decode cL_law 1867 = .ok (.iload 4, 2) := dk_21 4 (dk_at dksL_law_71 17 rfl rfl)
theorem dL_law_1869 : decode cL_law 1869 = .ok (.iconst 2, 1) := dk_5 (dk_at dksL_law_71 19 rfl rfl)
theorem dL_law_1870 : decode cL_law 1870 = .ok (.iadd, 1) := dk_96 (dk_at dksL_law_71 20 rfl rfl)
theorem dL_law_1871 : decode cL_law 1871 = .ok (.iaload, 1) := dk_46 (dk_at dksL_law_71 21 rfl rfl)
theorem dL_law_1872 : decode cL_law 1872 = .ok (.aload_n 3, 1) := dk_45 (dk_at dksL_law_71 22 rfl rfl)
theorem dL_law_1873 : decode cL_law 1873 = .ok (.invokestatic 257, 3) := dk_184 1 1 (dk_at dksL_law_72 0 rfl rfl)
theorem dL_law_1876 : decode cL_law 1876 = .ok (.istore 5, 2) := dk_54 5 (dk_at dksL_law_72 3 rfl rfl)
theorem dL_law_1878 : decode cL_law 1878 = .ok (.aload_n 2, 1) := dk_44 (dk_at dksL_law_72 5 rfl rfl)
theorem dL_law_1879 : decode cL_law 1879 = .ok (.aload_n 0, 1) := dk_42 (dk_at dksL_law_72 6 rfl rfl)
theorem dL_law_1880 : decode cL_law 1880 = .ok (.iload 4, 2) := dk_21 4 (dk_at dksL_law_72 7 rfl rfl)
theorem dL_law_1882 : decode cL_law 1882 = .ok (.iconst 1, 1) := dk_4 (dk_at dksL_law_72 9 rfl rfl)
theorem dL_law_1883 : decode cL_law 1883 = .ok (.iadd, 1) := dk_96 (dk_at dksL_law_72 10 rfl rfl)
theorem dL_law_1884 : decode cL_law 1884 = .ok (.iaload, 1) := dk_46 (dk_at dksL_law_72 11 rfl rfl)
theorem dL_law_1885 : decode cL_law 1885 = .ok (.aload_n 0, 1) := dk_42 (dk_at dksL_law_72 12 rfl rfl)
theorem dL_law_1886 : decode cL_law 1886 = .ok (.iload 4, 2) := dk_21 4 (dk_at dksL_law_72 13 rfl rfl)
theorem dL_law_1888 : decode cL_law 1888 = .ok (.iconst 2, 1) := dk_5 (dk_at dksL_law_72 15 rfl rfl)
theorem dL_law_1889 : decode cL_law 1889 = .ok (.iadd, 1) := dk_96 (dk_at dksL_law_72 16 rfl rfl)
theorem dL_law_1890 : decode cL_law 1890 = .ok (.iaload, 1) := dk_46 (dk_at dksL_law_72 17 rfl rfl)
theorem dL_law_1891 : decode cL_law 1891 = .ok (.invokevirtual 259, 3) := dk_182 1 3 (dk_at dksL_law_72 18 rfl rfl)
theorem dL_law_1894 : decode cL_law 1894 = .ok (.istore 6, 2) := dk_54 6 (dk_at dksL_law_72 21 rfl rfl)
theorem dL_law_1896 : decode cL_law 1896 = .ok (.aload_n 2, 1) := dk_44 (dk_at dksL_law_72 23 rfl rfl)
theorem dL_law_1897 : decode cL_law 1897 = .ok (.invokevirtual 173, 3) := dk_182 0 173 (dk_at dksL_law_73 0 rfl rfl)
theorem dL_law_1900 : decode cL_law 1900 = .ok (.iload 5, 2) := dk_21 5 (dk_at dksL_law_73 3 rfl rfl)
theorem dL_law_1902 : decode cL_law 1902 = .ok (.if_icmp .eq 5, 3) := dk_159 0 5 (dk_at dksL_law_73 5 rfl rfl)
theorem dL_law_1905 : decode cL_law 1905 = .ok (.iconst 0, 1) := dk_3 (dk_at dksL_law_73 8 rfl rfl)
theorem dL_law_1906 : decode cL_law 1906 = .ok (.ireturn, 1) := dk_172 (dk_at dksL_law_73 9 rfl rfl)
theorem dL_law_1907 : decode cL_law 1907 = .ok (.iload 5, 2) := dk_21 5 (dk_at dksL_law_73 10 rfl rfl)
theorem dL_law_1909 : decode cL_law 1909 = .ok (.ifCond .ne 15, 3) := dk_154 0 15 (dk_at dksL_law_73 12 rfl rfl)
theorem dL_law_1912 : decode cL_law 1912 = .ok (.aload_n 3, 1) := dk_45 (dk_at dksL_law_73 15 rfl rfl)
theorem dL_law_1913 : decode cL_law 1913 = .ok (.iconst 0, 1) := dk_3 (dk_at dksL_law_73 16 rfl rfl)
theorem dL_law_1914 : decode cL_law 1914 = .ok (.laload, 1) := dk_47 (dk_at dksL_law_73 17 rfl rfl)
theorem dL_law_1915 : decode cL_law 1915 = .ok (.iload 6, 2) := dk_21 6 (dk_at dksL_law_73 18 rfl rfl)
theorem dL_law_1917 : decode cL_law 1917 = .ok (.i2l, 1) := dk_133 (dk_at dksL_law_73 20 rfl rfl)
theorem dL_law_1918 : decode cL_law 1918 = .ok (.lcmp, 1) := dk_148 (dk_at dksL_law_73 21 rfl rfl)
theorem dL_law_1919 : decode cL_law 1919 = .ok (.ifCond .eq 5, 3) := dk_153 0 5 (dk_at dksL_law_74 0 rfl rfl)
theorem dL_law_1922 : decode cL_law 1922 = .ok (.iconst 0, 1) := dk_3 (dk_at dksL_law_74 3 rfl rfl)
theorem dL_law_1923 : decode cL_law 1923 = .ok (.ireturn, 1) := dk_172 (dk_at dksL_law_74 4 rfl rfl)
theorem dL_law_1924 : decode cL_law 1924 = .ok (.goto 1396, 3) := dk_167 5 116 (dk_at dksL_law_74 5 rfl rfl)
theorem dL_law_1927 : decode cL_law 1927 = .ok (.aload_n 1, 1) := dk_43 (dk_at dksL_law_74 8 rfl rfl)
theorem dL_law_1928 : decode cL_law 1928 = .ok (.aload_n 0, 1) := dk_42 (dk_at dksL_law_74 9 rfl rfl)
theorem dL_law_1929 : decode cL_law 1929 = .ok (.iload 4, 2) := dk_21 4 (dk_at dksL_law_74 10 rfl rfl)
theorem dL_law_1931 : decode cL_law 1931 = .ok (.iconst 1, 1) := dk_4 (dk_at dksL_law_74 12 rfl rfl)
theorem dL_law_1932 : decode cL_law 1932 = .ok (.iadd, 1) := dk_96 (dk_at dksL_law_74 13 rfl rfl)
theorem dL_law_1933 : decode cL_law 1933 = .ok (.iaload, 1) := dk_46 (dk_at dksL_law_74 14 rfl rfl)
theorem dL_law_1934 : decode cL_law 1934 = .ok (.aload_n 0, 1) := dk_42 (dk_at dksL_law_74 15 rfl rfl)
theorem dL_law_1935 : decode cL_law 1935 = .ok (.iload 4, 2) := dk_21 4 (dk_at dksL_law_74 16 rfl rfl)
theorem dL_law_1937 : decode cL_law 1937 = .ok (.iconst 2, 1) := dk_5 (dk_at dksL_law_74 18 rfl rfl)
theorem dL_law_1938 : decode cL_law 1938 = .ok (.iadd, 1) := dk_96 (dk_at dksL_law_74 19 rfl rfl)
theorem dL_law_1939 : decode cL_law 1939 = .ok (.iaload, 1) := dk_46 (dk_at dksL_law_74 20 rfl rfl)
theorem dL_law_1940 : decode cL_law 1940 = .ok (.aload_n 0, 1) := dk_42 (dk_at dksL_law_74 21 rfl rfl)
theorem dL_law_1941 : decode cL_law 1941 = .ok (.iload 4, 2) := dk_21 4 (dk_at dksL_law_74 22 rfl rfl)
theorem dL_law_1943 : decode cL_law 1943 = .ok (.iconst 3, 1) := dk_6 (dk_at dksL_law_75 0 rfl rfl)
theorem dL_law_1944 : decode cL_law 1944 = .ok (.iadd, 1) := dk_96 (dk_at dksL_law_75 1 rfl rfl)
theorem dL_law_1945 : decode cL_law 1945 = .ok (.iaload, 1) := dk_46 (dk_at dksL_law_75 2 rfl rfl)
theorem dL_law_1946 : decode cL_law 1946 = .ok (.aload_n 0, 1) := dk_42 (dk_at dksL_law_75 3 rfl rfl)
theorem dL_law_1947 : decode cL_law 1947 = .ok (.iload 4, 2) := dk_21 4 (dk_at dksL_law_75 4 rfl rfl)
theorem dL_law_1949 : decode cL_law 1949 = .ok (.iconst 4, 1) := dk_7 (dk_at dksL_law_75 6 rfl rfl)
theorem dL_law_1950 : decode cL_law 1950 = .ok (.iadd, 1) := dk_96 (dk_at dksL_law_75 7 rfl rfl)
theorem dL_law_1951 : decode cL_law 1951 = .ok (.iaload, 1) := dk_46 (dk_at dksL_law_75 8 rfl rfl)
theorem dL_law_1952 : decode cL_law 1952 = .ok (.aload_n 3, 1) := dk_45 (dk_at dksL_law_75 9 rfl rfl)
theorem dL_law_1953 : decode cL_law 1953 = .ok (.invokestatic 260, 3) := dk_184 1 4 (dk_at dksL_law_75 10 rfl rfl)
theorem dL_law_1956 : decode cL_law 1956 = .ok (.istore 5, 2) := dk_54 5 (dk_at dksL_law_75 13 rfl rfl)
theorem dL_law_1958 : decode cL_law 1958 = .ok (.aload_n 2, 1) := dk_44 (dk_at dksL_law_75 15 rfl rfl)
theorem dL_law_1959 : decode cL_law 1959 = .ok (.aload_n 0, 1) := dk_42 (dk_at dksL_law_75 16 rfl rfl)
theorem dL_law_1960 : decode cL_law 1960 = .ok (.iload 4, 2) := dk_21 4 (dk_at dksL_law_75 17 rfl rfl)
theorem dL_law_1962 : decode cL_law 1962 = .ok (.iconst 1, 1) := dk_4 (dk_at dksL_law_75 19 rfl rfl)
theorem dL_law_1963 : decode cL_law 1963 = .ok (.iadd, 1) := dk_96 (dk_at dksL_law_75 20 rfl rfl)
theorem dL_law_1964 : decode cL_law 1964 = .ok (.iaload, 1) := dk_46 (dk_at dksL_law_75 21 rfl rfl)
theorem dL_law_1965 : decode cL_law 1965 = .ok (.aload_n 0, 1) := dk_42 (dk_at dksL_law_75 22 rfl rfl)
theorem dL_law_1966 : decode cL_law 1966 = .ok (.iload 4, 2) := dk_21 4 (dk_at dksL_law_76 0 rfl rfl)
theorem dL_law_1968 : decode cL_law 1968 = .ok (.iconst 2, 1) := dk_5 (dk_at dksL_law_76 2 rfl rfl)
theorem dL_law_1969 : decode cL_law 1969 = .ok (.iadd, 1) := dk_96 (dk_at dksL_law_76 3 rfl rfl)
theorem dL_law_1970 : decode cL_law 1970 = .ok (.iaload, 1) := dk_46 (dk_at dksL_law_76 4 rfl rfl)
theorem dL_law_1971 : decode cL_law 1971 = .ok (.aload_n 0, 1) := dk_42 (dk_at dksL_law_76 5 rfl rfl)
theorem dL_law_1972 : decode cL_law 1972 = .ok (.iload 4, 2) := dk_21 4 (dk_at dksL_law_76 6 rfl rfl)
theorem dL_law_1974 : decode cL_law 1974 = .ok (.iconst 3, 1) := dk_6 (dk_at dksL_law_76 8 rfl rfl)
theorem dL_law_1975 : decode cL_law 1975 = .ok (.iadd, 1) := dk_96 (dk_at dksL_law_76 9 rfl rfl)
theorem dL_law_1976 : decode cL_law 1976 = .ok (.iaload, 1) := dk_46 (dk_at dksL_law_76 10 rfl rfl)
theorem dL_law_1977 : decode cL_law 1977 = .ok (.aload_n 0, 1) := dk_42 (dk_at dksL_law_76 11 rfl rfl)
theorem dL_law_1978 : decode cL_law 1978 = .ok (.iload 4, 2) := dk_21 4 (dk_at dksL_law_76 12 rfl rfl)
theorem dL_law_1980 : decode cL_law 1980 = .ok (.iconst 4, 1) := dk_7 (dk_at dksL_law_76 14 rfl rfl)
theorem dL_law_1981 : decode cL_law 1981 = .ok (.iadd, 1) := dk_96 (dk_at dksL_law_76 15 rfl rfl)
theorem dL_law_1982 : decode cL_law 1982 = .ok (.iaload, 1) := dk_46 (dk_at dksL_law_76 16 rfl rfl)
theorem dL_law_1983 : decode cL_law 1983 = .ok (.invokevirtual 263, 3) := dk_182 1 7 (dk_at dksL_law_76 17 rfl rfl)
theorem dL_law_1986 : decode cL_law 1986 = .ok (.istore 6, 2) := dk_54 6 (dk_at dksL_law_76 20 rfl rfl)
theorem dL_law_1988 : decode cL_law 1988 = .ok (.aload_n 2, 1) := dk_44 (dk_at dksL_law_76 22 rfl rfl)
theorem dL_law_1989 : decode cL_law 1989 = .ok (.invokevirtual 173, 3) := dk_182 0 173 (dk_at dksL_law_77 0 rfl rfl)
theorem dL_law_1992 : decode cL_law 1992 = .ok (.iload 5, 2) := dk_21 5 (dk_at dksL_law_77 3 rfl rfl)
theorem dL_law_1994 : decode cL_law 1994 = .ok (.if_icmp .eq 5, 3) := dk_159 0 5 (dk_at dksL_law_77 5 rfl rfl)
theorem dL_law_1997 : decode cL_law 1997 = .ok (.iconst 0, 1) := dk_3 (dk_at dksL_law_77 8 rfl rfl)
theorem dL_law_1998 : decode cL_law 1998 = .ok (.ireturn, 1) := dk_172 (dk_at dksL_law_77 9 rfl rfl)
theorem dL_law_1999 : decode cL_law 1999 = .ok (.iload 5, 2) := dk_21 5 (dk_at dksL_law_77 10 rfl rfl)
theorem dL_law_2001 : decode cL_law 2001 = .ok (.ifCond .ne 15, 3) := dk_154 0 15 (dk_at dksL_law_77 12 rfl rfl)
theorem dL_law_2004 : decode cL_law 2004 = .ok (.aload_n 3, 1) := dk_45 (dk_at dksL_law_77 15 rfl rfl)
theorem dL_law_2005 : decode cL_law 2005 = .ok (.iconst 0, 1) := dk_3 (dk_at dksL_law_77 16 rfl rfl)
theorem dL_law_2006 : decode cL_law 2006 = .ok (.laload, 1) := dk_47 (dk_at dksL_law_77 17 rfl rfl)
theorem dL_law_2007 : decode cL_law 2007 = .ok (.iload 6, 2) := dk_21 6 (dk_at dksL_law_77 18 rfl rfl)
theorem dL_law_2009 : decode cL_law 2009 = .ok (.i2l, 1) := dk_133 (dk_at dksL_law_77 20 rfl rfl)
theorem dL_law_2010 : decode cL_law 2010 = .ok (.lcmp, 1) := dk_148 (dk_at dksL_law_77 21 rfl rfl)
theorem dL_law_2011 : decode cL_law 2011 = .ok (.ifCond .eq 5, 3) := dk_153 0 5 (dk_at dksL_law_78 0 rfl rfl)
theorem dL_law_2014 : decode cL_law 2014 = .ok (.iconst 0, 1) := dk_3 (dk_at dksL_law_78 3 rfl rfl)
theorem dL_law_2015 : decode cL_law 2015 = .ok (.ireturn, 1) := dk_172 (dk_at dksL_law_78 4 rfl rfl)
theorem dL_law_2016 : decode cL_law 2016 = .ok (.goto 1304, 3) := dk_167 5 24 (dk_at dksL_law_78 5 rfl rfl)
theorem dL_law_2019 : decode cL_law 2019 = .ok (.aload_n 1, 1) := dk_43 (dk_at dksL_law_78 8 rfl rfl)
theorem dL_law_2020 : decode cL_law 2020 = .ok (.aload_n 0, 1) := dk_42 (dk_at dksL_law_78 9 rfl rfl)
theorem dL_law_2021 : decode cL_law 2021 = .ok (.iload 4, 2) := dk_21 4 (dk_at dksL_law_78 10 rfl rfl)
theorem dL_law_2023 : decode cL_law 2023 = .ok (.iconst 1, 1) := dk_4 (dk_at dksL_law_78 12 rfl rfl)
theorem dL_law_2024 : decode cL_law 2024 = .ok (.iadd, 1) := dk_96 (dk_at dksL_law_78 13 rfl rfl)
theorem dL_law_2025 : decode cL_law 2025 = .ok (.iaload, 1) := dk_46 (dk_at dksL_law_78 14 rfl rfl)
theorem dL_law_2026 : decode cL_law 2026 = .ok (.aload_n 3, 1) := dk_45 (dk_at dksL_law_78 15 rfl rfl)
theorem dL_law_2027 : decode cL_law 2027 = .ok (.invokestatic 264, 3) := dk_184 1 8 (dk_at dksL_law_78 16 rfl rfl)
theorem dL_law_2030 : decode cL_law 2030 = .ok (.istore 5, 2) := dk_54 5 (dk_at dksL_law_78 19 rfl rfl)
theorem dL_law_2032 : decode cL_law 2032 = .ok (.aload_n 2, 1) := dk_44 (dk_at dksL_law_78 21 rfl rfl)
theorem dL_law_2033 : decode cL_law 2033 = .ok (.aload_n 0, 1) := dk_42 (dk_at dksL_law_78 22 rfl rfl)
theorem dL_law_2034 : decode cL_law 2034 = .ok (.iload 4, 2) := dk_21 4 (dk_at dksL_law_79 0 rfl rfl)
theorem dL_law_2036 : decode cL_law 2036 = .ok (.iconst 1, 1) := dk_4 (dk_at dksL_law_79 2 rfl rfl)
theorem dL_law_2037 : decode cL_law 2037 = .ok (.iadd, 1) := dk_96 (dk_at dksL_law_79 3 rfl rfl)
theorem dL_law_2038 : decode cL_law 2038 = .ok (.iaload, 1) := dk_46 (dk_at dksL_law_79 4 rfl rfl)
theorem dL_law_2039 : decode cL_law 2039 = .ok (.invokevirtual 266, 3) := dk_182 1 10 (dk_at dksL_law_79 5 rfl rfl)
theorem dL_law_2042 : decode cL_law 2042 = .ok (.istore 6, 2) := dk_54 6 (dk_at dksL_law_79 8 rfl rfl)
theorem dL_law_2044 : decode cL_law 2044 = .ok (.aload_n 2, 1) := dk_44 (dk_at dksL_law_79 10 rfl rfl)
theorem dL_law_2045 : decode cL_law 2045 = .ok (.invokevirtual 173, 3) := dk_182 0 173 (dk_at dksL_law_79 11 rfl rfl)
theorem dL_law_2048 : decode cL_law 2048 = .ok (.iload 5, 2) := dk_21 5 (dk_at dksL_law_79 14 rfl rfl)
theorem dL_law_2050 : decode cL_law 2050 = .ok (.if_icmp .eq 5, 3) := dk_159 0 5 (dk_at dksL_law_79 16 rfl rfl)
theorem dL_law_2053 : decode cL_law 2053 = .ok (.iconst 0, 1) := dk_3 (dk_at dksL_law_79 19 rfl rfl)
theorem dL_law_2054 : decode cL_law 2054 = .ok (.ireturn, 1) := dk_172 (dk_at dksL_law_79 20 rfl rfl)
theorem dL_law_2055 : decode cL_law 2055 = .ok (.iload 5, 2) := dk_21 5 (dk_at dksL_law_79 21 rfl rfl)
theorem dL_law_2057 : decode cL_law 2057 = .ok (.ifCond .ne 15, 3) := dk_154 0 15 (dk_at dksL_law_80 0 rfl rfl)
theorem dL_law_2060 : decode cL_law 2060 = .ok (.aload_n 3, 1) := dk_45 (dk_at dksL_law_80 3 rfl rfl)
theorem dL_law_2061 : decode cL_law 2061 = .ok (.iconst 0, 1) := dk_3 (dk_at dksL_law_80 4 rfl rfl)
theorem dL_law_2062 : decode cL_law 2062 = .ok (.laload, 1) := dk_47 (dk_at dksL_law_80 5 rfl rfl)
theorem dL_law_2063 : decode cL_law 2063 = .ok (.iload 6, 2) := dk_21 6 (dk_at dksL_law_80 6 rfl rfl)
theorem dL_law_2065 : decode cL_law 2065 = .ok (.i2l, 1) := dk_133 (dk_at dksL_law_80 8 rfl rfl)
theorem dL_law_2066 : decode cL_law 2066 = .ok (.lcmp, 1) := dk_148 (dk_at dksL_law_80 9 rfl rfl)
theorem dL_law_2067 : decode cL_law 2067 = .ok (.ifCond .eq 5, 3) := dk_153 0 5 (dk_at dksL_law_80 10 rfl rfl)
theorem dL_law_2070 : decode cL_law 2070 = .ok (.iconst 0, 1) := dk_3 (dk_at dksL_law_80 13 rfl rfl)
theorem dL_law_2071 : decode cL_law 2071 = .ok (.ireturn, 1) := dk_172 (dk_at dksL_law_80 14 rfl rfl)
theorem dL_law_2072 : decode cL_law 2072 = .ok (.goto 1248, 3) := dk_167 4 224 (dk_at dksL_law_80 15 rfl rfl)
theorem dL_law_2075 : decode cL_law 2075 = .ok (.aload_n 1, 1) := dk_43 (dk_at dksL_law_80 18 rfl rfl)
theorem dL_law_2076 : decode cL_law 2076 = .ok (.aload_n 0, 1) := dk_42 (dk_at dksL_law_80 19 rfl rfl)
theorem dL_law_2077 : decode cL_law 2077 = .ok (.iload 4, 2) := dk_21 4 (dk_at dksL_law_80 20 rfl rfl)
theorem dL_law_2079 : decode cL_law 2079 = .ok (.iconst 1, 1) := dk_4 (dk_at dksL_law_80 22 rfl rfl)
theorem dL_law_2080 : decode cL_law 2080 = .ok (.iadd, 1) := dk_96 (dk_at dksL_law_80 23 rfl rfl)
theorem dL_law_2081 : decode cL_law 2081 = .ok (.iaload, 1) := dk_46 (dk_at dksL_law_81 0 rfl rfl)
theorem dL_law_2082 : decode cL_law 2082 = .ok (.aload_n 0, 1) := dk_42 (dk_at dksL_law_81 1 rfl rfl)
theorem dL_law_2083 : decode cL_law 2083 = .ok (.iload 4, 2) := dk_21 4 (dk_at dksL_law_81 2 rfl rfl)
theorem dL_law_2085 : decode cL_law 2085 = .ok (.iconst 2, 1) := dk_5 (dk_at dksL_law_81 4 rfl rfl)
theorem dL_law_2086 : decode cL_law 2086 = .ok (.iadd, 1) := dk_96 (dk_at dksL_law_81 5 rfl rfl)
theorem dL_law_2087 : decode cL_law 2087 = .ok (.iaload, 1) := dk_46 (dk_at dksL_law_81 6 rfl rfl)
theorem dL_law_2088 : decode cL_law 2088 = .ok (.aload_n 3, 1) := dk_45 (dk_at dksL_law_81 7 rfl rfl)
theorem dL_law_2089 : decode cL_law 2089 = .ok (.invokestatic 267, 3) := dk_184 1 11 (dk_at dksL_law_81 8 rfl rfl)
theorem dL_law_2092 : decode cL_law 2092 = .ok (.istore 5, 2) := dk_54 5 (dk_at dksL_law_81 11 rfl rfl)
theorem dL_law_2094 : decode cL_law 2094 = .ok (.aload_n 2, 1) := dk_44 (dk_at dksL_law_81 13 rfl rfl)
theorem dL_law_2095 : decode cL_law 2095 = .ok (.aload_n 0, 1) := dk_42 (dk_at dksL_law_81 14 rfl rfl)
theorem dL_law_2096 : decode cL_law 2096 = .ok (.iload 4, 2) := dk_21 4 (dk_at dksL_law_81 15 rfl rfl)
theorem dL_law_2098 : decode cL_law 2098 = .ok (.iconst 1, 1) := dk_4 (dk_at dksL_law_81 17 rfl rfl)
theorem dL_law_2099 : decode cL_law 2099 = .ok (.iadd, 1) := dk_96 (dk_at dksL_law_81 18 rfl rfl)
theorem dL_law_2100 : decode cL_law 2100 = .ok (.iaload, 1) := dk_46 (dk_at dksL_law_81 19 rfl rfl)
theorem dL_law_2101 : decode cL_law 2101 = .ok (.aload_n 0, 1) := dk_42 (dk_at dksL_law_81 20 rfl rfl)
theorem dL_law_2102 : decode cL_law 2102 = .ok (.iload 4, 2) := dk_21 4 (dk_at dksL_law_81 21 rfl rfl)
theorem dL_law_2104 : decode cL_law 2104 = .ok (.iconst 2, 1) := dk_5 (dk_at dksL_law_81 23 rfl rfl)
theorem dL_law_2105 : decode cL_law 2105 = .ok (.iadd, 1) := dk_96 (dk_at dksL_law_82 0 rfl rfl)
theorem dL_law_2106 : decode cL_law 2106 = .ok (.iaload, 1) := dk_46 (dk_at dksL_law_82 1 rfl rfl)
theorem dL_law_2107 : decode cL_law 2107 = .ok (.invokevirtual 269, 3) := dk_182 1 13 (dk_at dksL_law_82 2 rfl rfl)
theorem dL_law_2110 : decode cL_law 2110 = .ok (.istore 6, 2) := dk_54 6 (dk_at dksL_law_82 5 rfl rfl)
theorem dL_law_2112 : decode cL_law 2112 = .ok (.aload_n 2, 1) := dk_44 (dk_at dksL_law_82 7 rfl rfl)
theorem dL_law_2113 : decode cL_law 2113 = .ok (.invokevirtual 173, 3) := dk_182 0 173 (dk_at dksL_law_82 8 rfl rfl)
theorem dL_law_2116 : decode cL_law 2116 = .ok (.iload 5, 2) := dk_21 5 (dk_at dksL_law_82 11 rfl rfl)
theorem dL_law_2118 : decode cL_law 2118 = .ok (.if_icmp .eq 5, 3) := dk_159 0 5 (dk_at dksL_law_82 13 rfl rfl)
theorem dL_law_2121 : decode cL_law 2121 = .ok (.iconst 0, 1) := dk_3 (dk_at dksL_law_82 16 rfl rfl)
theorem dL_law_2122 : decode cL_law 2122 = .ok (.ireturn, 1) := dk_172 (dk_at dksL_law_82 17 rfl rfl)
theorem dL_law_2123 : decode cL_law 2123 = .ok (.iload 5, 2) := dk_21 5 (dk_at dksL_law_82 18 rfl rfl)
theorem dL_law_2125 : decode cL_law 2125 = .ok (.ifCond .ne 15, 3) := dk_154 0 15 (dk_at dksL_law_82 20 rfl rfl)
theorem dL_law_2128 : decode cL_law 2128 = .ok (.aload_n 3, 1) := dk_45 (dk_at dksL_law_82 23 rfl rfl)
theorem dL_law_2129 : decode cL_law 2129 = .ok (.iconst 0, 1) := dk_3 (dk_at dksL_law_83 0 rfl rfl)
theorem dL_law_2130 : decode cL_law 2130 = .ok (.laload, 1) := dk_47 (dk_at dksL_law_83 1 rfl rfl)
theorem dL_law_2131 : decode cL_law 2131 = .ok (.iload 6, 2) := dk_21 6 (dk_at dksL_law_83 2 rfl rfl)
theorem dL_law_2133 : decode cL_law 2133 = .ok (.i2l, 1) := dk_133 (dk_at dksL_law_83 4 rfl rfl)
theorem dL_law_2134 : decode cL_law 2134 = .ok (.lcmp, 1) := dk_148 (dk_at dksL_law_83 5 rfl rfl)
theorem dL_law_2135 : decode cL_law 2135 = .ok (.ifCond .eq 5, 3) := dk_153 0 5 (dk_at dksL_law_83 6 rfl rfl)
theorem dL_law_2138 : decode cL_law 2138 = .ok (.iconst 0, 1) := dk_3 (dk_at dksL_law_83 9 rfl rfl)
theorem dL_law_2139 : decode cL_law 2139 = .ok (.ireturn, 1) := dk_172 (dk_at dksL_law_83 10 rfl rfl)
theorem dL_law_2140 : decode cL_law 2140 = .ok (.goto 1180, 3) := dk_167 4 156 (dk_at dksL_law_83 11 rfl rfl)
theorem dL_law_2143 : decode cL_law 2143 = .ok (.aload_n 1, 1) := dk_43 (dk_at dksL_law_83 14 rfl rfl)
theorem dL_law_2144 : decode cL_law 2144 = .ok (.aload_n 0, 1) := dk_42 (dk_at dksL_law_83 15 rfl rfl)
theorem dL_law_2145 : decode cL_law 2145 = .ok (.iload 4, 2) := dk_21 4 (dk_at dksL_law_83 16 rfl rfl)
theorem dL_law_2147 : decode cL_law 2147 = .ok (.iconst 1, 1) := dk_4 (dk_at dksL_law_83 18 rfl rfl)
theorem dL_law_2148 : decode cL_law 2148 = .ok (.iadd, 1) := dk_96 (dk_at dksL_law_83 19 rfl rfl)
theorem dL_law_2149 : decode cL_law 2149 = .ok (.iaload, 1) := dk_46 (dk_at dksL_law_83 20 rfl rfl)
theorem dL_law_2150 : decode cL_law 2150 = .ok (.aload_n 3, 1) := dk_45 (dk_at dksL_law_83 21 rfl rfl)
theorem dL_law_2151 : decode cL_law 2151 = .ok (.invokestatic 270, 3) := dk_184 1 14 (dk_at dksL_law_84 0 rfl rfl)
theorem dL_law_2154 : decode cL_law 2154 = .ok (.istore 5, 2) := dk_54 5 (dk_at dksL_law_84 3 rfl rfl)
theorem dL_law_2156 : decode cL_law 2156 = .ok (.aload_n 2, 1) := dk_44 (dk_at dksL_law_84 5 rfl rfl)
theorem dL_law_2157 : decode cL_law 2157 = .ok (.aload_n 0, 1) := dk_42 (dk_at dksL_law_84 6 rfl rfl)
theorem dL_law_2158 : decode cL_law 2158 = .ok (.iload 4, 2) := dk_21 4 (dk_at dksL_law_84 7 rfl rfl)
theorem dL_law_2160 : decode cL_law 2160 = .ok (.iconst 1, 1) := dk_4 (dk_at dksL_law_84 9 rfl rfl)
theorem dL_law_2161 : decode cL_law 2161 = .ok (.iadd, 1) := dk_96 (dk_at dksL_law_84 10 rfl rfl)
theorem dL_law_2162 : decode cL_law 2162 = .ok (.iaload, 1) := dk_46 (dk_at dksL_law_84 11 rfl rfl)
theorem dL_law_2163 : decode cL_law 2163 = .ok (.invokevirtual 272, 3) := dk_182 1 16 (dk_at dksL_law_84 12 rfl rfl)
theorem dL_law_2166 : decode cL_law 2166 = .ok (.istore 6, 2) := dk_54 6 (dk_at dksL_law_84 15 rfl rfl)
theorem dL_law_2168 : decode cL_law 2168 = .ok (.aload_n 2, 1) := dk_44 (dk_at dksL_law_84 17 rfl rfl)
theorem dL_law_2169 : decode cL_law 2169 = .ok (.invokevirtual 173, 3) := dk_182 0 173 (dk_at dksL_law_84 18 rfl rfl)
theorem dL_law_2172 : decode cL_law 2172 = .ok (.iload 5, 2) := dk_21 5 (dk_at dksL_law_84 21 rfl rfl)
theorem dL_law_2174 : decode cL_law 2174 = .ok (.if_icmp .eq 5, 3) := dk_159 0 5 (dk_at dksL_law_85 0 rfl rfl)
theorem dL_law_2177 : decode cL_law 2177 = .ok (.iconst 0, 1) := dk_3 (dk_at dksL_law_85 3 rfl rfl)
theorem dL_law_2178 : decode cL_law 2178 = .ok (.ireturn, 1) := dk_172 (dk_at dksL_law_85 4 rfl rfl)
theorem dL_law_2179 : decode cL_law 2179 = .ok (.iload 5, 2) := dk_21 5 (dk_at dksL_law_85 5 rfl rfl)
theorem dL_law_2181 : decode cL_law 2181 = .ok (.ifCond .ne 22, 3) := dk_154 0 22 (dk_at dksL_law_85 7 rfl rfl)
theorem dL_law_2184 : decode cL_law 2184 = .ok (.aload_n 3, 1) := dk_45 (dk_at dksL_law_85 10 rfl rfl)
theorem dL_law_2185 : decode cL_law 2185 = .ok (.iconst 0, 1) := dk_3 (dk_at dksL_law_85 11 rfl rfl)
theorem dL_law_2186 : decode cL_law 2186 = .ok (.laload, 1) := dk_47 (dk_at dksL_law_85 12 rfl rfl)
theorem dL_law_2187 : decode cL_law 2187 = .ok (.iload 6, 2) := dk_21 6 (dk_at dksL_law_85 13 rfl rfl)
theorem dL_law_2189 : decode cL_law 2189 = .ok (.ifCond .eq 7, 3) := dk_153 0 7 (dk_at dksL_law_85 15 rfl rfl)
theorem dL_law_2192 : decode cL_law 2192 = .ok (.lconst 1, 1) := dk_10 (dk_at dksL_law_85 18 rfl rfl)
theorem dL_law_2193 : decode cL_law 2193 = .ok (.goto 4, 3) := dk_167 0 4 (dk_at dksL_law_85 19 rfl rfl)
theorem dL_law_2196 : decode cL_law 2196 = .ok (.lconst 0, 1) := dk_9 (dk_at dksL_law_85 22 rfl rfl)
theorem dL_law_2197 : decode cL_law 2197 = .ok (.lcmp, 1) := dk_148 (dk_at dksL_law_85 23 rfl rfl)
theorem dL_law_2198 : decode cL_law 2198 = .ok (.ifCond .eq 5, 3) := dk_153 0 5 (dk_at dksL_law_86 0 rfl rfl)
theorem dL_law_2201 : decode cL_law 2201 = .ok (.iconst 0, 1) := dk_3 (dk_at dksL_law_86 3 rfl rfl)
theorem dL_law_2202 : decode cL_law 2202 = .ok (.ireturn, 1) := dk_172 (dk_at dksL_law_86 4 rfl rfl)
theorem dL_law_2203 : decode cL_law 2203 = .ok (.goto 1117, 3) := dk_167 4 93 (dk_at dksL_law_86 5 rfl rfl)
theorem dL_law_2206 : decode cL_law 2206 = .ok (.aload_n 1, 1) := dk_43 (dk_at dksL_law_86 8 rfl rfl)
theorem dL_law_2207 : decode cL_law 2207 = .ok (.aload_n 0, 1) := dk_42 (dk_at dksL_law_86 9 rfl rfl)
theorem dL_law_2208 : decode cL_law 2208 = .ok (.iload 4, 2) := dk_21 4 (dk_at dksL_law_86 10 rfl rfl)
theorem dL_law_2210 : decode cL_law 2210 = .ok (.iconst 1, 1) := dk_4 (dk_at dksL_law_86 12 rfl rfl)
theorem dL_law_2211 : decode cL_law 2211 = .ok (.iadd, 1) := dk_96 (dk_at dksL_law_86 13 rfl rfl)
theorem dL_law_2212 : decode cL_law 2212 = .ok (.iaload, 1) := dk_46 (dk_at dksL_law_86 14 rfl rfl)
theorem dL_law_2213 : decode cL_law 2213 = .ok (.aload_n 3, 1) := dk_45 (dk_at dksL_law_86 15 rfl rfl)
theorem dL_law_2214 : decode cL_law 2214 = .ok (.invokestatic 273, 3) := dk_184 1 17 (dk_at dksL_law_86 16 rfl rfl)
theorem dL_law_2217 : decode cL_law 2217 = .ok (.istore 5, 2) := dk_54 5 (dk_at dksL_law_86 19 rfl rfl)
theorem dL_law_2219 : decode cL_law 2219 = .ok (.aload_n 2, 1) := dk_44 (dk_at dksL_law_86 21 rfl rfl)
theorem dL_law_2220 : decode cL_law 2220 = .ok (.aload_n 0, 1) := dk_42 (dk_at dksL_law_86 22 rfl rfl)
theorem dL_law_2221 : decode cL_law 2221 = .ok (.iload 4, 2) := dk_21 4 (dk_at dksL_law_87 0 rfl rfl)
theorem dL_law_2223 : decode cL_law 2223 = .ok (.iconst 1, 1) := dk_4 (dk_at dksL_law_87 2 rfl rfl)
theorem dL_law_2224 : decode cL_law 2224 = .ok (.iadd, 1) := dk_96 (dk_at dksL_law_87 3 rfl rfl)
theorem dL_law_2225 : decode cL_law 2225 = .ok (.iaload, 1) := dk_46 (dk_at dksL_law_87 4 rfl rfl)
theorem dL_law_2226 : decode cL_law 2226 = .ok (.invokevirtual 275, 3) := dk_182 1 19 (dk_at dksL_law_87 5 rfl rfl)
theorem dL_law_2229 : decode cL_law 2229 = .ok (.istore 6, 2) := dk_54 6 (dk_at dksL_law_87 8 rfl rfl)
theorem dL_law_2231 : decode cL_law 2231 = .ok (.aload_n 2, 1) := dk_44 (dk_at dksL_law_87 10 rfl rfl)
theorem dL_law_2232 : decode cL_law 2232 = .ok (.invokevirtual 173, 3) := dk_182 0 173 (dk_at dksL_law_87 11 rfl rfl)
theorem dL_law_2235 : decode cL_law 2235 = .ok (.iload 5, 2) := dk_21 5 (dk_at dksL_law_87 14 rfl rfl)
theorem dL_law_2237 : decode cL_law 2237 = .ok (.if_icmp .eq 5, 3) := dk_159 0 5 (dk_at dksL_law_87 16 rfl rfl)
theorem dL_law_2240 : decode cL_law 2240 = .ok (.iconst 0, 1) := dk_3 (dk_at dksL_law_87 19 rfl rfl)
theorem dL_law_2241 : decode cL_law 2241 = .ok (.ireturn, 1) := dk_172 (dk_at dksL_law_87 20 rfl rfl)
theorem dL_law_2242 : decode cL_law 2242 = .ok (.iload 5, 2) := dk_21 5 (dk_at dksL_law_87 21 rfl rfl)
theorem dL_law_2244 : decode cL_law 2244 = .ok (.ifCond .ne 15, 3) := dk_154 0 15 (dk_at dksL_law_88 0 rfl rfl)
theorem dL_law_2247 : decode cL_law 2247 = .ok (.aload_n 3, 1) := dk_45 (dk_at dksL_law_88 3 rfl rfl)
theorem dL_law_2248 : decode cL_law 2248 = .ok (.iconst 0, 1) := dk_3 (dk_at dksL_law_88 4 rfl rfl)
theorem dL_law_2249 : decode cL_law 2249 = .ok (.laload, 1) := dk_47 (dk_at dksL_law_88 5 rfl rfl)
theorem dL_law_2250 : decode cL_law 2250 = .ok (.iload 6, 2) := dk_21 6 (dk_at dksL_law_88 6 rfl rfl)
theorem dL_law_2252 : decode cL_law 2252 = .ok (.i2l, 1) := dk_133 (dk_at dksL_law_88 8 rfl rfl)
theorem dL_law_2253 : decode cL_law 2253 = .ok (.lcmp, 1) := dk_148 (dk_at dksL_law_88 9 rfl rfl)
theorem dL_law_2254 : decode cL_law 2254 = .ok (.ifCond .eq 5, 3) := dk_153 0 5 (dk_at dksL_law_88 10 rfl rfl)
theorem dL_law_2257 : decode cL_law 2257 = .ok (.iconst 0, 1) := dk_3 (dk_at dksL_law_88 13 rfl rfl)
theorem dL_law_2258 : decode cL_law 2258 = .ok (.ireturn, 1) := dk_172 (dk_at dksL_law_88 14 rfl rfl)
theorem dL_law_2259 : decode cL_law 2259 = .ok (.goto 1061, 3) := dk_167 4 37 (dk_at dksL_law_88 15 rfl rfl)
theorem dL_law_2262 : decode cL_law 2262 = .ok (.aload_n 1, 1) := dk_43 (dk_at dksL_law_88 18 rfl rfl)
theorem dL_law_2263 : decode cL_law 2263 = .ok (.aload_n 0, 1) := dk_42 (dk_at dksL_law_88 19 rfl rfl)
theorem dL_law_2264 : decode cL_law 2264 = .ok (.iload 4, 2) := dk_21 4 (dk_at dksL_law_88 20 rfl rfl)
theorem dL_law_2266 : decode cL_law 2266 = .ok (.iconst 1, 1) := dk_4 (dk_at dksL_law_88 22 rfl rfl)
theorem dL_law_2267 : decode cL_law 2267 = .ok (.iadd, 1) := dk_96 (dk_at dksL_law_88 23 rfl rfl)
theorem dL_law_2268 : decode cL_law 2268 = .ok (.iaload, 1) := dk_46 (dk_at dksL_law_89 0 rfl rfl)
theorem dL_law_2269 : decode cL_law 2269 = .ok (.aload_n 0, 1) := dk_42 (dk_at dksL_law_89 1 rfl rfl)
theorem dL_law_2270 : decode cL_law 2270 = .ok (.iload 4, 2) := dk_21 4 (dk_at dksL_law_89 2 rfl rfl)
theorem dL_law_2272 : decode cL_law 2272 = .ok (.iconst 2, 1) := dk_5 (dk_at dksL_law_89 4 rfl rfl)
theorem dL_law_2273 : decode cL_law 2273 = .ok (.iadd, 1) := dk_96 (dk_at dksL_law_89 5 rfl rfl)
theorem dL_law_2274 : decode cL_law 2274 = .ok (.iaload, 1) := dk_46 (dk_at dksL_law_89 6 rfl rfl)
theorem dL_law_2275 : decode cL_law 2275 = .ok (.aload_n 0, 1) := dk_42 (dk_at dksL_law_89 7 rfl rfl)
theorem dL_law_2276 : decode cL_law 2276 = .ok (.iload 4, 2) := dk_21 4 (dk_at dksL_law_89 8 rfl rfl)
theorem dL_law_2278 : decode cL_law 2278 = .ok (.iconst 3, 1) := dk_6 (dk_at dksL_law_89 10 rfl rfl)
theorem dL_law_2279 : decode cL_law 2279 = .ok (.iadd, 1) := dk_96 (dk_at dksL_law_89 11 rfl rfl)
theorem dL_law_2280 : decode cL_law 2280 = .ok (.iaload, 1) := dk_46 (dk_at dksL_law_89 12 rfl rfl)
theorem dL_law_2281 : decode cL_law 2281 = .ok (.aload_n 3, 1) := dk_45 (dk_at dksL_law_89 13 rfl rfl)
theorem dL_law_2282 : decode cL_law 2282 = .ok (.invokestatic 276, 3) := dk_184 1 20 (dk_at dksL_law_89 14 rfl rfl)
theorem dL_law_2285 : decode cL_law 2285 = .ok (.istore 5, 2) := dk_54 5 (dk_at dksL_law_89 17 rfl rfl)
theorem dL_law_2287 : decode cL_law 2287 = .ok (.aload_n 2, 1) := dk_44 (dk_at dksL_law_89 19 rfl rfl)
theorem dL_law_2288 : decode cL_law 2288 = .ok (.aload_n 0, 1) := dk_42 (dk_at dksL_law_89 20 rfl rfl)
theorem dL_law_2289 : decode cL_law 2289 = .ok (.iload 4, 2) := dk_21 4 (dk_at dksL_law_89 21 rfl rfl)
theorem dL_law_2291 : decode cL_law 2291 = .ok (.iconst 1, 1) := dk_4 (dk_at dksL_law_89 23 rfl rfl)
theorem dL_law_2292 : decode cL_law 2292 = .ok (.iadd, 1) := dk_96 (dk_at dksL_law_90 0 rfl rfl)
theorem dL_law_2293 : decode cL_law 2293 = .ok (.iaload, 1) := dk_46 (dk_at dksL_law_90 1 rfl rfl)
theorem dL_law_2294 : decode cL_law 2294 = .ok (.aload_n 0, 1) := dk_42 (dk_at dksL_law_90 2 rfl rfl)
theorem dL_law_2295 : decode cL_law 2295 = .ok (.iload 4, 2) := dk_21 4 (dk_at dksL_law_90 3 rfl rfl)
theorem dL_law_2297 : decode cL_law 2297 = .ok (.iconst 2, 1) := dk_5 (dk_at dksL_law_90 5 rfl rfl)
theorem dL_law_2298 : decode cL_law 2298 = .ok (.iadd, 1) := dk_96 (dk_at dksL_law_90 6 rfl rfl)
theorem dL_law_2299 : decode cL_law 2299 = .ok (.iaload, 1) := dk_46 (dk_at dksL_law_90 7 rfl rfl)
theorem dL_law_2300 : decode cL_law 2300 = .ok (.aload_n 0, 1) := dk_42 (dk_at dksL_law_90 8 rfl rfl)
theorem dL_law_2301 : decode cL_law 2301 = .ok (.iload 4, 2) := dk_21 4 (dk_at dksL_law_90 9 rfl rfl)
theorem dL_law_2303 : decode cL_law 2303 = .ok (.iconst 3, 1) := dk_6 (dk_at dksL_law_90 11 rfl rfl)
theorem dL_law_2304 : decode cL_law 2304 = .ok (.iadd, 1) := dk_96 (dk_at dksL_law_90 12 rfl rfl)
theorem dL_law_2305 : decode cL_law 2305 = .ok (.iaload, 1) := dk_46 (dk_at dksL_law_90 13 rfl rfl)
theorem dL_law_2306 : decode cL_law 2306 = .ok (.invokevirtual 278, 3) := dk_182 1 22 (dk_at dksL_law_90 14 rfl rfl)
theorem dL_law_2309 : decode cL_law 2309 = .ok (.istore 6, 2) := dk_54 6 (dk_at dksL_law_90 17 rfl rfl)
theorem dL_law_2311 : decode cL_law 2311 = .ok (.aload_n 2, 1) := dk_44 (dk_at dksL_law_90 19 rfl rfl)
theorem dL_law_2312 : decode cL_law 2312 = .ok (.invokevirtual 173, 3) := dk_182 0 173 (dk_at dksL_law_90 20 rfl rfl)
theorem dL_law_2315 : decode cL_law 2315 = .ok (.iload 5, 2) := dk_21 5 (dk_at dksL_law_91 0 rfl rfl)
theorem dL_law_2317 : decode cL_law 2317 = .ok (.if_icmp .eq 5, 3) := dk_159 0 5 (dk_at dksL_law_91 2 rfl rfl)
theorem dL_law_2320 : decode cL_law 2320 = .ok (.iconst 0, 1) := dk_3 (dk_at dksL_law_91 5 rfl rfl)
theorem dL_law_2321 : decode cL_law 2321 = .ok (.ireturn, 1) := dk_172 (dk_at dksL_law_91 6 rfl rfl)
theorem dL_law_2322 : decode cL_law 2322 = .ok (.iload 5, 2) := dk_21 5 (dk_at dksL_law_91 7 rfl rfl)
theorem dL_law_2324 : decode cL_law 2324 = .ok (.ifCond .ne 15, 3) := dk_154 0 15 (dk_at dksL_law_91 9 rfl rfl)
theorem dL_law_2327 : decode cL_law 2327 = .ok (.aload_n 3, 1) := dk_45 (dk_at dksL_law_91 12 rfl rfl)
theorem dL_law_2328 : decode cL_law 2328 = .ok (.iconst 0, 1) := dk_3 (dk_at dksL_law_91 13 rfl rfl)
theorem dL_law_2329 : decode cL_law 2329 = .ok (.laload, 1) := dk_47 (dk_at dksL_law_91 14 rfl rfl)
theorem dL_law_2330 : decode cL_law 2330 = .ok (.iload 6, 2) := dk_21 6 (dk_at dksL_law_91 15 rfl rfl)
theorem dL_law_2332 : decode cL_law 2332 = .ok (.i2l, 1) := dk_133 (dk_at dksL_law_91 17 rfl rfl)
theorem dL_law_2333 : decode cL_law 2333 = .ok (.lcmp, 1) := dk_148 (dk_at dksL_law_91 18 rfl rfl)
theorem dL_law_2334 : decode cL_law 2334 = .ok (.ifCond .eq 5, 3) := dk_153 0 5 (dk_at dksL_law_91 19 rfl rfl)
theorem dL_law_2337 : decode cL_law 2337 = .ok (.iconst 0, 1) := dk_3 (dk_at dksL_law_91 22 rfl rfl)
theorem dL_law_2338 : decode cL_law 2338 = .ok (.ireturn, 1) := dk_172 (dk_at dksL_law_91 23 rfl rfl)
theorem dL_law_2339 : decode cL_law 2339 = .ok (.goto 981, 3) := dk_167 3 213 (dk_at dksL_law_92 0 rfl rfl)
theorem dL_law_2342 : decode cL_law 2342 = .ok (.aload_n 1, 1) := dk_43 (dk_at dksL_law_92 3 rfl rfl)
theorem dL_law_2343 : decode cL_law 2343 = .ok (.aload_n 0, 1) := dk_42 (dk_at dksL_law_92 4 rfl rfl)
theorem dL_law_2344 : decode cL_law 2344 = .ok (.iload 4, 2) := dk_21 4 (dk_at dksL_law_92 5 rfl rfl)
theorem dL_law_2346 : decode cL_law 2346 = .ok (.iconst 1, 1) := dk_4 (dk_at dksL_law_92 7 rfl rfl)
theorem dL_law_2347 : decode cL_law 2347 = .ok (.iadd, 1) := dk_96 (dk_at dksL_law_92 8 rfl rfl)
theorem dL_law_2348 : decode cL_law 2348 = .ok (.iaload, 1) := dk_46 (dk_at dksL_law_92 9 rfl rfl)
theorem dL_law_2349 : decode cL_law 2349 = .ok (.aload_n 3, 1) := dk_45 (dk_at dksL_law_92 10 rfl rfl)
theorem dL_law_2350 : decode cL_law 2350 = .ok (.invokestatic 279, 3) := dk_184 1 23 (dk_at dksL_law_92 11 rfl rfl)
theorem dL_law_2353 : decode cL_law 2353 = .ok (.istore 5, 2) := dk_54 5 (dk_at dksL_law_92 14 rfl rfl)
theorem dL_law_2355 : decode cL_law 2355 = .ok (.aload_n 2, 1) := dk_44 (dk_at dksL_law_92 16 rfl rfl)
theorem dL_law_2356 : decode cL_law 2356 = .ok (.aload_n 0, 1) := dk_42 (dk_at dksL_law_92 17 rfl rfl)
theorem dL_law_2357 : decode cL_law 2357 = .ok (.iload 4, 2) := dk_21 4 (dk_at dksL_law_92 18 rfl rfl)
theorem dL_law_2359 : decode cL_law 2359 = .ok (.iconst 1, 1) := dk_4 (dk_at dksL_law_92 20 rfl rfl)
theorem dL_law_2360 : decode cL_law 2360 = .ok (.iadd, 1) := dk_96 (dk_at dksL_law_92 21 rfl rfl)
theorem dL_law_2361 : decode cL_law 2361 = .ok (.iaload, 1) := dk_46 (dk_at dksL_law_92 22 rfl rfl)
theorem dL_law_2362 : decode cL_law 2362 = .ok (.invokevirtual 281, 3) := dk_182 1 25 (dk_at dksL_law_93 0 rfl rfl)
theorem dL_law_2365 : decode cL_law 2365 = .ok (.istore 6, 2) := dk_54 6 (dk_at dksL_law_93 3 rfl rfl)
theorem dL_law_2367 : decode cL_law 2367 = .ok (.aload_n 2, 1) := dk_44 (dk_at dksL_law_93 5 rfl rfl)
theorem dL_law_2368 : decode cL_law 2368 = .ok (.invokevirtual 173, 3) := dk_182 0 173 (dk_at dksL_law_93 6 rfl rfl)
theorem dL_law_2371 : decode cL_law 2371 = .ok (.iload 5, 2) := dk_21 5 (dk_at dksL_law_93 9 rfl rfl)
theorem dL_law_2373 : decode cL_law 2373 = .ok (.if_icmp .eq 5, 3) := dk_159 0 5 (dk_at dksL_law_93 11 rfl rfl)
theorem dL_law_2376 : decode cL_law 2376 = .ok (.iconst 0, 1) := dk_3 (dk_at dksL_law_93 14 rfl rfl)
theorem dL_law_2377 : decode cL_law 2377 = .ok (.ireturn, 1) := dk_172 (dk_at dksL_law_93 15 rfl rfl)
theorem dL_law_2378 : decode cL_law 2378 = .ok (.iload 5, 2) := dk_21 5 (dk_at dksL_law_93 16 rfl rfl)
theorem dL_law_2380 : decode cL_law 2380 = .ok (.ifCond .ne 15, 3) := dk_154 0 15 (dk_at dksL_law_93 18 rfl rfl)
theorem dL_law_2383 : decode cL_law 2383 = .ok (.aload_n 3, 1) := dk_45 (dk_at dksL_law_93 21 rfl rfl)
theorem dL_law_2384 : decode cL_law 2384 = .ok (.iconst 0, 1) := dk_3 (dk_at dksL_law_93 22 rfl rfl)
theorem dL_law_2385 : decode cL_law 2385 = .ok (.laload, 1) := dk_47 (dk_at dksL_law_93 23 rfl rfl)
theorem dL_law_2386 : decode cL_law 2386 = .ok (.iload 6, 2) := dk_21 6 (dk_at dksL_law_94 0 rfl rfl)
theorem dL_law_2388 : decode cL_law 2388 = .ok (.i2l, 1) := dk_133 (dk_at dksL_law_94 2 rfl rfl)
theorem dL_law_2389 : decode cL_law 2389 = .ok (.lcmp, 1) := dk_148 (dk_at dksL_law_94 3 rfl rfl)
theorem dL_law_2390 : decode cL_law 2390 = .ok (.ifCond .eq 5, 3) := dk_153 0 5 (dk_at dksL_law_94 4 rfl rfl)
theorem dL_law_2393 : decode cL_law 2393 = .ok (.iconst 0, 1) := dk_3 (dk_at dksL_law_94 7 rfl rfl)
theorem dL_law_2394 : decode cL_law 2394 = .ok (.ireturn, 1) := dk_172 (dk_at dksL_law_94 8 rfl rfl)
theorem dL_law_2395 : decode cL_law 2395 = .ok (.goto 925, 3) := dk_167 3 157 (dk_at dksL_law_94 9 rfl rfl)
theorem dL_law_2398 : decode cL_law 2398 = .ok (.aload_n 1, 1) := dk_43 (dk_at dksL_law_94 12 rfl rfl)
theorem dL_law_2399 : decode cL_law 2399 = .ok (.aload_n 3, 1) := dk_45 (dk_at dksL_law_94 13 rfl rfl)
theorem dL_law_2400 : decode cL_law 2400 = .ok (.invokestatic 282, 3) := dk_184 1 26 (dk_at dksL_law_94 14 rfl rfl)
theorem dL_law_2403 : decode cL_law 2403 = .ok (.istore 5, 2) := dk_54 5 (dk_at dksL_law_94 17 rfl rfl)
theorem dL_law_2405 : decode cL_law 2405 = .ok (.aload_n 2, 1) := dk_44 (dk_at dksL_law_94 19 rfl rfl)
theorem dL_law_2406 : decode cL_law 2406 = .ok (.invokevirtual 284, 3) := dk_182 1 28 (dk_at dksL_law_94 20 rfl rfl)
theorem dL_law_2409 : decode cL_law 2409 = .ok (.istore 6, 2) := dk_54 6 (dk_at dksL_law_95 0 rfl rfl)
theorem dL_law_2411 : decode cL_law 2411 = .ok (.aload_n 2, 1) := dk_44 (dk_at dksL_law_95 2 rfl rfl)
theorem dL_law_2412 : decode cL_law 2412 = .ok (.invokevirtual 173, 3) := dk_182 0 173 (dk_at dksL_law_95 3 rfl rfl)
theorem dL_law_2415 : decode cL_law 2415 = .ok (.iload 5, 2) := dk_21 5 (dk_at dksL_law_95 6 rfl rfl)
theorem dL_law_2417 : decode cL_law 2417 = .ok (.if_icmp .eq 5, 3) := dk_159 0 5 (dk_at dksL_law_95 8 rfl rfl)
theorem dL_law_2420 : decode cL_law 2420 = .ok (.iconst 0, 1) := dk_3 (dk_at dksL_law_95 11 rfl rfl)
theorem dL_law_2421 : decode cL_law 2421 = .ok (.ireturn, 1) := dk_172 (dk_at dksL_law_95 12 rfl rfl)
theorem dL_law_2422 : decode cL_law 2422 = .ok (.iload 5, 2) := dk_21 5 (dk_at dksL_law_95 13 rfl rfl)
theorem dL_law_2424 : decode cL_law 2424 = .ok (.ifCond .ne 15, 3) := dk_154 0 15 (dk_at dksL_law_95 15 rfl rfl)
theorem dL_law_2427 : decode cL_law 2427 = .ok (.aload_n 3, 1) := dk_45 (dk_at dksL_law_95 18 rfl rfl)
theorem dL_law_2428 : decode cL_law 2428 = .ok (.iconst 0, 1) := dk_3 (dk_at dksL_law_95 19 rfl rfl)
theorem dL_law_2429 : decode cL_law 2429 = .ok (.laload, 1) := dk_47 (dk_at dksL_law_95 20 rfl rfl)
theorem dL_law_2430 : decode cL_law 2430 = .ok (.iload 6, 2) := dk_21 6 (dk_at dksL_law_95 21 rfl rfl)
theorem dL_law_2432 : decode cL_law 2432 = .ok (.i2l, 1) := dk_133 (dk_at dksL_law_95 23 rfl rfl)
theorem dL_law_2433 : decode cL_law 2433 = .ok (.lcmp, 1) := dk_148 (dk_at dksL_law_96 0 rfl rfl)
theorem dL_law_2434 : decode cL_law 2434 = .ok (.ifCond .eq 5, 3) := dk_153 0 5 (dk_at dksL_law_96 1 rfl rfl)
theorem dL_law_2437 : decode cL_law 2437 = .ok (.iconst 0, 1) := dk_3 (dk_at dksL_law_96 4 rfl rfl)
theorem dL_law_2438 : decode cL_law 2438 = .ok (.ireturn, 1) := dk_172 (dk_at dksL_law_96 5 rfl rfl)
theorem dL_law_2439 : decode cL_law 2439 = .ok (.goto 881, 3) := dk_167 3 113 (dk_at dksL_law_96 6 rfl rfl)
theorem dL_law_2442 : decode cL_law 2442 = .ok (.aload_n 1, 1) := dk_43 (dk_at dksL_law_96 9 rfl rfl)
theorem dL_law_2443 : decode cL_law 2443 = .ok (.aload_n 3, 1) := dk_45 (dk_at dksL_law_96 10 rfl rfl)
theorem dL_law_2444 : decode cL_law 2444 = .ok (.invokestatic 285, 3) := dk_184 1 29 (dk_at dksL_law_96 11 rfl rfl)
theorem dL_law_2447 : decode cL_law 2447 = .ok (.istore 5, 2) := dk_54 5 (dk_at dksL_law_96 14 rfl rfl)
theorem dL_law_2449 : decode cL_law 2449 = .ok (.aload_n 2, 1) := dk_44 (dk_at dksL_law_96 16 rfl rfl)
theorem dL_law_2450 : decode cL_law 2450 = .ok (.invokevirtual 287, 3) := dk_182 1 31 (dk_at dksL_law_96 17 rfl rfl)
theorem dL_law_2453 : decode cL_law 2453 = .ok (.istore 6, 2) := dk_54 6 (dk_at dksL_law_96 20 rfl rfl)
theorem dL_law_2455 : decode cL_law 2455 = .ok (.aload_n 2, 1) := dk_44 (dk_at dksL_law_96 22 rfl rfl)
theorem dL_law_2456 : decode cL_law 2456 = .ok (.invokevirtual 173, 3) := dk_182 0 173 (dk_at dksL_law_97 0 rfl rfl)
theorem dL_law_2459 : decode cL_law 2459 = .ok (.iload 5, 2) := dk_21 5 (dk_at dksL_law_97 3 rfl rfl)
theorem dL_law_2461 : decode cL_law 2461 = .ok (.if_icmp .eq 5, 3) := dk_159 0 5 (dk_at dksL_law_97 5 rfl rfl)
theorem dL_law_2464 : decode cL_law 2464 = .ok (.iconst 0, 1) := dk_3 (dk_at dksL_law_97 8 rfl rfl)
theorem dL_law_2465 : decode cL_law 2465 = .ok (.ireturn, 1) := dk_172 (dk_at dksL_law_97 9 rfl rfl)
theorem dL_law_2466 : decode cL_law 2466 = .ok (.iload 5, 2) := dk_21 5 (dk_at dksL_law_97 10 rfl rfl)
theorem dL_law_2468 : decode cL_law 2468 = .ok (.ifCond .ne 15, 3) := dk_154 0 15 (dk_at dksL_law_97 12 rfl rfl)
theorem dL_law_2471 : decode cL_law 2471 = .ok (.aload_n 3, 1) := dk_45 (dk_at dksL_law_97 15 rfl rfl)
theorem dL_law_2472 : decode cL_law 2472 = .ok (.iconst 0, 1) := dk_3 (dk_at dksL_law_97 16 rfl rfl)
theorem dL_law_2473 : decode cL_law 2473 = .ok (.laload, 1) := dk_47 (dk_at dksL_law_97 17 rfl rfl)
theorem dL_law_2474 : decode cL_law 2474 = .ok (.iload 6, 2) := dk_21 6 (dk_at dksL_law_97 18 rfl rfl)
theorem dL_law_2476 : decode cL_law 2476 = .ok (.i2l, 1) := dk_133 (dk_at dksL_law_97 20 rfl rfl)
theorem dL_law_2477 : decode cL_law 2477 = .ok (.lcmp, 1) := dk_148 (dk_at dksL_law_97 21 rfl rfl)
theorem dL_law_2478 : decode cL_law 2478 = .ok (.ifCond .eq 5, 3) := dk_153 0 5 (dk_at dksL_law_98 0 rfl rfl)
theorem dL_law_2481 : decode cL_law 2481 = .ok (.iconst 0, 1) := dk_3 (dk_at dksL_law_98 3 rfl rfl)
theorem dL_law_2482 : decode cL_law 2482 = .ok (.ireturn, 1) := dk_172 (dk_at dksL_law_98 4 rfl rfl)
theorem dL_law_2483 : decode cL_law 2483 = .ok (.goto 837, 3) := dk_167 3 69 (dk_at dksL_law_98 5 rfl rfl)
theorem dL_law_2486 : decode cL_law 2486 = .ok (.aload_n 1, 1) := dk_43 (dk_at dksL_law_98 8 rfl rfl)
theorem dL_law_2487 : decode cL_law 2487 = .ok (.invokevirtual 288, 3) := dk_182 1 32 (dk_at dksL_law_98 9 rfl rfl)
theorem dL_law_2490 : decode cL_law 2490 = .ok (.aload_n 2, 1) := dk_44 (dk_at dksL_law_98 12 rfl rfl)
theorem dL_law_2491 : decode cL_law 2491 = .ok (.invokevirtual 291, 3) := dk_182 1 35 (dk_at dksL_law_98 13 rfl rfl)
theorem dL_law_2494 : decode cL_law 2494 = .ok (.if_icmp .eq 826, 3) := dk_159 3 58 (dk_at dksL_law_98 16 rfl rfl)
theorem dL_law_2497 : decode cL_law 2497 = .ok (.iconst 0, 1) := dk_3 (dk_at dksL_law_98 19 rfl rfl)
theorem dL_law_2498 : decode cL_law 2498 = .ok (.ireturn, 1) := dk_172 (dk_at dksL_law_98 20 rfl rfl)
theorem dL_law_2499 : decode cL_law 2499 = .ok (.aload_n 1, 1) := dk_43 (dk_at dksL_law_98 21 rfl rfl)
theorem dL_law_2500 : decode cL_law 2500 = .ok (.aload_n 0, 1) := dk_42 (dk_at dksL_law_98 22 rfl rfl)
theorem dL_law_2501 : decode cL_law 2501 = .ok (.iload 4, 2) := dk_21 4 (dk_at dksL_law_99 0 rfl rfl)
theorem dL_law_2503 : decode cL_law 2503 = .ok (.iconst 1, 1) := dk_4 (dk_at dksL_law_99 2 rfl rfl)
theorem dL_law_2504 : decode cL_law 2504 = .ok (.iadd, 1) := dk_96 (dk_at dksL_law_99 3 rfl rfl)
theorem dL_law_2505 : decode cL_law 2505 = .ok (.iaload, 1) := dk_46 (dk_at dksL_law_99 4 rfl rfl)
theorem dL_law_2506 : decode cL_law 2506 = .ok (.aload_n 3, 1) := dk_45 (dk_at dksL_law_99 5 rfl rfl)
theorem dL_law_2507 : decode cL_law 2507 = .ok (.invokestatic 292, 3) := dk_184 1 36 (dk_at dksL_law_99 6 rfl rfl)
theorem dL_law_2510 : decode cL_law 2510 = .ok (.istore 5, 2) := dk_54 5 (dk_at dksL_law_99 9 rfl rfl)
theorem dL_law_2512 : decode cL_law 2512 = .ok (.aload_n 2, 1) := dk_44 (dk_at dksL_law_99 11 rfl rfl)
theorem dL_law_2513 : decode cL_law 2513 = .ok (.aload_n 0, 1) := dk_42 (dk_at dksL_law_99 12 rfl rfl)
theorem dL_law_2514 : decode cL_law 2514 = .ok (.iload 4, 2) := dk_21 4 (dk_at dksL_law_99 13 rfl rfl)
theorem dL_law_2516 : decode cL_law 2516 = .ok (.iconst 1, 1) := dk_4 (dk_at dksL_law_99 15 rfl rfl)
theorem dL_law_2517 : decode cL_law 2517 = .ok (.iadd, 1) := dk_96 (dk_at dksL_law_99 16 rfl rfl)
theorem dL_law_2518 : decode cL_law 2518 = .ok (.iaload, 1) := dk_46 (dk_at dksL_law_99 17 rfl rfl)
theorem dL_law_2519 : decode cL_law 2519 = .ok (.invokevirtual 294, 3) := dk_182 1 38 (dk_at dksL_law_99 18 rfl rfl)
theorem dL_law_2522 : decode cL_law 2522 = .ok (.istore 6, 2) := dk_54 6 (dk_at dksL_law_99 21 rfl rfl)
theorem dL_law_2524 : decode cL_law 2524 = .ok (.aload_n 2, 1) := dk_44 (dk_at dksL_law_99 23 rfl rfl)
theorem dL_law_2525 : decode cL_law 2525 = .ok (.invokevirtual 173, 3) := dk_182 0 173 (dk_at dksL_law_100 0 rfl rfl)
theorem dL_law_2528 : decode cL_law 2528 = .ok (.iload 5, 2) := dk_21 5 (dk_at dksL_law_100 3 rfl rfl)
theorem dL_law_2530 : decode cL_law 2530 = .ok (.if_icmp .eq 5, 3) := dk_159 0 5 (dk_at dksL_law_100 5 rfl rfl)
theorem dL_law_2533 : decode cL_law 2533 = .ok (.iconst 0, 1) := dk_3 (dk_at dksL_law_100 8 rfl rfl)
theorem dL_law_2534 : decode cL_law 2534 = .ok (.ireturn, 1) := dk_172 (dk_at dksL_law_100 9 rfl rfl)
theorem dL_law_2535 : decode cL_law 2535 = .ok (.iload 5, 2) := dk_21 5 (dk_at dksL_law_100 10 rfl rfl)
theorem dL_law_2537 : decode cL_law 2537 = .ok (.ifCond .ne 22, 3) := dk_154 0 22 (dk_at dksL_law_100 12 rfl rfl)
theorem dL_law_2540 : decode cL_law 2540 = .ok (.aload_n 3, 1) := dk_45 (dk_at dksL_law_100 15 rfl rfl)
theorem dL_law_2541 : decode cL_law 2541 = .ok (.iconst 0, 1) := dk_3 (dk_at dksL_law_100 16 rfl rfl)
theorem dL_law_2542 : decode cL_law 2542 = .ok (.laload, 1) := dk_47 (dk_at dksL_law_100 17 rfl rfl)
theorem dL_law_2543 : decode cL_law 2543 = .ok (.iload 6, 2) := dk_21 6 (dk_at dksL_law_100 18 rfl rfl)
theorem dL_law_2545 : decode cL_law 2545 = .ok (.ifCond .eq 7, 3) := dk_153 0 7 (dk_at dksL_law_100 20 rfl rfl)
theorem dL_law_2548 : decode cL_law 2548 = .ok (.lconst 1, 1) := dk_10 (dk_at dksL_law_100 23 rfl rfl)
theorem dL_law_2549 : decode cL_law 2549 = .ok (.goto 4, 3) := dk_167 0 4 (dk_at dksL_law_101 0 rfl rfl)
theorem dL_law_2552 : decode cL_law 2552 = .ok (.lconst 0, 1) := dk_9 (dk_at dksL_law_101 3 rfl rfl)
theorem dL_law_2553 : decode cL_law 2553 = .ok (.lcmp, 1) := dk_148 (dk_at dksL_law_101 4 rfl rfl)
theorem dL_law_2554 : decode cL_law 2554 = .ok (.ifCond .eq 5, 3) := dk_153 0 5 (dk_at dksL_law_101 5 rfl rfl)
theorem dL_law_2557 : decode cL_law 2557 = .ok (.iconst 0, 1) := dk_3 (dk_at dksL_law_101 8 rfl rfl)
theorem dL_law_2558 : decode cL_law 2558 = .ok (.ireturn, 1) := dk_172 (dk_at dksL_law_101 9 rfl rfl)
theorem dL_law_2559 : decode cL_law 2559 = .ok (.goto 761, 3) := dk_167 2 249 (dk_at dksL_law_101 10 rfl rfl)
theorem dL_law_2562 : decode cL_law 2562 = .ok (.aload_n 1, 1) := dk_43 (dk_at dksL_law_101 13 rfl rfl)
theorem dL_law_2563 : decode cL_law 2563 = .ok (.aload_n 0, 1) := dk_42 (dk_at dksL_law_101 14 rfl rfl)
theorem dL_law_2564 : decode cL_law 2564 = .ok (.iload 4, 2) := dk_21 4 (dk_at dksL_law_101 15 rfl rfl)
theorem dL_law_2566 : decode cL_law 2566 = .ok (.iconst 1, 1) := dk_4 (dk_at dksL_law_101 17 rfl rfl)
theorem dL_law_2567 : decode cL_law 2567 = .ok (.iadd, 1) := dk_96 (dk_at dksL_law_101 18 rfl rfl)
theorem dL_law_2568 : decode cL_law 2568 = .ok (.iaload, 1) := dk_46 (dk_at dksL_law_101 19 rfl rfl)
theorem dL_law_2569 : decode cL_law 2569 = .ok (.aload_n 3, 1) := dk_45 (dk_at dksL_law_101 20 rfl rfl)
theorem dL_law_2570 : decode cL_law 2570 = .ok (.invokestatic 295, 3) := dk_184 1 39 (dk_at dksL_law_101 21 rfl rfl)
theorem dL_law_2573 : decode cL_law 2573 = .ok (.istore 5, 2) := dk_54 5 (dk_at dksL_law_102 0 rfl rfl)
theorem dL_law_2575 : decode cL_law 2575 = .ok (.aload_n 2, 1) := dk_44 (dk_at dksL_law_102 2 rfl rfl)
theorem dL_law_2576 : decode cL_law 2576 = .ok (.aload_n 0, 1) := dk_42 (dk_at dksL_law_102 3 rfl rfl)
theorem dL_law_2577 : decode cL_law 2577 = .ok (.iload 4, 2) := dk_21 4 (dk_at dksL_law_102 4 rfl rfl)
theorem dL_law_2579 : decode cL_law 2579 = .ok (.iconst 1, 1) := dk_4 (dk_at dksL_law_102 6 rfl rfl)
theorem dL_law_2580 : decode cL_law 2580 = .ok (.iadd, 1) := dk_96 (dk_at dksL_law_102 7 rfl rfl)
theorem dL_law_2581 : decode cL_law 2581 = .ok (.iaload, 1) := dk_46 (dk_at dksL_law_102 8 rfl rfl)
theorem dL_law_2582 : decode cL_law 2582 = .ok (.invokevirtual 297, 3) := dk_182 1 41 (dk_at dksL_law_102 9 rfl rfl)
theorem dL_law_2585 : decode cL_law 2585 = .ok (.istore 6, 2) := dk_54 6 (dk_at dksL_law_102 12 rfl rfl)
theorem dL_law_2587 : decode cL_law 2587 = .ok (.aload_n 2, 1) := dk_44 (dk_at dksL_law_102 14 rfl rfl)
theorem dL_law_2588 : decode cL_law 2588 = .ok (.invokevirtual 173, 3) := dk_182 0 173 (dk_at dksL_law_102 15 rfl rfl)
theorem dL_law_2591 : decode cL_law 2591 = .ok (.iload 5, 2) := dk_21 5 (dk_at dksL_law_102 18 rfl rfl)
theorem dL_law_2593 : decode cL_law 2593 = .ok (.if_icmp .eq 5, 3) := dk_159 0 5 (dk_at dksL_law_102 20 rfl rfl)
theorem dL_law_2596 : decode cL_law 2596 = .ok (.iconst 0, 1) := dk_3 (dk_at dksL_law_102 23 rfl rfl)
theorem dL_law_2597 : decode cL_law 2597 = .ok (.ireturn, 1) := dk_172 (dk_at dksL_law_103 0 rfl rfl)
theorem dL_law_2598 : decode cL_law 2598 = .ok (.iload 5, 2) := dk_21 5 (dk_at dksL_law_103 1 rfl rfl)
theorem dL_law_2600 : decode cL_law 2600 = .ok (.ifCond .ne 15, 3) := dk_154 0 15 (dk_at dksL_law_103 3 rfl rfl)
theorem dL_law_2603 : decode cL_law 2603 = .ok (.aload_n 3, 1) := dk_45 (dk_at dksL_law_103 6 rfl rfl)
theorem dL_law_2604 : decode cL_law 2604 = .ok (.iconst 0, 1) := dk_3 (dk_at dksL_law_103 7 rfl rfl)
theorem dL_law_2605 : decode cL_law 2605 = .ok (.laload, 1) := dk_47 (dk_at dksL_law_103 8 rfl rfl)
theorem dL_law_2606 : decode cL_law 2606 = .ok (.iload 6, 2) := dk_21 6 (dk_at dksL_law_103 9 rfl rfl)
theorem dL_law_2608 : decode cL_law 2608 = .ok (.i2l, 1) := dk_133 (dk_at dksL_law_103 11 rfl rfl)
theorem dL_law_2609 : decode cL_law 2609 = .ok (.lcmp, 1) := dk_148 (dk_at dksL_law_103 12 rfl rfl)
theorem dL_law_2610 : decode cL_law 2610 = .ok (.ifCond .eq 5, 3) := dk_153 0 5 (dk_at dksL_law_103 13 rfl rfl)
theorem dL_law_2613 : decode cL_law 2613 = .ok (.iconst 0, 1) := dk_3 (dk_at dksL_law_103 16 rfl rfl)
theorem dL_law_2614 : decode cL_law 2614 = .ok (.ireturn, 1) := dk_172 (dk_at dksL_law_103 17 rfl rfl)
theorem dL_law_2615 : decode cL_law 2615 = .ok (.goto 705, 3) := dk_167 2 193 (dk_at dksL_law_103 18 rfl rfl)
theorem dL_law_2618 : decode cL_law 2618 = .ok (.aload_n 1, 1) := dk_43 (dk_at dksL_law_103 21 rfl rfl)
theorem dL_law_2619 : decode cL_law 2619 = .ok (.aload_n 0, 1) := dk_42 (dk_at dksL_law_103 22 rfl rfl)
theorem dL_law_2620 : decode cL_law 2620 = .ok (.iload 4, 2) := dk_21 4 (dk_at dksL_law_104 0 rfl rfl)
theorem dL_law_2622 : decode cL_law 2622 = .ok (.iconst 1, 1) := dk_4 (dk_at dksL_law_104 2 rfl rfl)
theorem dL_law_2623 : decode cL_law 2623 = .ok (.iadd, 1) := dk_96 (dk_at dksL_law_104 3 rfl rfl)
theorem dL_law_2624 : decode cL_law 2624 = .ok (.iaload, 1) := dk_46 (dk_at dksL_law_104 4 rfl rfl)
theorem dL_law_2625 : decode cL_law 2625 = .ok (.aload_n 0, 1) := dk_42 (dk_at dksL_law_104 5 rfl rfl)
theorem dL_law_2626 : decode cL_law 2626 = .ok (.iload 4, 2) := dk_21 4 (dk_at dksL_law_104 6 rfl rfl)
theorem dL_law_2628 : decode cL_law 2628 = .ok (.iconst 2, 1) := dk_5 (dk_at dksL_law_104 8 rfl rfl)
theorem dL_law_2629 : decode cL_law 2629 = .ok (.iadd, 1) := dk_96 (dk_at dksL_law_104 9 rfl rfl)
theorem dL_law_2630 : decode cL_law 2630 = .ok (.iaload, 1) := dk_46 (dk_at dksL_law_104 10 rfl rfl)
theorem dL_law_2631 : decode cL_law 2631 = .ok (.aload_n 0, 1) := dk_42 (dk_at dksL_law_104 11 rfl rfl)
theorem dL_law_2632 : decode cL_law 2632 = .ok (.iload 4, 2) := dk_21 4 (dk_at dksL_law_104 12 rfl rfl)
theorem dL_law_2634 : decode cL_law 2634 = .ok (.iconst 3, 1) := dk_6 (dk_at dksL_law_104 14 rfl rfl)
theorem dL_law_2635 : decode cL_law 2635 = .ok (.iadd, 1) := dk_96 (dk_at dksL_law_104 15 rfl rfl)
theorem dL_law_2636 : decode cL_law 2636 = .ok (.iaload, 1) := dk_46 (dk_at dksL_law_104 16 rfl rfl)
theorem dL_law_2637 : decode cL_law 2637 = .ok (.aload_n 3, 1) := dk_45 (dk_at dksL_law_104 17 rfl rfl)
theorem dL_law_2638 : decode cL_law 2638 = .ok (.invokestatic 298, 3) := dk_184 1 42 (dk_at dksL_law_104 18 rfl rfl)
theorem dL_law_2641 : decode cL_law 2641 = .ok (.istore 5, 2) := dk_54 5 (dk_at dksL_law_104 21 rfl rfl)
theorem dL_law_2643 : decode cL_law 2643 = .ok (.aload_n 2, 1) := dk_44 (dk_at dksL_law_104 23 rfl rfl)
theorem dL_law_2644 : decode cL_law 2644 = .ok (.aload_n 0, 1) := dk_42 (dk_at dksL_law_105 0 rfl rfl)
theorem dL_law_2645 : decode cL_law 2645 = .ok (.iload 4, 2) := dk_21 4 (dk_at dksL_law_105 1 rfl rfl)
theorem dL_law_2647 : decode cL_law 2647 = .ok (.iconst 1, 1) := dk_4 (dk_at dksL_law_105 3 rfl rfl)
theorem dL_law_2648 : decode cL_law 2648 = .ok (.iadd, 1) := dk_96 (dk_at dksL_law_105 4 rfl rfl)
theorem dL_law_2649 : decode cL_law 2649 = .ok (.iaload, 1) := dk_46 (dk_at dksL_law_105 5 rfl rfl)
theorem dL_law_2650 : decode cL_law 2650 = .ok (.aload_n 0, 1) := dk_42 (dk_at dksL_law_105 6 rfl rfl)
theorem dL_law_2651 : decode cL_law 2651 = .ok (.iload 4, 2) := dk_21 4 (dk_at dksL_law_105 7 rfl rfl)
theorem dL_law_2653 : decode cL_law 2653 = .ok (.iconst 2, 1) := dk_5 (dk_at dksL_law_105 9 rfl rfl)
theorem dL_law_2654 : decode cL_law 2654 = .ok (.iadd, 1) := dk_96 (dk_at dksL_law_105 10 rfl rfl)
theorem dL_law_2655 : decode cL_law 2655 = .ok (.iaload, 1) := dk_46 (dk_at dksL_law_105 11 rfl rfl)
theorem dL_law_2656 : decode cL_law 2656 = .ok (.aload_n 0, 1) := dk_42 (dk_at dksL_law_105 12 rfl rfl)
theorem dL_law_2657 : decode cL_law 2657 = .ok (.iload 4, 2) := dk_21 4 (dk_at dksL_law_105 13 rfl rfl)
theorem dL_law_2659 : decode cL_law 2659 = .ok (.iconst 3, 1) := dk_6 (dk_at dksL_law_105 15 rfl rfl)
theorem dL_law_2660 : decode cL_law 2660 = .ok (.iadd, 1) := dk_96 (dk_at dksL_law_105 16 rfl rfl)
theorem dL_law_2661 : decode cL_law 2661 = .ok (.iaload, 1) := dk_46 (dk_at dksL_law_105 17 rfl rfl)
theorem dL_law_2662 : decode cL_law 2662 = .ok (.invokevirtual 300, 3) := dk_182 1 44 (dk_at dksL_law_105 18 rfl rfl)
theorem dL_law_2665 : decode cL_law 2665 = .ok (.istore 6, 2) := dk_54 6 (dk_at dksL_law_105 21 rfl rfl)
theorem dL_law_2667 : decode cL_law 2667 = .ok (.aload_n 2, 1) := dk_44 (dk_at dksL_law_105 23 rfl rfl)
theorem dL_law_2668 : decode cL_law 2668 = .ok (.invokevirtual 173, 3) := dk_182 0 173 (dk_at dksL_law_106 0 rfl rfl)
theorem dL_law_2671 : decode cL_law 2671 = .ok (.iload 5, 2) := dk_21 5 (dk_at dksL_law_106 3 rfl rfl)
theorem dL_law_2673 : decode cL_law 2673 = .ok (.if_icmp .eq 5, 3) := dk_159 0 5 (dk_at dksL_law_106 5 rfl rfl)
theorem dL_law_2676 : decode cL_law 2676 = .ok (.iconst 0, 1) := dk_3 (dk_at dksL_law_106 8 rfl rfl)
theorem dL_law_2677 : decode cL_law 2677 = .ok (.ireturn, 1) := dk_172 (dk_at dksL_law_106 9 rfl rfl)
theorem dL_law_2678 : decode cL_law 2678 = .ok (.iload 5, 2) := dk_21 5 (dk_at dksL_law_106 10 rfl rfl)
theorem dL_law_2680 : decode cL_law 2680 = .ok (.ifCond .ne 15, 3) := dk_154 0 15 (dk_at dksL_law_106 12 rfl rfl)
theorem dL_law_2683 : decode cL_law 2683 = .ok (.aload_n 3, 1) := dk_45 (dk_at dksL_law_106 15 rfl rfl)
theorem dL_law_2684 : decode cL_law 2684 = .ok (.iconst 0, 1) := dk_3 (dk_at dksL_law_106 16 rfl rfl)
theorem dL_law_2685 : decode cL_law 2685 = .ok (.laload, 1) := dk_47 (dk_at dksL_law_106 17 rfl rfl)
theorem dL_law_2686 : decode cL_law 2686 = .ok (.iload 6, 2) := dk_21 6 (dk_at dksL_law_106 18 rfl rfl)
theorem dL_law_2688 : decode cL_law 2688 = .ok (.i2l, 1) := dk_133 (dk_at dksL_law_106 20 rfl rfl)
theorem dL_law_2689 : decode cL_law 2689 = .ok (.lcmp, 1) := dk_148 (dk_at dksL_law_106 21 rfl rfl)
theorem dL_law_2690 : decode cL_law 2690 = .ok (.ifCond .eq 5, 3) := dk_153 0 5 (dk_at dksL_law_107 0 rfl rfl)
theorem dL_law_2693 : decode cL_law 2693 = .ok (.iconst 0, 1) := dk_3 (dk_at dksL_law_107 3 rfl rfl)
theorem dL_law_2694 : decode cL_law 2694 = .ok (.ireturn, 1) := dk_172 (dk_at dksL_law_107 4 rfl rfl)
theorem dL_law_2695 : decode cL_law 2695 = .ok (.goto 625, 3) := dk_167 2 113 (dk_at dksL_law_107 5 rfl rfl)
theorem dL_law_2698 : decode cL_law 2698 = .ok (.aload_n 1, 1) := dk_43 (dk_at dksL_law_107 8 rfl rfl)
theorem dL_law_2699 : decode cL_law 2699 = .ok (.aload_n 0, 1) := dk_42 (dk_at dksL_law_107 9 rfl rfl)
theorem dL_law_2700 : decode cL_law 2700 = .ok (.iload 4, 2) := dk_21 4 (dk_at dksL_law_107 10 rfl rfl)
theorem dL_law_2702 : decode cL_law 2702 = .ok (.iconst 1, 1) := dk_4 (dk_at dksL_law_107 12 rfl rfl)
theorem dL_law_2703 : decode cL_law 2703 = .ok (.iadd, 1) := dk_96 (dk_at dksL_law_107 13 rfl rfl)
theorem dL_law_2704 : decode cL_law 2704 = .ok (.iaload, 1) := dk_46 (dk_at dksL_law_107 14 rfl rfl)
theorem dL_law_2705 : decode cL_law 2705 = .ok (.aload_n 3, 1) := dk_45 (dk_at dksL_law_107 15 rfl rfl)
theorem dL_law_2706 : decode cL_law 2706 = .ok (.invokestatic 301, 3) := dk_184 1 45 (dk_at dksL_law_107 16 rfl rfl)
theorem dL_law_2709 : decode cL_law 2709 = .ok (.istore 5, 2) := dk_54 5 (dk_at dksL_law_107 19 rfl rfl)
theorem dL_law_2711 : decode cL_law 2711 = .ok (.aload_n 2, 1) := dk_44 (dk_at dksL_law_107 21 rfl rfl)
theorem dL_law_2712 : decode cL_law 2712 = .ok (.aload_n 0, 1) := dk_42 (dk_at dksL_law_107 22 rfl rfl)
theorem dL_law_2713 : decode cL_law 2713 = .ok (.iload 4, 2) := dk_21 4 (dk_at dksL_law_108 0 rfl rfl)
theorem dL_law_2715 : decode cL_law 2715 = .ok (.iconst 1, 1) := dk_4 (dk_at dksL_law_108 2 rfl rfl)
theorem dL_law_2716 : decode cL_law 2716 = .ok (.iadd, 1) := dk_96 (dk_at dksL_law_108 3 rfl rfl)
theorem dL_law_2717 : decode cL_law 2717 = .ok (.iaload, 1) := dk_46 (dk_at dksL_law_108 4 rfl rfl)
theorem dL_law_2718 : decode cL_law 2718 = .ok (.invokevirtual 303, 3) := dk_182 1 47 (dk_at dksL_law_108 5 rfl rfl)
theorem dL_law_2721 : decode cL_law 2721 = .ok (.istore 6, 2) := dk_54 6 (dk_at dksL_law_108 8 rfl rfl)
theorem dL_law_2723 : decode cL_law 2723 = .ok (.aload_n 2, 1) := dk_44 (dk_at dksL_law_108 10 rfl rfl)
theorem dL_law_2724 : decode cL_law 2724 = .ok (.invokevirtual 173, 3) := dk_182 0 173 (dk_at dksL_law_108 11 rfl rfl)
theorem dL_law_2727 : decode cL_law 2727 = .ok (.iload 5, 2) := dk_21 5 (dk_at dksL_law_108 14 rfl rfl)
theorem dL_law_2729 : decode cL_law 2729 = .ok (.if_icmp .eq 5, 3) := dk_159 0 5 (dk_at dksL_law_108 16 rfl rfl)
theorem dL_law_2732 : decode cL_law 2732 = .ok (.iconst 0, 1) := dk_3 (dk_at dksL_law_108 19 rfl rfl)
theorem dL_law_2733 : decode cL_law 2733 = .ok (.ireturn, 1) := dk_172 (dk_at dksL_law_108 20 rfl rfl)
theorem dL_law_2734 : decode cL_law 2734 = .ok (.iload 5, 2) := dk_21 5 (dk_at dksL_law_108 21 rfl rfl)
theorem dL_law_2736 : decode cL_law 2736 = .ok (.ifCond .ne 15, 3) := dk_154 0 15 (dk_at dksL_law_109 0 rfl rfl)
theorem dL_law_2739 : decode cL_law 2739 = .ok (.aload_n 3, 1) := dk_45 (dk_at dksL_law_109 3 rfl rfl)
theorem dL_law_2740 : decode cL_law 2740 = .ok (.iconst 0, 1) := dk_3 (dk_at dksL_law_109 4 rfl rfl)
theorem dL_law_2741 : decode cL_law 2741 = .ok (.laload, 1) := dk_47 (dk_at dksL_law_109 5 rfl rfl)
theorem dL_law_2742 : decode cL_law 2742 = .ok (.iload 6, 2) := dk_21 6 (dk_at dksL_law_109 6 rfl rfl)
theorem dL_law_2744 : decode cL_law 2744 = .ok (.i2l, 1) := dk_133 (dk_at dksL_law_109 8 rfl rfl)
theorem dL_law_2745 : decode cL_law 2745 = .ok (.lcmp, 1) := dk_148 (dk_at dksL_law_109 9 rfl rfl)
theorem dL_law_2746 : decode cL_law 2746 = .ok (.ifCond .eq 5, 3) := dk_153 0 5 (dk_at dksL_law_109 10 rfl rfl)
theorem dL_law_2749 : decode cL_law 2749 = .ok (.iconst 0, 1) := dk_3 (dk_at dksL_law_109 13 rfl rfl)
theorem dL_law_2750 : decode cL_law 2750 = .ok (.ireturn, 1) := dk_172 (dk_at dksL_law_109 14 rfl rfl)
theorem dL_law_2751 : decode cL_law 2751 = .ok (.goto 569, 3) := dk_167 2 57 (dk_at dksL_law_109 15 rfl rfl)
theorem dL_law_2754 : decode cL_law 2754 = .ok (.aload_n 1, 1) := dk_43 (dk_at dksL_law_109 18 rfl rfl)
theorem dL_law_2755 : decode cL_law 2755 = .ok (.aload_n 0, 1) := dk_42 (dk_at dksL_law_109 19 rfl rfl)
theorem dL_law_2756 : decode cL_law 2756 = .ok (.iload 4, 2) := dk_21 4 (dk_at dksL_law_109 20 rfl rfl)
theorem dL_law_2758 : decode cL_law 2758 = .ok (.iconst 1, 1) := dk_4 (dk_at dksL_law_109 22 rfl rfl)
theorem dL_law_2759 : decode cL_law 2759 = .ok (.iadd, 1) := dk_96 (dk_at dksL_law_109 23 rfl rfl)
theorem dL_law_2760 : decode cL_law 2760 = .ok (.iaload, 1) := dk_46 (dk_at dksL_law_110 0 rfl rfl)
theorem dL_law_2761 : decode cL_law 2761 = .ok (.aload_n 3, 1) := dk_45 (dk_at dksL_law_110 1 rfl rfl)
theorem dL_law_2762 : decode cL_law 2762 = .ok (.invokestatic 304, 3) := dk_184 1 48 (dk_at dksL_law_110 2 rfl rfl)
theorem dL_law_2765 : decode cL_law 2765 = .ok (.istore 5, 2) := dk_54 5 (dk_at dksL_law_110 5 rfl rfl)
theorem dL_law_2767 : decode cL_law 2767 = .ok (.aload_n 2, 1) := dk_44 (dk_at dksL_law_110 7 rfl rfl)
theorem dL_law_2768 : decode cL_law 2768 = .ok (.aload_n 0, 1) := dk_42 (dk_at dksL_law_110 8 rfl rfl)
theorem dL_law_2769 : decode cL_law 2769 = .ok (.iload 4, 2) := dk_21 4 (dk_at dksL_law_110 9 rfl rfl)
theorem dL_law_2771 : decode cL_law 2771 = .ok (.iconst 1, 1) := dk_4 (dk_at dksL_law_110 11 rfl rfl)
theorem dL_law_2772 : decode cL_law 2772 = .ok (.iadd, 1) := dk_96 (dk_at dksL_law_110 12 rfl rfl)
theorem dL_law_2773 : decode cL_law 2773 = .ok (.iaload, 1) := dk_46 (dk_at dksL_law_110 13 rfl rfl)
theorem dL_law_2774 : decode cL_law 2774 = .ok (.invokevirtual 306, 3) := dk_182 1 50 (dk_at dksL_law_110 14 rfl rfl)
theorem dL_law_2777 : decode cL_law 2777 = .ok (.istore 6, 2) := dk_54 6 (dk_at dksL_law_110 17 rfl rfl)
theorem dL_law_2779 : decode cL_law 2779 = .ok (.aload_n 2, 1) := dk_44 (dk_at dksL_law_110 19 rfl rfl)
theorem dL_law_2780 : decode cL_law 2780 = .ok (.invokevirtual 173, 3) := dk_182 0 173 (dk_at dksL_law_110 20 rfl rfl)
theorem dL_law_2783 : decode cL_law 2783 = .ok (.iload 5, 2) := dk_21 5 (dk_at dksL_law_111 0 rfl rfl)
theorem dL_law_2785 : decode cL_law 2785 = .ok (.if_icmp .eq 5, 3) := dk_159 0 5 (dk_at dksL_law_111 2 rfl rfl)
theorem dL_law_2788 : decode cL_law 2788 = .ok (.iconst 0, 1) := dk_3 (dk_at dksL_law_111 5 rfl rfl)
theorem dL_law_2789 : decode cL_law 2789 = .ok (.ireturn, 1) := dk_172 (dk_at dksL_law_111 6 rfl rfl)
theorem dL_law_2790 : decode cL_law 2790 = .ok (.iload 5, 2) := dk_21 5 (dk_at dksL_law_111 7 rfl rfl)
theorem dL_law_2792 : decode cL_law 2792 = .ok (.ifCond .ne 15, 3) := dk_154 0 15 (dk_at dksL_law_111 9 rfl rfl)
theorem dL_law_2795 : decode cL_law 2795 = .ok (.aload_n 3, 1) := dk_45 (dk_at dksL_law_111 12 rfl rfl)
theorem dL_law_2796 : decode cL_law 2796 = .ok (.iconst 0, 1) := dk_3 (dk_at dksL_law_111 13 rfl rfl)
theorem dL_law_2797 : decode cL_law 2797 = .ok (.laload, 1) := dk_47 (dk_at dksL_law_111 14 rfl rfl)
theorem dL_law_2798 : decode cL_law 2798 = .ok (.iload 6, 2) := dk_21 6 (dk_at dksL_law_111 15 rfl rfl)
theorem dL_law_2800 : decode cL_law 2800 = .ok (.i2l, 1) := dk_133 (dk_at dksL_law_111 17 rfl rfl)
theorem dL_law_2801 : decode cL_law 2801 = .ok (.lcmp, 1) := dk_148 (dk_at dksL_law_111 18 rfl rfl)
theorem dL_law_2802 : decode cL_law 2802 = .ok (.ifCond .eq 5, 3) := dk_153 0 5 (dk_at dksL_law_111 19 rfl rfl)
theorem dL_law_2805 : decode cL_law 2805 = .ok (.iconst 0, 1) := dk_3 (dk_at dksL_law_111 22 rfl rfl)
theorem dL_law_2806 : decode cL_law 2806 = .ok (.ireturn, 1) := dk_172 (dk_at dksL_law_111 23 rfl rfl)
theorem dL_law_2807 : decode cL_law 2807 = .ok (.goto 513, 3) := dk_167 2 1 (dk_at dksL_law_112 0 rfl rfl)
theorem dL_law_2810 : decode cL_law 2810 = .ok (.aload_n 1, 1) := dk_43 (dk_at dksL_law_112 3 rfl rfl)
theorem dL_law_2811 : decode cL_law 2811 = .ok (.aload_n 0, 1) := dk_42 (dk_at dksL_law_112 4 rfl rfl)
theorem dL_law_2812 : decode cL_law 2812 = .ok (.iload 4, 2) := dk_21 4 (dk_at dksL_law_112 5 rfl rfl)
theorem dL_law_2814 : decode cL_law 2814 = .ok (.iconst 1, 1) := dk_4 (dk_at dksL_law_112 7 rfl rfl)
theorem dL_law_2815 : decode cL_law 2815 = .ok (.iadd, 1) := dk_96 (dk_at dksL_law_112 8 rfl rfl)
theorem dL_law_2816 : decode cL_law 2816 = .ok (.iaload, 1) := dk_46 (dk_at dksL_law_112 9 rfl rfl)
theorem dL_law_2817 : decode cL_law 2817 = .ok (.aload_n 0, 1) := dk_42 (dk_at dksL_law_112 10 rfl rfl)
theorem dL_law_2818 : decode cL_law 2818 = .ok (.iload 4, 2) := dk_21 4 (dk_at dksL_law_112 11 rfl rfl)
theorem dL_law_2820 : decode cL_law 2820 = .ok (.iconst 2, 1) := dk_5 (dk_at dksL_law_112 13 rfl rfl)
theorem dL_law_2821 : decode cL_law 2821 = .ok (.iadd, 1) := dk_96 (dk_at dksL_law_112 14 rfl rfl)
theorem dL_law_2822 : decode cL_law 2822 = .ok (.iaload, 1) := dk_46 (dk_at dksL_law_112 15 rfl rfl)
theorem dL_law_2823 : decode cL_law 2823 = .ok (.aload_n 3, 1) := dk_45 (dk_at dksL_law_112 16 rfl rfl)
theorem dL_law_2824 : decode cL_law 2824 = .ok (.invokestatic 307, 3) := dk_184 1 51 (dk_at dksL_law_112 17 rfl rfl)
theorem dL_law_2827 : decode cL_law 2827 = .ok (.istore 5, 2) := dk_54 5 (dk_at dksL_law_112 20 rfl rfl)
theorem dL_law_2829 : decode cL_law 2829 = .ok (.aload_n 2, 1) := dk_44 (dk_at dksL_law_112 22 rfl rfl)
theorem dL_law_2830 : decode cL_law 2830 = .ok (.aload_n 0, 1) := dk_42 (dk_at dksL_law_112 23 rfl rfl)
theorem dL_law_2831 : decode cL_law 2831 = .ok (.iload 4, 2) := dk_21 4 (dk_at dksL_law_113 0 rfl rfl)
theorem dL_law_2833 : decode cL_law 2833 = .ok (.iconst 1, 1) := dk_4 (dk_at dksL_law_113 2 rfl rfl)
theorem dL_law_2834 : decode cL_law 2834 = .ok (.iadd, 1) := dk_96 (dk_at dksL_law_113 3 rfl rfl)
theorem dL_law_2835 : decode cL_law 2835 = .ok (.iaload, 1) := dk_46 (dk_at dksL_law_113 4 rfl rfl)
theorem dL_law_2836 : decode cL_law 2836 = .ok (.aload_n 0, 1) := dk_42 (dk_at dksL_law_113 5 rfl rfl)
theorem dL_law_2837 : decode cL_law 2837 = .ok (.iload 4, 2) := dk_21 4 (dk_at dksL_law_113 6 rfl rfl)
theorem dL_law_2839 : decode cL_law 2839 = .ok (.iconst 2, 1) := dk_5 (dk_at dksL_law_113 8 rfl rfl)
theorem dL_law_2840 : decode cL_law 2840 = .ok (.iadd, 1) := dk_96 (dk_at dksL_law_113 9 rfl rfl)
theorem dL_law_2841 : decode cL_law 2841 = .ok (.iaload, 1) := dk_46 (dk_at dksL_law_113 10 rfl rfl)
theorem dL_law_2842 : decode cL_law 2842 = .ok (.invokevirtual 309, 3) := dk_182 1 53 (dk_at dksL_law_113 11 rfl rfl)
theorem dL_law_2845 : decode cL_law 2845 = .ok (.istore 6, 2) := dk_54 6 (dk_at dksL_law_113 14 rfl rfl)
theorem dL_law_2847 : decode cL_law 2847 = .ok (.aload_n 2, 1) := dk_44 (dk_at dksL_law_113 16 rfl rfl)
theorem dL_law_2848 : decode cL_law 2848 = .ok (.invokevirtual 173, 3) := dk_182 0 173 (dk_at dksL_law_113 17 rfl rfl)
theorem dL_law_2851 : decode cL_law 2851 = .ok (.iload 5, 2) := dk_21 5 (dk_at dksL_law_113 20 rfl rfl)
theorem dL_law_2853 : decode cL_law 2853 = .ok (.if_icmp .eq 5, 3) := dk_159 0 5 (dk_at dksL_law_114 0 rfl rfl)
theorem dL_law_2856 : decode cL_law 2856 = .ok (.iconst 0, 1) := dk_3 (dk_at dksL_law_114 3 rfl rfl)
theorem dL_law_2857 : decode cL_law 2857 = .ok (.ireturn, 1) := dk_172 (dk_at dksL_law_114 4 rfl rfl)
theorem dL_law_2858 : decode cL_law 2858 = .ok (.iload 5, 2) := dk_21 5 (dk_at dksL_law_114 5 rfl rfl)
theorem dL_law_2860 : decode cL_law 2860 = .ok (.ifCond .ne 15, 3) := dk_154 0 15 (dk_at dksL_law_114 7 rfl rfl)
theorem dL_law_2863 : decode cL_law 2863 = .ok (.aload_n 3, 1) := dk_45 (dk_at dksL_law_114 10 rfl rfl)
theorem dL_law_2864 : decode cL_law 2864 = .ok (.iconst 0, 1) := dk_3 (dk_at dksL_law_114 11 rfl rfl)
theorem dL_law_2865 : decode cL_law 2865 = .ok (.laload, 1) := dk_47 (dk_at dksL_law_114 12 rfl rfl)
theorem dL_law_2866 : decode cL_law 2866 = .ok (.iload 6, 2) := dk_21 6 (dk_at dksL_law_114 13 rfl rfl)
theorem dL_law_2868 : decode cL_law 2868 = .ok (.i2l, 1) := dk_133 (dk_at dksL_law_114 15 rfl rfl)
theorem dL_law_2869 : decode cL_law 2869 = .ok (.lcmp, 1) := dk_148 (dk_at dksL_law_114 16 rfl rfl)
theorem dL_law_2870 : decode cL_law 2870 = .ok (.ifCond .eq 5, 3) := dk_153 0 5 (dk_at dksL_law_114 17 rfl rfl)
theorem dL_law_2873 : decode cL_law 2873 = .ok (.iconst 0, 1) := dk_3 (dk_at dksL_law_114 20 rfl rfl)
theorem dL_law_2874 : decode cL_law 2874 = .ok (.ireturn, 1) := dk_172 (dk_at dksL_law_114 21 rfl rfl)
theorem dL_law_2875 : decode cL_law 2875 = .ok (.goto 445, 3) := dk_167 1 189 (dk_at dksL_law_115 0 rfl rfl)
theorem dL_law_2878 : decode cL_law 2878 = .ok (.aload_n 1, 1) := dk_43 (dk_at dksL_law_115 3 rfl rfl)
theorem dL_law_2879 : decode cL_law 2879 = .ok (.aload_n 0, 1) := dk_42 (dk_at dksL_law_115 4 rfl rfl)
theorem dL_law_2880 : decode cL_law 2880 = .ok (.iload 4, 2) := dk_21 4 (dk_at dksL_law_115 5 rfl rfl)
theorem dL_law_2882 : decode cL_law 2882 = .ok (.iconst 1, 1) := dk_4 (dk_at dksL_law_115 7 rfl rfl)
theorem dL_law_2883 : decode cL_law 2883 = .ok (.iadd, 1) := dk_96 (dk_at dksL_law_115 8 rfl rfl)
theorem dL_law_2884 : decode cL_law 2884 = .ok (.iaload, 1) := dk_46 (dk_at dksL_law_115 9 rfl rfl)
theorem dL_law_2885 : decode cL_law 2885 = .ok (.aload_n 0, 1) := dk_42 (dk_at dksL_law_115 10 rfl rfl)
theorem dL_law_2886 : decode cL_law 2886 = .ok (.iload 4, 2) := dk_21 4 (dk_at dksL_law_115 11 rfl rfl)
theorem dL_law_2888 : decode cL_law 2888 = .ok (.iconst 2, 1) := dk_5 (dk_at dksL_law_115 13 rfl rfl)
theorem dL_law_2889 : decode cL_law 2889 = .ok (.iadd, 1) := dk_96 (dk_at dksL_law_115 14 rfl rfl)
theorem dL_law_2890 : decode cL_law 2890 = .ok (.iaload, 1) := dk_46 (dk_at dksL_law_115 15 rfl rfl)
theorem dL_law_2891 : decode cL_law 2891 = .ok (.aload_n 3, 1) := dk_45 (dk_at dksL_law_115 16 rfl rfl)
theorem dL_law_2892 : decode cL_law 2892 = .ok (.invokestatic 310, 3) := dk_184 1 54 (dk_at dksL_law_115 17 rfl rfl)
theorem dL_law_2895 : decode cL_law 2895 = .ok (.istore 5, 2) := dk_54 5 (dk_at dksL_law_115 20 rfl rfl)
theorem dL_law_2897 : decode cL_law 2897 = .ok (.aload_n 2, 1) := dk_44 (dk_at dksL_law_115 22 rfl rfl)
theorem dL_law_2898 : decode cL_law 2898 = .ok (.aload_n 0, 1) := dk_42 (dk_at dksL_law_115 23 rfl rfl)
theorem dL_law_2899 : decode cL_law 2899 = .ok (.iload 4, 2) := dk_21 4 (dk_at dksL_law_116 0 rfl rfl)
theorem dL_law_2901 : decode cL_law 2901 = .ok (.iconst 1, 1) := dk_4 (dk_at dksL_law_116 2 rfl rfl)
theorem dL_law_2902 : decode cL_law 2902 = .ok (.iadd, 1) := dk_96 (dk_at dksL_law_116 3 rfl rfl)
theorem dL_law_2903 : decode cL_law 2903 = .ok (.iaload, 1) := dk_46 (dk_at dksL_law_116 4 rfl rfl)
theorem dL_law_2904 : decode cL_law 2904 = .ok (.aload_n 0, 1) := dk_42 (dk_at dksL_law_116 5 rfl rfl)
theorem dL_law_2905 : decode cL_law 2905 = .ok (.iload 4, 2) := dk_21 4 (dk_at dksL_law_116 6 rfl rfl)
theorem dL_law_2907 : decode cL_law 2907 = .ok (.iconst 2, 1) := dk_5 (dk_at dksL_law_116 8 rfl rfl)
theorem dL_law_2908 : decode cL_law 2908 = .ok (.iadd, 1) := dk_96 (dk_at dksL_law_116 9 rfl rfl)
theorem dL_law_2909 : decode cL_law 2909 = .ok (.iaload, 1) := dk_46 (dk_at dksL_law_116 10 rfl rfl)
theorem dL_law_2910 : decode cL_law 2910 = .ok (.invokevirtual 312, 3) := dk_182 1 56 (dk_at dksL_law_116 11 rfl rfl)
theorem dL_law_2913 : decode cL_law 2913 = .ok (.istore 6, 2) := dk_54 6 (dk_at dksL_law_116 14 rfl rfl)
theorem dL_law_2915 : decode cL_law 2915 = .ok (.aload_n 2, 1) := dk_44 (dk_at dksL_law_116 16 rfl rfl)
theorem dL_law_2916 : decode cL_law 2916 = .ok (.invokevirtual 173, 3) := dk_182 0 173 (dk_at dksL_law_116 17 rfl rfl)
theorem dL_law_2919 : decode cL_law 2919 = .ok (.iload 5, 2) := dk_21 5 (dk_at dksL_law_116 20 rfl rfl)
theorem dL_law_2921 : decode cL_law 2921 = .ok (.if_icmp .eq 5, 3) := dk_159 0 5 (dk_at dksL_law_117 0 rfl rfl)
theorem dL_law_2924 : decode cL_law 2924 = .ok (.iconst 0, 1) := dk_3 (dk_at dksL_law_117 3 rfl rfl)
theorem dL_law_2925 : decode cL_law 2925 = .ok (.ireturn, 1) := dk_172 (dk_at dksL_law_117 4 rfl rfl)
theorem dL_law_2926 : decode cL_law 2926 = .ok (.iload 5, 2) := dk_21 5 (dk_at dksL_law_117 5 rfl rfl)
theorem dL_law_2928 : decode cL_law 2928 = .ok (.ifCond .ne 15, 3) := dk_154 0 15 (dk_at dksL_law_117 7 rfl rfl)
theorem dL_law_2931 : decode cL_law 2931 = .ok (.aload_n 3, 1) := dk_45 (dk_at dksL_law_117 10 rfl rfl)
theorem dL_law_2932 : decode cL_law 2932 = .ok (.iconst 0, 1) := dk_3 (dk_at dksL_law_117 11 rfl rfl)
theorem dL_law_2933 : decode cL_law 2933 = .ok (.laload, 1) := dk_47 (dk_at dksL_law_117 12 rfl rfl)
theorem dL_law_2934 : decode cL_law 2934 = .ok (.iload 6, 2) := dk_21 6 (dk_at dksL_law_117 13 rfl rfl)
theorem dL_law_2936 : decode cL_law 2936 = .ok (.i2l, 1) := dk_133 (dk_at dksL_law_117 15 rfl rfl)
theorem dL_law_2937 : decode cL_law 2937 = .ok (.lcmp, 1) := dk_148 (dk_at dksL_law_117 16 rfl rfl)
theorem dL_law_2938 : decode cL_law 2938 = .ok (.ifCond .eq 5, 3) := dk_153 0 5 (dk_at dksL_law_117 17 rfl rfl)
theorem dL_law_2941 : decode cL_law 2941 = .ok (.iconst 0, 1) := dk_3 (dk_at dksL_law_117 20 rfl rfl)
theorem dL_law_2942 : decode cL_law 2942 = .ok (.ireturn, 1) := dk_172 (dk_at dksL_law_117 21 rfl rfl)
theorem dL_law_2943 : decode cL_law 2943 = .ok (.goto 377, 3) := dk_167 1 121 (dk_at dksL_law_118 0 rfl rfl)
theorem dL_law_2946 : decode cL_law 2946 = .ok (.aload_n 1, 1) := dk_43 (dk_at dksL_law_118 3 rfl rfl)
theorem dL_law_2947 : decode cL_law 2947 = .ok (.aload_n 0, 1) := dk_42 (dk_at dksL_law_118 4 rfl rfl)
theorem dL_law_2948 : decode cL_law 2948 = .ok (.iload 4, 2) := dk_21 4 (dk_at dksL_law_118 5 rfl rfl)
theorem dL_law_2950 : decode cL_law 2950 = .ok (.iconst 1, 1) := dk_4 (dk_at dksL_law_118 7 rfl rfl)
theorem dL_law_2951 : decode cL_law 2951 = .ok (.iadd, 1) := dk_96 (dk_at dksL_law_118 8 rfl rfl)
theorem dL_law_2952 : decode cL_law 2952 = .ok (.iaload, 1) := dk_46 (dk_at dksL_law_118 9 rfl rfl)
theorem dL_law_2953 : decode cL_law 2953 = .ok (.aload_n 3, 1) := dk_45 (dk_at dksL_law_118 10 rfl rfl)
theorem dL_law_2954 : decode cL_law 2954 = .ok (.invokestatic 313, 3) := dk_184 1 57 (dk_at dksL_law_118 11 rfl rfl)
theorem dL_law_2957 : decode cL_law 2957 = .ok (.istore 5, 2) := dk_54 5 (dk_at dksL_law_118 14 rfl rfl)
theorem dL_law_2959 : decode cL_law 2959 = .ok (.aload_n 2, 1) := dk_44 (dk_at dksL_law_118 16 rfl rfl)
theorem dL_law_2960 : decode cL_law 2960 = .ok (.aload_n 0, 1) := dk_42 (dk_at dksL_law_118 17 rfl rfl)
theorem dL_law_2961 : decode cL_law 2961 = .ok (.iload 4, 2) := dk_21 4 (dk_at dksL_law_118 18 rfl rfl)
theorem dL_law_2963 : decode cL_law 2963 = .ok (.iconst 1, 1) := dk_4 (dk_at dksL_law_118 20 rfl rfl)
theorem dL_law_2964 : decode cL_law 2964 = .ok (.iadd, 1) := dk_96 (dk_at dksL_law_118 21 rfl rfl)
theorem dL_law_2965 : decode cL_law 2965 = .ok (.iaload, 1) := dk_46 (dk_at dksL_law_118 22 rfl rfl)
theorem dL_law_2966 : decode cL_law 2966 = .ok (.invokevirtual 315, 3) := dk_182 1 59 (dk_at dksL_law_119 0 rfl rfl)
theorem dL_law_2969 : decode cL_law 2969 = .ok (.istore 6, 2) := dk_54 6 (dk_at dksL_law_119 3 rfl rfl)
theorem dL_law_2971 : decode cL_law 2971 = .ok (.aload_n 2, 1) := dk_44 (dk_at dksL_law_119 5 rfl rfl)
theorem dL_law_2972 : decode cL_law 2972 = .ok (.invokevirtual 173, 3) := dk_182 0 173 (dk_at dksL_law_119 6 rfl rfl)
theorem dL_law_2975 : decode cL_law 2975 = .ok (.iload 5, 2) := dk_21 5 (dk_at dksL_law_119 9 rfl rfl)
theorem dL_law_2977 : decode cL_law 2977 = .ok (.if_icmp .eq 5, 3) := dk_159 0 5 (dk_at dksL_law_119 11 rfl rfl)
theorem dL_law_2980 : decode cL_law 2980 = .ok (.iconst 0, 1) := dk_3 (dk_at dksL_law_119 14 rfl rfl)
theorem dL_law_2981 : decode cL_law 2981 = .ok (.ireturn, 1) := dk_172 (dk_at dksL_law_119 15 rfl rfl)
theorem dL_law_2982 : decode cL_law 2982 = .ok (.iload 5, 2) := dk_21 5 (dk_at dksL_law_119 16 rfl rfl)
theorem dL_law_2984 : decode cL_law 2984 = .ok (.ifCond .ne 15, 3) := dk_154 0 15 (dk_at dksL_law_119 18 rfl rfl)
theorem dL_law_2987 : decode cL_law 2987 = .ok (.aload_n 3, 1) := dk_45 (dk_at dksL_law_119 21 rfl rfl)
theorem dL_law_2988 : decode cL_law 2988 = .ok (.iconst 0, 1) := dk_3 (dk_at dksL_law_119 22 rfl rfl)
theorem dL_law_2989 : decode cL_law 2989 = .ok (.laload, 1) := dk_47 (dk_at dksL_law_119 23 rfl rfl)
theorem dL_law_2990 : decode cL_law 2990 = .ok (.iload 6, 2) := dk_21 6 (dk_at dksL_law_120 0 rfl rfl)
theorem dL_law_2992 : decode cL_law 2992 = .ok (.i2l, 1) := dk_133 (dk_at dksL_law_120 2 rfl rfl)
theorem dL_law_2993 : decode cL_law 2993 = .ok (.lcmp, 1) := dk_148 (dk_at dksL_law_120 3 rfl rfl)
theorem dL_law_2994 : decode cL_law 2994 = .ok (.ifCond .eq 5, 3) := dk_153 0 5 (dk_at dksL_law_120 4 rfl rfl)
theorem dL_law_2997 : decode cL_law 2997 = .ok (.iconst 0, 1) := dk_3 (dk_at dksL_law_120 7 rfl rfl)
theorem dL_law_2998 : decode cL_law 2998 = .ok (.ireturn, 1) := dk_172 (dk_at dksL_law_120 8 rfl rfl)
theorem dL_law_2999 : decode cL_law 2999 = .ok (.goto 321, 3) := dk_167 1 65 (dk_at dksL_law_120 9 rfl rfl)
theorem dL_law_3002 : decode cL_law 3002 = .ok (.aload_n 1, 1) := dk_43 (dk_at dksL_law_120 12 rfl rfl)
theorem dL_law_3003 : decode cL_law 3003 = .ok (.aload_n 0, 1) := dk_42 (dk_at dksL_law_120 13 rfl rfl)
theorem dL_law_3004 : decode cL_law 3004 = .ok (.iload 4, 2) := dk_21 4 (dk_at dksL_law_120 14 rfl rfl)
theorem dL_law_3006 : decode cL_law 3006 = .ok (.iconst 1, 1) := dk_4 (dk_at dksL_law_120 16 rfl rfl)
theorem dL_law_3007 : decode cL_law 3007 = .ok (.iadd, 1) := dk_96 (dk_at dksL_law_120 17 rfl rfl)
theorem dL_law_3008 : decode cL_law 3008 = .ok (.iaload, 1) := dk_46 (dk_at dksL_law_120 18 rfl rfl)
theorem dL_law_3009 : decode cL_law 3009 = .ok (.aload_n 0, 1) := dk_42 (dk_at dksL_law_120 19 rfl rfl)
theorem dL_law_3010 : decode cL_law 3010 = .ok (.iload 4, 2) := dk_21 4 (dk_at dksL_law_120 20 rfl rfl)
theorem dL_law_3012 : decode cL_law 3012 = .ok (.iconst 2, 1) := dk_5 (dk_at dksL_law_120 22 rfl rfl)
theorem dL_law_3013 : decode cL_law 3013 = .ok (.iadd, 1) := dk_96 (dk_at dksL_law_120 23 rfl rfl)
theorem dL_law_3014 : decode cL_law 3014 = .ok (.iaload, 1) := dk_46 (dk_at dksL_law_121 0 rfl rfl)
theorem dL_law_3015 : decode cL_law 3015 = .ok (.aload_n 3, 1) := dk_45 (dk_at dksL_law_121 1 rfl rfl)
theorem dL_law_3016 : decode cL_law 3016 = .ok (.invokestatic 316, 3) := dk_184 1 60 (dk_at dksL_law_121 2 rfl rfl)
theorem dL_law_3019 : decode cL_law 3019 = .ok (.istore 5, 2) := dk_54 5 (dk_at dksL_law_121 5 rfl rfl)
theorem dL_law_3021 : decode cL_law 3021 = .ok (.aload_n 2, 1) := dk_44 (dk_at dksL_law_121 7 rfl rfl)
theorem dL_law_3022 : decode cL_law 3022 = .ok (.aload_n 0, 1) := dk_42 (dk_at dksL_law_121 8 rfl rfl)
theorem dL_law_3023 : decode cL_law 3023 = .ok (.iload 4, 2) := dk_21 4 (dk_at dksL_law_121 9 rfl rfl)
theorem dL_law_3025 : decode cL_law 3025 = .ok (.iconst 1, 1) := dk_4 (dk_at dksL_law_121 11 rfl rfl)
theorem dL_law_3026 : decode cL_law 3026 = .ok (.iadd, 1) := dk_96 (dk_at dksL_law_121 12 rfl rfl)
theorem dL_law_3027 : decode cL_law 3027 = .ok (.iaload, 1) := dk_46 (dk_at dksL_law_121 13 rfl rfl)
theorem dL_law_3028 : decode cL_law 3028 = .ok (.aload_n 0, 1) := dk_42 (dk_at dksL_law_121 14 rfl rfl)
theorem dL_law_3029 : decode cL_law 3029 = .ok (.iload 4, 2) := dk_21 4 (dk_at dksL_law_121 15 rfl rfl)
theorem dL_law_3031 : decode cL_law 3031 = .ok (.iconst 2, 1) := dk_5 (dk_at dksL_law_121 17 rfl rfl)
theorem dL_law_3032 : decode cL_law 3032 = .ok (.iadd, 1) := dk_96 (dk_at dksL_law_121 18 rfl rfl)
theorem dL_law_3033 : decode cL_law 3033 = .ok (.iaload, 1) := dk_46 (dk_at dksL_law_121 19 rfl rfl)
theorem dL_law_3034 : decode cL_law 3034 = .ok (.invokevirtual 318, 3) := dk_182 1 62 (dk_at dksL_law_121 20 rfl rfl)
theorem dL_law_3037 : decode cL_law 3037 = .ok (.istore 6, 2) := dk_54 6 (dk_at dksL_law_122 0 rfl rfl)
theorem dL_law_3039 : decode cL_law 3039 = .ok (.aload_n 2, 1) := dk_44 (dk_at dksL_law_122 2 rfl rfl)
theorem dL_law_3040 : decode cL_law 3040 = .ok (.invokevirtual 173, 3) := dk_182 0 173 (dk_at dksL_law_122 3 rfl rfl)
theorem dL_law_3043 : decode cL_law 3043 = .ok (.iload 5, 2) := dk_21 5 (dk_at dksL_law_122 6 rfl rfl)
theorem dL_law_3045 : decode cL_law 3045 = .ok (.if_icmp .eq 5, 3) := dk_159 0 5 (dk_at dksL_law_122 8 rfl rfl)
theorem dL_law_3048 : decode cL_law 3048 = .ok (.iconst 0, 1) := dk_3 (dk_at dksL_law_122 11 rfl rfl)
theorem dL_law_3049 : decode cL_law 3049 = .ok (.ireturn, 1) := dk_172 (dk_at dksL_law_122 12 rfl rfl)
theorem dL_law_3050 : decode cL_law 3050 = .ok (.iload 5, 2) := dk_21 5 (dk_at dksL_law_122 13 rfl rfl)
theorem dL_law_3052 : decode cL_law 3052 = .ok (.ifCond .ne 15, 3) := dk_154 0 15 (dk_at dksL_law_122 15 rfl rfl)
theorem dL_law_3055 : decode cL_law 3055 = .ok (.aload_n 3, 1) := dk_45 (dk_at dksL_law_122 18 rfl rfl)
theorem dL_law_3056 : decode cL_law 3056 = .ok (.iconst 0, 1) := dk_3 (dk_at dksL_law_122 19 rfl rfl)
theorem dL_law_3057 : decode cL_law 3057 = .ok (.laload, 1) := dk_47 (dk_at dksL_law_122 20 rfl rfl)
theorem dL_law_3058 : decode cL_law 3058 = .ok (.iload 6, 2) := dk_21 6 (dk_at dksL_law_122 21 rfl rfl)
theorem dL_law_3060 : decode cL_law 3060 = .ok (.i2l, 1) := dk_133 (dk_at dksL_law_122 23 rfl rfl)
theorem dL_law_3061 : decode cL_law 3061 = .ok (.lcmp, 1) := dk_148 (dk_at dksL_law_123 0 rfl rfl)
theorem dL_law_3062 : decode cL_law 3062 = .ok (.ifCond .eq 5, 3) := dk_153 0 5 (dk_at dksL_law_123 1 rfl rfl)
theorem dL_law_3065 : decode cL_law 3065 = .ok (.iconst 0, 1) := dk_3 (dk_at dksL_law_123 4 rfl rfl)
theorem dL_law_3066 : decode cL_law 3066 = .ok (.ireturn, 1) := dk_172 (dk_at dksL_law_123 5 rfl rfl)
theorem dL_law_3067 : decode cL_law 3067 = .ok (.goto 253, 3) := dk_167 0 253 (dk_at dksL_law_123 6 rfl rfl)
theorem dL_law_3070 : decode cL_law 3070 = .ok (.aload_n 1, 1) := dk_43 (dk_at dksL_law_123 9 rfl rfl)
theorem dL_law_3071 : decode cL_law 3071 = .ok (.aload_n 0, 1) := dk_42 (dk_at dksL_law_123 10 rfl rfl)
theorem dL_law_3072 : decode cL_law 3072 = .ok (.iload 4, 2) := dk_21 4 (dk_at dksL_law_123 11 rfl rfl)
theorem dL_law_3074 : decode cL_law 3074 = .ok (.iconst 1, 1) := dk_4 (dk_at dksL_law_123 13 rfl rfl)
theorem dL_law_3075 : decode cL_law 3075 = .ok (.iadd, 1) := dk_96 (dk_at dksL_law_123 14 rfl rfl)
theorem dL_law_3076 : decode cL_law 3076 = .ok (.iaload, 1) := dk_46 (dk_at dksL_law_123 15 rfl rfl)
theorem dL_law_3077 : decode cL_law 3077 = .ok (.aload_n 3, 1) := dk_45 (dk_at dksL_law_123 16 rfl rfl)
theorem dL_law_3078 : decode cL_law 3078 = .ok (.invokestatic 319, 3) := dk_184 1 63 (dk_at dksL_law_123 17 rfl rfl)
theorem dL_law_3081 : decode cL_law 3081 = .ok (.istore 5, 2) := dk_54 5 (dk_at dksL_law_123 20 rfl rfl)
theorem dL_law_3083 : decode cL_law 3083 = .ok (.aload_n 2, 1) := dk_44 (dk_at dksL_law_123 22 rfl rfl)
theorem dL_law_3084 : decode cL_law 3084 = .ok (.aload_n 0, 1) := dk_42 (dk_at dksL_law_123 23 rfl rfl)
theorem dL_law_3085 : decode cL_law 3085 = .ok (.iload 4, 2) := dk_21 4 (dk_at dksL_law_124 0 rfl rfl)
theorem dL_law_3087 : decode cL_law 3087 = .ok (.iconst 1, 1) := dk_4 (dk_at dksL_law_124 2 rfl rfl)
theorem dL_law_3088 : decode cL_law 3088 = .ok (.iadd, 1) := dk_96 (dk_at dksL_law_124 3 rfl rfl)
theorem dL_law_3089 : decode cL_law 3089 = .ok (.iaload, 1) := dk_46 (dk_at dksL_law_124 4 rfl rfl)
theorem dL_law_3090 : decode cL_law 3090 = .ok (.invokevirtual 321, 3) := dk_182 1 65 (dk_at dksL_law_124 5 rfl rfl)
theorem dL_law_3093 : decode cL_law 3093 = .ok (.istore 6, 2) := dk_54 6 (dk_at dksL_law_124 8 rfl rfl)
theorem dL_law_3095 : decode cL_law 3095 = .ok (.aload_n 2, 1) := dk_44 (dk_at dksL_law_124 10 rfl rfl)
theorem dL_law_3096 : decode cL_law 3096 = .ok (.invokevirtual 173, 3) := dk_182 0 173 (dk_at dksL_law_124 11 rfl rfl)
theorem dL_law_3099 : decode cL_law 3099 = .ok (.iload 5, 2) := dk_21 5 (dk_at dksL_law_124 14 rfl rfl)
theorem dL_law_3101 : decode cL_law 3101 = .ok (.if_icmp .eq 5, 3) := dk_159 0 5 (dk_at dksL_law_124 16 rfl rfl)
theorem dL_law_3104 : decode cL_law 3104 = .ok (.iconst 0, 1) := dk_3 (dk_at dksL_law_124 19 rfl rfl)
theorem dL_law_3105 : decode cL_law 3105 = .ok (.ireturn, 1) := dk_172 (dk_at dksL_law_124 20 rfl rfl)
theorem dL_law_3106 : decode cL_law 3106 = .ok (.iload 5, 2) := dk_21 5 (dk_at dksL_law_124 21 rfl rfl)
theorem dL_law_3108 : decode cL_law 3108 = .ok (.ifCond .ne 15, 3) := dk_154 0 15 (dk_at dksL_law_125 0 rfl rfl)
theorem dL_law_3111 : decode cL_law 3111 = .ok (.aload_n 3, 1) := dk_45 (dk_at dksL_law_125 3 rfl rfl)
theorem dL_law_3112 : decode cL_law 3112 = .ok (.iconst 0, 1) := dk_3 (dk_at dksL_law_125 4 rfl rfl)
theorem dL_law_3113 : decode cL_law 3113 = .ok (.laload, 1) := dk_47 (dk_at dksL_law_125 5 rfl rfl)
theorem dL_law_3114 : decode cL_law 3114 = .ok (.iload 6, 2) := dk_21 6 (dk_at dksL_law_125 6 rfl rfl)
theorem dL_law_3116 : decode cL_law 3116 = .ok (.i2l, 1) := dk_133 (dk_at dksL_law_125 8 rfl rfl)
theorem dL_law_3117 : decode cL_law 3117 = .ok (.lcmp, 1) := dk_148 (dk_at dksL_law_125 9 rfl rfl)
theorem dL_law_3118 : decode cL_law 3118 = .ok (.ifCond .eq 5, 3) := dk_153 0 5 (dk_at dksL_law_125 10 rfl rfl)
theorem dL_law_3121 : decode cL_law 3121 = .ok (.iconst 0, 1) := dk_3 (dk_at dksL_law_125 13 rfl rfl)
theorem dL_law_3122 : decode cL_law 3122 = .ok (.ireturn, 1) := dk_172 (dk_at dksL_law_125 14 rfl rfl)
theorem dL_law_3123 : decode cL_law 3123 = .ok (.goto 197, 3) := dk_167 0 197 (dk_at dksL_law_125 15 rfl rfl)
theorem dL_law_3126 : decode cL_law 3126 = .ok (.aload_n 1, 1) := dk_43 (dk_at dksL_law_125 18 rfl rfl)
theorem dL_law_3127 : decode cL_law 3127 = .ok (.aload_n 0, 1) := dk_42 (dk_at dksL_law_125 19 rfl rfl)
theorem dL_law_3128 : decode cL_law 3128 = .ok (.iload 4, 2) := dk_21 4 (dk_at dksL_law_125 20 rfl rfl)
theorem dL_law_3130 : decode cL_law 3130 = .ok (.iconst 1, 1) := dk_4 (dk_at dksL_law_125 22 rfl rfl)
theorem dL_law_3131 : decode cL_law 3131 = .ok (.iadd, 1) := dk_96 (dk_at dksL_law_125 23 rfl rfl)
theorem dL_law_3132 : decode cL_law 3132 = .ok (.iaload, 1) := dk_46 (dk_at dksL_law_126 0 rfl rfl)
theorem dL_law_3133 : decode cL_law 3133 = .ok (.aload_n 3, 1) := dk_45 (dk_at dksL_law_126 1 rfl rfl)
theorem dL_law_3134 : decode cL_law 3134 = .ok (.invokestatic 322, 3) := dk_184 1 66 (dk_at dksL_law_126 2 rfl rfl)
theorem dL_law_3137 : decode cL_law 3137 = .ok (.istore 5, 2) := dk_54 5 (dk_at dksL_law_126 5 rfl rfl)
theorem dL_law_3139 : decode cL_law 3139 = .ok (.aload_n 2, 1) := dk_44 (dk_at dksL_law_126 7 rfl rfl)
theorem dL_law_3140 : decode cL_law 3140 = .ok (.aload_n 0, 1) := dk_42 (dk_at dksL_law_126 8 rfl rfl)
theorem dL_law_3141 : decode cL_law 3141 = .ok (.iload 4, 2) := dk_21 4 (dk_at dksL_law_126 9 rfl rfl)
theorem dL_law_3143 : decode cL_law 3143 = .ok (.iconst 1, 1) := dk_4 (dk_at dksL_law_126 11 rfl rfl)
theorem dL_law_3144 : decode cL_law 3144 = .ok (.iadd, 1) := dk_96 (dk_at dksL_law_126 12 rfl rfl)
theorem dL_law_3145 : decode cL_law 3145 = .ok (.iaload, 1) := dk_46 (dk_at dksL_law_126 13 rfl rfl)
theorem dL_law_3146 : decode cL_law 3146 = .ok (.invokevirtual 324, 3) := dk_182 1 68 (dk_at dksL_law_126 14 rfl rfl)
theorem dL_law_3149 : decode cL_law 3149 = .ok (.istore 6, 2) := dk_54 6 (dk_at dksL_law_126 17 rfl rfl)
theorem dL_law_3151 : decode cL_law 3151 = .ok (.aload_n 2, 1) := dk_44 (dk_at dksL_law_126 19 rfl rfl)
theorem dL_law_3152 : decode cL_law 3152 = .ok (.invokevirtual 173, 3) := dk_182 0 173 (dk_at dksL_law_126 20 rfl rfl)
theorem dL_law_3155 : decode cL_law 3155 = .ok (.iload 5, 2) := dk_21 5 (dk_at dksL_law_127 0 rfl rfl)
theorem dL_law_3157 : decode cL_law 3157 = .ok (.if_icmp .eq 5, 3) := dk_159 0 5 (dk_at dksL_law_127 2 rfl rfl)
theorem dL_law_3160 : decode cL_law 3160 = .ok (.iconst 0, 1) := dk_3 (dk_at dksL_law_127 5 rfl rfl)
theorem dL_law_3161 : decode cL_law 3161 = .ok (.ireturn, 1) := dk_172 (dk_at dksL_law_127 6 rfl rfl)
theorem dL_law_3162 : decode cL_law 3162 = .ok (.iload 5, 2) := dk_21 5 (dk_at dksL_law_127 7 rfl rfl)
theorem dL_law_3164 : decode cL_law 3164 = .ok (.ifCond .ne 15, 3) := dk_154 0 15 (dk_at dksL_law_127 9 rfl rfl)
theorem dL_law_3167 : decode cL_law 3167 = .ok (.aload_n 3, 1) := dk_45 (dk_at dksL_law_127 12 rfl rfl)
theorem dL_law_3168 : decode cL_law 3168 = .ok (.iconst 0, 1) := dk_3 (dk_at dksL_law_127 13 rfl rfl)
theorem dL_law_3169 : decode cL_law 3169 = .ok (.laload, 1) := dk_47 (dk_at dksL_law_127 14 rfl rfl)
theorem dL_law_3170 : decode cL_law 3170 = .ok (.iload 6, 2) := dk_21 6 (dk_at dksL_law_127 15 rfl rfl)
theorem dL_law_3172 : decode cL_law 3172 = .ok (.i2l, 1) := dk_133 (dk_at dksL_law_127 17 rfl rfl)
theorem dL_law_3173 : decode cL_law 3173 = .ok (.lcmp, 1) := dk_148 (dk_at dksL_law_127 18 rfl rfl)
theorem dL_law_3174 : decode cL_law 3174 = .ok (.ifCond .eq 5, 3) := dk_153 0 5 (dk_at dksL_law_127 19 rfl rfl)
theorem dL_law_3177 : decode cL_law 3177 = .ok (.iconst 0, 1) := dk_3 (dk_at dksL_law_127 22 rfl rfl)
theorem dL_law_3178 : decode cL_law 3178 = .ok (.ireturn, 1) := dk_172 (dk_at dksL_law_127 23 rfl rfl)
theorem dL_law_3179 : decode cL_law 3179 = .ok (.goto 141, 3) := dk_167 0 141 (dk_at dksL_law_128 0 rfl rfl)
theorem dL_law_3182 : decode cL_law 3182 = .ok (.aload_n 1, 1) := dk_43 (dk_at dksL_law_128 3 rfl rfl)
theorem dL_law_3183 : decode cL_law 3183 = .ok (.invokevirtual 325, 3) := dk_182 1 69 (dk_at dksL_law_128 4 rfl rfl)
theorem dL_law_3186 : decode cL_law 3186 = .ok (.aload_n 2, 1) := dk_44 (dk_at dksL_law_128 7 rfl rfl)
theorem dL_law_3187 : decode cL_law 3187 = .ok (.invokevirtual 328, 3) := dk_182 1 72 (dk_at dksL_law_128 8 rfl rfl)
theorem dL_law_3190 : decode cL_law 3190 = .ok (.if_icmp .eq 130, 3) := dk_159 0 130 (dk_at dksL_law_128 11 rfl rfl)
theorem dL_law_3193 : decode cL_law 3193 = .ok (.iconst 0, 1) := dk_3 (dk_at dksL_law_128 14 rfl rfl)
theorem dL_law_3194 : decode cL_law 3194 = .ok (.ireturn, 1) := dk_172 (dk_at dksL_law_128 15 rfl rfl)
theorem dL_law_3195 : decode cL_law 3195 = .ok (.aload_n 1, 1) := dk_43 (dk_at dksL_law_128 16 rfl rfl)
theorem dL_law_3196 : decode cL_law 3196 = .ok (.aload_n 0, 1) := dk_42 (dk_at dksL_law_128 17 rfl rfl)
theorem dL_law_3197 : decode cL_law 3197 = .ok (.iload 4, 2) := dk_21 4 (dk_at dksL_law_128 18 rfl rfl)
theorem dL_law_3199 : decode cL_law 3199 = .ok (.iconst 1, 1) := dk_4 (dk_at dksL_law_128 20 rfl rfl)
theorem dL_law_3200 : decode cL_law 3200 = .ok (.iadd, 1) := dk_96 (dk_at dksL_law_128 21 rfl rfl)
theorem dL_law_3201 : decode cL_law 3201 = .ok (.iaload, 1) := dk_46 (dk_at dksL_law_128 22 rfl rfl)
theorem dL_law_3202 : decode cL_law 3202 = .ok (.aload_n 3, 1) := dk_45 (dk_at dksL_law_128 23 rfl rfl)
theorem dL_law_3203 : decode cL_law 3203 = .ok (.invokestatic 329, 3) := dk_184 1 73 (dk_at dksL_law_129 0 rfl rfl)
theorem dL_law_3206 : decode cL_law 3206 = .ok (.istore 5, 2) := dk_54 5 (dk_at dksL_law_129 3 rfl rfl)
theorem dL_law_3208 : decode cL_law 3208 = .ok (.aload_n 2, 1) := dk_44 (dk_at dksL_law_129 5 rfl rfl)
theorem dL_law_3209 : decode cL_law 3209 = .ok (.aload_n 0, 1) := dk_42 (dk_at dksL_law_129 6 rfl rfl)
theorem dL_law_3210 : decode cL_law 3210 = .ok (.iload 4, 2) := dk_21 4 (dk_at dksL_law_129 7 rfl rfl)
theorem dL_law_3212 : decode cL_law 3212 = .ok (.iconst 1, 1) := dk_4 (dk_at dksL_law_129 9 rfl rfl)
theorem dL_law_3213 : decode cL_law 3213 = .ok (.iadd, 1) := dk_96 (dk_at dksL_law_129 10 rfl rfl)
theorem dL_law_3214 : decode cL_law 3214 = .ok (.iaload, 1) := dk_46 (dk_at dksL_law_129 11 rfl rfl)
theorem dL_law_3215 : decode cL_law 3215 = .ok (.invokevirtual 331, 3) := dk_182 1 75 (dk_at dksL_law_129 12 rfl rfl)
theorem dL_law_3218 : decode cL_law 3218 = .ok (.istore 6, 2) := dk_54 6 (dk_at dksL_law_129 15 rfl rfl)
theorem dL_law_3220 : decode cL_law 3220 = .ok (.aload_n 2, 1) := dk_44 (dk_at dksL_law_129 17 rfl rfl)
theorem dL_law_3221 : decode cL_law 3221 = .ok (.invokevirtual 173, 3) := dk_182 0 173 (dk_at dksL_law_129 18 rfl rfl)
theorem dL_law_3224 : decode cL_law 3224 = .ok (.iload 5, 2) := dk_21 5 (dk_at dksL_law_129 21 rfl rfl)
theorem dL_law_3226 : decode cL_law 3226 = .ok (.if_icmp .eq 5, 3) := dk_159 0 5 (dk_at dksL_law_130 0 rfl rfl)
theorem dL_law_3229 : decode cL_law 3229 = .ok (.iconst 0, 1) := dk_3 (dk_at dksL_law_130 3 rfl rfl)
theorem dL_law_3230 : decode cL_law 3230 = .ok (.ireturn, 1) := dk_172 (dk_at dksL_law_130 4 rfl rfl)
theorem dL_law_3231 : decode cL_law 3231 = .ok (.iload 5, 2) := dk_21 5 (dk_at dksL_law_130 5 rfl rfl)
theorem dL_law_3233 : decode cL_law 3233 = .ok (.ifCond .ne 15, 3) := dk_154 0 15 (dk_at dksL_law_130 7 rfl rfl)
theorem dL_law_3236 : decode cL_law 3236 = .ok (.aload_n 3, 1) := dk_45 (dk_at dksL_law_130 10 rfl rfl)
theorem dL_law_3237 : decode cL_law 3237 = .ok (.iconst 0, 1) := dk_3 (dk_at dksL_law_130 11 rfl rfl)
theorem dL_law_3238 : decode cL_law 3238 = .ok (.laload, 1) := dk_47 (dk_at dksL_law_130 12 rfl rfl)
theorem dL_law_3239 : decode cL_law 3239 = .ok (.iload 6, 2) := dk_21 6 (dk_at dksL_law_130 13 rfl rfl)
theorem dL_law_3241 : decode cL_law 3241 = .ok (.i2l, 1) := dk_133 (dk_at dksL_law_130 15 rfl rfl)
theorem dL_law_3242 : decode cL_law 3242 = .ok (.lcmp, 1) := dk_148 (dk_at dksL_law_130 16 rfl rfl)
theorem dL_law_3243 : decode cL_law 3243 = .ok (.ifCond .eq 5, 3) := dk_153 0 5 (dk_at dksL_law_130 17 rfl rfl)
theorem dL_law_3246 : decode cL_law 3246 = .ok (.iconst 0, 1) := dk_3 (dk_at dksL_law_130 20 rfl rfl)
theorem dL_law_3247 : decode cL_law 3247 = .ok (.ireturn, 1) := dk_172 (dk_at dksL_law_130 21 rfl rfl)
theorem dL_law_3248 : decode cL_law 3248 = .ok (.goto 72, 3) := dk_167 0 72 (dk_at dksL_law_131 0 rfl rfl)
theorem dL_law_3251 : decode cL_law 3251 = .ok (.aload_n 1, 1) := dk_43 (dk_at dksL_law_131 3 rfl rfl)
theorem dL_law_3252 : decode cL_law 3252 = .ok (.invokevirtual 332, 3) := dk_182 1 76 (dk_at dksL_law_131 4 rfl rfl)
theorem dL_law_3255 : decode cL_law 3255 = .ok (.aload_n 2, 1) := dk_44 (dk_at dksL_law_131 7 rfl rfl)
theorem dL_law_3256 : decode cL_law 3256 = .ok (.invokevirtual 335, 3) := dk_182 1 79 (dk_at dksL_law_131 8 rfl rfl)
theorem dL_law_3259 : decode cL_law 3259 = .ok (.if_icmp .eq 61, 3) := dk_159 0 61 (dk_at dksL_law_131 11 rfl rfl)
theorem dL_law_3262 : decode cL_law 3262 = .ok (.iconst 0, 1) := dk_3 (dk_at dksL_law_131 14 rfl rfl)
theorem dL_law_3263 : decode cL_law 3263 = .ok (.ireturn, 1) := dk_172 (dk_at dksL_law_131 15 rfl rfl)
theorem dL_law_3264 : decode cL_law 3264 = .ok (.aload_n 1, 1) := dk_43 (dk_at dksL_law_131 16 rfl rfl)
theorem dL_law_3265 : decode cL_law 3265 = .ok (.aload_n 0, 1) := dk_42 (dk_at dksL_law_131 17 rfl rfl)
theorem dL_law_3266 : decode cL_law 3266 = .ok (.iload 4, 2) := dk_21 4 (dk_at dksL_law_131 18 rfl rfl)
theorem dL_law_3268 : decode cL_law 3268 = .ok (.iconst 1, 1) := dk_4 (dk_at dksL_law_131 20 rfl rfl)
theorem dL_law_3269 : decode cL_law 3269 = .ok (.iadd, 1) := dk_96 (dk_at dksL_law_131 21 rfl rfl)
theorem dL_law_3270 : decode cL_law 3270 = .ok (.iaload, 1) := dk_46 (dk_at dksL_law_131 22 rfl rfl)
theorem dL_law_3271 : decode cL_law 3271 = .ok (.aload_n 3, 1) := dk_45 (dk_at dksL_law_131 23 rfl rfl)
theorem dL_law_3272 : decode cL_law 3272 = .ok (.invokestatic 336, 3) := dk_184 1 80 (dk_at dksL_law_132 0 rfl rfl)
theorem dL_law_3275 : decode cL_law 3275 = .ok (.istore 5, 2) := dk_54 5 (dk_at dksL_law_132 3 rfl rfl)
theorem dL_law_3277 : decode cL_law 3277 = .ok (.aload_n 2, 1) := dk_44 (dk_at dksL_law_132 5 rfl rfl)
theorem dL_law_3278 : decode cL_law 3278 = .ok (.aload_n 0, 1) := dk_42 (dk_at dksL_law_132 6 rfl rfl)
theorem dL_law_3279 : decode cL_law 3279 = .ok (.iload 4, 2) := dk_21 4 (dk_at dksL_law_132 7 rfl rfl)
theorem dL_law_3281 : decode cL_law 3281 = .ok (.iconst 1, 1) := dk_4 (dk_at dksL_law_132 9 rfl rfl)
theorem dL_law_3282 : decode cL_law 3282 = .ok (.iadd, 1) := dk_96 (dk_at dksL_law_132 10 rfl rfl)
theorem dL_law_3283 : decode cL_law 3283 = .ok (.iaload, 1) := dk_46 (dk_at dksL_law_132 11 rfl rfl)
theorem dL_law_3284 : decode cL_law 3284 = .ok (.invokevirtual 338, 3) := dk_182 1 82 (dk_at dksL_law_132 12 rfl rfl)
theorem dL_law_3287 : decode cL_law 3287 = .ok (.istore 6, 2) := dk_54 6 (dk_at dksL_law_132 15 rfl rfl)
theorem dL_law_3289 : decode cL_law 3289 = .ok (.aload_n 2, 1) := dk_44 (dk_at dksL_law_132 17 rfl rfl)
theorem dL_law_3290 : decode cL_law 3290 = .ok (.invokevirtual 173, 3) := dk_182 0 173 (dk_at dksL_law_132 18 rfl rfl)
theorem dL_law_3293 : decode cL_law 3293 = .ok (.iload 5, 2) := dk_21 5 (dk_at dksL_law_132 21 rfl rfl)
theorem dL_law_3295 : decode cL_law 3295 = .ok (.if_icmp .eq 5, 3) := dk_159 0 5 (dk_at dksL_law_133 0 rfl rfl)
theorem dL_law_3298 : decode cL_law 3298 = .ok (.iconst 0, 1) := dk_3 (dk_at dksL_law_133 3 rfl rfl)
theorem dL_law_3299 : decode cL_law 3299 = .ok (.ireturn, 1) := dk_172 (dk_at dksL_law_133 4 rfl rfl)
theorem dL_law_3300 : decode cL_law 3300 = .ok (.iload 5, 2) := dk_21 5 (dk_at dksL_law_133 5 rfl rfl)
theorem dL_law_3302 : decode cL_law 3302 = .ok (.ifCond .ne 15, 3) := dk_154 0 15 (dk_at dksL_law_133 7 rfl rfl)
theorem dL_law_3305 : decode cL_law 3305 = .ok (.aload_n 3, 1) := dk_45 (dk_at dksL_law_133 10 rfl rfl)
theorem dL_law_3306 : decode cL_law 3306 = .ok (.iconst 0, 1) := dk_3 (dk_at dksL_law_133 11 rfl rfl)
theorem dL_law_3307 : decode cL_law 3307 = .ok (.laload, 1) := dk_47 (dk_at dksL_law_133 12 rfl rfl)
theorem dL_law_3308 : decode cL_law 3308 = .ok (.iload 6, 2) := dk_21 6 (dk_at dksL_law_133 13 rfl rfl)
theorem dL_law_3310 : decode cL_law 3310 = .ok (.i2l, 1) := dk_133 (dk_at dksL_law_133 15 rfl rfl)
theorem dL_law_3311 : decode cL_law 3311 = .ok (.lcmp, 1) := dk_148 (dk_at dksL_law_133 16 rfl rfl)
theorem dL_law_3312 : decode cL_law 3312 = .ok (.ifCond .eq 5, 3) := dk_153 0 5 (dk_at dksL_law_133 17 rfl rfl)
theorem dL_law_3315 : decode cL_law 3315 = .ok (.iconst 0, 1) := dk_3 (dk_at dksL_law_133 20 rfl rfl)
theorem dL_law_3316 : decode cL_law 3316 = .ok (.ireturn, 1) := dk_172 (dk_at dksL_law_133 21 rfl rfl)
theorem dL_law_3317 : decode cL_law 3317 = .ok (.goto 3, 3) := dk_167 0 3 (dk_at dksL_law_134 0 rfl rfl)
theorem dL_law_3320 : decode cL_law 3320 = .ok (.iinc 4 6, 3) := dk_132 4 6 (dk_at dksL_law_134 3 rfl rfl)
theorem dL_law_3323 : decode cL_law 3323 = .ok (.goto (-3300), 3) := dk_167 243 28 (dk_at dksL_law_134 6 rfl rfl)
theorem dL_law_3326 : decode cL_law 3326 = .ok (.iconst 1, 1) := dk_4 (dk_at dksL_law_134 9 rfl rfl)
theorem dL_law_3327 : decode cL_law 3327 = .ok (.ireturn, 1) := dk_172 (dk_at dksL_law_134 10 rfl rfl)
