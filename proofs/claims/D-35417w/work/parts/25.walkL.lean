/-! ===== walks: the law's helpers ===== -/
def f_X0_pass (a1 : Nat) (a2 : Int32) (a3 : Nat) : PT Int32 := isK 0 a1 fun i1 => tryE (f_X1_pass i1 a2) (fun v3 => bJ 34 a3 (0 : Int32) v3.toInt64 <| rt (0 : Int32)) (hsel [("java/lang/IllegalArgumentException", rt (1 : Int32)), ("java/lang/IllegalStateException", rt (2 : Int32))])
theorem im_X0_pass {g : GP} {l : Launch} (hl : l.stackTraces = false) (a1 : Nat) (a2 : Int32) (a3 : Nat) : ImH g l 42 yX0_pass cX0_pass 4 (some .int) [(0, 9, 12, 13), (0, 9, 15, 15)] eI [.ref a1, .int a2, .ref (idc 34 a3)] (f_X0_pass a1 a2 a3) := by
  refine tx_startW hl 42 _ _ _ _ _ (by decide) (Nat.le_of_ble_eq_true rfl) fun Γ Z hΓ hZ => ?_
  subst hΓ
  unfold f_X0_pass
  show TX g Γ _ Z _ 0 [(0, .ref a1), (1, .int a2), (2, .ref (idc 34 a3))] [] _
  refine x_aload_n 0 2 dX0_pass_0 rfl ?_
  refine x_iconst 1 0 (0 : Int32) dX0_pass_1 rfl ?_
  refine x_aload_n 2 0 dX0_pass_2 rfl ?_
  refine x_iload_n 3 1 dX0_pass_3 rfl ?_
  refine x_isK fun i1 h2 => ?_
  subst h2
  refine x_cVh 4 41 [.int a2] [.int (0 : Int32), .ref (idc 34 a3)] ⟨by decide, rfl⟩ cv_X0_7 (im_X1_pass hl i1 a2) (by decide) rfl (Nat.le_of_ble_eq_true rfl) 0 9 [(12, 13, "java/lang/IllegalArgumentException", rt (1 : Int32)), (15, 15, "java/lang/IllegalStateException", rt (2 : Int32))] rfl ⟨by decide, by decide⟩ (by decide) (List.forall_mem_cons.mpr ⟨⟨by decide, q801, by decide, q156⟩, List.forall_mem_cons.mpr ⟨⟨by decide, q802, by decide, q826⟩, fun _ h => absurd h List.not_mem_nil⟩⟩) dX0_pass_4 (List.forall_mem_cons.mpr ⟨?_, List.forall_mem_cons.mpr ⟨?_, fun _ h => absurd h List.not_mem_nil⟩⟩) (fun v3 => x_stI ?_)
  · refine x_astq_n 12 dX0_pass_12 (by decide) ?_
    show TX g Γ _ Z _ 13 [(0, .ref (idc 0 i1)), (1, .int a2), (2, .ref (idc 34 a3))] [] _
    refine x_iconst 13 1 (1 : Int32) dX0_pass_13 rfl ?_
    exact x_iret 14 hZ rfl dX0_pass_14
  · refine x_astq_n 15 dX0_pass_15 (by decide) ?_
    show TX g Γ _ Z _ 16 [(0, .ref (idc 0 i1)), (1, .int a2), (2, .ref (idc 34 a3))] [] _
    refine x_iconst 16 2 (2 : Int32) dX0_pass_16 rfl ?_
    exact x_iret 17 hZ rfl dX0_pass_17
  · refine x_i2l 7 dX0_pass_7 ?_
    refine x_last 8 dX0_pass_8 ?_
    refine x_goto 9 18 dX0_pass_9 rfl ?_
    refine x_iconst 18 0 (0 : Int32) dX0_pass_18 rfl ?_
    exact x_iret 19 hZ rfl dX0_pass_19
def f_X0_enroll (a1 : Nat) (a2 : Int32) (a3 : Int32) (a4 : Nat) : PT Int32 := isK 0 a1 fun i1 => tryE (f_X1_enroll i1 a2 a3) (fun v3 => bJ 34 a4 (0 : Int32) v3.toInt64 <| rt (0 : Int32)) (hsel [("java/lang/IndexOutOfBoundsException", rt (1 : Int32)), ("java/lang/IllegalArgumentException", rt (2 : Int32))])
theorem im_X0_enroll {g : GP} {l : Launch} (hl : l.stackTraces = false) (a1 : Nat) (a2 : Int32) (a3 : Int32) (a4 : Nat) : ImH g l 9 yX0_enroll cX0_enroll 5 (some .int) [(0, 10, 13, 21), (0, 10, 17, 13)] eI [.ref a1, .int a2, .int a3, .ref (idc 34 a4)] (f_X0_enroll a1 a2 a3 a4) := by
  refine tx_startW hl 9 _ _ _ _ _ (by decide) (Nat.le_of_ble_eq_true rfl) fun Γ Z hΓ hZ => ?_
  subst hΓ
  unfold f_X0_enroll
  show TX g Γ _ Z _ 0 [(0, .ref a1), (1, .int a2), (2, .int a3), (3, .ref (idc 34 a4))] [] _
  refine x_aload_n 0 3 dX0_enroll_0 rfl ?_
  refine x_iconst 1 0 (0 : Int32) dX0_enroll_1 rfl ?_
  refine x_aload_n 2 0 dX0_enroll_2 rfl ?_
  refine x_iload_n 3 1 dX0_enroll_3 rfl ?_
  refine x_iload_n 4 2 dX0_enroll_4 rfl ?_
  refine x_isK fun i1 h2 => ?_
  subst h2
  refine x_cVh 5 8 [.int a2, .int a3] [.int (0 : Int32), .ref (idc 34 a4)] ⟨by decide, rfl⟩ cv_X0_17 (im_X1_enroll hl i1 a2 a3) (by decide) rfl (Nat.le_of_ble_eq_true rfl) 0 10 [(13, 21, "java/lang/IndexOutOfBoundsException", rt (1 : Int32)), (17, 13, "java/lang/IllegalArgumentException", rt (2 : Int32))] rfl ⟨by decide, by decide⟩ (by decide) (List.forall_mem_cons.mpr ⟨⟨by decide, q1082, by decide, q605⟩, List.forall_mem_cons.mpr ⟨⟨by decide, q801, by decide, q156⟩, fun _ h => absurd h List.not_mem_nil⟩⟩) dX0_enroll_5 (List.forall_mem_cons.mpr ⟨?_, List.forall_mem_cons.mpr ⟨?_, fun _ h => absurd h List.not_mem_nil⟩⟩) (fun v3 => x_stI ?_)
  · refine x_astq 13 dX0_enroll_13 (by decide) ?_
    show TX g Γ _ Z _ 15 [(0, .ref (idc 0 i1)), (1, .int a2), (2, .int a3), (3, .ref (idc 34 a4))] [] _
    refine x_iconst 15 1 (1 : Int32) dX0_enroll_15 rfl ?_
    exact x_iret 16 hZ rfl dX0_enroll_16
  · refine x_astq 17 dX0_enroll_17 (by decide) ?_
    show TX g Γ _ Z _ 19 [(0, .ref (idc 0 i1)), (1, .int a2), (2, .int a3), (3, .ref (idc 34 a4))] [] _
    refine x_iconst 19 2 (2 : Int32) dX0_enroll_19 rfl ?_
    exact x_iret 20 hZ rfl dX0_enroll_20
  · refine x_i2l 8 dX0_enroll_8 ?_
    refine x_last 9 dX0_enroll_9 ?_
    refine x_goto 10 21 dX0_enroll_10 rfl ?_
    refine x_iconst 21 0 (0 : Int32) dX0_enroll_21 rfl ?_
    exact x_iret 22 hZ rfl dX0_enroll_22
def f_X0_factor (a1 : Nat) (a2 : Int32) (a3 : Int32) (a4 : Nat) : PT Int32 := isK 0 a1 fun i1 => tryE (f_X1_factor i1 a2 a3) (fun v3 => bJ 34 a4 (0 : Int32) v3.toInt64 <| rt (0 : Int32)) (hsel [("java/lang/IndexOutOfBoundsException", rt (1 : Int32)), ("java/lang/IllegalArgumentException", rt (2 : Int32))])
theorem im_X0_factor {g : GP} {l : Launch} (hl : l.stackTraces = false) (a1 : Nat) (a2 : Int32) (a3 : Int32) (a4 : Nat) : ImH g l 9 yX0_factor cX0_factor 5 (some .int) [(0, 10, 13, 21), (0, 10, 17, 13)] eI [.ref a1, .int a2, .int a3, .ref (idc 34 a4)] (f_X0_factor a1 a2 a3 a4) := by
  refine tx_startW hl 9 _ _ _ _ _ (by decide) (Nat.le_of_ble_eq_true rfl) fun Γ Z hΓ hZ => ?_
  subst hΓ
  unfold f_X0_factor
  show TX g Γ _ Z _ 0 [(0, .ref a1), (1, .int a2), (2, .int a3), (3, .ref (idc 34 a4))] [] _
  refine x_aload_n 0 3 dX0_factor_0 rfl ?_
  refine x_iconst 1 0 (0 : Int32) dX0_factor_1 rfl ?_
  refine x_aload_n 2 0 dX0_factor_2 rfl ?_
  refine x_iload_n 3 1 dX0_factor_3 rfl ?_
  refine x_iload_n 4 2 dX0_factor_4 rfl ?_
  refine x_isK fun i1 h2 => ?_
  subst h2
  refine x_cVh 5 8 [.int a2, .int a3] [.int (0 : Int32), .ref (idc 34 a4)] ⟨by decide, rfl⟩ cv_X0_23 (im_X1_factor hl i1 a2 a3) (by decide) rfl (Nat.le_of_ble_eq_true rfl) 0 10 [(13, 21, "java/lang/IndexOutOfBoundsException", rt (1 : Int32)), (17, 13, "java/lang/IllegalArgumentException", rt (2 : Int32))] rfl ⟨by decide, by decide⟩ (by decide) (List.forall_mem_cons.mpr ⟨⟨by decide, q1082, by decide, q605⟩, List.forall_mem_cons.mpr ⟨⟨by decide, q801, by decide, q156⟩, fun _ h => absurd h List.not_mem_nil⟩⟩) dX0_factor_5 (List.forall_mem_cons.mpr ⟨?_, List.forall_mem_cons.mpr ⟨?_, fun _ h => absurd h List.not_mem_nil⟩⟩) (fun v3 => x_stI ?_)
  · refine x_astq 13 dX0_factor_13 (by decide) ?_
    show TX g Γ _ Z _ 15 [(0, .ref (idc 0 i1)), (1, .int a2), (2, .int a3), (3, .ref (idc 34 a4))] [] _
    refine x_iconst 15 1 (1 : Int32) dX0_factor_15 rfl ?_
    exact x_iret 16 hZ rfl dX0_factor_16
  · refine x_astq 17 dX0_factor_17 (by decide) ?_
    show TX g Γ _ Z _ 19 [(0, .ref (idc 0 i1)), (1, .int a2), (2, .int a3), (3, .ref (idc 34 a4))] [] _
    refine x_iconst 19 2 (2 : Int32) dX0_factor_19 rfl ?_
    exact x_iret 20 hZ rfl dX0_factor_20
  · refine x_i2l 8 dX0_factor_8 ?_
    refine x_last 9 dX0_factor_9 ?_
    refine x_goto 10 21 dX0_factor_10 rfl ?_
    refine x_iconst 21 0 (0 : Int32) dX0_factor_21 rfl ?_
    exact x_iret 22 hZ rfl dX0_factor_22
def f_X0_step (a1 : Nat) (a2 : Int32) (a3 : Int32) (a4 : Int32) (a5 : Int32) (a6 : Int32) (a7 : Nat) : PT Int32 := isK 0 a1 fun i1 => tryE (f_X1_step i1 a2 a3 a4 a5 a6) (fun v3 => bJ 34 a7 (0 : Int32) v3.toInt64 <| rt (0 : Int32)) (hsel [("java/lang/IllegalArgumentException", rt (1 : Int32)), ("java/lang/IllegalStateException", rt (2 : Int32))])
theorem im_X0_step {g : GP} {l : Launch} (hl : l.stackTraces = false) (a1 : Nat) (a2 : Int32) (a3 : Int32) (a4 : Int32) (a5 : Int32) (a6 : Int32) (a7 : Nat) : ImH g l 8 yX0_step cX0_step 8 (some .int) [(0, 16, 19, 13), (0, 16, 23, 15)] eI [.ref a1, .int a2, .int a3, .int a4, .int a5, .int a6, .ref (idc 34 a7)] (f_X0_step a1 a2 a3 a4 a5 a6 a7) := by
  refine tx_startW hl 8 _ _ _ _ _ (by decide) (Nat.le_of_ble_eq_true rfl) fun Γ Z hΓ hZ => ?_
  subst hΓ
  unfold f_X0_step
  show TX g Γ _ Z _ 0 [(0, .ref a1), (1, .int a2), (2, .int a3), (3, .int a4), (4, .int a5), (5, .int a6), (6, .ref (idc 34 a7))] [] _
  refine x_aload 0 6 dX0_step_0 rfl ?_
  refine x_iconst 2 0 (0 : Int32) dX0_step_2 rfl ?_
  refine x_aload_n 3 0 dX0_step_3 rfl ?_
  refine x_iload_n 4 1 dX0_step_4 rfl ?_
  refine x_iload_n 5 2 dX0_step_5 rfl ?_
  refine x_iload_n 6 3 dX0_step_6 rfl ?_
  refine x_iload 7 4 dX0_step_7 rfl ?_
  refine x_iload 9 5 dX0_step_9 rfl ?_
  refine x_isK fun i1 h2 => ?_
  subst h2
  refine x_cVh 11 7 [.int a2, .int a3, .int a4, .int a5, .int a6] [.int (0 : Int32), .ref (idc 34 a7)] ⟨by decide, rfl⟩ cv_X0_26 (im_X1_step hl i1 a2 a3 a4 a5 a6) (by decide) rfl (Nat.le_of_ble_eq_true rfl) 0 16 [(19, 13, "java/lang/IllegalArgumentException", rt (1 : Int32)), (23, 15, "java/lang/IllegalStateException", rt (2 : Int32))] rfl ⟨by decide, by decide⟩ (by decide) (List.forall_mem_cons.mpr ⟨⟨by decide, q801, by decide, q156⟩, List.forall_mem_cons.mpr ⟨⟨by decide, q802, by decide, q826⟩, fun _ h => absurd h List.not_mem_nil⟩⟩) dX0_step_11 (List.forall_mem_cons.mpr ⟨?_, List.forall_mem_cons.mpr ⟨?_, fun _ h => absurd h List.not_mem_nil⟩⟩) (fun v3 => x_stI ?_)
  · refine x_astq 19 dX0_step_19 (by decide) ?_
    show TX g Γ _ Z _ 21 [(0, .ref (idc 0 i1)), (1, .int a2), (2, .int a3), (3, .int a4), (4, .int a5), (5, .int a6), (6, .ref (idc 34 a7))] [] _
    refine x_iconst 21 1 (1 : Int32) dX0_step_21 rfl ?_
    exact x_iret 22 hZ rfl dX0_step_22
  · refine x_astq 23 dX0_step_23 (by decide) ?_
    show TX g Γ _ Z _ 25 [(0, .ref (idc 0 i1)), (1, .int a2), (2, .int a3), (3, .int a4), (4, .int a5), (5, .int a6), (6, .ref (idc 34 a7))] [] _
    refine x_iconst 25 2 (2 : Int32) dX0_step_25 rfl ?_
    exact x_iret 26 hZ rfl dX0_step_26
  · refine x_i2l 14 dX0_step_14 ?_
    refine x_last 15 dX0_step_15 ?_
    refine x_goto 16 27 dX0_step_16 rfl ?_
    refine x_iconst 27 0 (0 : Int32) dX0_step_27 rfl ?_
    exact x_iret 28 hZ rfl dX0_step_28
def f_X0_publish (a1 : Nat) (a2 : Nat) : PT Int32 := isK 0 a1 fun i1 => tryE (f_X1_publish i1) (fun v3 => bJ 34 a2 (0 : Int32) v3.toInt64 <| rt (0 : Int32)) (hsel [("java/lang/IllegalStateException", rt (1 : Int32))])
theorem im_X0_publish {g : GP} {l : Launch} (hl : l.stackTraces = false) (a1 : Nat) (a2 : Nat) : ImH g l 9 yX0_publish cX0_publish 3 (some .int) [(0, 8, 11, 15)] eI [.ref a1, .ref (idc 34 a2)] (f_X0_publish a1 a2) := by
  refine tx_startW hl 9 _ _ _ _ _ (by decide) (Nat.le_of_ble_eq_true rfl) fun Γ Z hΓ hZ => ?_
  subst hΓ
  unfold f_X0_publish
  show TX g Γ _ Z _ 0 [(0, .ref a1), (1, .ref (idc 34 a2))] [] _
  refine x_aload_n 0 1 dX0_publish_0 rfl ?_
  refine x_iconst 1 0 (0 : Int32) dX0_publish_1 rfl ?_
  refine x_aload_n 2 0 dX0_publish_2 rfl ?_
  refine x_isK fun i1 h2 => ?_
  subst h2
  refine x_cVh 3 8 [] [.int (0 : Int32), .ref (idc 34 a2)] ⟨by decide, rfl⟩ cv_X0_30 (im_X1_publish hl i1) (by decide) rfl (Nat.le_of_ble_eq_true rfl) 0 8 [(11, 15, "java/lang/IllegalStateException", rt (1 : Int32))] rfl ⟨by decide, by decide⟩ (by decide) (List.forall_mem_cons.mpr ⟨⟨by decide, q802, by decide, q826⟩, fun _ h => absurd h List.not_mem_nil⟩) dX0_publish_3 (List.forall_mem_cons.mpr ⟨?_, fun _ h => absurd h List.not_mem_nil⟩) (fun v3 => x_stI ?_)
  · refine x_astq_n 11 dX0_publish_11 (by decide) ?_
    show TX g Γ _ Z _ 12 [(0, .ref (idc 0 i1)), (1, .ref (idc 34 a2))] [] _
    refine x_iconst 12 1 (1 : Int32) dX0_publish_12 rfl ?_
    exact x_iret 13 hZ rfl dX0_publish_13
  · refine x_i2l 6 dX0_publish_6 ?_
    refine x_last 7 dX0_publish_7 ?_
    refine x_goto 8 14 dX0_publish_8 rfl ?_
    refine x_iconst 14 0 (0 : Int32) dX0_publish_14 rfl ?_
    exact x_iret 15 hZ rfl dX0_publish_15
def f_X0_weakest (a1 : Nat) (a2 : Int32) (a3 : Nat) : PT Int32 := isK 0 a1 fun i1 => tryE (f_X1_weakest i1 a2) (fun v3 => bJ 34 a3 (0 : Int32) v3.toInt64 <| rt (0 : Int32)) (hsel [("java/lang/IndexOutOfBoundsException", rt (1 : Int32))])
theorem im_X0_weakest {g : GP} {l : Launch} (hl : l.stackTraces = false) (a1 : Nat) (a2 : Int32) (a3 : Nat) : ImH g l 9 yX0_weakest cX0_weakest 4 (some .int) [(0, 9, 12, 21)] eI [.ref a1, .int a2, .ref (idc 34 a3)] (f_X0_weakest a1 a2 a3) := by
  refine tx_startW hl 9 _ _ _ _ _ (by decide) (Nat.le_of_ble_eq_true rfl) fun Γ Z hΓ hZ => ?_
  subst hΓ
  unfold f_X0_weakest
  show TX g Γ _ Z _ 0 [(0, .ref a1), (1, .int a2), (2, .ref (idc 34 a3))] [] _
  refine x_aload_n 0 2 dX0_weakest_0 rfl ?_
  refine x_iconst 1 0 (0 : Int32) dX0_weakest_1 rfl ?_
  refine x_aload_n 2 0 dX0_weakest_2 rfl ?_
  refine x_iload_n 3 1 dX0_weakest_3 rfl ?_
  refine x_isK fun i1 h2 => ?_
  subst h2
  refine x_cVh 4 8 [.int a2] [.int (0 : Int32), .ref (idc 34 a3)] ⟨by decide, rfl⟩ cv_X0_34 (im_X1_weakest hl i1 a2) (by decide) rfl (Nat.le_of_ble_eq_true rfl) 0 9 [(12, 21, "java/lang/IndexOutOfBoundsException", rt (1 : Int32))] rfl ⟨by decide, by decide⟩ (by decide) (List.forall_mem_cons.mpr ⟨⟨by decide, q1082, by decide, q605⟩, fun _ h => absurd h List.not_mem_nil⟩) dX0_weakest_4 (List.forall_mem_cons.mpr ⟨?_, fun _ h => absurd h List.not_mem_nil⟩) (fun v3 => x_stI ?_)
  · refine x_astq_n 12 dX0_weakest_12 (by decide) ?_
    show TX g Γ _ Z _ 13 [(0, .ref (idc 0 i1)), (1, .int a2), (2, .ref (idc 34 a3))] [] _
    refine x_iconst 13 1 (1 : Int32) dX0_weakest_13 rfl ?_
    exact x_iret 14 hZ rfl dX0_weakest_14
  · refine x_i2l 7 dX0_weakest_7 ?_
    refine x_last 8 dX0_weakest_8 ?_
    refine x_goto 9 15 dX0_weakest_9 rfl ?_
    refine x_iconst 15 0 (0 : Int32) dX0_weakest_15 rfl ?_
    exact x_iret 16 hZ rfl dX0_weakest_16
def f_X0_points (a1 : Nat) (a2 : Int32) (a3 : Int32) (a4 : Int32) (a5 : Nat) : PT Int32 := isK 0 a1 fun i1 => tryE (f_X1_points i1 a2 a3 a4) (fun v3 => bJ 34 a5 (0 : Int32) v3.toInt64 <| rt (0 : Int32)) (hsel [("java/lang/IllegalArgumentException", rt (1 : Int32))])
theorem im_X0_points {g : GP} {l : Launch} (hl : l.stackTraces = false) (a1 : Nat) (a2 : Int32) (a3 : Int32) (a4 : Int32) (a5 : Nat) : ImH g l 8 yX0_points cX0_points 6 (some .int) [(0, 12, 15, 13)] eI [.ref a1, .int a2, .int a3, .int a4, .ref (idc 34 a5)] (f_X0_points a1 a2 a3 a4 a5) := by
  refine tx_startW hl 8 _ _ _ _ _ (by decide) (Nat.le_of_ble_eq_true rfl) fun Γ Z hΓ hZ => ?_
  subst hΓ
  unfold f_X0_points
  show TX g Γ _ Z _ 0 [(0, .ref a1), (1, .int a2), (2, .int a3), (3, .int a4), (4, .ref (idc 34 a5))] [] _
  refine x_aload 0 4 dX0_points_0 rfl ?_
  refine x_iconst 2 0 (0 : Int32) dX0_points_2 rfl ?_
  refine x_aload_n 3 0 dX0_points_3 rfl ?_
  refine x_iload_n 4 1 dX0_points_4 rfl ?_
  refine x_iload_n 5 2 dX0_points_5 rfl ?_
  refine x_iload_n 6 3 dX0_points_6 rfl ?_
  refine x_isK fun i1 h2 => ?_
  subst h2
  refine x_cVh 7 7 [.int a2, .int a3, .int a4] [.int (0 : Int32), .ref (idc 34 a5)] ⟨by decide, rfl⟩ cv_X0_37 (im_X1_points hl i1 a2 a3 a4) (by decide) rfl (Nat.le_of_ble_eq_true rfl) 0 12 [(15, 13, "java/lang/IllegalArgumentException", rt (1 : Int32))] rfl ⟨by decide, by decide⟩ (by decide) (List.forall_mem_cons.mpr ⟨⟨by decide, q801, by decide, q156⟩, fun _ h => absurd h List.not_mem_nil⟩) dX0_points_7 (List.forall_mem_cons.mpr ⟨?_, fun _ h => absurd h List.not_mem_nil⟩) (fun v3 => x_stI ?_)
  · refine x_astq 15 dX0_points_15 (by decide) ?_
    show TX g Γ _ Z _ 17 [(0, .ref (idc 0 i1)), (1, .int a2), (2, .int a3), (3, .int a4), (4, .ref (idc 34 a5))] [] _
    refine x_iconst 17 1 (1 : Int32) dX0_points_17 rfl ?_
    exact x_iret 18 hZ rfl dX0_points_18
  · refine x_i2l 10 dX0_points_10 ?_
    refine x_last 11 dX0_points_11 ?_
    refine x_goto 12 19 dX0_points_12 rfl ?_
    refine x_iconst 19 0 (0 : Int32) dX0_points_19 rfl ?_
    exact x_iret 20 hZ rfl dX0_points_20
def f_X0_begin (a1 : Nat) (a2 : Int32) (a3 : Int32) (a4 : Int32) (a5 : Nat) : PT Int32 := isK 0 a1 fun i1 => tryE (f_X1_begin i1 a2 a3 a4) (fun v3 => bJ 34 a5 (0 : Int32) v3.toInt64 <| rt (0 : Int32)) (hsel [("java/lang/IndexOutOfBoundsException", rt (1 : Int32)), ("java/lang/IllegalStateException", rt (2 : Int32))])
theorem im_X0_begin {g : GP} {l : Launch} (hl : l.stackTraces = false) (a1 : Nat) (a2 : Int32) (a3 : Int32) (a4 : Int32) (a5 : Nat) : ImH g l 12 yX0_begin cX0_begin 6 (some .int) [(0, 12, 15, 21), (0, 12, 19, 15)] eI [.ref a1, .int a2, .int a3, .int a4, .ref (idc 34 a5)] (f_X0_begin a1 a2 a3 a4 a5) := by
  refine tx_startW hl 12 _ _ _ _ _ (by decide) (Nat.le_of_ble_eq_true rfl) fun Γ Z hΓ hZ => ?_
  subst hΓ
  unfold f_X0_begin
  show TX g Γ _ Z _ 0 [(0, .ref a1), (1, .int a2), (2, .int a3), (3, .int a4), (4, .ref (idc 34 a5))] [] _
  refine x_aload 0 4 dX0_begin_0 rfl ?_
  refine x_iconst 2 0 (0 : Int32) dX0_begin_2 rfl ?_
  refine x_aload_n 3 0 dX0_begin_3 rfl ?_
  refine x_iload_n 4 1 dX0_begin_4 rfl ?_
  refine x_iload_n 5 2 dX0_begin_5 rfl ?_
  refine x_iload_n 6 3 dX0_begin_6 rfl ?_
  refine x_isK fun i1 h2 => ?_
  subst h2
  refine x_cVh 7 11 [.int a2, .int a3, .int a4] [.int (0 : Int32), .ref (idc 34 a5)] ⟨by decide, rfl⟩ cv_X0_41 (im_X1_begin hl i1 a2 a3 a4) (by decide) rfl (Nat.le_of_ble_eq_true rfl) 0 12 [(15, 21, "java/lang/IndexOutOfBoundsException", rt (1 : Int32)), (19, 15, "java/lang/IllegalStateException", rt (2 : Int32))] rfl ⟨by decide, by decide⟩ (by decide) (List.forall_mem_cons.mpr ⟨⟨by decide, q1082, by decide, q605⟩, List.forall_mem_cons.mpr ⟨⟨by decide, q802, by decide, q826⟩, fun _ h => absurd h List.not_mem_nil⟩⟩) dX0_begin_7 (List.forall_mem_cons.mpr ⟨?_, List.forall_mem_cons.mpr ⟨?_, fun _ h => absurd h List.not_mem_nil⟩⟩) (fun v3 => x_stI ?_)
  · refine x_astq 15 dX0_begin_15 (by decide) ?_
    show TX g Γ _ Z _ 17 [(0, .ref (idc 0 i1)), (1, .int a2), (2, .int a3), (3, .int a4), (4, .ref (idc 34 a5))] [] _
    refine x_iconst 17 1 (1 : Int32) dX0_begin_17 rfl ?_
    exact x_iret 18 hZ rfl dX0_begin_18
  · refine x_astq 19 dX0_begin_19 (by decide) ?_
    show TX g Γ _ Z _ 21 [(0, .ref (idc 0 i1)), (1, .int a2), (2, .int a3), (3, .int a4), (4, .ref (idc 34 a5))] [] _
    refine x_iconst 21 2 (2 : Int32) dX0_begin_21 rfl ?_
    exact x_iret 22 hZ rfl dX0_begin_22
  · refine x_i2l 10 dX0_begin_10 ?_
    refine x_last 11 dX0_begin_11 ?_
    refine x_goto 12 23 dX0_begin_12 rfl ?_
    refine x_iconst 23 0 (0 : Int32) dX0_begin_23 rfl ?_
    exact x_iret 24 hZ rfl dX0_begin_24
def f_X0_answer (a1 : Nat) (a2 : Int32) (a3 : Int32) (a4 : Int32) (a5 : Nat) : PT Int32 := isK 0 a1 fun i1 => tryE (f_X1_answer i1 a2 a3 a4) (fun v3 => bJ 34 a5 (0 : Int32) v3.toInt64 <| rt (0 : Int32)) (hsel [("java/lang/IndexOutOfBoundsException", rt (1 : Int32)), ("java/lang/IllegalArgumentException", rt (2 : Int32)), ("java/lang/IllegalStateException", rt (3 : Int32))])
theorem im_X0_answer {g : GP} {l : Launch} (hl : l.stackTraces = false) (a1 : Nat) (a2 : Int32) (a3 : Int32) (a4 : Int32) (a5 : Nat) : ImH g l 13 yX0_answer cX0_answer 6 (some .int) [(0, 12, 15, 21), (0, 12, 19, 13), (0, 12, 23, 15)] eI [.ref a1, .int a2, .int a3, .int a4, .ref (idc 34 a5)] (f_X0_answer a1 a2 a3 a4 a5) := by
  refine tx_startW hl 13 _ _ _ _ _ (by decide) (Nat.le_of_ble_eq_true rfl) fun Γ Z hΓ hZ => ?_
  subst hΓ
  unfold f_X0_answer
  show TX g Γ _ Z _ 0 [(0, .ref a1), (1, .int a2), (2, .int a3), (3, .int a4), (4, .ref (idc 34 a5))] [] _
  refine x_aload 0 4 dX0_answer_0 rfl ?_
  refine x_iconst 2 0 (0 : Int32) dX0_answer_2 rfl ?_
  refine x_aload_n 3 0 dX0_answer_3 rfl ?_
  refine x_iload_n 4 1 dX0_answer_4 rfl ?_
  refine x_iload_n 5 2 dX0_answer_5 rfl ?_
  refine x_iload_n 6 3 dX0_answer_6 rfl ?_
  refine x_isK fun i1 h2 => ?_
  subst h2
  refine x_cVh 7 12 [.int a2, .int a3, .int a4] [.int (0 : Int32), .ref (idc 34 a5)] ⟨by decide, rfl⟩ cv_X0_45 (im_X1_answer hl i1 a2 a3 a4) (by decide) rfl (Nat.le_of_ble_eq_true rfl) 0 12 [(15, 21, "java/lang/IndexOutOfBoundsException", rt (1 : Int32)), (19, 13, "java/lang/IllegalArgumentException", rt (2 : Int32)), (23, 15, "java/lang/IllegalStateException", rt (3 : Int32))] rfl ⟨by decide, by decide⟩ (by decide) (List.forall_mem_cons.mpr ⟨⟨by decide, q1082, by decide, q605⟩, List.forall_mem_cons.mpr ⟨⟨by decide, q801, by decide, q156⟩, List.forall_mem_cons.mpr ⟨⟨by decide, q802, by decide, q826⟩, fun _ h => absurd h List.not_mem_nil⟩⟩⟩) dX0_answer_7 (List.forall_mem_cons.mpr ⟨?_, List.forall_mem_cons.mpr ⟨?_, List.forall_mem_cons.mpr ⟨?_, fun _ h => absurd h List.not_mem_nil⟩⟩⟩) (fun v3 => x_stI ?_)
  · refine x_astq 15 dX0_answer_15 (by decide) ?_
    show TX g Γ _ Z _ 17 [(0, .ref (idc 0 i1)), (1, .int a2), (2, .int a3), (3, .int a4), (4, .ref (idc 34 a5))] [] _
    refine x_iconst 17 1 (1 : Int32) dX0_answer_17 rfl ?_
    exact x_iret 18 hZ rfl dX0_answer_18
  · refine x_astq 19 dX0_answer_19 (by decide) ?_
    show TX g Γ _ Z _ 21 [(0, .ref (idc 0 i1)), (1, .int a2), (2, .int a3), (3, .int a4), (4, .ref (idc 34 a5))] [] _
    refine x_iconst 21 2 (2 : Int32) dX0_answer_21 rfl ?_
    exact x_iret 22 hZ rfl dX0_answer_22
  · refine x_astq 23 dX0_answer_23 (by decide) ?_
    show TX g Γ _ Z _ 25 [(0, .ref (idc 0 i1)), (1, .int a2), (2, .int a3), (3, .int a4), (4, .ref (idc 34 a5))] [] _
    refine x_iconst 25 3 (3 : Int32) dX0_answer_25 rfl ?_
    exact x_iret 26 hZ rfl dX0_answer_26
  · refine x_i2l 10 dX0_answer_10 ?_
    refine x_last 11 dX0_answer_11 ?_
    refine x_goto 12 27 dX0_answer_12 rfl ?_
    refine x_iconst 27 0 (0 : Int32) dX0_answer_27 rfl ?_
    exact x_iret 28 hZ rfl dX0_answer_28
def f_X0_state (a1 : Nat) (a2 : Int32) (a3 : Nat) : PT Int32 := isK 0 a1 fun i1 => tryE (f_X1_state i1 a2) (fun v3 => bJ 34 a3 (0 : Int32) v3.toInt64 <| rt (0 : Int32)) (hsel [("java/lang/IndexOutOfBoundsException", rt (1 : Int32))])
theorem im_X0_state {g : GP} {l : Launch} (hl : l.stackTraces = false) (a1 : Nat) (a2 : Int32) (a3 : Nat) : ImH g l 9 yX0_state cX0_state 4 (some .int) [(0, 9, 12, 21)] eI [.ref a1, .int a2, .ref (idc 34 a3)] (f_X0_state a1 a2 a3) := by
  refine tx_startW hl 9 _ _ _ _ _ (by decide) (Nat.le_of_ble_eq_true rfl) fun Γ Z hΓ hZ => ?_
  subst hΓ
  unfold f_X0_state
  show TX g Γ _ Z _ 0 [(0, .ref a1), (1, .int a2), (2, .ref (idc 34 a3))] [] _
  refine x_aload_n 0 2 dX0_state_0 rfl ?_
  refine x_iconst 1 0 (0 : Int32) dX0_state_1 rfl ?_
  refine x_aload_n 2 0 dX0_state_2 rfl ?_
  refine x_iload_n 3 1 dX0_state_3 rfl ?_
  refine x_isK fun i1 h2 => ?_
  subst h2
  refine x_cVh 4 8 [.int a2] [.int (0 : Int32), .ref (idc 34 a3)] ⟨by decide, rfl⟩ cv_X0_49 (im_X1_state hl i1 a2) (by decide) rfl (Nat.le_of_ble_eq_true rfl) 0 9 [(12, 21, "java/lang/IndexOutOfBoundsException", rt (1 : Int32))] rfl ⟨by decide, by decide⟩ (by decide) (List.forall_mem_cons.mpr ⟨⟨by decide, q1082, by decide, q605⟩, fun _ h => absurd h List.not_mem_nil⟩) dX0_state_4 (List.forall_mem_cons.mpr ⟨?_, fun _ h => absurd h List.not_mem_nil⟩) (fun v3 => x_stI ?_)
  · refine x_astq_n 12 dX0_state_12 (by decide) ?_
    show TX g Γ _ Z _ 13 [(0, .ref (idc 0 i1)), (1, .int a2), (2, .ref (idc 34 a3))] [] _
    refine x_iconst 13 1 (1 : Int32) dX0_state_13 rfl ?_
    exact x_iret 14 hZ rfl dX0_state_14
  · refine x_i2l 7 dX0_state_7 ?_
    refine x_last 8 dX0_state_8 ?_
    refine x_goto 9 15 dX0_state_9 rfl ?_
    refine x_iconst 15 0 (0 : Int32) dX0_state_15 rfl ?_
    exact x_iret 16 hZ rfl dX0_state_16
def f_X0_asked (a1 : Nat) (a2 : Int32) (a3 : Nat) : PT Int32 := isK 0 a1 fun i1 => tryE (f_X1_asked i1 a2) (fun v3 => bJ 34 a3 (0 : Int32) v3.toInt64 <| rt (0 : Int32)) (hsel [("java/lang/IndexOutOfBoundsException", rt (1 : Int32))])
theorem im_X0_asked {g : GP} {l : Launch} (hl : l.stackTraces = false) (a1 : Nat) (a2 : Int32) (a3 : Nat) : ImH g l 9 yX0_asked cX0_asked 4 (some .int) [(0, 9, 12, 21)] eI [.ref a1, .int a2, .ref (idc 34 a3)] (f_X0_asked a1 a2 a3) := by
  refine tx_startW hl 9 _ _ _ _ _ (by decide) (Nat.le_of_ble_eq_true rfl) fun Γ Z hΓ hZ => ?_
  subst hΓ
  unfold f_X0_asked
  show TX g Γ _ Z _ 0 [(0, .ref a1), (1, .int a2), (2, .ref (idc 34 a3))] [] _
  refine x_aload_n 0 2 dX0_asked_0 rfl ?_
  refine x_iconst 1 0 (0 : Int32) dX0_asked_1 rfl ?_
  refine x_aload_n 2 0 dX0_asked_2 rfl ?_
  refine x_iload_n 3 1 dX0_asked_3 rfl ?_
  refine x_isK fun i1 h2 => ?_
  subst h2
  refine x_cVh 4 8 [.int a2] [.int (0 : Int32), .ref (idc 34 a3)] ⟨by decide, rfl⟩ cv_X0_52 (im_X1_asked hl i1 a2) (by decide) rfl (Nat.le_of_ble_eq_true rfl) 0 9 [(12, 21, "java/lang/IndexOutOfBoundsException", rt (1 : Int32))] rfl ⟨by decide, by decide⟩ (by decide) (List.forall_mem_cons.mpr ⟨⟨by decide, q1082, by decide, q605⟩, fun _ h => absurd h List.not_mem_nil⟩) dX0_asked_4 (List.forall_mem_cons.mpr ⟨?_, fun _ h => absurd h List.not_mem_nil⟩) (fun v3 => x_stI ?_)
  · refine x_astq_n 12 dX0_asked_12 (by decide) ?_
    show TX g Γ _ Z _ 13 [(0, .ref (idc 0 i1)), (1, .int a2), (2, .ref (idc 34 a3))] [] _
    refine x_iconst 13 1 (1 : Int32) dX0_asked_13 rfl ?_
    exact x_iret 14 hZ rfl dX0_asked_14
  · refine x_i2l 7 dX0_asked_7 ?_
    refine x_last 8 dX0_asked_8 ?_
    refine x_goto 9 15 dX0_asked_9 rfl ?_
    refine x_iconst 15 0 (0 : Int32) dX0_asked_15 rfl ?_
    exact x_iret 16 hZ rfl dX0_asked_16
def f_X0_sessionOf (a1 : Nat) (a2 : Int32) (a3 : Nat) : PT Int32 := isK 0 a1 fun i1 => tryE (f_X1_sessionOf i1 a2) (fun v3 => bJ 34 a3 (0 : Int32) v3.toInt64 <| rt (0 : Int32)) (hsel [("java/lang/IndexOutOfBoundsException", rt (1 : Int32))])
theorem im_X0_sessionOf {g : GP} {l : Launch} (hl : l.stackTraces = false) (a1 : Nat) (a2 : Int32) (a3 : Nat) : ImH g l 9 yX0_sessionOf cX0_sessionOf 4 (some .int) [(0, 9, 12, 21)] eI [.ref a1, .int a2, .ref (idc 34 a3)] (f_X0_sessionOf a1 a2 a3) := by
  refine tx_startW hl 9 _ _ _ _ _ (by decide) (Nat.le_of_ble_eq_true rfl) fun Γ Z hΓ hZ => ?_
  subst hΓ
  unfold f_X0_sessionOf
  show TX g Γ _ Z _ 0 [(0, .ref a1), (1, .int a2), (2, .ref (idc 34 a3))] [] _
  refine x_aload_n 0 2 dX0_sessionOf_0 rfl ?_
  refine x_iconst 1 0 (0 : Int32) dX0_sessionOf_1 rfl ?_
  refine x_aload_n 2 0 dX0_sessionOf_2 rfl ?_
  refine x_iload_n 3 1 dX0_sessionOf_3 rfl ?_
  refine x_isK fun i1 h2 => ?_
  subst h2
  refine x_cVh 4 8 [.int a2] [.int (0 : Int32), .ref (idc 34 a3)] ⟨by decide, rfl⟩ cv_X0_55 (im_X1_sessionOf hl i1 a2) (by decide) rfl (Nat.le_of_ble_eq_true rfl) 0 9 [(12, 21, "java/lang/IndexOutOfBoundsException", rt (1 : Int32))] rfl ⟨by decide, by decide⟩ (by decide) (List.forall_mem_cons.mpr ⟨⟨by decide, q1082, by decide, q605⟩, fun _ h => absurd h List.not_mem_nil⟩) dX0_sessionOf_4 (List.forall_mem_cons.mpr ⟨?_, fun _ h => absurd h List.not_mem_nil⟩) (fun v3 => x_stI ?_)
  · refine x_astq_n 12 dX0_sessionOf_12 (by decide) ?_
    show TX g Γ _ Z _ 13 [(0, .ref (idc 0 i1)), (1, .int a2), (2, .ref (idc 34 a3))] [] _
    refine x_iconst 13 1 (1 : Int32) dX0_sessionOf_13 rfl ?_
    exact x_iret 14 hZ rfl dX0_sessionOf_14
  · refine x_i2l 7 dX0_sessionOf_7 ?_
    refine x_last 8 dX0_sessionOf_8 ?_
    refine x_goto 9 15 dX0_sessionOf_9 rfl ?_
    refine x_iconst 15 0 (0 : Int32) dX0_sessionOf_15 rfl ?_
    exact x_iret 16 hZ rfl dX0_sessionOf_16
def f_X0_risk (a1 : Nat) (a2 : Int32) (a3 : Nat) : PT Int32 := isK 0 a1 fun i1 => tryE (f_X1_risk i1 a2) (fun v3 => bJ 34 a3 (0 : Int32) v3.toInt64 <| rt (0 : Int32)) (hsel [("java/lang/IndexOutOfBoundsException", rt (1 : Int32))])
theorem im_X0_risk {g : GP} {l : Launch} (hl : l.stackTraces = false) (a1 : Nat) (a2 : Int32) (a3 : Nat) : ImH g l 9 yX0_risk cX0_risk 4 (some .int) [(0, 9, 12, 21)] eI [.ref a1, .int a2, .ref (idc 34 a3)] (f_X0_risk a1 a2 a3) := by
  refine tx_startW hl 9 _ _ _ _ _ (by decide) (Nat.le_of_ble_eq_true rfl) fun Γ Z hΓ hZ => ?_
  subst hΓ
  unfold f_X0_risk
  show TX g Γ _ Z _ 0 [(0, .ref a1), (1, .int a2), (2, .ref (idc 34 a3))] [] _
  refine x_aload_n 0 2 dX0_risk_0 rfl ?_
  refine x_iconst 1 0 (0 : Int32) dX0_risk_1 rfl ?_
  refine x_aload_n 2 0 dX0_risk_2 rfl ?_
  refine x_iload_n 3 1 dX0_risk_3 rfl ?_
  refine x_isK fun i1 h2 => ?_
  subst h2
  refine x_cVh 4 8 [.int a2] [.int (0 : Int32), .ref (idc 34 a3)] ⟨by decide, rfl⟩ cv_X0_58 (im_X1_risk hl i1 a2) (by decide) rfl (Nat.le_of_ble_eq_true rfl) 0 9 [(12, 21, "java/lang/IndexOutOfBoundsException", rt (1 : Int32))] rfl ⟨by decide, by decide⟩ (by decide) (List.forall_mem_cons.mpr ⟨⟨by decide, q1082, by decide, q605⟩, fun _ h => absurd h List.not_mem_nil⟩) dX0_risk_4 (List.forall_mem_cons.mpr ⟨?_, fun _ h => absurd h List.not_mem_nil⟩) (fun v3 => x_stI ?_)
  · refine x_astq_n 12 dX0_risk_12 (by decide) ?_
    show TX g Γ _ Z _ 13 [(0, .ref (idc 0 i1)), (1, .int a2), (2, .ref (idc 34 a3))] [] _
    refine x_iconst 13 1 (1 : Int32) dX0_risk_13 rfl ?_
    exact x_iret 14 hZ rfl dX0_risk_14
  · refine x_i2l 7 dX0_risk_7 ?_
    refine x_last 8 dX0_risk_8 ?_
    refine x_goto 9 15 dX0_risk_9 rfl ?_
    refine x_iconst 15 0 (0 : Int32) dX0_risk_15 rfl ?_
    exact x_iret 16 hZ rfl dX0_risk_16
def f_X0_trialRisk (a1 : Nat) (a2 : Int32) (a3 : Nat) : PT Int32 := isK 0 a1 fun i1 => tryE (f_X1_trialRisk i1 a2) (fun v3 => bJ 34 a3 (0 : Int32) v3.toInt64 <| rt (0 : Int32)) (hsel [("java/lang/IndexOutOfBoundsException", rt (1 : Int32))])
theorem im_X0_trialRisk {g : GP} {l : Launch} (hl : l.stackTraces = false) (a1 : Nat) (a2 : Int32) (a3 : Nat) : ImH g l 9 yX0_trialRisk cX0_trialRisk 4 (some .int) [(0, 9, 12, 21)] eI [.ref a1, .int a2, .ref (idc 34 a3)] (f_X0_trialRisk a1 a2 a3) := by
  refine tx_startW hl 9 _ _ _ _ _ (by decide) (Nat.le_of_ble_eq_true rfl) fun Γ Z hΓ hZ => ?_
  subst hΓ
  unfold f_X0_trialRisk
  show TX g Γ _ Z _ 0 [(0, .ref a1), (1, .int a2), (2, .ref (idc 34 a3))] [] _
  refine x_aload_n 0 2 dX0_trialRisk_0 rfl ?_
  refine x_iconst 1 0 (0 : Int32) dX0_trialRisk_1 rfl ?_
  refine x_aload_n 2 0 dX0_trialRisk_2 rfl ?_
  refine x_iload_n 3 1 dX0_trialRisk_3 rfl ?_
  refine x_isK fun i1 h2 => ?_
  subst h2
  refine x_cVh 4 8 [.int a2] [.int (0 : Int32), .ref (idc 34 a3)] ⟨by decide, rfl⟩ cv_X0_61 (im_X1_trialRisk hl i1 a2) (by decide) rfl (Nat.le_of_ble_eq_true rfl) 0 9 [(12, 21, "java/lang/IndexOutOfBoundsException", rt (1 : Int32))] rfl ⟨by decide, by decide⟩ (by decide) (List.forall_mem_cons.mpr ⟨⟨by decide, q1082, by decide, q605⟩, fun _ h => absurd h List.not_mem_nil⟩) dX0_trialRisk_4 (List.forall_mem_cons.mpr ⟨?_, fun _ h => absurd h List.not_mem_nil⟩) (fun v3 => x_stI ?_)
  · refine x_astq_n 12 dX0_trialRisk_12 (by decide) ?_
    show TX g Γ _ Z _ 13 [(0, .ref (idc 0 i1)), (1, .int a2), (2, .ref (idc 34 a3))] [] _
    refine x_iconst 13 1 (1 : Int32) dX0_trialRisk_13 rfl ?_
    exact x_iret 14 hZ rfl dX0_trialRisk_14
  · refine x_i2l 7 dX0_trialRisk_7 ?_
    refine x_last 8 dX0_trialRisk_8 ?_
    refine x_goto 9 15 dX0_trialRisk_9 rfl ?_
    refine x_iconst 15 0 (0 : Int32) dX0_trialRisk_15 rfl ?_
    exact x_iret 16 hZ rfl dX0_trialRisk_16
def f_X0_isLive (a1 : Nat) (a2 : Int32) (a3 : Nat) : PT Int32 := isK 0 a1 fun i1 => tryE (f_X1_isLive i1 a2) (fun v3 => bnd (ρ := _) (α := Int64) (cnd (v3 = 0) (rt (0 : Int64)) (rt (1 : Int64))) (fun u4 => bJ 34 a3 (0 : Int32) u4 <| rt (0 : Int32))) (hsel [("java/lang/IndexOutOfBoundsException", rt (1 : Int32))])
theorem im_X0_isLive {g : GP} {l : Launch} (hl : l.stackTraces = false) (a1 : Nat) (a2 : Int32) (a3 : Nat) : ImH g l 9 yX0_isLive cX0_isLive 4 (some .int) [(0, 16, 19, 21)] eI [.ref a1, .int a2, .ref (idc 34 a3)] (f_X0_isLive a1 a2 a3) := by
  refine tx_startW hl 9 _ _ _ _ _ (by decide) (Nat.le_of_ble_eq_true rfl) fun Γ Z hΓ hZ => ?_
  subst hΓ
  unfold f_X0_isLive
  show TX g Γ _ Z _ 0 [(0, .ref a1), (1, .int a2), (2, .ref (idc 34 a3))] [] _
  refine x_aload_n 0 2 dX0_isLive_0 rfl ?_
  refine x_iconst 1 0 (0 : Int32) dX0_isLive_1 rfl ?_
  refine x_aload_n 2 0 dX0_isLive_2 rfl ?_
  refine x_iload_n 3 1 dX0_isLive_3 rfl ?_
  refine x_isK fun i1 h2 => ?_
  subst h2
  refine x_cVh 4 8 [.int a2] [.int (0 : Int32), .ref (idc 34 a3)] ⟨by decide, rfl⟩ cv_X0_64 (im_X1_isLive hl i1 a2) (by decide) rfl (Nat.le_of_ble_eq_true rfl) 0 16 [(19, 21, "java/lang/IndexOutOfBoundsException", rt (1 : Int32))] rfl ⟨by decide, by decide⟩ (by decide) (List.forall_mem_cons.mpr ⟨⟨by decide, q1082, by decide, q605⟩, fun _ h => absurd h List.not_mem_nil⟩) dX0_isLive_4 (List.forall_mem_cons.mpr ⟨?_, fun _ h => absurd h List.not_mem_nil⟩) (fun v3 => x_stI ?_)
  · refine x_astq_n 19 dX0_isLive_19 (by decide) ?_
    show TX g Γ _ Z _ 20 [(0, .ref (idc 0 i1)), (1, .int a2), (2, .ref (idc 34 a3))] [] _
    refine x_iconst 20 1 (1 : Int32) dX0_isLive_20 rfl ?_
    exact x_iret 21 hZ rfl dX0_isLive_21
  · refine x_bndj 15 (fun u4 => []) (fun u4 => [.long u4, .int (0 : Int32), .ref (idc 34 a3)]) (fun u4 => ?_) (fun hj5 => ?_)
    · show TX g Γ _ Z _ 15 [] [.long u4, .int (0 : Int32), .ref (idc 34 a3)] _
      refine x_last 15 dX0_isLive_15 ?_
      refine x_goto 16 22 dX0_isLive_16 rfl ?_
      refine x_iconst 22 0 (0 : Int32) dX0_isLive_22 rfl ?_
      exact x_iret 23 hZ rfl dX0_isLive_23
    · refine x_if_eq 7 14 dX0_isLive_7 rfl (fun c6 => ?_) (fun c6 => ?_)
      · refine x_lconst 14 0 (0 : Int64) dX0_isLive_14 rfl ?_
        refine x_sub [] _ rfl ?_
        exact hj5 (0 : Int64)
      · refine x_lconst 10 1 (1 : Int64) dX0_isLive_10 rfl ?_
        refine x_goto 11 15 dX0_isLive_11 rfl ?_
        refine x_sub [] _ rfl ?_
        exact hj5 (1 : Int64)
def f_X0_isLiveByAudit (a1 : Nat) (a2 : Int32) (a3 : Nat) : PT Int32 := isK 0 a1 fun i1 => tryE (f_X1_isLiveByAudit i1 a2) (fun v3 => bnd (ρ := _) (α := Int64) (cnd (v3 = 0) (rt (0 : Int64)) (rt (1 : Int64))) (fun u4 => bJ 34 a3 (0 : Int32) u4 <| rt (0 : Int32))) (hsel [("java/lang/IndexOutOfBoundsException", rt (1 : Int32))])
theorem im_X0_isLiveByAudit {g : GP} {l : Launch} (hl : l.stackTraces = false) (a1 : Nat) (a2 : Int32) (a3 : Nat) : ImH g l 9 yX0_isLiveByAudit cX0_isLiveByAudit 4 (some .int) [(0, 16, 19, 21)] eI [.ref a1, .int a2, .ref (idc 34 a3)] (f_X0_isLiveByAudit a1 a2 a3) := by
  refine tx_startW hl 9 _ _ _ _ _ (by decide) (Nat.le_of_ble_eq_true rfl) fun Γ Z hΓ hZ => ?_
  subst hΓ
  unfold f_X0_isLiveByAudit
  show TX g Γ _ Z _ 0 [(0, .ref a1), (1, .int a2), (2, .ref (idc 34 a3))] [] _
  refine x_aload_n 0 2 dX0_isLiveByAudit_0 rfl ?_
  refine x_iconst 1 0 (0 : Int32) dX0_isLiveByAudit_1 rfl ?_
  refine x_aload_n 2 0 dX0_isLiveByAudit_2 rfl ?_
  refine x_iload_n 3 1 dX0_isLiveByAudit_3 rfl ?_
  refine x_isK fun i1 h2 => ?_
  subst h2
  refine x_cVh 4 8 [.int a2] [.int (0 : Int32), .ref (idc 34 a3)] ⟨by decide, rfl⟩ cv_X0_68 (im_X1_isLiveByAudit hl i1 a2) (by decide) rfl (Nat.le_of_ble_eq_true rfl) 0 16 [(19, 21, "java/lang/IndexOutOfBoundsException", rt (1 : Int32))] rfl ⟨by decide, by decide⟩ (by decide) (List.forall_mem_cons.mpr ⟨⟨by decide, q1082, by decide, q605⟩, fun _ h => absurd h List.not_mem_nil⟩) dX0_isLiveByAudit_4 (List.forall_mem_cons.mpr ⟨?_, fun _ h => absurd h List.not_mem_nil⟩) (fun v3 => x_stI ?_)
  · refine x_astq_n 19 dX0_isLiveByAudit_19 (by decide) ?_
    show TX g Γ _ Z _ 20 [(0, .ref (idc 0 i1)), (1, .int a2), (2, .ref (idc 34 a3))] [] _
    refine x_iconst 20 1 (1 : Int32) dX0_isLiveByAudit_20 rfl ?_
    exact x_iret 21 hZ rfl dX0_isLiveByAudit_21
  · refine x_bndj 15 (fun u4 => []) (fun u4 => [.long u4, .int (0 : Int32), .ref (idc 34 a3)]) (fun u4 => ?_) (fun hj5 => ?_)
    · show TX g Γ _ Z _ 15 [] [.long u4, .int (0 : Int32), .ref (idc 34 a3)] _
      refine x_last 15 dX0_isLiveByAudit_15 ?_
      refine x_goto 16 22 dX0_isLiveByAudit_16 rfl ?_
      refine x_iconst 22 0 (0 : Int32) dX0_isLiveByAudit_22 rfl ?_
      exact x_iret 23 hZ rfl dX0_isLiveByAudit_23
    · refine x_if_eq 7 14 dX0_isLiveByAudit_7 rfl (fun c6 => ?_) (fun c6 => ?_)
      · refine x_lconst 14 0 (0 : Int64) dX0_isLiveByAudit_14 rfl ?_
        refine x_sub [] _ rfl ?_
        exact hj5 (0 : Int64)
      · refine x_lconst 10 1 (1 : Int64) dX0_isLiveByAudit_10 rfl ?_
        refine x_goto 11 15 dX0_isLiveByAudit_11 rfl ?_
        refine x_sub [] _ rfl ?_
        exact hj5 (1 : Int64)
def f_X0_level (a1 : Nat) (a2 : Int32) (a3 : Nat) : PT Int32 := isK 0 a1 fun i1 => tryE (f_X1_level i1 a2) (fun v3 => bJ 34 a3 (0 : Int32) v3.toInt64 <| rt (0 : Int32)) (hsel [("java/lang/IndexOutOfBoundsException", rt (1 : Int32))])
theorem im_X0_level {g : GP} {l : Launch} (hl : l.stackTraces = false) (a1 : Nat) (a2 : Int32) (a3 : Nat) : ImH g l 9 yX0_level cX0_level 4 (some .int) [(0, 9, 12, 21)] eI [.ref a1, .int a2, .ref (idc 34 a3)] (f_X0_level a1 a2 a3) := by
  refine tx_startW hl 9 _ _ _ _ _ (by decide) (Nat.le_of_ble_eq_true rfl) fun Γ Z hΓ hZ => ?_
  subst hΓ
  unfold f_X0_level
  show TX g Γ _ Z _ 0 [(0, .ref a1), (1, .int a2), (2, .ref (idc 34 a3))] [] _
  refine x_aload_n 0 2 dX0_level_0 rfl ?_
  refine x_iconst 1 0 (0 : Int32) dX0_level_1 rfl ?_
  refine x_aload_n 2 0 dX0_level_2 rfl ?_
  refine x_iload_n 3 1 dX0_level_3 rfl ?_
  refine x_isK fun i1 h2 => ?_
  subst h2
  refine x_cVh 4 8 [.int a2] [.int (0 : Int32), .ref (idc 34 a3)] ⟨by decide, rfl⟩ cv_X0_71 (im_X1_level hl i1 a2) (by decide) rfl (Nat.le_of_ble_eq_true rfl) 0 9 [(12, 21, "java/lang/IndexOutOfBoundsException", rt (1 : Int32))] rfl ⟨by decide, by decide⟩ (by decide) (List.forall_mem_cons.mpr ⟨⟨by decide, q1082, by decide, q605⟩, fun _ h => absurd h List.not_mem_nil⟩) dX0_level_4 (List.forall_mem_cons.mpr ⟨?_, fun _ h => absurd h List.not_mem_nil⟩) (fun v3 => x_stI ?_)
  · refine x_astq_n 12 dX0_level_12 (by decide) ?_
    show TX g Γ _ Z _ 13 [(0, .ref (idc 0 i1)), (1, .int a2), (2, .ref (idc 34 a3))] [] _
    refine x_iconst 13 1 (1 : Int32) dX0_level_13 rfl ?_
    exact x_iret 14 hZ rfl dX0_level_14
  · refine x_i2l 7 dX0_level_7 ?_
    refine x_last 8 dX0_level_8 ?_
    refine x_goto 9 15 dX0_level_9 rfl ?_
    refine x_iconst 15 0 (0 : Int32) dX0_level_15 rfl ?_
    exact x_iret 16 hZ rfl dX0_level_16
def f_X0_stepUp (a1 : Nat) (a2 : Int32) (a3 : Int32) (a4 : Int32) (a5 : Int32) (a6 : Nat) : PT Int32 := isK 0 a1 fun i1 => tryE (f_X1_stepUp i1 a2 a3 a4 a5) (fun v3 => bJ 34 a6 (0 : Int32) v3.toInt64 <| rt (0 : Int32)) (hsel [("java/lang/IndexOutOfBoundsException", rt (1 : Int32)), ("java/lang/IllegalArgumentException", rt (2 : Int32)), ("java/lang/IllegalStateException", rt (3 : Int32))])
theorem im_X0_stepUp {g : GP} {l : Launch} (hl : l.stackTraces = false) (a1 : Nat) (a2 : Int32) (a3 : Int32) (a4 : Int32) (a5 : Int32) (a6 : Nat) : ImH g l 12 yX0_stepUp cX0_stepUp 7 (some .int) [(0, 14, 17, 21), (0, 14, 21, 13), (0, 14, 25, 15)] eI [.ref a1, .int a2, .int a3, .int a4, .int a5, .ref (idc 34 a6)] (f_X0_stepUp a1 a2 a3 a4 a5 a6) := by
  refine tx_startW hl 12 _ _ _ _ _ (by decide) (Nat.le_of_ble_eq_true rfl) fun Γ Z hΓ hZ => ?_
  subst hΓ
  unfold f_X0_stepUp
  show TX g Γ _ Z _ 0 [(0, .ref a1), (1, .int a2), (2, .int a3), (3, .int a4), (4, .int a5), (5, .ref (idc 34 a6))] [] _
  refine x_aload 0 5 dX0_stepUp_0 rfl ?_
  refine x_iconst 2 0 (0 : Int32) dX0_stepUp_2 rfl ?_
  refine x_aload_n 3 0 dX0_stepUp_3 rfl ?_
  refine x_iload_n 4 1 dX0_stepUp_4 rfl ?_
  refine x_iload_n 5 2 dX0_stepUp_5 rfl ?_
  refine x_iload_n 6 3 dX0_stepUp_6 rfl ?_
  refine x_iload 7 4 dX0_stepUp_7 rfl ?_
  refine x_isK fun i1 h2 => ?_
  subst h2
  refine x_cVh 9 11 [.int a2, .int a3, .int a4, .int a5] [.int (0 : Int32), .ref (idc 34 a6)] ⟨by decide, rfl⟩ cv_X0_74 (im_X1_stepUp hl i1 a2 a3 a4 a5) (by decide) rfl (Nat.le_of_ble_eq_true rfl) 0 14 [(17, 21, "java/lang/IndexOutOfBoundsException", rt (1 : Int32)), (21, 13, "java/lang/IllegalArgumentException", rt (2 : Int32)), (25, 15, "java/lang/IllegalStateException", rt (3 : Int32))] rfl ⟨by decide, by decide⟩ (by decide) (List.forall_mem_cons.mpr ⟨⟨by decide, q1082, by decide, q605⟩, List.forall_mem_cons.mpr ⟨⟨by decide, q801, by decide, q156⟩, List.forall_mem_cons.mpr ⟨⟨by decide, q802, by decide, q826⟩, fun _ h => absurd h List.not_mem_nil⟩⟩⟩) dX0_stepUp_9 (List.forall_mem_cons.mpr ⟨?_, List.forall_mem_cons.mpr ⟨?_, List.forall_mem_cons.mpr ⟨?_, fun _ h => absurd h List.not_mem_nil⟩⟩⟩) (fun v3 => x_stI ?_)
  · refine x_astq 17 dX0_stepUp_17 (by decide) ?_
    show TX g Γ _ Z _ 19 [(0, .ref (idc 0 i1)), (1, .int a2), (2, .int a3), (3, .int a4), (4, .int a5), (5, .ref (idc 34 a6))] [] _
    refine x_iconst 19 1 (1 : Int32) dX0_stepUp_19 rfl ?_
    exact x_iret 20 hZ rfl dX0_stepUp_20
  · refine x_astq 21 dX0_stepUp_21 (by decide) ?_
    show TX g Γ _ Z _ 23 [(0, .ref (idc 0 i1)), (1, .int a2), (2, .int a3), (3, .int a4), (4, .int a5), (5, .ref (idc 34 a6))] [] _
    refine x_iconst 23 2 (2 : Int32) dX0_stepUp_23 rfl ?_
    exact x_iret 24 hZ rfl dX0_stepUp_24
  · refine x_astq 25 dX0_stepUp_25 (by decide) ?_
    show TX g Γ _ Z _ 27 [(0, .ref (idc 0 i1)), (1, .int a2), (2, .int a3), (3, .int a4), (4, .int a5), (5, .ref (idc 34 a6))] [] _
    refine x_iconst 27 3 (3 : Int32) dX0_stepUp_27 rfl ?_
    exact x_iret 28 hZ rfl dX0_stepUp_28
  · refine x_i2l 12 dX0_stepUp_12 ?_
    refine x_last 13 dX0_stepUp_13 ?_
    refine x_goto 14 29 dX0_stepUp_14 rfl ?_
    refine x_iconst 29 0 (0 : Int32) dX0_stepUp_29 rfl ?_
    exact x_iret 30 hZ rfl dX0_stepUp_30
def f_X0_signOut (a1 : Nat) (a2 : Int32) (a3 : Nat) : PT Int32 := isK 0 a1 fun i1 => tryE (f_X1_signOut i1 a2) (fun v3 => bJ 34 a3 (0 : Int32) v3.toInt64 <| rt (0 : Int32)) (hsel [("java/lang/IndexOutOfBoundsException", rt (1 : Int32)), ("java/lang/IllegalStateException", rt (2 : Int32))])
theorem im_X0_signOut {g : GP} {l : Launch} (hl : l.stackTraces = false) (a1 : Nat) (a2 : Int32) (a3 : Nat) : ImH g l 42 yX0_signOut cX0_signOut 4 (some .int) [(0, 9, 12, 21), (0, 9, 15, 15)] eI [.ref a1, .int a2, .ref (idc 34 a3)] (f_X0_signOut a1 a2 a3) := by
  refine tx_startW hl 42 _ _ _ _ _ (by decide) (Nat.le_of_ble_eq_true rfl) fun Γ Z hΓ hZ => ?_
  subst hΓ
  unfold f_X0_signOut
  show TX g Γ _ Z _ 0 [(0, .ref a1), (1, .int a2), (2, .ref (idc 34 a3))] [] _
  refine x_aload_n 0 2 dX0_signOut_0 rfl ?_
  refine x_iconst 1 0 (0 : Int32) dX0_signOut_1 rfl ?_
  refine x_aload_n 2 0 dX0_signOut_2 rfl ?_
  refine x_iload_n 3 1 dX0_signOut_3 rfl ?_
  refine x_isK fun i1 h2 => ?_
  subst h2
  refine x_cVh 4 41 [.int a2] [.int (0 : Int32), .ref (idc 34 a3)] ⟨by decide, rfl⟩ cv_X0_78 (im_X1_signOut hl i1 a2) (by decide) rfl (Nat.le_of_ble_eq_true rfl) 0 9 [(12, 21, "java/lang/IndexOutOfBoundsException", rt (1 : Int32)), (15, 15, "java/lang/IllegalStateException", rt (2 : Int32))] rfl ⟨by decide, by decide⟩ (by decide) (List.forall_mem_cons.mpr ⟨⟨by decide, q1082, by decide, q605⟩, List.forall_mem_cons.mpr ⟨⟨by decide, q802, by decide, q826⟩, fun _ h => absurd h List.not_mem_nil⟩⟩) dX0_signOut_4 (List.forall_mem_cons.mpr ⟨?_, List.forall_mem_cons.mpr ⟨?_, fun _ h => absurd h List.not_mem_nil⟩⟩) (fun v3 => x_stI ?_)
  · refine x_astq_n 12 dX0_signOut_12 (by decide) ?_
    show TX g Γ _ Z _ 13 [(0, .ref (idc 0 i1)), (1, .int a2), (2, .ref (idc 34 a3))] [] _
    refine x_iconst 13 1 (1 : Int32) dX0_signOut_13 rfl ?_
    exact x_iret 14 hZ rfl dX0_signOut_14
  · refine x_astq_n 15 dX0_signOut_15 (by decide) ?_
    show TX g Γ _ Z _ 16 [(0, .ref (idc 0 i1)), (1, .int a2), (2, .ref (idc 34 a3))] [] _
    refine x_iconst 16 2 (2 : Int32) dX0_signOut_16 rfl ?_
    exact x_iret 17 hZ rfl dX0_signOut_17
  · refine x_i2l 7 dX0_signOut_7 ?_
    refine x_last 8 dX0_signOut_8 ?_
    refine x_goto 9 18 dX0_signOut_9 rfl ?_
    refine x_iconst 18 0 (0 : Int32) dX0_signOut_18 rfl ?_
    exact x_iret 19 hZ rfl dX0_signOut_19
def f_X0_helper (a1 : Nat) (a2 : Int32) (a3 : Nat) : PT Int32 := isK 0 a1 fun i1 => tryE (f_X1_helper i1 a2) (fun v3 => bnd (ρ := _) (α := Int64) (cnd (v3 = 0) (rt (0 : Int64)) (rt (1 : Int64))) (fun u4 => bJ 34 a3 (0 : Int32) u4 <| rt (0 : Int32))) (hsel [("java/lang/IndexOutOfBoundsException", rt (1 : Int32))])
theorem im_X0_helper {g : GP} {l : Launch} (hl : l.stackTraces = false) (a1 : Nat) (a2 : Int32) (a3 : Nat) : ImH g l 9 yX0_helper cX0_helper 4 (some .int) [(0, 16, 19, 21)] eI [.ref a1, .int a2, .ref (idc 34 a3)] (f_X0_helper a1 a2 a3) := by
  refine tx_startW hl 9 _ _ _ _ _ (by decide) (Nat.le_of_ble_eq_true rfl) fun Γ Z hΓ hZ => ?_
  subst hΓ
  unfold f_X0_helper
  show TX g Γ _ Z _ 0 [(0, .ref a1), (1, .int a2), (2, .ref (idc 34 a3))] [] _
  refine x_aload_n 0 2 dX0_helper_0 rfl ?_
  refine x_iconst 1 0 (0 : Int32) dX0_helper_1 rfl ?_
  refine x_aload_n 2 0 dX0_helper_2 rfl ?_
  refine x_iload_n 3 1 dX0_helper_3 rfl ?_
  refine x_isK fun i1 h2 => ?_
  subst h2
  refine x_cVh 4 8 [.int a2] [.int (0 : Int32), .ref (idc 34 a3)] ⟨by decide, rfl⟩ cv_X0_81 (im_X1_helper hl i1 a2) (by decide) rfl (Nat.le_of_ble_eq_true rfl) 0 16 [(19, 21, "java/lang/IndexOutOfBoundsException", rt (1 : Int32))] rfl ⟨by decide, by decide⟩ (by decide) (List.forall_mem_cons.mpr ⟨⟨by decide, q1082, by decide, q605⟩, fun _ h => absurd h List.not_mem_nil⟩) dX0_helper_4 (List.forall_mem_cons.mpr ⟨?_, fun _ h => absurd h List.not_mem_nil⟩) (fun v3 => x_stI ?_)
  · refine x_astq_n 19 dX0_helper_19 (by decide) ?_
    show TX g Γ _ Z _ 20 [(0, .ref (idc 0 i1)), (1, .int a2), (2, .ref (idc 34 a3))] [] _
    refine x_iconst 20 1 (1 : Int32) dX0_helper_20 rfl ?_
    exact x_iret 21 hZ rfl dX0_helper_21
  · refine x_bndj 15 (fun u4 => []) (fun u4 => [.long u4, .int (0 : Int32), .ref (idc 34 a3)]) (fun u4 => ?_) (fun hj5 => ?_)
    · show TX g Γ _ Z _ 15 [] [.long u4, .int (0 : Int32), .ref (idc 34 a3)] _
      refine x_last 15 dX0_helper_15 ?_
      refine x_goto 16 22 dX0_helper_16 rfl ?_
      refine x_iconst 22 0 (0 : Int32) dX0_helper_22 rfl ?_
      exact x_iret 23 hZ rfl dX0_helper_23
    · refine x_if_eq 7 14 dX0_helper_7 rfl (fun c6 => ?_) (fun c6 => ?_)
      · refine x_lconst 14 0 (0 : Int64) dX0_helper_14 rfl ?_
        refine x_sub [] _ rfl ?_
        exact hj5 (0 : Int64)
      · refine x_lconst 10 1 (1 : Int64) dX0_helper_10 rfl ?_
        refine x_goto 11 15 dX0_helper_11 rfl ?_
        refine x_sub [] _ rfl ?_
        exact hj5 (1 : Int64)
def f_X0_act (a1 : Nat) (a2 : Int32) (a3 : Int32) (a4 : Nat) : PT Int32 := isK 0 a1 fun i1 => tryE (f_X1_act i1 a2 a3) (fun v3 => bJ 34 a4 (0 : Int32) v3.toInt64 <| rt (0 : Int32)) (hsel [("java/lang/IndexOutOfBoundsException", rt (1 : Int32)), ("java/lang/IllegalStateException", rt (2 : Int32))])
theorem im_X0_act {g : GP} {l : Launch} (hl : l.stackTraces = false) (a1 : Nat) (a2 : Int32) (a3 : Int32) (a4 : Nat) : ImH g l 10 yX0_act cX0_act 5 (some .int) [(0, 10, 13, 21), (0, 10, 17, 15)] eI [.ref a1, .int a2, .int a3, .ref (idc 34 a4)] (f_X0_act a1 a2 a3 a4) := by
  refine tx_startW hl 10 _ _ _ _ _ (by decide) (Nat.le_of_ble_eq_true rfl) fun Γ Z hΓ hZ => ?_
  subst hΓ
  unfold f_X0_act
  show TX g Γ _ Z _ 0 [(0, .ref a1), (1, .int a2), (2, .int a3), (3, .ref (idc 34 a4))] [] _
  refine x_aload_n 0 3 dX0_act_0 rfl ?_
  refine x_iconst 1 0 (0 : Int32) dX0_act_1 rfl ?_
  refine x_aload_n 2 0 dX0_act_2 rfl ?_
  refine x_iload_n 3 1 dX0_act_3 rfl ?_
  refine x_iload_n 4 2 dX0_act_4 rfl ?_
  refine x_isK fun i1 h2 => ?_
  subst h2
  refine x_cVh 5 9 [.int a2, .int a3] [.int (0 : Int32), .ref (idc 34 a4)] ⟨by decide, rfl⟩ cv_X0_84 (im_X1_act hl i1 a2 a3) (by decide) rfl (Nat.le_of_ble_eq_true rfl) 0 10 [(13, 21, "java/lang/IndexOutOfBoundsException", rt (1 : Int32)), (17, 15, "java/lang/IllegalStateException", rt (2 : Int32))] rfl ⟨by decide, by decide⟩ (by decide) (List.forall_mem_cons.mpr ⟨⟨by decide, q1082, by decide, q605⟩, List.forall_mem_cons.mpr ⟨⟨by decide, q802, by decide, q826⟩, fun _ h => absurd h List.not_mem_nil⟩⟩) dX0_act_5 (List.forall_mem_cons.mpr ⟨?_, List.forall_mem_cons.mpr ⟨?_, fun _ h => absurd h List.not_mem_nil⟩⟩) (fun v3 => x_stI ?_)
  · refine x_astq 13 dX0_act_13 (by decide) ?_
    show TX g Γ _ Z _ 15 [(0, .ref (idc 0 i1)), (1, .int a2), (2, .int a3), (3, .ref (idc 34 a4))] [] _
    refine x_iconst 15 1 (1 : Int32) dX0_act_15 rfl ?_
    exact x_iret 16 hZ rfl dX0_act_16
  · refine x_astq 17 dX0_act_17 (by decide) ?_
    show TX g Γ _ Z _ 19 [(0, .ref (idc 0 i1)), (1, .int a2), (2, .int a3), (3, .ref (idc 34 a4))] [] _
    refine x_iconst 19 2 (2 : Int32) dX0_act_19 rfl ?_
    exact x_iret 20 hZ rfl dX0_act_20
  · refine x_i2l 8 dX0_act_8 ?_
    refine x_last 9 dX0_act_9 ?_
    refine x_goto 10 21 dX0_act_10 rfl ?_
    refine x_iconst 21 0 (0 : Int32) dX0_act_21 rfl ?_
    exact x_iret 22 hZ rfl dX0_act_22
def f_X0_consent (a1 : Nat) (a2 : Int32) (a3 : Int32) (a4 : Int32) (a5 : Nat) : PT Int32 := isK 0 a1 fun i1 => tryE (f_X1_consent i1 a2 a3 a4) (fun v3 => bJ 34 a5 (0 : Int32) v3.toInt64 <| rt (0 : Int32)) (hsel [("java/lang/IndexOutOfBoundsException", rt (1 : Int32)), ("java/lang/IllegalArgumentException", rt (2 : Int32))])
theorem im_X0_consent {g : GP} {l : Launch} (hl : l.stackTraces = false) (a1 : Nat) (a2 : Int32) (a3 : Int32) (a4 : Int32) (a5 : Nat) : ImH g l 9 yX0_consent cX0_consent 6 (some .int) [(0, 12, 15, 21), (0, 12, 19, 13)] eI [.ref a1, .int a2, .int a3, .int a4, .ref (idc 34 a5)] (f_X0_consent a1 a2 a3 a4 a5) := by
  refine tx_startW hl 9 _ _ _ _ _ (by decide) (Nat.le_of_ble_eq_true rfl) fun Γ Z hΓ hZ => ?_
  subst hΓ
  unfold f_X0_consent
  show TX g Γ _ Z _ 0 [(0, .ref a1), (1, .int a2), (2, .int a3), (3, .int a4), (4, .ref (idc 34 a5))] [] _
  refine x_aload 0 4 dX0_consent_0 rfl ?_
  refine x_iconst 2 0 (0 : Int32) dX0_consent_2 rfl ?_
  refine x_aload_n 3 0 dX0_consent_3 rfl ?_
  refine x_iload_n 4 1 dX0_consent_4 rfl ?_
  refine x_iload_n 5 2 dX0_consent_5 rfl ?_
  refine x_iload_n 6 3 dX0_consent_6 rfl ?_
  refine x_isK fun i1 h2 => ?_
  subst h2
  refine x_cVh 7 8 [.int a2, .int a3, .int a4] [.int (0 : Int32), .ref (idc 34 a5)] ⟨by decide, rfl⟩ cv_X0_87 (im_X1_consent hl i1 a2 a3 a4) (by decide) rfl (Nat.le_of_ble_eq_true rfl) 0 12 [(15, 21, "java/lang/IndexOutOfBoundsException", rt (1 : Int32)), (19, 13, "java/lang/IllegalArgumentException", rt (2 : Int32))] rfl ⟨by decide, by decide⟩ (by decide) (List.forall_mem_cons.mpr ⟨⟨by decide, q1082, by decide, q605⟩, List.forall_mem_cons.mpr ⟨⟨by decide, q801, by decide, q156⟩, fun _ h => absurd h List.not_mem_nil⟩⟩) dX0_consent_7 (List.forall_mem_cons.mpr ⟨?_, List.forall_mem_cons.mpr ⟨?_, fun _ h => absurd h List.not_mem_nil⟩⟩) (fun v3 => x_stI ?_)
  · refine x_astq 15 dX0_consent_15 (by decide) ?_
    show TX g Γ _ Z _ 17 [(0, .ref (idc 0 i1)), (1, .int a2), (2, .int a3), (3, .int a4), (4, .ref (idc 34 a5))] [] _
    refine x_iconst 17 1 (1 : Int32) dX0_consent_17 rfl ?_
    exact x_iret 18 hZ rfl dX0_consent_18
  · refine x_astq 19 dX0_consent_19 (by decide) ?_
    show TX g Γ _ Z _ 21 [(0, .ref (idc 0 i1)), (1, .int a2), (2, .int a3), (3, .int a4), (4, .ref (idc 34 a5))] [] _
    refine x_iconst 21 2 (2 : Int32) dX0_consent_21 rfl ?_
    exact x_iret 22 hZ rfl dX0_consent_22
  · refine x_i2l 10 dX0_consent_10 ?_
    refine x_last 11 dX0_consent_11 ?_
    refine x_goto 12 23 dX0_consent_12 rfl ?_
    refine x_iconst 23 0 (0 : Int32) dX0_consent_23 rfl ?_
    exact x_iret 24 hZ rfl dX0_consent_24
def f_X0_withdraw (a1 : Nat) (a2 : Int32) (a3 : Int32) (a4 : Nat) : PT Int32 := isK 0 a1 fun i1 => tryE (f_X1_withdraw i1 a2 a3) (fun v3 => bJ 34 a4 (0 : Int32) v3.toInt64 <| rt (0 : Int32)) (hsel [("java/lang/IndexOutOfBoundsException", rt (1 : Int32))])
theorem im_X0_withdraw {g : GP} {l : Launch} (hl : l.stackTraces = false) (a1 : Nat) (a2 : Int32) (a3 : Int32) (a4 : Nat) : ImH g l 10 yX0_withdraw cX0_withdraw 5 (some .int) [(0, 10, 13, 21)] eI [.ref a1, .int a2, .int a3, .ref (idc 34 a4)] (f_X0_withdraw a1 a2 a3 a4) := by
  refine tx_startW hl 10 _ _ _ _ _ (by decide) (Nat.le_of_ble_eq_true rfl) fun Γ Z hΓ hZ => ?_
  subst hΓ
  unfold f_X0_withdraw
  show TX g Γ _ Z _ 0 [(0, .ref a1), (1, .int a2), (2, .int a3), (3, .ref (idc 34 a4))] [] _
  refine x_aload_n 0 3 dX0_withdraw_0 rfl ?_
  refine x_iconst 1 0 (0 : Int32) dX0_withdraw_1 rfl ?_
  refine x_aload_n 2 0 dX0_withdraw_2 rfl ?_
  refine x_iload_n 3 1 dX0_withdraw_3 rfl ?_
  refine x_iload_n 4 2 dX0_withdraw_4 rfl ?_
  refine x_isK fun i1 h2 => ?_
  subst h2
  refine x_cVh 5 9 [.int a2, .int a3] [.int (0 : Int32), .ref (idc 34 a4)] ⟨by decide, rfl⟩ cv_X0_90 (im_X1_withdraw hl i1 a2 a3) (by decide) rfl (Nat.le_of_ble_eq_true rfl) 0 10 [(13, 21, "java/lang/IndexOutOfBoundsException", rt (1 : Int32))] rfl ⟨by decide, by decide⟩ (by decide) (List.forall_mem_cons.mpr ⟨⟨by decide, q1082, by decide, q605⟩, fun _ h => absurd h List.not_mem_nil⟩) dX0_withdraw_5 (List.forall_mem_cons.mpr ⟨?_, fun _ h => absurd h List.not_mem_nil⟩) (fun v3 => x_stI ?_)
  · refine x_astq 13 dX0_withdraw_13 (by decide) ?_
    show TX g Γ _ Z _ 15 [(0, .ref (idc 0 i1)), (1, .int a2), (2, .int a3), (3, .ref (idc 34 a4))] [] _
    refine x_iconst 15 1 (1 : Int32) dX0_withdraw_15 rfl ?_
    exact x_iret 16 hZ rfl dX0_withdraw_16
  · refine x_i2l 8 dX0_withdraw_8 ?_
    refine x_last 9 dX0_withdraw_9 ?_
    refine x_goto 10 17 dX0_withdraw_10 rfl ?_
    refine x_iconst 17 0 (0 : Int32) dX0_withdraw_17 rfl ?_
    exact x_iret 18 hZ rfl dX0_withdraw_18
def f_X0_need (a1 : Nat) (a2 : Int32) (a3 : Int32) (a4 : Nat) : PT Int32 := isK 0 a1 fun i1 => tryE (f_X1_need i1 a2 a3) (fun v3 => bJ 34 a4 (0 : Int32) v3.toInt64 <| rt (0 : Int32)) (hsel [("java/lang/IndexOutOfBoundsException", rt (1 : Int32)), ("java/lang/IllegalArgumentException", rt (2 : Int32))])
theorem im_X0_need {g : GP} {l : Launch} (hl : l.stackTraces = false) (a1 : Nat) (a2 : Int32) (a3 : Int32) (a4 : Nat) : ImH g l 9 yX0_need cX0_need 5 (some .int) [(0, 10, 13, 21), (0, 10, 17, 13)] eI [.ref a1, .int a2, .int a3, .ref (idc 34 a4)] (f_X0_need a1 a2 a3 a4) := by
  refine tx_startW hl 9 _ _ _ _ _ (by decide) (Nat.le_of_ble_eq_true rfl) fun Γ Z hΓ hZ => ?_
  subst hΓ
  unfold f_X0_need
  show TX g Γ _ Z _ 0 [(0, .ref a1), (1, .int a2), (2, .int a3), (3, .ref (idc 34 a4))] [] _
  refine x_aload_n 0 3 dX0_need_0 rfl ?_
  refine x_iconst 1 0 (0 : Int32) dX0_need_1 rfl ?_
  refine x_aload_n 2 0 dX0_need_2 rfl ?_
  refine x_iload_n 3 1 dX0_need_3 rfl ?_
  refine x_iload_n 4 2 dX0_need_4 rfl ?_
  refine x_isK fun i1 h2 => ?_
  subst h2
  refine x_cVh 5 8 [.int a2, .int a3] [.int (0 : Int32), .ref (idc 34 a4)] ⟨by decide, rfl⟩ cv_X0_93 (im_X1_need hl i1 a2 a3) (by decide) rfl (Nat.le_of_ble_eq_true rfl) 0 10 [(13, 21, "java/lang/IndexOutOfBoundsException", rt (1 : Int32)), (17, 13, "java/lang/IllegalArgumentException", rt (2 : Int32))] rfl ⟨by decide, by decide⟩ (by decide) (List.forall_mem_cons.mpr ⟨⟨by decide, q1082, by decide, q605⟩, List.forall_mem_cons.mpr ⟨⟨by decide, q801, by decide, q156⟩, fun _ h => absurd h List.not_mem_nil⟩⟩) dX0_need_5 (List.forall_mem_cons.mpr ⟨?_, List.forall_mem_cons.mpr ⟨?_, fun _ h => absurd h List.not_mem_nil⟩⟩) (fun v3 => x_stI ?_)
  · refine x_astq 13 dX0_need_13 (by decide) ?_
    show TX g Γ _ Z _ 15 [(0, .ref (idc 0 i1)), (1, .int a2), (2, .int a3), (3, .ref (idc 34 a4))] [] _
    refine x_iconst 15 1 (1 : Int32) dX0_need_15 rfl ?_
    exact x_iret 16 hZ rfl dX0_need_16
  · refine x_astq 17 dX0_need_17 (by decide) ?_
    show TX g Γ _ Z _ 19 [(0, .ref (idc 0 i1)), (1, .int a2), (2, .int a3), (3, .ref (idc 34 a4))] [] _
    refine x_iconst 19 2 (2 : Int32) dX0_need_19 rfl ?_
    exact x_iret 20 hZ rfl dX0_need_20
  · refine x_i2l 8 dX0_need_8 ?_
    refine x_last 9 dX0_need_9 ?_
    refine x_goto 10 21 dX0_need_10 rfl ?_
    refine x_iconst 21 0 (0 : Int32) dX0_need_21 rfl ?_
    exact x_iret 22 hZ rfl dX0_need_22
def f_X0_authorize (a1 : Nat) (a2 : Int32) (a3 : Int32) (a4 : Int32) (a5 : Int32) (a6 : Nat) : PT Int32 := isK 0 a1 fun i1 => tryE (f_X1_authorize i1 a2 a3 a4 a5) (fun v3 => bJ 34 a6 (0 : Int32) v3.toInt64 <| rt (0 : Int32)) (hsel [("java/lang/IndexOutOfBoundsException", rt (1 : Int32)), ("java/lang/IllegalArgumentException", rt (2 : Int32)), ("java/lang/IllegalStateException", rt (3 : Int32))])
theorem im_X0_authorize {g : GP} {l : Launch} (hl : l.stackTraces = false) (a1 : Nat) (a2 : Int32) (a3 : Int32) (a4 : Int32) (a5 : Int32) (a6 : Nat) : ImH g l 9 yX0_authorize cX0_authorize 7 (some .int) [(0, 14, 17, 21), (0, 14, 21, 13), (0, 14, 25, 15)] eI [.ref a1, .int a2, .int a3, .int a4, .int a5, .ref (idc 34 a6)] (f_X0_authorize a1 a2 a3 a4 a5 a6) := by
  refine tx_startW hl 9 _ _ _ _ _ (by decide) (Nat.le_of_ble_eq_true rfl) fun Γ Z hΓ hZ => ?_
  subst hΓ
  unfold f_X0_authorize
  show TX g Γ _ Z _ 0 [(0, .ref a1), (1, .int a2), (2, .int a3), (3, .int a4), (4, .int a5), (5, .ref (idc 34 a6))] [] _
  refine x_aload 0 5 dX0_authorize_0 rfl ?_
  refine x_iconst 2 0 (0 : Int32) dX0_authorize_2 rfl ?_
  refine x_aload_n 3 0 dX0_authorize_3 rfl ?_
  refine x_iload_n 4 1 dX0_authorize_4 rfl ?_
  refine x_iload_n 5 2 dX0_authorize_5 rfl ?_
  refine x_iload_n 6 3 dX0_authorize_6 rfl ?_
  refine x_iload 7 4 dX0_authorize_7 rfl ?_
  refine x_isK fun i1 h2 => ?_
  subst h2
  refine x_cVh 9 8 [.int a2, .int a3, .int a4, .int a5] [.int (0 : Int32), .ref (idc 34 a6)] ⟨by decide, rfl⟩ cv_X0_96 (im_X1_authorize hl i1 a2 a3 a4 a5) (by decide) rfl (Nat.le_of_ble_eq_true rfl) 0 14 [(17, 21, "java/lang/IndexOutOfBoundsException", rt (1 : Int32)), (21, 13, "java/lang/IllegalArgumentException", rt (2 : Int32)), (25, 15, "java/lang/IllegalStateException", rt (3 : Int32))] rfl ⟨by decide, by decide⟩ (by decide) (List.forall_mem_cons.mpr ⟨⟨by decide, q1082, by decide, q605⟩, List.forall_mem_cons.mpr ⟨⟨by decide, q801, by decide, q156⟩, List.forall_mem_cons.mpr ⟨⟨by decide, q802, by decide, q826⟩, fun _ h => absurd h List.not_mem_nil⟩⟩⟩) dX0_authorize_9 (List.forall_mem_cons.mpr ⟨?_, List.forall_mem_cons.mpr ⟨?_, List.forall_mem_cons.mpr ⟨?_, fun _ h => absurd h List.not_mem_nil⟩⟩⟩) (fun v3 => x_stI ?_)
  · refine x_astq 17 dX0_authorize_17 (by decide) ?_
    show TX g Γ _ Z _ 19 [(0, .ref (idc 0 i1)), (1, .int a2), (2, .int a3), (3, .int a4), (4, .int a5), (5, .ref (idc 34 a6))] [] _
    refine x_iconst 19 1 (1 : Int32) dX0_authorize_19 rfl ?_
    exact x_iret 20 hZ rfl dX0_authorize_20
  · refine x_astq 21 dX0_authorize_21 (by decide) ?_
    show TX g Γ _ Z _ 23 [(0, .ref (idc 0 i1)), (1, .int a2), (2, .int a3), (3, .int a4), (4, .int a5), (5, .ref (idc 34 a6))] [] _
    refine x_iconst 23 2 (2 : Int32) dX0_authorize_23 rfl ?_
    exact x_iret 24 hZ rfl dX0_authorize_24
  · refine x_astq 25 dX0_authorize_25 (by decide) ?_
    show TX g Γ _ Z _ 27 [(0, .ref (idc 0 i1)), (1, .int a2), (2, .int a3), (3, .int a4), (4, .int a5), (5, .ref (idc 34 a6))] [] _
    refine x_iconst 27 3 (3 : Int32) dX0_authorize_27 rfl ?_
    exact x_iret 28 hZ rfl dX0_authorize_28
  · refine x_i2l 12 dX0_authorize_12 ?_
    refine x_last 13 dX0_authorize_13 ?_
    refine x_goto 14 29 dX0_authorize_14 rfl ?_
    refine x_iconst 29 0 (0 : Int32) dX0_authorize_29 rfl ?_
    exact x_iret 30 hZ rfl dX0_authorize_30
def f_X0_redeem (a1 : Nat) (a2 : Int32) (a3 : Nat) : PT Int32 := isK 0 a1 fun i1 => tryE (f_X1_redeem i1 a2) (fun v3 => bJ 34 a3 (0 : Int32) v3.toInt64 <| rt (0 : Int32)) (hsel [("java/lang/IndexOutOfBoundsException", rt (1 : Int32)), ("java/lang/IllegalStateException", rt (2 : Int32))])
theorem im_X0_redeem {g : GP} {l : Launch} (hl : l.stackTraces = false) (a1 : Nat) (a2 : Int32) (a3 : Nat) : ImH g l 10 yX0_redeem cX0_redeem 4 (some .int) [(0, 9, 12, 21), (0, 9, 15, 15)] eI [.ref a1, .int a2, .ref (idc 34 a3)] (f_X0_redeem a1 a2 a3) := by
  refine tx_startW hl 10 _ _ _ _ _ (by decide) (Nat.le_of_ble_eq_true rfl) fun Γ Z hΓ hZ => ?_
  subst hΓ
  unfold f_X0_redeem
  show TX g Γ _ Z _ 0 [(0, .ref a1), (1, .int a2), (2, .ref (idc 34 a3))] [] _
  refine x_aload_n 0 2 dX0_redeem_0 rfl ?_
  refine x_iconst 1 0 (0 : Int32) dX0_redeem_1 rfl ?_
  refine x_aload_n 2 0 dX0_redeem_2 rfl ?_
  refine x_iload_n 3 1 dX0_redeem_3 rfl ?_
  refine x_isK fun i1 h2 => ?_
  subst h2
  refine x_cVh 4 9 [.int a2] [.int (0 : Int32), .ref (idc 34 a3)] ⟨by decide, rfl⟩ cv_X0_100 (im_X1_redeem hl i1 a2) (by decide) rfl (Nat.le_of_ble_eq_true rfl) 0 9 [(12, 21, "java/lang/IndexOutOfBoundsException", rt (1 : Int32)), (15, 15, "java/lang/IllegalStateException", rt (2 : Int32))] rfl ⟨by decide, by decide⟩ (by decide) (List.forall_mem_cons.mpr ⟨⟨by decide, q1082, by decide, q605⟩, List.forall_mem_cons.mpr ⟨⟨by decide, q802, by decide, q826⟩, fun _ h => absurd h List.not_mem_nil⟩⟩) dX0_redeem_4 (List.forall_mem_cons.mpr ⟨?_, List.forall_mem_cons.mpr ⟨?_, fun _ h => absurd h List.not_mem_nil⟩⟩) (fun v3 => x_stI ?_)
  · refine x_astq_n 12 dX0_redeem_12 (by decide) ?_
    show TX g Γ _ Z _ 13 [(0, .ref (idc 0 i1)), (1, .int a2), (2, .ref (idc 34 a3))] [] _
    refine x_iconst 13 1 (1 : Int32) dX0_redeem_13 rfl ?_
    exact x_iret 14 hZ rfl dX0_redeem_14
  · refine x_astq_n 15 dX0_redeem_15 (by decide) ?_
    show TX g Γ _ Z _ 16 [(0, .ref (idc 0 i1)), (1, .int a2), (2, .ref (idc 34 a3))] [] _
    refine x_iconst 16 2 (2 : Int32) dX0_redeem_16 rfl ?_
    exact x_iret 17 hZ rfl dX0_redeem_17
  · refine x_i2l 7 dX0_redeem_7 ?_
    refine x_last 8 dX0_redeem_8 ?_
    refine x_goto 9 18 dX0_redeem_9 rfl ?_
    refine x_iconst 18 0 (0 : Int32) dX0_redeem_18 rfl ?_
    exact x_iret 19 hZ rfl dX0_redeem_19
def f_X0_refresh (a1 : Nat) (a2 : Int32) (a3 : Int32) (a4 : Nat) : PT Int32 := isK 0 a1 fun i1 => tryE (f_X1_refresh i1 a2 a3) (fun v3 => bJ 34 a4 (0 : Int32) v3.toInt64 <| rt (0 : Int32)) (hsel [("java/lang/IndexOutOfBoundsException", rt (1 : Int32)), ("java/lang/IllegalArgumentException", rt (2 : Int32)), ("java/lang/IllegalStateException", rt (3 : Int32))])
theorem im_X0_refresh {g : GP} {l : Launch} (hl : l.stackTraces = false) (a1 : Nat) (a2 : Int32) (a3 : Int32) (a4 : Nat) : ImH g l 11 yX0_refresh cX0_refresh 5 (some .int) [(0, 10, 13, 21), (0, 10, 17, 13), (0, 10, 21, 15)] eI [.ref a1, .int a2, .int a3, .ref (idc 34 a4)] (f_X0_refresh a1 a2 a3 a4) := by
  refine tx_startW hl 11 _ _ _ _ _ (by decide) (Nat.le_of_ble_eq_true rfl) fun Γ Z hΓ hZ => ?_
  subst hΓ
  unfold f_X0_refresh
  show TX g Γ _ Z _ 0 [(0, .ref a1), (1, .int a2), (2, .int a3), (3, .ref (idc 34 a4))] [] _
  refine x_aload_n 0 3 dX0_refresh_0 rfl ?_
  refine x_iconst 1 0 (0 : Int32) dX0_refresh_1 rfl ?_
  refine x_aload_n 2 0 dX0_refresh_2 rfl ?_
  refine x_iload_n 3 1 dX0_refresh_3 rfl ?_
  refine x_iload_n 4 2 dX0_refresh_4 rfl ?_
  refine x_isK fun i1 h2 => ?_
  subst h2
  refine x_cVh 5 10 [.int a2, .int a3] [.int (0 : Int32), .ref (idc 34 a4)] ⟨by decide, rfl⟩ cv_X0_103 (im_X1_refresh hl i1 a2 a3) (by decide) rfl (Nat.le_of_ble_eq_true rfl) 0 10 [(13, 21, "java/lang/IndexOutOfBoundsException", rt (1 : Int32)), (17, 13, "java/lang/IllegalArgumentException", rt (2 : Int32)), (21, 15, "java/lang/IllegalStateException", rt (3 : Int32))] rfl ⟨by decide, by decide⟩ (by decide) (List.forall_mem_cons.mpr ⟨⟨by decide, q1082, by decide, q605⟩, List.forall_mem_cons.mpr ⟨⟨by decide, q801, by decide, q156⟩, List.forall_mem_cons.mpr ⟨⟨by decide, q802, by decide, q826⟩, fun _ h => absurd h List.not_mem_nil⟩⟩⟩) dX0_refresh_5 (List.forall_mem_cons.mpr ⟨?_, List.forall_mem_cons.mpr ⟨?_, List.forall_mem_cons.mpr ⟨?_, fun _ h => absurd h List.not_mem_nil⟩⟩⟩) (fun v3 => x_stI ?_)
  · refine x_astq 13 dX0_refresh_13 (by decide) ?_
    show TX g Γ _ Z _ 15 [(0, .ref (idc 0 i1)), (1, .int a2), (2, .int a3), (3, .ref (idc 34 a4))] [] _
    refine x_iconst 15 1 (1 : Int32) dX0_refresh_15 rfl ?_
    exact x_iret 16 hZ rfl dX0_refresh_16
  · refine x_astq 17 dX0_refresh_17 (by decide) ?_
    show TX g Γ _ Z _ 19 [(0, .ref (idc 0 i1)), (1, .int a2), (2, .int a3), (3, .ref (idc 34 a4))] [] _
    refine x_iconst 19 2 (2 : Int32) dX0_refresh_19 rfl ?_
    exact x_iret 20 hZ rfl dX0_refresh_20
  · refine x_astq 21 dX0_refresh_21 (by decide) ?_
    show TX g Γ _ Z _ 23 [(0, .ref (idc 0 i1)), (1, .int a2), (2, .int a3), (3, .ref (idc 34 a4))] [] _
    refine x_iconst 23 3 (3 : Int32) dX0_refresh_23 rfl ?_
    exact x_iret 24 hZ rfl dX0_refresh_24
  · refine x_i2l 8 dX0_refresh_8 ?_
    refine x_last 9 dX0_refresh_9 ?_
    refine x_goto 10 25 dX0_refresh_10 rfl ?_
    refine x_iconst 25 0 (0 : Int32) dX0_refresh_25 rfl ?_
    exact x_iret 26 hZ rfl dX0_refresh_26
def f_X0_isGood (a1 : Nat) (a2 : Int32) (a3 : Nat) : PT Int32 := isK 0 a1 fun i1 => tryE (f_X1_isGood i1 a2) (fun v3 => bnd (ρ := _) (α := Int64) (cnd (v3 = 0) (rt (0 : Int64)) (rt (1 : Int64))) (fun u4 => bJ 34 a3 (0 : Int32) u4 <| rt (0 : Int32))) (hsel [("java/lang/IndexOutOfBoundsException", rt (1 : Int32))])
theorem im_X0_isGood {g : GP} {l : Launch} (hl : l.stackTraces = false) (a1 : Nat) (a2 : Int32) (a3 : Nat) : ImH g l 9 yX0_isGood cX0_isGood 4 (some .int) [(0, 16, 19, 21)] eI [.ref a1, .int a2, .ref (idc 34 a3)] (f_X0_isGood a1 a2 a3) := by
  refine tx_startW hl 9 _ _ _ _ _ (by decide) (Nat.le_of_ble_eq_true rfl) fun Γ Z hΓ hZ => ?_
  subst hΓ
  unfold f_X0_isGood
  show TX g Γ _ Z _ 0 [(0, .ref a1), (1, .int a2), (2, .ref (idc 34 a3))] [] _
  refine x_aload_n 0 2 dX0_isGood_0 rfl ?_
  refine x_iconst 1 0 (0 : Int32) dX0_isGood_1 rfl ?_
  refine x_aload_n 2 0 dX0_isGood_2 rfl ?_
  refine x_iload_n 3 1 dX0_isGood_3 rfl ?_
  refine x_isK fun i1 h2 => ?_
  subst h2
  refine x_cVh 4 8 [.int a2] [.int (0 : Int32), .ref (idc 34 a3)] ⟨by decide, rfl⟩ cv_X0_106 (im_X1_isGood hl i1 a2) (by decide) rfl (Nat.le_of_ble_eq_true rfl) 0 16 [(19, 21, "java/lang/IndexOutOfBoundsException", rt (1 : Int32))] rfl ⟨by decide, by decide⟩ (by decide) (List.forall_mem_cons.mpr ⟨⟨by decide, q1082, by decide, q605⟩, fun _ h => absurd h List.not_mem_nil⟩) dX0_isGood_4 (List.forall_mem_cons.mpr ⟨?_, fun _ h => absurd h List.not_mem_nil⟩) (fun v3 => x_stI ?_)
  · refine x_astq_n 19 dX0_isGood_19 (by decide) ?_
    show TX g Γ _ Z _ 20 [(0, .ref (idc 0 i1)), (1, .int a2), (2, .ref (idc 34 a3))] [] _
    refine x_iconst 20 1 (1 : Int32) dX0_isGood_20 rfl ?_
    exact x_iret 21 hZ rfl dX0_isGood_21
  · refine x_bndj 15 (fun u4 => []) (fun u4 => [.long u4, .int (0 : Int32), .ref (idc 34 a3)]) (fun u4 => ?_) (fun hj5 => ?_)
    · show TX g Γ _ Z _ 15 [] [.long u4, .int (0 : Int32), .ref (idc 34 a3)] _
      refine x_last 15 dX0_isGood_15 ?_
      refine x_goto 16 22 dX0_isGood_16 rfl ?_
      refine x_iconst 22 0 (0 : Int32) dX0_isGood_22 rfl ?_
      exact x_iret 23 hZ rfl dX0_isGood_23
    · refine x_if_eq 7 14 dX0_isGood_7 rfl (fun c6 => ?_) (fun c6 => ?_)
      · refine x_lconst 14 0 (0 : Int64) dX0_isGood_14 rfl ?_
        refine x_sub [] _ rfl ?_
        exact hj5 (0 : Int64)
      · refine x_lconst 10 1 (1 : Int64) dX0_isGood_10 rfl ?_
        refine x_goto 11 15 dX0_isGood_11 rfl ?_
        refine x_sub [] _ rfl ?_
        exact hj5 (1 : Int64)
def f_X0_tokenOf (a1 : Nat) (a2 : Int32) (a3 : Nat) : PT Int32 := isK 0 a1 fun i1 => tryE (f_X1_tokenOf i1 a2) (fun v3 => bJ 34 a3 (0 : Int32) v3.toInt64 <| rt (0 : Int32)) (hsel [("java/lang/IndexOutOfBoundsException", rt (1 : Int32))])
theorem im_X0_tokenOf {g : GP} {l : Launch} (hl : l.stackTraces = false) (a1 : Nat) (a2 : Int32) (a3 : Nat) : ImH g l 9 yX0_tokenOf cX0_tokenOf 4 (some .int) [(0, 9, 12, 21)] eI [.ref a1, .int a2, .ref (idc 34 a3)] (f_X0_tokenOf a1 a2 a3) := by
  refine tx_startW hl 9 _ _ _ _ _ (by decide) (Nat.le_of_ble_eq_true rfl) fun Γ Z hΓ hZ => ?_
  subst hΓ
  unfold f_X0_tokenOf
  show TX g Γ _ Z _ 0 [(0, .ref a1), (1, .int a2), (2, .ref (idc 34 a3))] [] _
  refine x_aload_n 0 2 dX0_tokenOf_0 rfl ?_
  refine x_iconst 1 0 (0 : Int32) dX0_tokenOf_1 rfl ?_
  refine x_aload_n 2 0 dX0_tokenOf_2 rfl ?_
  refine x_iload_n 3 1 dX0_tokenOf_3 rfl ?_
  refine x_isK fun i1 h2 => ?_
  subst h2
  refine x_cVh 4 8 [.int a2] [.int (0 : Int32), .ref (idc 34 a3)] ⟨by decide, rfl⟩ cv_X0_109 (im_X1_tokenOf hl i1 a2) (by decide) rfl (Nat.le_of_ble_eq_true rfl) 0 9 [(12, 21, "java/lang/IndexOutOfBoundsException", rt (1 : Int32))] rfl ⟨by decide, by decide⟩ (by decide) (List.forall_mem_cons.mpr ⟨⟨by decide, q1082, by decide, q605⟩, fun _ h => absurd h List.not_mem_nil⟩) dX0_tokenOf_4 (List.forall_mem_cons.mpr ⟨?_, fun _ h => absurd h List.not_mem_nil⟩) (fun v3 => x_stI ?_)
  · refine x_astq_n 12 dX0_tokenOf_12 (by decide) ?_
    show TX g Γ _ Z _ 13 [(0, .ref (idc 0 i1)), (1, .int a2), (2, .ref (idc 34 a3))] [] _
    refine x_iconst 13 1 (1 : Int32) dX0_tokenOf_13 rfl ?_
    exact x_iret 14 hZ rfl dX0_tokenOf_14
  · refine x_i2l 7 dX0_tokenOf_7 ?_
    refine x_last 8 dX0_tokenOf_8 ?_
    refine x_goto 9 15 dX0_tokenOf_9 rfl ?_
    refine x_iconst 15 0 (0 : Int32) dX0_tokenOf_15 rfl ?_
    exact x_iret 16 hZ rfl dX0_tokenOf_16
def f_X0_exchange (a1 : Nat) (a2 : Int32) (a3 : Int32) (a4 : Int32) (a5 : Nat) : PT Int32 := isK 0 a1 fun i1 => tryE (f_X1_exchange i1 a2 a3 a4) (fun v3 => bJ 34 a5 (0 : Int32) v3.toInt64 <| rt (0 : Int32)) (hsel [("java/lang/IndexOutOfBoundsException", rt (1 : Int32)), ("java/lang/IllegalArgumentException", rt (2 : Int32)), ("java/lang/IllegalStateException", rt (3 : Int32))])
theorem im_X0_exchange {g : GP} {l : Launch} (hl : l.stackTraces = false) (a1 : Nat) (a2 : Int32) (a3 : Int32) (a4 : Int32) (a5 : Nat) : ImH g l 9 yX0_exchange cX0_exchange 6 (some .int) [(0, 12, 15, 21), (0, 12, 19, 13), (0, 12, 23, 15)] eI [.ref a1, .int a2, .int a3, .int a4, .ref (idc 34 a5)] (f_X0_exchange a1 a2 a3 a4 a5) := by
  refine tx_startW hl 9 _ _ _ _ _ (by decide) (Nat.le_of_ble_eq_true rfl) fun Γ Z hΓ hZ => ?_
  subst hΓ
  unfold f_X0_exchange
  show TX g Γ _ Z _ 0 [(0, .ref a1), (1, .int a2), (2, .int a3), (3, .int a4), (4, .ref (idc 34 a5))] [] _
  refine x_aload 0 4 dX0_exchange_0 rfl ?_
  refine x_iconst 2 0 (0 : Int32) dX0_exchange_2 rfl ?_
  refine x_aload_n 3 0 dX0_exchange_3 rfl ?_
  refine x_iload_n 4 1 dX0_exchange_4 rfl ?_
  refine x_iload_n 5 2 dX0_exchange_5 rfl ?_
  refine x_iload_n 6 3 dX0_exchange_6 rfl ?_
  refine x_isK fun i1 h2 => ?_
  subst h2
  refine x_cVh 7 8 [.int a2, .int a3, .int a4] [.int (0 : Int32), .ref (idc 34 a5)] ⟨by decide, rfl⟩ cv_X0_112 (im_X1_exchange hl i1 a2 a3 a4) (by decide) rfl (Nat.le_of_ble_eq_true rfl) 0 12 [(15, 21, "java/lang/IndexOutOfBoundsException", rt (1 : Int32)), (19, 13, "java/lang/IllegalArgumentException", rt (2 : Int32)), (23, 15, "java/lang/IllegalStateException", rt (3 : Int32))] rfl ⟨by decide, by decide⟩ (by decide) (List.forall_mem_cons.mpr ⟨⟨by decide, q1082, by decide, q605⟩, List.forall_mem_cons.mpr ⟨⟨by decide, q801, by decide, q156⟩, List.forall_mem_cons.mpr ⟨⟨by decide, q802, by decide, q826⟩, fun _ h => absurd h List.not_mem_nil⟩⟩⟩) dX0_exchange_7 (List.forall_mem_cons.mpr ⟨?_, List.forall_mem_cons.mpr ⟨?_, List.forall_mem_cons.mpr ⟨?_, fun _ h => absurd h List.not_mem_nil⟩⟩⟩) (fun v3 => x_stI ?_)
  · refine x_astq 15 dX0_exchange_15 (by decide) ?_
    show TX g Γ _ Z _ 17 [(0, .ref (idc 0 i1)), (1, .int a2), (2, .int a3), (3, .int a4), (4, .ref (idc 34 a5))] [] _
    refine x_iconst 17 1 (1 : Int32) dX0_exchange_17 rfl ?_
    exact x_iret 18 hZ rfl dX0_exchange_18
  · refine x_astq 19 dX0_exchange_19 (by decide) ?_
    show TX g Γ _ Z _ 21 [(0, .ref (idc 0 i1)), (1, .int a2), (2, .int a3), (3, .int a4), (4, .ref (idc 34 a5))] [] _
    refine x_iconst 21 2 (2 : Int32) dX0_exchange_21 rfl ?_
    exact x_iret 22 hZ rfl dX0_exchange_22
  · refine x_astq 23 dX0_exchange_23 (by decide) ?_
    show TX g Γ _ Z _ 25 [(0, .ref (idc 0 i1)), (1, .int a2), (2, .int a3), (3, .int a4), (4, .ref (idc 34 a5))] [] _
    refine x_iconst 25 3 (3 : Int32) dX0_exchange_25 rfl ?_
    exact x_iret 26 hZ rfl dX0_exchange_26
  · refine x_i2l 10 dX0_exchange_10 ?_
    refine x_last 11 dX0_exchange_11 ?_
    refine x_goto 12 27 dX0_exchange_12 rfl ?_
    refine x_iconst 27 0 (0 : Int32) dX0_exchange_27 rfl ?_
    exact x_iret 28 hZ rfl dX0_exchange_28
def f_X0_token (a1 : Nat) (a2 : Int32) (a3 : Nat) : PT Int32 := isK 0 a1 fun i1 => tryE (f_X1_token i1 a2) (fun v3 => bJ 34 a3 (0 : Int32) v3.toInt64 <| rt (0 : Int32)) (hsel [("java/lang/IndexOutOfBoundsException", rt (1 : Int32))])
theorem im_X0_token {g : GP} {l : Launch} (hl : l.stackTraces = false) (a1 : Nat) (a2 : Int32) (a3 : Nat) : ImH g l 9 yX0_token cX0_token 4 (some .int) [(0, 9, 12, 21)] eI [.ref a1, .int a2, .ref (idc 34 a3)] (f_X0_token a1 a2 a3) := by
  refine tx_startW hl 9 _ _ _ _ _ (by decide) (Nat.le_of_ble_eq_true rfl) fun Γ Z hΓ hZ => ?_
  subst hΓ
  unfold f_X0_token
  show TX g Γ _ Z _ 0 [(0, .ref a1), (1, .int a2), (2, .ref (idc 34 a3))] [] _
  refine x_aload_n 0 2 dX0_token_0 rfl ?_
  refine x_iconst 1 0 (0 : Int32) dX0_token_1 rfl ?_
  refine x_aload_n 2 0 dX0_token_2 rfl ?_
  refine x_iload_n 3 1 dX0_token_3 rfl ?_
  refine x_isK fun i1 h2 => ?_
  subst h2
  refine x_cVh 4 8 [.int a2] [.int (0 : Int32), .ref (idc 34 a3)] ⟨by decide, rfl⟩ cv_X0_115 (im_X1_token hl i1 a2) (by decide) rfl (Nat.le_of_ble_eq_true rfl) 0 9 [(12, 21, "java/lang/IndexOutOfBoundsException", rt (1 : Int32))] rfl ⟨by decide, by decide⟩ (by decide) (List.forall_mem_cons.mpr ⟨⟨by decide, q1082, by decide, q605⟩, fun _ h => absurd h List.not_mem_nil⟩) dX0_token_4 (List.forall_mem_cons.mpr ⟨?_, fun _ h => absurd h List.not_mem_nil⟩) (fun v3 => x_stI ?_)
  · refine x_astq_n 12 dX0_token_12 (by decide) ?_
    show TX g Γ _ Z _ 13 [(0, .ref (idc 0 i1)), (1, .int a2), (2, .ref (idc 34 a3))] [] _
    refine x_iconst 13 1 (1 : Int32) dX0_token_13 rfl ?_
    exact x_iret 14 hZ rfl dX0_token_14
  · refine x_i2l 7 dX0_token_7 ?_
    refine x_last 8 dX0_token_8 ?_
    refine x_goto 9 15 dX0_token_9 rfl ?_
    refine x_iconst 15 0 (0 : Int32) dX0_token_15 rfl ?_
    exact x_iret 16 hZ rfl dX0_token_16
def f_X0_turn (a1 : Nat) (a2 : Nat) : PT Int32 := isK 0 a1 fun i1 => tryE (f_X1_turn i1) (fun v3 => bJ 34 a2 (0 : Int32) v3.toInt64 <| rt (0 : Int32)) (hsel [("java/lang/IllegalStateException", rt (1 : Int32))])
theorem im_X0_turn {g : GP} {l : Launch} (hl : l.stackTraces = false) (a1 : Nat) (a2 : Nat) : ImH g l 8 yX0_turn cX0_turn 3 (some .int) [(0, 8, 11, 15)] eI [.ref a1, .ref (idc 34 a2)] (f_X0_turn a1 a2) := by
  refine tx_startW hl 8 _ _ _ _ _ (by decide) (Nat.le_of_ble_eq_true rfl) fun Γ Z hΓ hZ => ?_
  subst hΓ
  unfold f_X0_turn
  show TX g Γ _ Z _ 0 [(0, .ref a1), (1, .ref (idc 34 a2))] [] _
  refine x_aload_n 0 1 dX0_turn_0 rfl ?_
  refine x_iconst 1 0 (0 : Int32) dX0_turn_1 rfl ?_
  refine x_aload_n 2 0 dX0_turn_2 rfl ?_
  refine x_isK fun i1 h2 => ?_
  subst h2
  refine x_cVh 3 7 [] [.int (0 : Int32), .ref (idc 34 a2)] ⟨by decide, rfl⟩ cv_X0_118 (im_X1_turn hl i1) (by decide) rfl (Nat.le_of_ble_eq_true rfl) 0 8 [(11, 15, "java/lang/IllegalStateException", rt (1 : Int32))] rfl ⟨by decide, by decide⟩ (by decide) (List.forall_mem_cons.mpr ⟨⟨by decide, q802, by decide, q826⟩, fun _ h => absurd h List.not_mem_nil⟩) dX0_turn_3 (List.forall_mem_cons.mpr ⟨?_, fun _ h => absurd h List.not_mem_nil⟩) (fun v3 => x_stI ?_)
  · refine x_astq_n 11 dX0_turn_11 (by decide) ?_
    show TX g Γ _ Z _ 12 [(0, .ref (idc 0 i1)), (1, .ref (idc 34 a2))] [] _
    refine x_iconst 12 1 (1 : Int32) dX0_turn_12 rfl ?_
    exact x_iret 13 hZ rfl dX0_turn_13
  · refine x_i2l 6 dX0_turn_6 ?_
    refine x_last 7 dX0_turn_7 ?_
    refine x_goto 8 14 dX0_turn_8 rfl ?_
    refine x_iconst 14 0 (0 : Int32) dX0_turn_14 rfl ?_
    exact x_iret 15 hZ rfl dX0_turn_15
def f_X0_emergency (a1 : Nat) (a2 : Nat) : PT Int32 := isK 0 a1 fun i1 => tryE (f_X1_emergency i1) (fun v3 => bJ 34 a2 (0 : Int32) v3.toInt64 <| rt (0 : Int32)) (hsel [("java/lang/IllegalStateException", rt (1 : Int32))])
theorem im_X0_emergency {g : GP} {l : Launch} (hl : l.stackTraces = false) (a1 : Nat) (a2 : Nat) : ImH g l 10 yX0_emergency cX0_emergency 3 (some .int) [(0, 8, 11, 15)] eI [.ref a1, .ref (idc 34 a2)] (f_X0_emergency a1 a2) := by
  refine tx_startW hl 10 _ _ _ _ _ (by decide) (Nat.le_of_ble_eq_true rfl) fun Γ Z hΓ hZ => ?_
  subst hΓ
  unfold f_X0_emergency
  show TX g Γ _ Z _ 0 [(0, .ref a1), (1, .ref (idc 34 a2))] [] _
  refine x_aload_n 0 1 dX0_emergency_0 rfl ?_
  refine x_iconst 1 0 (0 : Int32) dX0_emergency_1 rfl ?_
  refine x_aload_n 2 0 dX0_emergency_2 rfl ?_
  refine x_isK fun i1 h2 => ?_
  subst h2
  refine x_cVh 3 9 [] [.int (0 : Int32), .ref (idc 34 a2)] ⟨by decide, rfl⟩ cv_X0_121 (im_X1_emergency hl i1) (by decide) rfl (Nat.le_of_ble_eq_true rfl) 0 8 [(11, 15, "java/lang/IllegalStateException", rt (1 : Int32))] rfl ⟨by decide, by decide⟩ (by decide) (List.forall_mem_cons.mpr ⟨⟨by decide, q802, by decide, q826⟩, fun _ h => absurd h List.not_mem_nil⟩) dX0_emergency_3 (List.forall_mem_cons.mpr ⟨?_, fun _ h => absurd h List.not_mem_nil⟩) (fun v3 => x_stI ?_)
  · refine x_astq_n 11 dX0_emergency_11 (by decide) ?_
    show TX g Γ _ Z _ 12 [(0, .ref (idc 0 i1)), (1, .ref (idc 34 a2))] [] _
    refine x_iconst 12 1 (1 : Int32) dX0_emergency_12 rfl ?_
    exact x_iret 13 hZ rfl dX0_emergency_13
  · refine x_i2l 6 dX0_emergency_6 ?_
    refine x_last 7 dX0_emergency_7 ?_
    refine x_goto 8 14 dX0_emergency_8 rfl ?_
    refine x_iconst 14 0 (0 : Int32) dX0_emergency_14 rfl ?_
    exact x_iret 15 hZ rfl dX0_emergency_15
def f_X0_isPublished (a1 : Nat) (a2 : Int32) (a3 : Nat) : PT Int32 := isK 0 a1 fun i1 => tryE (f_X1_isPublished i1 a2) (fun v3 => bnd (ρ := _) (α := Int64) (cnd (v3 = 0) (rt (0 : Int64)) (rt (1 : Int64))) (fun u4 => bJ 34 a3 (0 : Int32) u4 <| rt (0 : Int32))) (hsel [("java/lang/IndexOutOfBoundsException", rt (1 : Int32))])
theorem im_X0_isPublished {g : GP} {l : Launch} (hl : l.stackTraces = false) (a1 : Nat) (a2 : Int32) (a3 : Nat) : ImH g l 8 yX0_isPublished cX0_isPublished 4 (some .int) [(0, 16, 19, 21)] eI [.ref a1, .int a2, .ref (idc 34 a3)] (f_X0_isPublished a1 a2 a3) := by
  refine tx_startW hl 8 _ _ _ _ _ (by decide) (Nat.le_of_ble_eq_true rfl) fun Γ Z hΓ hZ => ?_
  subst hΓ
  unfold f_X0_isPublished
  show TX g Γ _ Z _ 0 [(0, .ref a1), (1, .int a2), (2, .ref (idc 34 a3))] [] _
  refine x_aload_n 0 2 dX0_isPublished_0 rfl ?_
  refine x_iconst 1 0 (0 : Int32) dX0_isPublished_1 rfl ?_
  refine x_aload_n 2 0 dX0_isPublished_2 rfl ?_
  refine x_iload_n 3 1 dX0_isPublished_3 rfl ?_
  refine x_isK fun i1 h2 => ?_
  subst h2
  refine x_cVh 4 7 [.int a2] [.int (0 : Int32), .ref (idc 34 a3)] ⟨by decide, rfl⟩ cv_X0_124 (im_X1_isPublished hl i1 a2) (by decide) rfl (Nat.le_of_ble_eq_true rfl) 0 16 [(19, 21, "java/lang/IndexOutOfBoundsException", rt (1 : Int32))] rfl ⟨by decide, by decide⟩ (by decide) (List.forall_mem_cons.mpr ⟨⟨by decide, q1082, by decide, q605⟩, fun _ h => absurd h List.not_mem_nil⟩) dX0_isPublished_4 (List.forall_mem_cons.mpr ⟨?_, fun _ h => absurd h List.not_mem_nil⟩) (fun v3 => x_stI ?_)
  · refine x_astq_n 19 dX0_isPublished_19 (by decide) ?_
    show TX g Γ _ Z _ 20 [(0, .ref (idc 0 i1)), (1, .int a2), (2, .ref (idc 34 a3))] [] _
    refine x_iconst 20 1 (1 : Int32) dX0_isPublished_20 rfl ?_
    exact x_iret 21 hZ rfl dX0_isPublished_21
  · refine x_bndj 15 (fun u4 => []) (fun u4 => [.long u4, .int (0 : Int32), .ref (idc 34 a3)]) (fun u4 => ?_) (fun hj5 => ?_)
    · show TX g Γ _ Z _ 15 [] [.long u4, .int (0 : Int32), .ref (idc 34 a3)] _
      refine x_last 15 dX0_isPublished_15 ?_
      refine x_goto 16 22 dX0_isPublished_16 rfl ?_
      refine x_iconst 22 0 (0 : Int32) dX0_isPublished_22 rfl ?_
      exact x_iret 23 hZ rfl dX0_isPublished_23
    · refine x_if_eq 7 14 dX0_isPublished_7 rfl (fun c6 => ?_) (fun c6 => ?_)
      · refine x_lconst 14 0 (0 : Int64) dX0_isPublished_14 rfl ?_
        refine x_sub [] _ rfl ?_
        exact hj5 (0 : Int64)
      · refine x_lconst 10 1 (1 : Int64) dX0_isPublished_10 rfl ?_
        refine x_goto 11 15 dX0_isPublished_11 rfl ?_
        refine x_sub [] _ rfl ?_
        exact hj5 (1 : Int64)
def f_X0_line (a1 : Nat) (a2 : Int32) (a3 : Nat) : PT Int32 := isK 0 a1 fun i1 => tryE (f_X1_line i1 a2) (fun v3 => bJ 34 a3 (0 : Int32) v3.toInt64 <| rt (0 : Int32)) (hsel [("java/lang/IndexOutOfBoundsException", rt (1 : Int32))])
theorem im_X0_line {g : GP} {l : Launch} (hl : l.stackTraces = false) (a1 : Nat) (a2 : Int32) (a3 : Nat) : ImH g l 9 yX0_line cX0_line 4 (some .int) [(0, 9, 12, 21)] eI [.ref a1, .int a2, .ref (idc 34 a3)] (f_X0_line a1 a2 a3) := by
  refine tx_startW hl 9 _ _ _ _ _ (by decide) (Nat.le_of_ble_eq_true rfl) fun Γ Z hΓ hZ => ?_
  subst hΓ
  unfold f_X0_line
  show TX g Γ _ Z _ 0 [(0, .ref a1), (1, .int a2), (2, .ref (idc 34 a3))] [] _
  refine x_aload_n 0 2 dX0_line_0 rfl ?_
  refine x_iconst 1 0 (0 : Int32) dX0_line_1 rfl ?_
  refine x_aload_n 2 0 dX0_line_2 rfl ?_
  refine x_iload_n 3 1 dX0_line_3 rfl ?_
  refine x_isK fun i1 h2 => ?_
  subst h2
  refine x_cVh 4 8 [.int a2] [.int (0 : Int32), .ref (idc 34 a3)] ⟨by decide, rfl⟩ cv_X0_127 (im_X1_line hl i1 a2) (by decide) rfl (Nat.le_of_ble_eq_true rfl) 0 9 [(12, 21, "java/lang/IndexOutOfBoundsException", rt (1 : Int32))] rfl ⟨by decide, by decide⟩ (by decide) (List.forall_mem_cons.mpr ⟨⟨by decide, q1082, by decide, q605⟩, fun _ h => absurd h List.not_mem_nil⟩) dX0_line_4 (List.forall_mem_cons.mpr ⟨?_, fun _ h => absurd h List.not_mem_nil⟩) (fun v3 => x_stI ?_)
  · refine x_astq_n 12 dX0_line_12 (by decide) ?_
    show TX g Γ _ Z _ 13 [(0, .ref (idc 0 i1)), (1, .int a2), (2, .ref (idc 34 a3))] [] _
    refine x_iconst 13 1 (1 : Int32) dX0_line_13 rfl ?_
    exact x_iret 14 hZ rfl dX0_line_14
  · refine x_i2l 7 dX0_line_7 ?_
    refine x_last 8 dX0_line_8 ?_
    refine x_goto 9 15 dX0_line_9 rfl ?_
    refine x_iconst 15 0 (0 : Int32) dX0_line_15 rfl ?_
    exact x_iret 16 hZ rfl dX0_line_16
def f_X0_check (a1 : Nat) (a2 : Int32) (a3 : Int32) (a4 : Int32) (a5 : Nat) : PT Int32 := isK 0 a1 fun i1 => tryE (f_X1_check i1 a2 a3 a4) (fun v3 => bJ 34 a5 (0 : Int32) v3.toInt64 <| rt (0 : Int32)) (hsel [("java/lang/IndexOutOfBoundsException", rt (1 : Int32)), ("java/lang/IllegalArgumentException", rt (2 : Int32))])
theorem im_X0_check {g : GP} {l : Launch} (hl : l.stackTraces = false) (a1 : Nat) (a2 : Int32) (a3 : Int32) (a4 : Int32) (a5 : Nat) : ImH g l 9 yX0_check cX0_check 6 (some .int) [(0, 12, 15, 21), (0, 12, 19, 13)] eI [.ref a1, .int a2, .int a3, .int a4, .ref (idc 34 a5)] (f_X0_check a1 a2 a3 a4 a5) := by
  refine tx_startW hl 9 _ _ _ _ _ (by decide) (Nat.le_of_ble_eq_true rfl) fun Γ Z hΓ hZ => ?_
  subst hΓ
  unfold f_X0_check
  show TX g Γ _ Z _ 0 [(0, .ref a1), (1, .int a2), (2, .int a3), (3, .int a4), (4, .ref (idc 34 a5))] [] _
  refine x_aload 0 4 dX0_check_0 rfl ?_
  refine x_iconst 2 0 (0 : Int32) dX0_check_2 rfl ?_
  refine x_aload_n 3 0 dX0_check_3 rfl ?_
  refine x_iload_n 4 1 dX0_check_4 rfl ?_
  refine x_iload_n 5 2 dX0_check_5 rfl ?_
  refine x_iload_n 6 3 dX0_check_6 rfl ?_
  refine x_isK fun i1 h2 => ?_
  subst h2
  refine x_cVh 7 8 [.int a2, .int a3, .int a4] [.int (0 : Int32), .ref (idc 34 a5)] ⟨by decide, rfl⟩ cv_X0_130 (im_X1_check hl i1 a2 a3 a4) (by decide) rfl (Nat.le_of_ble_eq_true rfl) 0 12 [(15, 21, "java/lang/IndexOutOfBoundsException", rt (1 : Int32)), (19, 13, "java/lang/IllegalArgumentException", rt (2 : Int32))] rfl ⟨by decide, by decide⟩ (by decide) (List.forall_mem_cons.mpr ⟨⟨by decide, q1082, by decide, q605⟩, List.forall_mem_cons.mpr ⟨⟨by decide, q801, by decide, q156⟩, fun _ h => absurd h List.not_mem_nil⟩⟩) dX0_check_7 (List.forall_mem_cons.mpr ⟨?_, List.forall_mem_cons.mpr ⟨?_, fun _ h => absurd h List.not_mem_nil⟩⟩) (fun v3 => x_stI ?_)
  · refine x_astq 15 dX0_check_15 (by decide) ?_
    show TX g Γ _ Z _ 17 [(0, .ref (idc 0 i1)), (1, .int a2), (2, .int a3), (3, .int a4), (4, .ref (idc 34 a5))] [] _
    refine x_iconst 17 1 (1 : Int32) dX0_check_17 rfl ?_
    exact x_iret 18 hZ rfl dX0_check_18
  · refine x_astq 19 dX0_check_19 (by decide) ?_
    show TX g Γ _ Z _ 21 [(0, .ref (idc 0 i1)), (1, .int a2), (2, .int a3), (3, .int a4), (4, .ref (idc 34 a5))] [] _
    refine x_iconst 21 2 (2 : Int32) dX0_check_21 rfl ?_
    exact x_iret 22 hZ rfl dX0_check_22
  · refine x_i2l 10 dX0_check_10 ?_
    refine x_last 11 dX0_check_11 ?_
    refine x_goto 12 23 dX0_check_12 rfl ?_
    refine x_iconst 23 0 (0 : Int32) dX0_check_23 rfl ?_
    exact x_iret 24 hZ rfl dX0_check_24
def f_X0_lag (a1 : Nat) (a2 : Int32) (a3 : Nat) : PT Int32 := isK 0 a1 fun i1 => tryE (f_X1_lag i1 a2) (fun v3 => bJ 34 a3 (0 : Int32) v3.toInt64 <| rt (0 : Int32)) (hsel [("java/lang/IndexOutOfBoundsException", rt (1 : Int32))])
theorem im_X0_lag {g : GP} {l : Launch} (hl : l.stackTraces = false) (a1 : Nat) (a2 : Int32) (a3 : Nat) : ImH g l 9 yX0_lag cX0_lag 4 (some .int) [(0, 9, 12, 21)] eI [.ref a1, .int a2, .ref (idc 34 a3)] (f_X0_lag a1 a2 a3) := by
  refine tx_startW hl 9 _ _ _ _ _ (by decide) (Nat.le_of_ble_eq_true rfl) fun Γ Z hΓ hZ => ?_
  subst hΓ
  unfold f_X0_lag
  show TX g Γ _ Z _ 0 [(0, .ref a1), (1, .int a2), (2, .ref (idc 34 a3))] [] _
  refine x_aload_n 0 2 dX0_lag_0 rfl ?_
  refine x_iconst 1 0 (0 : Int32) dX0_lag_1 rfl ?_
  refine x_aload_n 2 0 dX0_lag_2 rfl ?_
  refine x_iload_n 3 1 dX0_lag_3 rfl ?_
  refine x_isK fun i1 h2 => ?_
  subst h2
  refine x_cVh 4 8 [.int a2] [.int (0 : Int32), .ref (idc 34 a3)] ⟨by decide, rfl⟩ cv_X0_133 (im_X1_lag hl i1 a2) (by decide) rfl (Nat.le_of_ble_eq_true rfl) 0 9 [(12, 21, "java/lang/IndexOutOfBoundsException", rt (1 : Int32))] rfl ⟨by decide, by decide⟩ (by decide) (List.forall_mem_cons.mpr ⟨⟨by decide, q1082, by decide, q605⟩, fun _ h => absurd h List.not_mem_nil⟩) dX0_lag_4 (List.forall_mem_cons.mpr ⟨?_, fun _ h => absurd h List.not_mem_nil⟩) (fun v3 => x_stI ?_)
  · refine x_astq_n 12 dX0_lag_12 (by decide) ?_
    show TX g Γ _ Z _ 13 [(0, .ref (idc 0 i1)), (1, .int a2), (2, .ref (idc 34 a3))] [] _
    refine x_iconst 13 1 (1 : Int32) dX0_lag_13 rfl ?_
    exact x_iret 14 hZ rfl dX0_lag_14
  · refine x_i2l 7 dX0_lag_7 ?_
    refine x_last 8 dX0_lag_8 ?_
    refine x_goto 9 15 dX0_lag_9 rfl ?_
    refine x_iconst 15 0 (0 : Int32) dX0_lag_15 rfl ?_
    exact x_iret 16 hZ rfl dX0_lag_16
def f_X0_recover (a1 : Nat) (a2 : Int32) (a3 : Nat) : PT Int32 := isK 0 a1 fun i1 => tryE (f_X1_recover i1 a2) (fun v3 => bJ 34 a3 (0 : Int32) v3.toInt64 <| rt (0 : Int32)) (hsel [("java/lang/IndexOutOfBoundsException", rt (1 : Int32)), ("java/lang/IllegalStateException", rt (2 : Int32))])
theorem im_X0_recover {g : GP} {l : Launch} (hl : l.stackTraces = false) (a1 : Nat) (a2 : Int32) (a3 : Nat) : ImH g l 9 yX0_recover cX0_recover 4 (some .int) [(0, 9, 12, 21), (0, 9, 15, 15)] eI [.ref a1, .int a2, .ref (idc 34 a3)] (f_X0_recover a1 a2 a3) := by
  refine tx_startW hl 9 _ _ _ _ _ (by decide) (Nat.le_of_ble_eq_true rfl) fun Γ Z hΓ hZ => ?_
  subst hΓ
  unfold f_X0_recover
  show TX g Γ _ Z _ 0 [(0, .ref a1), (1, .int a2), (2, .ref (idc 34 a3))] [] _
  refine x_aload_n 0 2 dX0_recover_0 rfl ?_
  refine x_iconst 1 0 (0 : Int32) dX0_recover_1 rfl ?_
  refine x_aload_n 2 0 dX0_recover_2 rfl ?_
  refine x_iload_n 3 1 dX0_recover_3 rfl ?_
  refine x_isK fun i1 h2 => ?_
  subst h2
  refine x_cVh 4 8 [.int a2] [.int (0 : Int32), .ref (idc 34 a3)] ⟨by decide, rfl⟩ cv_X0_136 (im_X1_recover hl i1 a2) (by decide) rfl (Nat.le_of_ble_eq_true rfl) 0 9 [(12, 21, "java/lang/IndexOutOfBoundsException", rt (1 : Int32)), (15, 15, "java/lang/IllegalStateException", rt (2 : Int32))] rfl ⟨by decide, by decide⟩ (by decide) (List.forall_mem_cons.mpr ⟨⟨by decide, q1082, by decide, q605⟩, List.forall_mem_cons.mpr ⟨⟨by decide, q802, by decide, q826⟩, fun _ h => absurd h List.not_mem_nil⟩⟩) dX0_recover_4 (List.forall_mem_cons.mpr ⟨?_, List.forall_mem_cons.mpr ⟨?_, fun _ h => absurd h List.not_mem_nil⟩⟩) (fun v3 => x_stI ?_)
  · refine x_astq_n 12 dX0_recover_12 (by decide) ?_
    show TX g Γ _ Z _ 13 [(0, .ref (idc 0 i1)), (1, .int a2), (2, .ref (idc 34 a3))] [] _
    refine x_iconst 13 1 (1 : Int32) dX0_recover_13 rfl ?_
    exact x_iret 14 hZ rfl dX0_recover_14
  · refine x_astq_n 15 dX0_recover_15 (by decide) ?_
    show TX g Γ _ Z _ 16 [(0, .ref (idc 0 i1)), (1, .int a2), (2, .ref (idc 34 a3))] [] _
    refine x_iconst 16 2 (2 : Int32) dX0_recover_16 rfl ?_
    exact x_iret 17 hZ rfl dX0_recover_17
  · refine x_i2l 7 dX0_recover_7 ?_
    refine x_last 8 dX0_recover_8 ?_
    refine x_goto 9 18 dX0_recover_9 rfl ?_
    refine x_iconst 18 0 (0 : Int32) dX0_recover_18 rfl ?_
    exact x_iret 19 hZ rfl dX0_recover_19
def f_X0_vouch (a1 : Nat) (a2 : Int32) (a3 : Int32) (a4 : Nat) : PT Int32 := isK 0 a1 fun i1 => tryE (f_X1_vouch i1 a2 a3) (fun v3 => bJ 34 a4 (0 : Int32) v3.toInt64 <| rt (0 : Int32)) (hsel [("java/lang/IndexOutOfBoundsException", rt (1 : Int32)), ("java/lang/IllegalStateException", rt (2 : Int32))])
theorem im_X0_vouch {g : GP} {l : Launch} (hl : l.stackTraces = false) (a1 : Nat) (a2 : Int32) (a3 : Int32) (a4 : Nat) : ImH g l 9 yX0_vouch cX0_vouch 5 (some .int) [(0, 10, 13, 21), (0, 10, 17, 15)] eI [.ref a1, .int a2, .int a3, .ref (idc 34 a4)] (f_X0_vouch a1 a2 a3 a4) := by
  refine tx_startW hl 9 _ _ _ _ _ (by decide) (Nat.le_of_ble_eq_true rfl) fun Γ Z hΓ hZ => ?_
  subst hΓ
  unfold f_X0_vouch
  show TX g Γ _ Z _ 0 [(0, .ref a1), (1, .int a2), (2, .int a3), (3, .ref (idc 34 a4))] [] _
  refine x_aload_n 0 3 dX0_vouch_0 rfl ?_
  refine x_iconst 1 0 (0 : Int32) dX0_vouch_1 rfl ?_
  refine x_aload_n 2 0 dX0_vouch_2 rfl ?_
  refine x_iload_n 3 1 dX0_vouch_3 rfl ?_
  refine x_iload_n 4 2 dX0_vouch_4 rfl ?_
  refine x_isK fun i1 h2 => ?_
  subst h2
  refine x_cVh 5 8 [.int a2, .int a3] [.int (0 : Int32), .ref (idc 34 a4)] ⟨by decide, rfl⟩ cv_X0_139 (im_X1_vouch hl i1 a2 a3) (by decide) rfl (Nat.le_of_ble_eq_true rfl) 0 10 [(13, 21, "java/lang/IndexOutOfBoundsException", rt (1 : Int32)), (17, 15, "java/lang/IllegalStateException", rt (2 : Int32))] rfl ⟨by decide, by decide⟩ (by decide) (List.forall_mem_cons.mpr ⟨⟨by decide, q1082, by decide, q605⟩, List.forall_mem_cons.mpr ⟨⟨by decide, q802, by decide, q826⟩, fun _ h => absurd h List.not_mem_nil⟩⟩) dX0_vouch_5 (List.forall_mem_cons.mpr ⟨?_, List.forall_mem_cons.mpr ⟨?_, fun _ h => absurd h List.not_mem_nil⟩⟩) (fun v3 => x_stI ?_)
  · refine x_astq 13 dX0_vouch_13 (by decide) ?_
    show TX g Γ _ Z _ 15 [(0, .ref (idc 0 i1)), (1, .int a2), (2, .int a3), (3, .ref (idc 34 a4))] [] _
    refine x_iconst 15 1 (1 : Int32) dX0_vouch_15 rfl ?_
    exact x_iret 16 hZ rfl dX0_vouch_16
  · refine x_astq 17 dX0_vouch_17 (by decide) ?_
    show TX g Γ _ Z _ 19 [(0, .ref (idc 0 i1)), (1, .int a2), (2, .int a3), (3, .ref (idc 34 a4))] [] _
    refine x_iconst 19 2 (2 : Int32) dX0_vouch_19 rfl ?_
    exact x_iret 20 hZ rfl dX0_vouch_20
  · refine x_i2l 8 dX0_vouch_8 ?_
    refine x_last 9 dX0_vouch_9 ?_
    refine x_goto 10 21 dX0_vouch_10 rfl ?_
    refine x_iconst 21 0 (0 : Int32) dX0_vouch_21 rfl ?_
    exact x_iret 22 hZ rfl dX0_vouch_22
def f_X0_stop (a1 : Nat) (a2 : Int32) (a3 : Int32) (a4 : Nat) : PT Int32 := isK 0 a1 fun i1 => tryE (f_X1_stop i1 a2 a3) (fun v3 => bJ 34 a4 (0 : Int32) v3.toInt64 <| rt (0 : Int32)) (hsel [("java/lang/IndexOutOfBoundsException", rt (1 : Int32)), ("java/lang/IllegalStateException", rt (2 : Int32))])
theorem im_X0_stop {g : GP} {l : Launch} (hl : l.stackTraces = false) (a1 : Nat) (a2 : Int32) (a3 : Int32) (a4 : Nat) : ImH g l 9 yX0_stop cX0_stop 5 (some .int) [(0, 10, 13, 21), (0, 10, 17, 15)] eI [.ref a1, .int a2, .int a3, .ref (idc 34 a4)] (f_X0_stop a1 a2 a3 a4) := by
  refine tx_startW hl 9 _ _ _ _ _ (by decide) (Nat.le_of_ble_eq_true rfl) fun Γ Z hΓ hZ => ?_
  subst hΓ
  unfold f_X0_stop
  show TX g Γ _ Z _ 0 [(0, .ref a1), (1, .int a2), (2, .int a3), (3, .ref (idc 34 a4))] [] _
  refine x_aload_n 0 3 dX0_stop_0 rfl ?_
  refine x_iconst 1 0 (0 : Int32) dX0_stop_1 rfl ?_
  refine x_aload_n 2 0 dX0_stop_2 rfl ?_
  refine x_iload_n 3 1 dX0_stop_3 rfl ?_
  refine x_iload_n 4 2 dX0_stop_4 rfl ?_
  refine x_isK fun i1 h2 => ?_
  subst h2
  refine x_cVh 5 8 [.int a2, .int a3] [.int (0 : Int32), .ref (idc 34 a4)] ⟨by decide, rfl⟩ cv_X0_142 (im_X1_stop hl i1 a2 a3) (by decide) rfl (Nat.le_of_ble_eq_true rfl) 0 10 [(13, 21, "java/lang/IndexOutOfBoundsException", rt (1 : Int32)), (17, 15, "java/lang/IllegalStateException", rt (2 : Int32))] rfl ⟨by decide, by decide⟩ (by decide) (List.forall_mem_cons.mpr ⟨⟨by decide, q1082, by decide, q605⟩, List.forall_mem_cons.mpr ⟨⟨by decide, q802, by decide, q826⟩, fun _ h => absurd h List.not_mem_nil⟩⟩) dX0_stop_5 (List.forall_mem_cons.mpr ⟨?_, List.forall_mem_cons.mpr ⟨?_, fun _ h => absurd h List.not_mem_nil⟩⟩) (fun v3 => x_stI ?_)
  · refine x_astq 13 dX0_stop_13 (by decide) ?_
    show TX g Γ _ Z _ 15 [(0, .ref (idc 0 i1)), (1, .int a2), (2, .int a3), (3, .ref (idc 34 a4))] [] _
    refine x_iconst 15 1 (1 : Int32) dX0_stop_15 rfl ?_
    exact x_iret 16 hZ rfl dX0_stop_16
  · refine x_astq 17 dX0_stop_17 (by decide) ?_
    show TX g Γ _ Z _ 19 [(0, .ref (idc 0 i1)), (1, .int a2), (2, .int a3), (3, .ref (idc 34 a4))] [] _
    refine x_iconst 19 2 (2 : Int32) dX0_stop_19 rfl ?_
    exact x_iret 20 hZ rfl dX0_stop_20
  · refine x_i2l 8 dX0_stop_8 ?_
    refine x_last 9 dX0_stop_9 ?_
    refine x_goto 10 21 dX0_stop_10 rfl ?_
    refine x_iconst 21 0 (0 : Int32) dX0_stop_21 rfl ?_
    exact x_iret 22 hZ rfl dX0_stop_22
def f_X0_finish (a1 : Nat) (a2 : Int32) (a3 : Nat) : PT Int32 := isK 0 a1 fun i1 => tryE (f_X1_finish i1 a2) (fun v3 => bJ 34 a3 (0 : Int32) v3.toInt64 <| rt (0 : Int32)) (hsel [("java/lang/IndexOutOfBoundsException", rt (1 : Int32)), ("java/lang/IllegalStateException", rt (2 : Int32))])
theorem im_X0_finish {g : GP} {l : Launch} (hl : l.stackTraces = false) (a1 : Nat) (a2 : Int32) (a3 : Nat) : ImH g l 44 yX0_finish cX0_finish 4 (some .int) [(0, 9, 12, 21), (0, 9, 15, 15)] eI [.ref a1, .int a2, .ref (idc 34 a3)] (f_X0_finish a1 a2 a3) := by
  refine tx_startW hl 44 _ _ _ _ _ (by decide) (Nat.le_of_ble_eq_true rfl) fun Γ Z hΓ hZ => ?_
  subst hΓ
  unfold f_X0_finish
  show TX g Γ _ Z _ 0 [(0, .ref a1), (1, .int a2), (2, .ref (idc 34 a3))] [] _
  refine x_aload_n 0 2 dX0_finish_0 rfl ?_
  refine x_iconst 1 0 (0 : Int32) dX0_finish_1 rfl ?_
  refine x_aload_n 2 0 dX0_finish_2 rfl ?_
  refine x_iload_n 3 1 dX0_finish_3 rfl ?_
  refine x_isK fun i1 h2 => ?_
  subst h2
  refine x_cVh 4 43 [.int a2] [.int (0 : Int32), .ref (idc 34 a3)] ⟨by decide, rfl⟩ cv_X0_145 (im_X1_finish hl i1 a2) (by decide) rfl (Nat.le_of_ble_eq_true rfl) 0 9 [(12, 21, "java/lang/IndexOutOfBoundsException", rt (1 : Int32)), (15, 15, "java/lang/IllegalStateException", rt (2 : Int32))] rfl ⟨by decide, by decide⟩ (by decide) (List.forall_mem_cons.mpr ⟨⟨by decide, q1082, by decide, q605⟩, List.forall_mem_cons.mpr ⟨⟨by decide, q802, by decide, q826⟩, fun _ h => absurd h List.not_mem_nil⟩⟩) dX0_finish_4 (List.forall_mem_cons.mpr ⟨?_, List.forall_mem_cons.mpr ⟨?_, fun _ h => absurd h List.not_mem_nil⟩⟩) (fun v3 => x_stI ?_)
  · refine x_astq_n 12 dX0_finish_12 (by decide) ?_
    show TX g Γ _ Z _ 13 [(0, .ref (idc 0 i1)), (1, .int a2), (2, .ref (idc 34 a3))] [] _
    refine x_iconst 13 1 (1 : Int32) dX0_finish_13 rfl ?_
    exact x_iret 14 hZ rfl dX0_finish_14
  · refine x_astq_n 15 dX0_finish_15 (by decide) ?_
    show TX g Γ _ Z _ 16 [(0, .ref (idc 0 i1)), (1, .int a2), (2, .ref (idc 34 a3))] [] _
    refine x_iconst 16 2 (2 : Int32) dX0_finish_16 rfl ?_
    exact x_iret 17 hZ rfl dX0_finish_17
  · refine x_i2l 7 dX0_finish_7 ?_
    refine x_last 8 dX0_finish_8 ?_
    refine x_goto 9 18 dX0_finish_9 rfl ?_
    refine x_iconst 18 0 (0 : Int32) dX0_finish_18 rfl ?_
    exact x_iret 19 hZ rfl dX0_finish_19
def f_X0_link (a1 : Nat) (a2 : Int32) (a3 : Int32) (a4 : Nat) : PT Int32 := isK 0 a1 fun i1 => tryE (f_X1_link i1 a2 a3) (fun v3 => bJ 34 a4 (0 : Int32) v3.toInt64 <| rt (0 : Int32)) (hsel [("java/lang/IndexOutOfBoundsException", rt (1 : Int32)), ("java/lang/IllegalStateException", rt (2 : Int32))])
theorem im_X0_link {g : GP} {l : Launch} (hl : l.stackTraces = false) (a1 : Nat) (a2 : Int32) (a3 : Int32) (a4 : Nat) : ImH g l 9 yX0_link cX0_link 5 (some .int) [(0, 10, 13, 21), (0, 10, 17, 15)] eI [.ref a1, .int a2, .int a3, .ref (idc 34 a4)] (f_X0_link a1 a2 a3 a4) := by
  refine tx_startW hl 9 _ _ _ _ _ (by decide) (Nat.le_of_ble_eq_true rfl) fun Γ Z hΓ hZ => ?_
  subst hΓ
  unfold f_X0_link
  show TX g Γ _ Z _ 0 [(0, .ref a1), (1, .int a2), (2, .int a3), (3, .ref (idc 34 a4))] [] _
  refine x_aload_n 0 3 dX0_link_0 rfl ?_
  refine x_iconst 1 0 (0 : Int32) dX0_link_1 rfl ?_
  refine x_aload_n 2 0 dX0_link_2 rfl ?_
  refine x_iload_n 3 1 dX0_link_3 rfl ?_
  refine x_iload_n 4 2 dX0_link_4 rfl ?_
  refine x_isK fun i1 h2 => ?_
  subst h2
  refine x_cVh 5 8 [.int a2, .int a3] [.int (0 : Int32), .ref (idc 34 a4)] ⟨by decide, rfl⟩ cv_X0_148 (im_X1_link hl i1 a2 a3) (by decide) rfl (Nat.le_of_ble_eq_true rfl) 0 10 [(13, 21, "java/lang/IndexOutOfBoundsException", rt (1 : Int32)), (17, 15, "java/lang/IllegalStateException", rt (2 : Int32))] rfl ⟨by decide, by decide⟩ (by decide) (List.forall_mem_cons.mpr ⟨⟨by decide, q1082, by decide, q605⟩, List.forall_mem_cons.mpr ⟨⟨by decide, q802, by decide, q826⟩, fun _ h => absurd h List.not_mem_nil⟩⟩) dX0_link_5 (List.forall_mem_cons.mpr ⟨?_, List.forall_mem_cons.mpr ⟨?_, fun _ h => absurd h List.not_mem_nil⟩⟩) (fun v3 => x_stI ?_)
  · refine x_astq 13 dX0_link_13 (by decide) ?_
    show TX g Γ _ Z _ 15 [(0, .ref (idc 0 i1)), (1, .int a2), (2, .int a3), (3, .ref (idc 34 a4))] [] _
    refine x_iconst 15 1 (1 : Int32) dX0_link_15 rfl ?_
    exact x_iret 16 hZ rfl dX0_link_16
  · refine x_astq 17 dX0_link_17 (by decide) ?_
    show TX g Γ _ Z _ 19 [(0, .ref (idc 0 i1)), (1, .int a2), (2, .int a3), (3, .ref (idc 34 a4))] [] _
    refine x_iconst 19 2 (2 : Int32) dX0_link_19 rfl ?_
    exact x_iret 20 hZ rfl dX0_link_20
  · refine x_i2l 8 dX0_link_8 ?_
    refine x_last 9 dX0_link_9 ?_
    refine x_goto 10 21 dX0_link_10 rfl ?_
    refine x_iconst 21 0 (0 : Int32) dX0_link_21 rfl ?_
    exact x_iret 22 hZ rfl dX0_link_22
def f_X0_foreign (a1 : Nat) (a2 : Int32) (a3 : Nat) : PT Int32 := isK 0 a1 fun i1 => tryE (f_X1_foreign i1 a2) (fun v3 => bJ 34 a3 (0 : Int32) v3.toInt64 <| rt (0 : Int32)) (hsel [("java/lang/IndexOutOfBoundsException", rt (1 : Int32)), ("java/lang/IllegalStateException", rt (2 : Int32))])
theorem im_X0_foreign {g : GP} {l : Launch} (hl : l.stackTraces = false) (a1 : Nat) (a2 : Int32) (a3 : Nat) : ImH g l 10 yX0_foreign cX0_foreign 4 (some .int) [(0, 9, 12, 21), (0, 9, 15, 15)] eI [.ref a1, .int a2, .ref (idc 34 a3)] (f_X0_foreign a1 a2 a3) := by
  refine tx_startW hl 10 _ _ _ _ _ (by decide) (Nat.le_of_ble_eq_true rfl) fun Γ Z hΓ hZ => ?_
  subst hΓ
  unfold f_X0_foreign
  show TX g Γ _ Z _ 0 [(0, .ref a1), (1, .int a2), (2, .ref (idc 34 a3))] [] _
  refine x_aload_n 0 2 dX0_foreign_0 rfl ?_
  refine x_iconst 1 0 (0 : Int32) dX0_foreign_1 rfl ?_
  refine x_aload_n 2 0 dX0_foreign_2 rfl ?_
  refine x_iload_n 3 1 dX0_foreign_3 rfl ?_
  refine x_isK fun i1 h2 => ?_
  subst h2
  refine x_cVh 4 9 [.int a2] [.int (0 : Int32), .ref (idc 34 a3)] ⟨by decide, rfl⟩ cv_X0_151 (im_X1_foreign hl i1 a2) (by decide) rfl (Nat.le_of_ble_eq_true rfl) 0 9 [(12, 21, "java/lang/IndexOutOfBoundsException", rt (1 : Int32)), (15, 15, "java/lang/IllegalStateException", rt (2 : Int32))] rfl ⟨by decide, by decide⟩ (by decide) (List.forall_mem_cons.mpr ⟨⟨by decide, q1082, by decide, q605⟩, List.forall_mem_cons.mpr ⟨⟨by decide, q802, by decide, q826⟩, fun _ h => absurd h List.not_mem_nil⟩⟩) dX0_foreign_4 (List.forall_mem_cons.mpr ⟨?_, List.forall_mem_cons.mpr ⟨?_, fun _ h => absurd h List.not_mem_nil⟩⟩) (fun v3 => x_stI ?_)
  · refine x_astq_n 12 dX0_foreign_12 (by decide) ?_
    show TX g Γ _ Z _ 13 [(0, .ref (idc 0 i1)), (1, .int a2), (2, .ref (idc 34 a3))] [] _
    refine x_iconst 13 1 (1 : Int32) dX0_foreign_13 rfl ?_
    exact x_iret 14 hZ rfl dX0_foreign_14
  · refine x_astq_n 15 dX0_foreign_15 (by decide) ?_
    show TX g Γ _ Z _ 16 [(0, .ref (idc 0 i1)), (1, .int a2), (2, .ref (idc 34 a3))] [] _
    refine x_iconst 16 2 (2 : Int32) dX0_foreign_16 rfl ?_
    exact x_iret 17 hZ rfl dX0_foreign_17
  · refine x_i2l 7 dX0_foreign_7 ?_
    refine x_last 8 dX0_foreign_8 ?_
    refine x_goto 9 18 dX0_foreign_9 rfl ?_
    refine x_iconst 18 0 (0 : Int32) dX0_foreign_18 rfl ?_
    exact x_iret 19 hZ rfl dX0_foreign_19
def f_X0_leave (a1 : Nat) (a2 : Int32) (a3 : Nat) : PT Int32 := isK 0 a1 fun i1 => tryE (f_X1_leave i1 a2) (fun v3 => bJ 34 a3 (0 : Int32) v3.toInt64 <| rt (0 : Int32)) (hsel [("java/lang/IndexOutOfBoundsException", rt (1 : Int32))])
theorem im_X0_leave {g : GP} {l : Launch} (hl : l.stackTraces = false) (a1 : Nat) (a2 : Int32) (a3 : Nat) : ImH g l 43 yX0_leave cX0_leave 4 (some .int) [(0, 9, 12, 21)] eI [.ref a1, .int a2, .ref (idc 34 a3)] (f_X0_leave a1 a2 a3) := by
  refine tx_startW hl 43 _ _ _ _ _ (by decide) (Nat.le_of_ble_eq_true rfl) fun Γ Z hΓ hZ => ?_
  subst hΓ
  unfold f_X0_leave
  show TX g Γ _ Z _ 0 [(0, .ref a1), (1, .int a2), (2, .ref (idc 34 a3))] [] _
  refine x_aload_n 0 2 dX0_leave_0 rfl ?_
  refine x_iconst 1 0 (0 : Int32) dX0_leave_1 rfl ?_
  refine x_aload_n 2 0 dX0_leave_2 rfl ?_
  refine x_iload_n 3 1 dX0_leave_3 rfl ?_
  refine x_isK fun i1 h2 => ?_
  subst h2
  refine x_cVh 4 42 [.int a2] [.int (0 : Int32), .ref (idc 34 a3)] ⟨by decide, rfl⟩ cv_X0_154 (im_X1_leave hl i1 a2) (by decide) rfl (Nat.le_of_ble_eq_true rfl) 0 9 [(12, 21, "java/lang/IndexOutOfBoundsException", rt (1 : Int32))] rfl ⟨by decide, by decide⟩ (by decide) (List.forall_mem_cons.mpr ⟨⟨by decide, q1082, by decide, q605⟩, fun _ h => absurd h List.not_mem_nil⟩) dX0_leave_4 (List.forall_mem_cons.mpr ⟨?_, fun _ h => absurd h List.not_mem_nil⟩) (fun v3 => x_stI ?_)
  · refine x_astq_n 12 dX0_leave_12 (by decide) ?_
    show TX g Γ _ Z _ 13 [(0, .ref (idc 0 i1)), (1, .int a2), (2, .ref (idc 34 a3))] [] _
    refine x_iconst 13 1 (1 : Int32) dX0_leave_13 rfl ?_
    exact x_iret 14 hZ rfl dX0_leave_14
  · refine x_i2l 7 dX0_leave_7 ?_
    refine x_last 8 dX0_leave_8 ?_
    refine x_goto 9 15 dX0_leave_9 rfl ?_
    refine x_iconst 15 0 (0 : Int32) dX0_leave_15 rfl ?_
    exact x_iret 16 hZ rfl dX0_leave_16
def f_X0_audit (a1 : Nat) (a2 : Int32) (a3 : Nat) : PT Int32 := isK 0 a1 fun i1 => tryE (f_X1_audit i1 a2) (fun v3 => bJ 34 a3 (0 : Int32) v3.toInt64 <| rt (0 : Int32)) (hsel [("java/lang/IndexOutOfBoundsException", rt (1 : Int32))])
theorem im_X0_audit {g : GP} {l : Launch} (hl : l.stackTraces = false) (a1 : Nat) (a2 : Int32) (a3 : Nat) : ImH g l 9 yX0_audit cX0_audit 4 (some .int) [(0, 9, 12, 21)] eI [.ref a1, .int a2, .ref (idc 34 a3)] (f_X0_audit a1 a2 a3) := by
  refine tx_startW hl 9 _ _ _ _ _ (by decide) (Nat.le_of_ble_eq_true rfl) fun Γ Z hΓ hZ => ?_
  subst hΓ
  unfold f_X0_audit
  show TX g Γ _ Z _ 0 [(0, .ref a1), (1, .int a2), (2, .ref (idc 34 a3))] [] _
  refine x_aload_n 0 2 dX0_audit_0 rfl ?_
  refine x_iconst 1 0 (0 : Int32) dX0_audit_1 rfl ?_
  refine x_aload_n 2 0 dX0_audit_2 rfl ?_
  refine x_iload_n 3 1 dX0_audit_3 rfl ?_
  refine x_isK fun i1 h2 => ?_
  subst h2
  refine x_cVh 4 8 [.int a2] [.int (0 : Int32), .ref (idc 34 a3)] ⟨by decide, rfl⟩ cv_X0_157 (im_X1_audit hl i1 a2) (by decide) rfl (Nat.le_of_ble_eq_true rfl) 0 9 [(12, 21, "java/lang/IndexOutOfBoundsException", rt (1 : Int32))] rfl ⟨by decide, by decide⟩ (by decide) (List.forall_mem_cons.mpr ⟨⟨by decide, q1082, by decide, q605⟩, fun _ h => absurd h List.not_mem_nil⟩) dX0_audit_4 (List.forall_mem_cons.mpr ⟨?_, fun _ h => absurd h List.not_mem_nil⟩) (fun v3 => x_stI ?_)
  · refine x_astq_n 12 dX0_audit_12 (by decide) ?_
    show TX g Γ _ Z _ 13 [(0, .ref (idc 0 i1)), (1, .int a2), (2, .ref (idc 34 a3))] [] _
    refine x_iconst 13 1 (1 : Int32) dX0_audit_13 rfl ?_
    exact x_iret 14 hZ rfl dX0_audit_14
  · refine x_i2l 7 dX0_audit_7 ?_
    refine x_last 8 dX0_audit_8 ?_
    refine x_goto 9 15 dX0_audit_9 rfl ?_
    refine x_iconst 15 0 (0 : Int32) dX0_audit_15 rfl ?_
    exact x_iret 16 hZ rfl dX0_audit_16
def f_X0_sumAnew (a1 : Nat) (a2 : Int32) (a3 : Nat) : PT Int32 := isK 0 a1 fun i1 => tryE (f_X1_sumAnew i1 a2) (fun v3 => bJ 34 a3 (0 : Int32) v3.toInt64 <| rt (0 : Int32)) (hsel [("java/lang/IndexOutOfBoundsException", rt (1 : Int32))])
theorem im_X0_sumAnew {g : GP} {l : Launch} (hl : l.stackTraces = false) (a1 : Nat) (a2 : Int32) (a3 : Nat) : ImH g l 8 yX0_sumAnew cX0_sumAnew 4 (some .int) [(0, 9, 12, 21)] eI [.ref a1, .int a2, .ref (idc 34 a3)] (f_X0_sumAnew a1 a2 a3) := by
  refine tx_startW hl 8 _ _ _ _ _ (by decide) (Nat.le_of_ble_eq_true rfl) fun Γ Z hΓ hZ => ?_
  subst hΓ
  unfold f_X0_sumAnew
  show TX g Γ _ Z _ 0 [(0, .ref a1), (1, .int a2), (2, .ref (idc 34 a3))] [] _
  refine x_aload_n 0 2 dX0_sumAnew_0 rfl ?_
  refine x_iconst 1 0 (0 : Int32) dX0_sumAnew_1 rfl ?_
  refine x_aload_n 2 0 dX0_sumAnew_2 rfl ?_
  refine x_iload_n 3 1 dX0_sumAnew_3 rfl ?_
  refine x_isK fun i1 h2 => ?_
  subst h2
  refine x_cVh 4 7 [.int a2] [.int (0 : Int32), .ref (idc 34 a3)] ⟨by decide, rfl⟩ cv_X0_160 (im_X1_sumAnew hl i1 a2) (by decide) rfl (Nat.le_of_ble_eq_true rfl) 0 9 [(12, 21, "java/lang/IndexOutOfBoundsException", rt (1 : Int32))] rfl ⟨by decide, by decide⟩ (by decide) (List.forall_mem_cons.mpr ⟨⟨by decide, q1082, by decide, q605⟩, fun _ h => absurd h List.not_mem_nil⟩) dX0_sumAnew_4 (List.forall_mem_cons.mpr ⟨?_, fun _ h => absurd h List.not_mem_nil⟩) (fun v3 => x_stI ?_)
  · refine x_astq_n 12 dX0_sumAnew_12 (by decide) ?_
    show TX g Γ _ Z _ 13 [(0, .ref (idc 0 i1)), (1, .int a2), (2, .ref (idc 34 a3))] [] _
    refine x_iconst 13 1 (1 : Int32) dX0_sumAnew_13 rfl ?_
    exact x_iret 14 hZ rfl dX0_sumAnew_14
  · refine x_i2l 7 dX0_sumAnew_7 ?_
    refine x_last 8 dX0_sumAnew_8 ?_
    refine x_goto 9 15 dX0_sumAnew_9 rfl ?_
    refine x_iconst 15 0 (0 : Int32) dX0_sumAnew_15 rfl ?_
    exact x_iret 16 hZ rfl dX0_sumAnew_16
