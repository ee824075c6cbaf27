/-! ===== walks: KeyringCourt ===== -/
def f_X2_init (i0 : Nat) : PT Unit := nw 13 3 fun i1 => bn0 (f_J2_init i1 (12 : Int32)) fun _ => pR 1 i0 0 (idc 13 i1) <| rt ()
theorem im_X2_init {g : GP} {l : Launch} (hl : l.stackTraces = false) (i0 : Nat) : Im g l 4 yX2_init cX2_init 1 none eV [.ref (idc 1 i0)] (f_X2_init i0) := by
  refine tx_start hl 4 _ _ _ _ (by decide) (Nat.le_of_ble_eq_true rfl) fun Γ Z hΓ hZ => ?_
  subst hΓ
  unfold f_X2_init
  show TX g Γ _ Z _ 0 [(0, .ref (idc 1 i0))] [] _
  refine x_aload_n 0 0 dX2_init_0 rfl ?_
  refine x_objI 1 (by decide) q137 q128 q129 dX2_init_1 (Nat.le_of_ble_eq_true rfl) (by decide) ?_
  refine x_aload_n 4 0 dX2_init_4 rfl ?_
  refine x_new 5 na_X2_9 dX2_init_5 fun i1 => ?_
  refine x_dup 8 dX2_init_8 rfl ?_
  refine x_bipush 9 12 (12 : Int32) dX2_init_9 rfl ?_
  refine x_cI 11 3 [.int (12 : Int32)] [.ref (idc 13 i1), .ref (idc 1 i0)] (by decide) cn_X2_11 (im_J2_init hl i1 (12 : Int32)) (by decide) rfl (Nat.le_of_ble_eq_true rfl) dX2_init_11 fun v2 => x_stV ?_
  refine x_putR 14 fa_X2_14_1 rfl (Or.inr ⟨rfl, rfl, rfl⟩) dX2_init_14 ?_
  exact x_vret 17 hZ rfl dX2_init_17
def f_X3_init (i0 : Nat) (a1 : Nat) (a2 : Int32) : PT Unit := pR 2 i0 10 a1 <| nwA 32 (3 : Int32) fun i1 => pR 2 i0 1 (idc 32 i1) <| nwA 32 (3 : Int32) fun i2 => pR 2 i0 2 (idc 32 i2) <| nw 14 3 fun i3 => bn0 (f_J18_init i3) fun _ => pR 2 i0 6 (idc 14 i3) <| nw 14 3 fun i5 => bn0 (f_J18_init i5) fun _ => pR 2 i0 7 (idc 14 i5) <| nwA 32 (4 : Int32) fun i7 => pR 2 i0 8 (idc 32 i7) <| nw 15 4 fun i8 => bn0 (f_J20_init i8) fun _ => pR 2 i0 9 (idc 15 i8) <| pI 2 i0 0 a2 <| rt ()
theorem im_X3_init {g : GP} {l : Launch} (hl : l.stackTraces = false) (i0 : Nat) (a1 : Nat) (a2 : Int32) : Im g l 5 yX3_init cX3_init 3 none eV [.ref (idc 2 i0), .ref a1, .int a2] (f_X3_init i0 a1 a2) := by
  refine tx_start hl 5 _ _ _ _ (by decide) (Nat.le_of_ble_eq_true rfl) fun Γ Z hΓ hZ => ?_
  subst hΓ
  unfold f_X3_init
  show TX g Γ _ Z _ 0 [(0, .ref (idc 2 i0)), (1, .ref a1), (2, .int a2)] [] _
  refine x_aload_n 0 0 dX3_init_0 rfl ?_
  refine x_aload_n 1 1 dX3_init_1 rfl ?_
  refine x_putR 2 fa_X3_3_2 rfl (Or.inr ⟨rfl, rfl, rfl⟩) dX3_init_2 ?_
  refine x_aload_n 5 0 dX3_init_5 rfl ?_
  refine x_objI 6 (by decide) q532 q128 q129 dX3_init_6 (Nat.le_of_ble_eq_true rfl) (by decide) ?_
  refine x_aload_n 9 0 dX3_init_9 rfl ?_
  refine x_iconst 10 3 (3 : Int32) dX3_init_10 rfl ?_
  refine x_newa 11 (Or.inl rfl) rfl q526 dX3_init_11 fun i1 => ?_
  refine x_putR 13 fa_X3_15_2 rfl (Or.inr ⟨rfl, rfl, rfl⟩) dX3_init_13 ?_
  refine x_aload_n 16 0 dX3_init_16 rfl ?_
  refine x_iconst 17 3 (3 : Int32) dX3_init_17 rfl ?_
  refine x_newa 18 (Or.inl rfl) rfl q526 dX3_init_18 fun i2 => ?_
  refine x_putR 20 fa_X3_19_2 rfl (Or.inr ⟨rfl, rfl, rfl⟩) dX3_init_20 ?_
  refine x_aload_n 23 0 dX3_init_23 rfl ?_
  refine x_new 24 na_X3_22 dX3_init_24 fun i3 => ?_
  refine x_dup 27 dX3_init_27 rfl ?_
  refine x_cI 28 2 [] [.ref (idc 14 i3), .ref (idc 2 i0)] (by decide) cn_X3_24 (im_J18_init hl i3) (by decide) rfl (Nat.le_of_ble_eq_true rfl) dX3_init_28 fun v4 => x_stV ?_
  refine x_putR 31 fa_X3_25_2 rfl (Or.inr ⟨rfl, rfl, rfl⟩) dX3_init_31 ?_
  refine x_aload_n 34 0 dX3_init_34 rfl ?_
  refine x_new 35 na_X3_22 dX3_init_35 fun i5 => ?_
  refine x_dup 38 dX3_init_38 rfl ?_
  refine x_cI 39 2 [] [.ref (idc 14 i5), .ref (idc 2 i0)] (by decide) cn_X3_24 (im_J18_init hl i5) (by decide) rfl (Nat.le_of_ble_eq_true rfl) dX3_init_39 fun v6 => x_stV ?_
  refine x_putR 42 fa_X3_29_2 rfl (Or.inr ⟨rfl, rfl, rfl⟩) dX3_init_42 ?_
  refine x_aload_n 45 0 dX3_init_45 rfl ?_
  refine x_iconst 46 4 (4 : Int32) dX3_init_46 rfl ?_
  refine x_newa 47 (Or.inl rfl) rfl q526 dX3_init_47 fun i7 => ?_
  refine x_putR 49 fa_X3_32_2 rfl (Or.inr ⟨rfl, rfl, rfl⟩) dX3_init_49 ?_
  refine x_aload_n 52 0 dX3_init_52 rfl ?_
  refine x_new 53 na_X3_35 dX3_init_53 fun i8 => ?_
  refine x_dup 56 dX3_init_56 rfl ?_
  refine x_cI 57 4 [] [.ref (idc 15 i8), .ref (idc 2 i0)] (by decide) cn_X3_37 (im_J20_init hl i8) (by decide) rfl (Nat.le_of_ble_eq_true rfl) dX3_init_57 fun v9 => x_stV ?_
  refine x_putR 60 fa_X3_38_2 rfl (Or.inr ⟨rfl, rfl, rfl⟩) dX3_init_60 ?_
  refine x_aload_n 63 0 dX3_init_63 rfl ?_
  refine x_iload_n 64 2 dX3_init_64 rfl ?_
  refine x_putI 65 fa_X3_42_2 rfl (Or.inr ⟨rfl, rfl, rfl⟩) dX3_init_65 ?_
  exact x_vret 68 hZ rfl dX3_init_68
def f_X4_init (i0 : Nat) (a1 : Nat) : PT Unit := pR 3 i0 6 a1 <| nw 14 3 fun i1 => bn0 (f_J18_init i1) fun _ => pR 3 i0 1 (idc 14 i1) <| nw 14 3 fun i3 => bn0 (f_J18_init i3) fun _ => pR 3 i0 3 (idc 14 i3) <| nw 15 4 fun i5 => bn0 (f_J20_init i5) fun _ => pR 3 i0 4 (idc 15 i5) <| gR 3 i0 1 fun v7 => isK 14 v7 fun i8 => bn0 (f_J18_set i8 (0 : Int32)) fun _ => rt ()
theorem im_X4_init {g : GP} {l : Launch} (hl : l.stackTraces = false) (i0 : Nat) (a1 : Nat) : Im g l 5 yX4_init cX4_init 2 none eV [.ref (idc 3 i0), .ref a1] (f_X4_init i0 a1) := by
  refine tx_start hl 5 _ _ _ _ (by decide) (Nat.le_of_ble_eq_true rfl) fun Γ Z hΓ hZ => ?_
  subst hΓ
  unfold f_X4_init
  show TX g Γ _ Z _ 0 [(0, .ref (idc 3 i0)), (1, .ref a1)] [] _
  refine x_aload_n 0 0 dX4_init_0 rfl ?_
  refine x_aload_n 1 1 dX4_init_1 rfl ?_
  refine x_putR 2 fa_X4_3_3 rfl (Or.inr ⟨rfl, rfl, rfl⟩) dX4_init_2 ?_
  refine x_aload_n 5 0 dX4_init_5 rfl ?_
  refine x_objI 6 (by decide) q651 q128 q129 dX4_init_6 (Nat.le_of_ble_eq_true rfl) (by decide) ?_
  refine x_aload_n 9 0 dX4_init_9 rfl ?_
  refine x_new 10 na_X4_15 dX4_init_10 fun i1 => ?_
  refine x_dup 13 dX4_init_13 rfl ?_
  refine x_cI 14 2 [] [.ref (idc 14 i1), .ref (idc 3 i0)] (by decide) cn_X4_17 (im_J18_init hl i1) (by decide) rfl (Nat.le_of_ble_eq_true rfl) dX4_init_14 fun v2 => x_stV ?_
  refine x_putR 17 fa_X4_18_3 rfl (Or.inl rfl) dX4_init_17 ?_
  refine x_aload_n 20 0 dX4_init_20 rfl ?_
  refine x_new 21 na_X4_15 dX4_init_21 fun i3 => ?_
  refine x_dup 24 dX4_init_24 rfl ?_
  refine x_cI 25 2 [] [.ref (idc 14 i3), .ref (idc 3 i0)] (by decide) cn_X4_17 (im_J18_init hl i3) (by decide) rfl (Nat.le_of_ble_eq_true rfl) dX4_init_25 fun v4 => x_stV ?_
  refine x_putR 28 fa_X4_22_3 rfl (Or.inr ⟨rfl, rfl, rfl⟩) dX4_init_28 ?_
  refine x_aload_n 31 0 dX4_init_31 rfl ?_
  refine x_new 32 na_X4_25 dX4_init_32 fun i5 => ?_
  refine x_dup 35 dX4_init_35 rfl ?_
  refine x_cI 36 4 [] [.ref (idc 15 i5), .ref (idc 3 i0)] (by decide) cn_X4_27 (im_J20_init hl i5) (by decide) rfl (Nat.le_of_ble_eq_true rfl) dX4_init_36 fun v6 => x_stV ?_
  refine x_putR 39 fa_X4_28_3 rfl (Or.inr ⟨rfl, rfl, rfl⟩) dX4_init_39 ?_
  refine x_aload_n 42 0 dX4_init_42 rfl ?_
  refine x_getR 43 fa_X4_18_3 dX4_init_43 fun v7 => ?_
  refine x_iconst 46 0 (0 : Int32) dX4_init_46 rfl ?_
  refine x_isK fun i8 h9 => ?_
  subst h9
  refine x_cV 47 4 [.int (0 : Int32)] [] ⟨by decide, rfl⟩ cv_X4_32 (im_J18_set hl i8 (0 : Int32)) (by decide) rfl (Nat.le_of_ble_eq_true rfl) dX4_init_47 fun v10 => x_stV ?_
  exact x_vret 50 hZ rfl dX4_init_50
def f_X1_init (i0 : Nat) : PT Unit := nwA 36 (6 : Int32) fun i1 => pR 0 i0 0 (idc 36 i1) <| nw 1 1 fun i2 => bn0 (f_X2_init i2) fun _ => pR 0 i0 1 (idc 1 i2) <| nw 13 3 fun i4 => bn0 (f_J2_init i4 (8 : Int32)) fun _ => pR 0 i0 2 (idc 13 i4) <| nw 13 3 fun i6 => bn0 (f_J2_init_2 i6) fun _ => pR 0 i0 3 (idc 13 i6) <| nw 13 3 fun i8 => bn0 (f_J2_init_2 i8) fun _ => pR 0 i0 4 (idc 13 i8) <| nw 13 3 fun i10 => bn0 (f_J2_init_2 i10) fun _ => pR 0 i0 5 (idc 13 i10) <| nw 13 3 fun i12 => bn0 (f_J2_init_2 i12) fun _ => pR 0 i0 6 (idc 13 i12) <| nw 13 3 fun i14 => bn0 (f_J2_init_2 i14) fun _ => pR 0 i0 7 (idc 13 i14) <| nw 13 3 fun i16 => bn0 (f_J2_init_2 i16) fun _ => pR 0 i0 8 (idc 13 i16) <| nwA 37 (4 : Int32) fun i18 => pR 0 i0 9 (idc 37 i18) <| nwA 32 (4 : Int32) fun i19 => pR 0 i0 10 (idc 32 i19) <| nwA 36 (6 : Int32) fun i20 => pR 0 i0 11 (idc 36 i20) <| nwA 32 (3 : Int32) fun i21 => bI 32 i21 (0 : Int32) (2 : Int32) <| bI 32 i21 (1 : Int32) (1 : Int32) <| bI 32 i21 (2 : Int32) (1 : Int32) <| pR 0 i0 12 (idc 32 i21) <| nwA 32 (3 : Int32) fun i22 => bI 32 i22 (0 : Int32) (-1 : Int32) <| bI 32 i22 (1 : Int32) (-1 : Int32) <| bI 32 i22 (2 : Int32) (-1 : Int32) <| pR 0 i0 13 (idc 32 i22) <| nw 13 3 fun i23 => bn0 (f_J2_init_2 i23) fun _ => pR 0 i0 14 (idc 13 i23) <| pI 0 i0 15 (7 : Int32) <| nw 14 3 fun i25 => bn0 (f_J18_init i25) fun _ => pR 0 i0 17 (idc 14 i25) <| nwA 32 (20 : Int32) fun i27 => pR 0 i0 18 (idc 32 i27) <| pI 0 i0 19 (1 : Int32) <| pI 0 i0 21 (-1 : Int32) <| bnd (lp (σ := Int32) (ρ := Unit) (fun r29 => fun u28 => cnd ((6 : Int32) ≤ u28) (rt ()) (gR 0 i0 0 fun v32 => nw 2 11 fun i33 => bn0 (f_X3_init i33 (idc 0 i0) u28) fun _ => isK 36 v32 fun i35 => bR 36 i35 u28 (idc 2 i33) <| r29 (u28 + (1 : Int32)))) (0 : Int32)) (fun _ => gR 0 i0 17 fun v37 => isK 14 v37 fun i38 => bn0 (f_J18_set i38 (0 : Int32)) fun _ => bnd (lp (σ := Int32) (ρ := Unit) (fun r42 => fun u41 => cnd ((4 : Int32) ≤ u41) (rt ()) (gR 0 i0 9 fun v45 => nw 3 7 fun i46 => bn0 (f_X4_init i46 (idc 0 i0)) fun _ => isK 37 v45 fun i48 => bR 37 i48 u41 (idc 3 i46) <| r42 (u41 + (1 : Int32)))) (0 : Int32)) (fun _ => lp (σ := Int32) (fun r51 => fun u50 => cnd ((20 : Int32) ≤ u50) (rt ()) (gR 0 i0 18 fun v53 => isK 32 v53 fun i54 => bI 32 i54 u50 (-1 : Int32) <| r51 (u50 + (1 : Int32)))) (0 : Int32)))
theorem im_X1_init {g : GP} {l : Launch} (hl : l.stackTraces = false) (i0 : Nat) : Im g l 6 yX1_init cX1_init 2 none eV [.ref (idc 0 i0)] (f_X1_init i0) := by
  refine tx_start hl 6 _ _ _ _ (by decide) (Nat.le_of_ble_eq_true rfl) fun Γ Z hΓ hZ => ?_
  subst hΓ
  unfold f_X1_init
  show TX g Γ _ Z _ 0 [(0, .ref (idc 0 i0))] [] _
  refine x_aload_n 0 0 dX1_init_0 rfl ?_
  refine x_objI 1 (by decide) q127 q128 q129 dX1_init_1 (Nat.le_of_ble_eq_true rfl) (by decide) ?_
  refine x_aload_n 4 0 dX1_init_4 rfl ?_
  refine x_bipush 5 6 (6 : Int32) dX1_init_5 rfl ?_
  refine x_anewa 7 (by decide) rfl q130 dX1_init_7 fun i1 => ?_
  refine x_putR 10 fa_X1_67_0 rfl (Or.inr ⟨rfl, rfl, rfl⟩) dX1_init_10 ?_
  refine x_aload_n 13 0 dX1_init_13 rfl ?_
  refine x_new 14 na_X1_71 dX1_init_14 fun i2 => ?_
  refine x_dup 17 dX1_init_17 rfl ?_
  refine x_cIn 18 4 [] [.ref (idc 1 i2), .ref (idc 0 i0)] (by decide) cn_X1_73 (im_X2_init hl i2) (by decide) rfl (Nat.le_of_ble_eq_true rfl) dX1_init_18 fun v3 => x_stV ?_
  refine x_putR 21 fa_X1_74_0 rfl (Or.inl rfl) dX1_init_21 ?_
  refine x_aload_n 24 0 dX1_init_24 rfl ?_
  refine x_new 25 na_X1_78 dX1_init_25 fun i4 => ?_
  refine x_dup 28 dX1_init_28 rfl ?_
  refine x_bipush 29 8 (8 : Int32) dX1_init_29 rfl ?_
  refine x_cI 31 3 [.int (8 : Int32)] [.ref (idc 13 i4), .ref (idc 0 i0)] (by decide) cn_X1_80 (im_J2_init hl i4 (8 : Int32)) (by decide) rfl (Nat.le_of_ble_eq_true rfl) dX1_init_31 fun v5 => x_stV ?_
  refine x_putR 34 fa_X1_83_0 rfl (Or.inr ⟨rfl, rfl, rfl⟩) dX1_init_34 ?_
  refine x_aload_n 37 0 dX1_init_37 rfl ?_
  refine x_new 38 na_X1_78 dX1_init_38 fun i6 => ?_
  refine x_dup 41 dX1_init_41 rfl ?_
  refine x_cI 42 3 [] [.ref (idc 13 i6), .ref (idc 0 i0)] (by decide) cn_X1_86 (im_J2_init_2 hl i6) (by decide) rfl (Nat.le_of_ble_eq_true rfl) dX1_init_42 fun v7 => x_stV ?_
  refine x_putR 45 fa_X1_87_0 rfl (Or.inr ⟨rfl, rfl, rfl⟩) dX1_init_45 ?_
  refine x_aload_n 48 0 dX1_init_48 rfl ?_
  refine x_new 49 na_X1_78 dX1_init_49 fun i8 => ?_
  refine x_dup 52 dX1_init_52 rfl ?_
  refine x_cI 53 3 [] [.ref (idc 13 i8), .ref (idc 0 i0)] (by decide) cn_X1_86 (im_J2_init_2 hl i8) (by decide) rfl (Nat.le_of_ble_eq_true rfl) dX1_init_53 fun v9 => x_stV ?_
  refine x_putR 56 fa_X1_5_0 rfl (Or.inr ⟨rfl, rfl, rfl⟩) dX1_init_56 ?_
  refine x_aload_n 59 0 dX1_init_59 rfl ?_
  refine x_new 60 na_X1_78 dX1_init_60 fun i10 => ?_
  refine x_dup 63 dX1_init_63 rfl ?_
  refine x_cI 64 3 [] [.ref (idc 13 i10), .ref (idc 0 i0)] (by decide) cn_X1_86 (im_J2_init_2 hl i10) (by decide) rfl (Nat.le_of_ble_eq_true rfl) dX1_init_64 fun v11 => x_stV ?_
  refine x_putR 67 fa_X1_90_0 rfl (Or.inr ⟨rfl, rfl, rfl⟩) dX1_init_67 ?_
  refine x_aload_n 70 0 dX1_init_70 rfl ?_
  refine x_new 71 na_X1_78 dX1_init_71 fun i12 => ?_
  refine x_dup 74 dX1_init_74 rfl ?_
  refine x_cI 75 3 [] [.ref (idc 13 i12), .ref (idc 0 i0)] (by decide) cn_X1_86 (im_J2_init_2 hl i12) (by decide) rfl (Nat.le_of_ble_eq_true rfl) dX1_init_75 fun v13 => x_stV ?_
  refine x_putR 78 fa_X1_93_0 rfl (Or.inr ⟨rfl, rfl, rfl⟩) dX1_init_78 ?_
  refine x_aload_n 81 0 dX1_init_81 rfl ?_
  refine x_new 82 na_X1_78 dX1_init_82 fun i14 => ?_
  refine x_dup 85 dX1_init_85 rfl ?_
  refine x_cI 86 3 [] [.ref (idc 13 i14), .ref (idc 0 i0)] (by decide) cn_X1_86 (im_J2_init_2 hl i14) (by decide) rfl (Nat.le_of_ble_eq_true rfl) dX1_init_86 fun v15 => x_stV ?_
  refine x_putR 89 fa_X1_96_0 rfl (Or.inr ⟨rfl, rfl, rfl⟩) dX1_init_89 ?_
  refine x_aload_n 92 0 dX1_init_92 rfl ?_
  refine x_new 93 na_X1_78 dX1_init_93 fun i16 => ?_
  refine x_dup 96 dX1_init_96 rfl ?_
  refine x_cI 97 3 [] [.ref (idc 13 i16), .ref (idc 0 i0)] (by decide) cn_X1_86 (im_J2_init_2 hl i16) (by decide) rfl (Nat.le_of_ble_eq_true rfl) dX1_init_97 fun v17 => x_stV ?_
  refine x_putR 100 fa_X1_99_0 rfl (Or.inr ⟨rfl, rfl, rfl⟩) dX1_init_100 ?_
  refine x_aload_n 103 0 dX1_init_103 rfl ?_
  refine x_iconst 104 4 (4 : Int32) dX1_init_104 rfl ?_
  refine x_anewa 105 (by decide) rfl q501 dX1_init_105 fun i18 => ?_
  refine x_putR 108 fa_X1_104_0 rfl (Or.inr ⟨rfl, rfl, rfl⟩) dX1_init_108 ?_
  refine x_aload_n 111 0 dX1_init_111 rfl ?_
  refine x_iconst 112 4 (4 : Int32) dX1_init_112 rfl ?_
  refine x_newa 113 (Or.inl rfl) rfl q526 dX1_init_113 fun i19 => ?_
  refine x_putR 115 fa_X1_108_0 rfl (Or.inr ⟨rfl, rfl, rfl⟩) dX1_init_115 ?_
  refine x_aload_n 118 0 dX1_init_118 rfl ?_
  refine x_bipush 119 6 (6 : Int32) dX1_init_119 rfl ?_
  refine x_anewa 121 (by decide) rfl q130 dX1_init_121 fun i20 => ?_
  refine x_putR 124 fa_X1_112_0 rfl (Or.inr ⟨rfl, rfl, rfl⟩) dX1_init_124 ?_
  refine x_aload_n 127 0 dX1_init_127 rfl ?_
  refine x_iconst 128 3 (3 : Int32) dX1_init_128 rfl ?_
  refine x_newa 129 (Or.inl rfl) rfl q526 dX1_init_129 fun i21 => ?_
  refine x_dup 131 dX1_init_131 rfl ?_
  refine x_iconst 132 0 (0 : Int32) dX1_init_132 rfl ?_
  refine x_iconst 133 2 (2 : Int32) dX1_init_133 rfl ?_
  refine x_iast 134 dX1_init_134 ?_
  refine x_dup 135 dX1_init_135 rfl ?_
  refine x_iconst 136 1 (1 : Int32) dX1_init_136 rfl ?_
  refine x_iconst 137 1 (1 : Int32) dX1_init_137 rfl ?_
  refine x_iast 138 dX1_init_138 ?_
  refine x_dup 139 dX1_init_139 rfl ?_
  refine x_iconst 140 2 (2 : Int32) dX1_init_140 rfl ?_
  refine x_iconst 141 1 (1 : Int32) dX1_init_141 rfl ?_
  refine x_iast 142 dX1_init_142 ?_
  refine x_putR 143 fa_X1_115_0 rfl (Or.inr ⟨rfl, rfl, rfl⟩) dX1_init_143 ?_
  refine x_aload_n 146 0 dX1_init_146 rfl ?_
  refine x_iconst 147 3 (3 : Int32) dX1_init_147 rfl ?_
  refine x_newa 148 (Or.inl rfl) rfl q526 dX1_init_148 fun i22 => ?_
  refine x_dup 150 dX1_init_150 rfl ?_
  refine x_iconst 151 0 (0 : Int32) dX1_init_151 rfl ?_
  refine x_iconst 152 (-1) (-1 : Int32) dX1_init_152 rfl ?_
  refine x_iast 153 dX1_init_153 ?_
  refine x_dup 154 dX1_init_154 rfl ?_
  refine x_iconst 155 1 (1 : Int32) dX1_init_155 rfl ?_
  refine x_iconst 156 (-1) (-1 : Int32) dX1_init_156 rfl ?_
  refine x_iast 157 dX1_init_157 ?_
  refine x_dup 158 dX1_init_158 rfl ?_
  refine x_iconst 159 2 (2 : Int32) dX1_init_159 rfl ?_
  refine x_iconst 160 (-1) (-1 : Int32) dX1_init_160 rfl ?_
  refine x_iast 161 dX1_init_161 ?_
  refine x_putR 162 fa_X1_118_0 rfl (Or.inr ⟨rfl, rfl, rfl⟩) dX1_init_162 ?_
  refine x_aload_n 165 0 dX1_init_165 rfl ?_
  refine x_new 166 na_X1_78 dX1_init_166 fun i23 => ?_
  refine x_dup 169 dX1_init_169 rfl ?_
  refine x_cI 170 3 [] [.ref (idc 13 i23), .ref (idc 0 i0)] (by decide) cn_X1_86 (im_J2_init_2 hl i23) (by decide) rfl (Nat.le_of_ble_eq_true rfl) dX1_init_170 fun v24 => x_stV ?_
  refine x_putR 173 fa_X1_50_0 rfl (Or.inr ⟨rfl, rfl, rfl⟩) dX1_init_173 ?_
  refine x_aload_n 176 0 dX1_init_176 rfl ?_
  refine x_bipush 177 7 (7 : Int32) dX1_init_177 rfl ?_
  refine x_putI 179 fa_X1_53_0 rfl (Or.inl rfl) dX1_init_179 ?_
  refine x_aload_n 182 0 dX1_init_182 rfl ?_
  refine x_new 183 na_X1_121 dX1_init_183 fun i25 => ?_
  refine x_dup 186 dX1_init_186 rfl ?_
  refine x_cI 187 2 [] [.ref (idc 14 i25), .ref (idc 0 i0)] (by decide) cn_X1_123 (im_J18_init hl i25) (by decide) rfl (Nat.le_of_ble_eq_true rfl) dX1_init_187 fun v26 => x_stV ?_
  refine x_putR 190 fa_X1_124_0 rfl (Or.inr ⟨rfl, rfl, rfl⟩) dX1_init_190 ?_
  refine x_aload_n 193 0 dX1_init_193 rfl ?_
  refine x_bipush 194 20 (20 : Int32) dX1_init_194 rfl ?_
  refine x_newa 196 (Or.inl rfl) rfl q526 dX1_init_196 fun i27 => ?_
  refine x_putR 198 fa_X1_128_0 rfl (Or.inr ⟨rfl, rfl, rfl⟩) dX1_init_198 ?_
  refine x_aload_n 201 0 dX1_init_201 rfl ?_
  refine x_iconst 202 1 (1 : Int32) dX1_init_202 rfl ?_
  refine x_putI 203 fa_X1_131_0 rfl (Or.inl rfl) dX1_init_203 ?_
  refine x_aload_n 206 0 dX1_init_206 rfl ?_
  refine x_iconst 207 (-1) (-1 : Int32) dX1_init_207 rfl ?_
  refine x_putI 208 fa_X1_134_0 rfl (Or.inl rfl) dX1_init_208 ?_
  refine x_iconst 211 0 (0 : Int32) dX1_init_211 rfl ?_
  refine x_istore_n 212 [(1, .int (0 : Int32)), (0, .ref (idc 0 i0))] dX1_init_212 (by decide) rfl ?_
  refine x_sub [1, 0] [(0, .ref (idc 0 i0)), (1, .int (0 : Int32))] rfl ?_
  refine x_bndj 240 (fun _ => [(0, .ref (idc 0 i0))]) (fun _ => []) (fun _ => ?_) (fun hj30 => ?_)
  · show TX g Γ _ Z _ 240 [(0, .ref (idc 0 i0))] [] _
    refine x_aload_n 240 0 dX1_init_240 rfl ?_
    refine x_getR 241 fa_X1_124_0 dX1_init_241 fun v37 => ?_
    refine x_iconst 244 0 (0 : Int32) dX1_init_244 rfl ?_
    refine x_isK fun i38 h39 => ?_
    subst h39
    refine x_cV 245 4 [.int (0 : Int32)] [] ⟨by decide, rfl⟩ cv_X1_140 (im_J18_set hl i38 (0 : Int32)) (by decide) rfl (Nat.le_of_ble_eq_true rfl) dX1_init_245 fun v40 => x_stV ?_
    refine x_iconst 248 0 (0 : Int32) dX1_init_248 rfl ?_
    refine x_istore_n 249 [(1, .int (0 : Int32)), (0, .ref (idc 0 i0))] dX1_init_249 (by decide) rfl ?_
    refine x_sub [1, 0] [(0, .ref (idc 0 i0)), (1, .int (0 : Int32))] rfl ?_
    refine x_bndj 275 (fun _ => [(0, .ref (idc 0 i0))]) (fun _ => []) (fun _ => ?_) (fun hj43 => ?_)
    · show TX g Γ _ Z _ 275 [(0, .ref (idc 0 i0))] [] _
      refine x_iconst 275 0 (0 : Int32) dX1_init_275 rfl ?_
      refine x_istore_n 276 [(1, .int (0 : Int32)), (0, .ref (idc 0 i0))] dX1_init_276 (by decide) rfl ?_
      refine x_sub [1, 0] [(0, .ref (idc 0 i0)), (1, .int (0 : Int32))] rfl ?_
      refine x_lp (Lf := fun u50 => [(0, .ref (idc 0 i0)), (1, .int u50)]) (sf := fun _ => []) (fun r51 hr51 u50 => ?_) (0 : Int32)
      show TX g Γ _ Z _ 277 [(0, .ref (idc 0 i0)), (1, .int u50)] [] _
      refine x_iload_n 277 1 dX1_init_277 rfl ?_
      refine x_bipush 278 20 (20 : Int32) dX1_init_278 rfl ?_
      refine x_icmp_ge 280 296 dX1_init_280 rfl (fun c52 => ?_) (fun c52 => ?_)
      · exact x_vret 296 hZ rfl dX1_init_296
      · refine x_aload_n 283 0 dX1_init_283 rfl ?_
        refine x_getR 284 fa_X1_128_0 dX1_init_284 fun v53 => ?_
        refine x_iload_n 287 1 dX1_init_287 rfl ?_
        refine x_iconst 288 (-1) (-1 : Int32) dX1_init_288 rfl ?_
        refine x_isK fun i54 h55 => ?_
        subst h55
        refine x_iast 289 dX1_init_289 ?_
        refine x_iinc 290 1 [(1, .int (u50 + (1 : Int32))), (0, .ref (idc 0 i0))] dX1_init_290 rfl rfl (by decide) rfl ?_
        refine x_goto 293 277 dX1_init_293 rfl ?_
        refine x_sub [1, 0] _ rfl ?_
        exact hr51 (u50 + (1 : Int32))
    · refine x_lp (Lf := fun u41 => [(0, .ref (idc 0 i0)), (1, .int u41)]) (sf := fun _ => []) (fun r42 hr42 u41 => ?_) (0 : Int32)
      show TX g Γ _ Z _ 250 [(0, .ref (idc 0 i0)), (1, .int u41)] [] _
      refine x_iload_n 250 1 dX1_init_250 rfl ?_
      refine x_iconst 251 4 (4 : Int32) dX1_init_251 rfl ?_
      refine x_icmp_ge 252 275 dX1_init_252 rfl (fun c44 => ?_) (fun c44 => ?_)
      · refine x_sub [0] _ rfl ?_
        exact hj43 ()
      · refine x_aload_n 255 0 dX1_init_255 rfl ?_
        refine x_getR 256 fa_X1_104_0 dX1_init_256 fun v45 => ?_
        refine x_iload_n 259 1 dX1_init_259 rfl ?_
        refine x_new 260 na_X1_102 dX1_init_260 fun i46 => ?_
        refine x_dup 263 dX1_init_263 rfl ?_
        refine x_aload_n 264 0 dX1_init_264 rfl ?_
        refine x_cI 265 5 [.ref (idc 0 i0)] [.ref (idc 3 i46), .int u41, .ref v45] (by decide) cn_X1_143 (im_X4_init hl i46 (idc 0 i0)) (by decide) rfl (Nat.le_of_ble_eq_true rfl) dX1_init_265 fun v47 => x_stV ?_
        refine x_isK fun i48 h49 => ?_
        subst h49
        refine x_aast 268 (by decide) dX1_init_268 (Or.inr (Or.inr (Or.inr ⟨rfl, by unfold idc; omega⟩))) ?_
        refine x_iinc 269 1 [(1, .int (u41 + (1 : Int32))), (0, .ref (idc 0 i0))] dX1_init_269 rfl rfl (by decide) rfl ?_
        refine x_goto 272 250 dX1_init_272 rfl ?_
        refine x_sub [1, 0] _ rfl ?_
        exact hr42 (u41 + (1 : Int32))
  · refine x_lp (Lf := fun u28 => [(0, .ref (idc 0 i0)), (1, .int u28)]) (sf := fun _ => []) (fun r29 hr29 u28 => ?_) (0 : Int32)
    show TX g Γ _ Z _ 213 [(0, .ref (idc 0 i0)), (1, .int u28)] [] _
    refine x_iload_n 213 1 dX1_init_213 rfl ?_
    refine x_bipush 214 6 (6 : Int32) dX1_init_214 rfl ?_
    refine x_icmp_ge 216 240 dX1_init_216 rfl (fun c31 => ?_) (fun c31 => ?_)
    · refine x_sub [0] _ rfl ?_
      exact hj30 ()
    · refine x_aload_n 219 0 dX1_init_219 rfl ?_
      refine x_getR 220 fa_X1_67_0 dX1_init_220 fun v32 => ?_
      refine x_iload_n 223 1 dX1_init_223 rfl ?_
      refine x_new 224 na_X1_65 dX1_init_224 fun i33 => ?_
      refine x_dup 227 dX1_init_227 rfl ?_
      refine x_aload_n 228 0 dX1_init_228 rfl ?_
      refine x_iload_n 229 1 dX1_init_229 rfl ?_
      refine x_cI 230 5 [.ref (idc 0 i0), .int u28] [.ref (idc 2 i33), .int u28, .ref v32] (by decide) cn_X1_137 (im_X3_init hl i33 (idc 0 i0) u28) (by decide) rfl (Nat.le_of_ble_eq_true rfl) dX1_init_230 fun v34 => x_stV ?_
      refine x_isK fun i35 h36 => ?_
      subst h36
      refine x_aast 233 (by decide) dX1_init_233 (Or.inr (Or.inr (Or.inl ⟨rfl, by unfold idc; omega⟩))) ?_
      refine x_iinc 234 1 [(1, .int (u28 + (1 : Int32))), (0, .ref (idc 0 i0))] dX1_init_234 rfl rfl (by decide) rfl ?_
      refine x_goto 237 213 dX1_init_237 rfl ?_
      refine x_sub [1, 0] _ rfl ?_
      exact hr29 (u28 + (1 : Int32))
def f_X1_clear (i0 : Nat) : PT Int32 := gR 0 i0 1 fun v1 => isK 1 v1 fun i2 => gR 1 i2 0 fun v4 => isK 13 v4 fun i5 => bn0 (f_J2_size i5) fun v7 => nw 1 1 fun i8 => bn0 (f_X2_init i8) fun _ => pR 0 i0 1 (idc 1 i8) <| rt v7
theorem im_X1_clear {g : GP} {l : Launch} (hl : l.stackTraces = false) (i0 : Nat) : Im g l 5 yX1_clear cX1_clear 2 (some .int) eI [.ref (idc 0 i0)] (f_X1_clear i0) := by
  refine tx_start hl 5 _ _ _ _ (by decide) (Nat.le_of_ble_eq_true rfl) fun Γ Z hΓ hZ => ?_
  subst hΓ
  unfold f_X1_clear
  show TX g Γ _ Z _ 0 [(0, .ref (idc 0 i0))] [] _
  refine x_aload_n 0 0 dX1_clear_0 rfl ?_
  refine x_getR 1 fa_X1_74_0 dX1_clear_1 fun v1 => ?_
  refine x_isK fun i2 h3 => ?_
  subst h3
  refine x_getR 4 fa_X1_203_1 dX1_clear_4 fun v4 => ?_
  refine x_isK fun i5 h6 => ?_
  subst h6
  refine x_cF 7 0 [] [] (by decide) cf_X1_9_13 (im_J2_size hl i5) (by decide) rfl (Nat.le_of_ble_eq_true rfl) dX1_clear_7 fun v7 => x_stI ?_
  refine x_istore_n 12 [(1, .int v7), (0, .ref (idc 0 i0))] dX1_clear_12 (by decide) rfl ?_
  refine x_aload_n 13 1 dX1_clear_13 rfl ?_
  refine x_new 14 na_X1_71 dX1_clear_14 fun i8 => ?_
  refine x_dup 17 dX1_clear_17 rfl ?_
  refine x_cIn 18 4 [] [.ref (idc 1 i8), .ref (idc 0 i0)] (by decide) cn_X1_73 (im_X2_init hl i8) (by decide) rfl (Nat.le_of_ble_eq_true rfl) dX1_clear_18 fun v9 => x_stV ?_
  refine x_putR 21 fa_X1_74_0 rfl (Or.inl rfl) dX1_clear_21 ?_
  refine x_iload_n 24 0 dX1_clear_24 rfl ?_
  exact x_iret 25 hZ rfl dX1_clear_25
def f_X1_sessions (i0 : Nat) : PT Int32 := gR 0 i0 4 fun v1 => isK 13 v1 fun i2 => bn0 (f_J2_size i2) fun v4 => rt v4
theorem im_X1_sessions {g : GP} {l : Launch} (hl : l.stackTraces = false) (i0 : Nat) : Im g l 1 yX1_sessions cX1_sessions 1 (some .int) eI [.ref (idc 0 i0)] (f_X1_sessions i0) := by
  refine tx_start hl 1 _ _ _ _ (by decide) (Nat.le_of_ble_eq_true rfl) fun Γ Z hΓ hZ => ?_
  subst hΓ
  unfold f_X1_sessions
  show TX g Γ _ Z _ 0 [(0, .ref (idc 0 i0))] [] _
  refine x_aload_n 0 0 dX1_sessions_0 rfl ?_
  refine x_getR 1 fa_X1_5_0 dX1_sessions_1 fun v1 => ?_
  refine x_isK fun i2 h3 => ?_
  subst h3
  refine x_cF 4 0 [] [] (by decide) cf_X1_9_13 (im_J2_size hl i2) (by decide) rfl (Nat.le_of_ble_eq_true rfl) dX1_sessions_4 fun v4 => x_stI ?_
  exact x_iret 9 hZ rfl dX1_sessions_9
def f_X1_signing (i0 : Nat) : PT Int32 := gI 0 i0 20 fun v1 => rt v1
theorem im_X1_signing {g : GP} {l : Launch} (hl : l.stackTraces = false) (i0 : Nat) : Im g l 0 yX1_signing cX1_signing 1 (some .int) eI [.ref (idc 0 i0)] (f_X1_signing i0) := by
  refine tx_start hl 0 _ _ _ _ (by decide) (Nat.le_of_ble_eq_true rfl) fun Γ Z hΓ hZ => ?_
  subst hΓ
  unfold f_X1_signing
  show TX g Γ _ Z _ 0 [(0, .ref (idc 0 i0))] [] _
  refine x_aload_n 0 0 dX1_signing_0 rfl ?_
  refine x_getI 1 fa_X1_161_0 dX1_signing_1 fun v1 => ?_
  exact x_iret 4 hZ rfl dX1_signing_4
def f_X1_audits (i0 : Nat) : PT Int32 := gR 0 i0 14 fun v1 => isK 13 v1 fun i2 => bn0 (f_J2_size i2) fun v4 => rt v4
theorem im_X1_audits {g : GP} {l : Launch} (hl : l.stackTraces = false) (i0 : Nat) : Im g l 1 yX1_audits cX1_audits 1 (some .int) eI [.ref (idc 0 i0)] (f_X1_audits i0) := by
  refine tx_start hl 1 _ _ _ _ (by decide) (Nat.le_of_ble_eq_true rfl) fun Γ Z hΓ hZ => ?_
  subst hΓ
  unfold f_X1_audits
  show TX g Γ _ Z _ 0 [(0, .ref (idc 0 i0))] [] _
  refine x_aload_n 0 0 dX1_audits_0 rfl ?_
  refine x_getR 1 fa_X1_50_0 dX1_audits_1 fun v1 => ?_
  refine x_isK fun i2 h3 => ?_
  subst h3
  refine x_cF 4 0 [] [] (by decide) cf_X1_9_13 (im_J2_size hl i2) (by decide) rfl (Nat.le_of_ble_eq_true rfl) dX1_audits_4 fun v4 => x_stI ?_
  exact x_iret 9 hZ rfl dX1_audits_9
def f_X1_sum (i0 : Nat) : PT Int32 := gI 0 i0 15 fun v1 => rt v1
theorem im_X1_sum {g : GP} {l : Launch} (hl : l.stackTraces = false) (i0 : Nat) : Im g l 0 yX1_sum cX1_sum 1 (some .int) eI [.ref (idc 0 i0)] (f_X1_sum i0) := by
  refine tx_start hl 0 _ _ _ _ (by decide) (Nat.le_of_ble_eq_true rfl) fun Γ Z hΓ hZ => ?_
  subst hΓ
  unfold f_X1_sum
  show TX g Γ _ Z _ 0 [(0, .ref (idc 0 i0))] [] _
  refine x_aload_n 0 0 dX1_sum_0 rfl ?_
  refine x_getI 1 fa_X1_53_0 dX1_sum_1 fun v1 => ?_
  exact x_iret 4 hZ rfl dX1_sum_4
def f_X1_fit (a1 : Int32) (a2 : Int32) (a3 : Int32) : PT Unit := cnd (a1 < a2) (thr "java/lang/IllegalArgumentException") (cnd (a1 ≤ a3) (rt ()) (thr "java/lang/IllegalArgumentException"))
theorem im_X1_fit {g : GP} {l : Launch} (hl : l.stackTraces = false) (a1 : Int32) (a2 : Int32) (a3 : Int32) : Im g l 6 yX1_fit cX1_fit 3 none eV [.int a1, .int a2, .int a3] (f_X1_fit a1 a2 a3) := by
  refine tx_start hl 6 _ _ _ _ (by decide) (Nat.le_of_ble_eq_true rfl) fun Γ Z hΓ hZ => ?_
  subst hΓ
  unfold f_X1_fit
  show TX g Γ _ Z _ 0 [(0, .int a1), (1, .int a2), (2, .int a3)] [] _
  refine x_iload_n 0 0 dX1_fit_0 rfl ?_
  refine x_iload_n 1 1 dX1_fit_1 rfl ?_
  refine x_icmp_lt 2 10 dX1_fit_2 rfl (fun c1 => ?_) (fun c1 => ?_)
  · exact x_thr 10 rfl ta_X1_146 dX1_fit_10 dX1_fit_13 dX1_fit_14 dX1_fit_17 (by decide) (Nat.le_of_ble_eq_true rfl)
  · refine x_iload_n 5 0 dX1_fit_5 rfl ?_
    refine x_iload_n 6 2 dX1_fit_6 rfl ?_
    refine x_icmp_le 7 18 dX1_fit_7 rfl (fun c2 => ?_) (fun c2 => ?_)
    · exact x_vret 18 hZ rfl dX1_fit_18
    · exact x_thr 10 rfl ta_X1_146 dX1_fit_10 dX1_fit_13 dX1_fit_14 dX1_fit_17 (by decide) (Nat.le_of_ble_eq_true rfl)
def f_X1_can (a1 : Int32) : PT Unit := cnd (a1 = 0) (thr "java/lang/IllegalStateException") (rt ())
theorem im_X1_can {g : GP} {l : Launch} (hl : l.stackTraces = false) (a1 : Int32) : Im g l 6 yX1_can cX1_can 1 none eV [.int a1] (f_X1_can a1) := by
  refine tx_start hl 6 _ _ _ _ (by decide) (Nat.le_of_ble_eq_true rfl) fun Γ Z hΓ hZ => ?_
  subst hΓ
  unfold f_X1_can
  show TX g Γ _ Z _ 0 [(0, .int a1)] [] _
  refine x_iload_n 0 0 dX1_can_0 rfl ?_
  refine x_if_ne 1 12 dX1_can_1 rfl (fun c1 => ?_) (fun c1 => ?_)
  · exact x_thr 4 rfl ta_X1_155 dX1_can_4 dX1_can_7 dX1_can_8 dX1_can_11 (by decide) (Nat.le_of_ble_eq_true rfl)
  · exact x_vret 12 hZ rfl dX1_can_12
def f_X6_init (i0 : Nat) (a1 : Int32) (a2 : Int32) (a3 : Int32) : PT Unit := pI 5 i0 0 a1 <| pI 5 i0 1 a2 <| pI 5 i0 2 a3 <| rt ()
theorem im_X6_init {g : GP} {l : Launch} (hl : l.stackTraces = false) (i0 : Nat) (a1 : Int32) (a2 : Int32) (a3 : Int32) : Im g l 1 yX6_init cX6_init 4 none eV [.ref (idc 5 i0), .int a1, .int a2, .int a3] (f_X6_init i0 a1 a2 a3) := by
  refine tx_start hl 1 _ _ _ _ (by decide) (Nat.le_of_ble_eq_true rfl) fun Γ Z hΓ hZ => ?_
  subst hΓ
  unfold f_X6_init
  show TX g Γ _ Z _ 0 [(0, .ref (idc 5 i0)), (1, .int a1), (2, .int a2), (3, .int a3)] [] _
  refine x_aload_n 0 0 dX6_init_0 rfl ?_
  refine x_objI 1 (by decide) q856 q128 q129 dX6_init_1 (Nat.le_of_ble_eq_true rfl) (by decide) ?_
  refine x_aload_n 4 0 dX6_init_4 rfl ?_
  refine x_iload_n 5 1 dX6_init_5 rfl ?_
  refine x_putI 6 fa_X6_9_5 rfl (Or.inr ⟨rfl, rfl, rfl⟩) dX6_init_6 ?_
  refine x_aload_n 9 0 dX6_init_9 rfl ?_
  refine x_iload_n 10 2 dX6_init_10 rfl ?_
  refine x_putI 11 fa_X6_15_5 rfl (Or.inr ⟨rfl, rfl, rfl⟩) dX6_init_11 ?_
  refine x_aload_n 14 0 dX6_init_14 rfl ?_
  refine x_iload_n 15 3 dX6_init_15 rfl ?_
  refine x_putI 16 fa_X6_18_5 rfl (Or.inr ⟨rfl, rfl, rfl⟩) dX6_init_16 ?_
  exact x_vret 19 hZ rfl dX6_init_19
def f_X6_after (i0 : Nat) (a1 : Int32) : PT Int32 := gI 5 i0 0 fun v1 => gI 5 i0 1 fun v2 => gI 5 i0 2 fun v3 => rt (((((((31 : Int64) * a1.toInt64) + ((100 : Int64) * v1.toInt64)) + v2.toInt64) + v3.toInt64) - (((((31 : Int64) * a1.toInt64) + ((100 : Int64) * v1.toInt64)) + v2.toInt64) + v3.toInt64) / (65521 : Int64) * (65521 : Int64)).toInt32)
theorem im_X6_after {g : GP} {l : Launch} (hl : l.stackTraces = false) (i0 : Nat) (a1 : Int32) : Im g l 0 yX6_after cX6_after 2 (some .int) eI [.ref (idc 5 i0), .int a1] (f_X6_after i0 a1) := by
  refine tx_start hl 0 _ _ _ _ (by decide) (Nat.le_of_ble_eq_true rfl) fun Γ Z hΓ hZ => ?_
  subst hΓ
  unfold f_X6_after
  show TX g Γ _ Z _ 0 [(0, .ref (idc 5 i0)), (1, .int a1)] [] _
  refine x_ldc2 0 21 (31 : Int64) dX6_after_0 q970 ?_
  refine x_iload_n 3 1 dX6_after_3 rfl ?_
  refine x_i2l 4 dX6_after_4 ?_
  refine x_lmul 5 dX6_after_5 ?_
  refine x_ldc2 6 23 (100 : Int64) dX6_after_6 q971 ?_
  refine x_aload_n 9 0 dX6_after_9 rfl ?_
  refine x_getI 10 fa_X6_9_5 dX6_after_10 fun v1 => ?_
  refine x_i2l 13 dX6_after_13 ?_
  refine x_lmul 14 dX6_after_14 ?_
  refine x_ladd 15 dX6_after_15 ?_
  refine x_aload_n 16 0 dX6_after_16 rfl ?_
  refine x_getI 17 fa_X6_15_5 dX6_after_17 fun v2 => ?_
  refine x_i2l 20 dX6_after_20 ?_
  refine x_ladd 21 dX6_after_21 ?_
  refine x_aload_n 22 0 dX6_after_22 rfl ?_
  refine x_getI 23 fa_X6_18_5 dX6_after_23 fun v3 => ?_
  refine x_i2l 26 dX6_after_26 ?_
  refine x_ladd 27 dX6_after_27 ?_
  refine x_ldc2 28 25 (65521 : Int64) dX6_after_28 q972 ?_
  refine x_lrem 31 dX6_after_31 (by decide) ?_
  refine x_l2i 32 dX6_after_32 ?_
  exact x_iret 33 hZ rfl dX6_after_33
def f_X1_write (i0 : Nat) (a1 : Int32) (a2 : Int32) : PT Unit := nw 5 3 fun i1 => gI 0 i0 16 fun v2 => bn0 (f_X6_init i1 a1 a2 v2) fun _ => gR 0 i0 14 fun v4 => isK 13 v4 fun i5 => bn0 (f_J2_add i5 (idc 5 i1)) fun v7 => gI 0 i0 15 fun v8 => bn0 (f_X6_after i1 v8) fun v9 => pI 0 i0 15 v9 <| rt ()
theorem im_X1_write {g : GP} {l : Launch} (hl : l.stackTraces = false) (i0 : Nat) (a1 : Int32) (a2 : Int32) : Im g l 7 yX1_write cX1_write 4 none eV [.ref (idc 0 i0), .int a1, .int a2] (f_X1_write i0 a1 a2) := by
  refine tx_start hl 7 _ _ _ _ (by decide) (Nat.le_of_ble_eq_true rfl) fun Γ Z hΓ hZ => ?_
  subst hΓ
  unfold f_X1_write
  show TX g Γ _ Z _ 0 [(0, .ref (idc 0 i0)), (1, .int a1), (2, .int a2)] [] _
  refine x_new 0 na_X1_42 dX1_write_0 fun i1 => ?_
  refine x_dup 3 dX1_write_3 rfl ?_
  refine x_iload_n 4 1 dX1_write_4 rfl ?_
  refine x_iload_n 5 2 dX1_write_5 rfl ?_
  refine x_aload_n 6 0 dX1_write_6 rfl ?_
  refine x_getI 7 fa_X1_44_0 dX1_write_7 fun v2 => ?_
  refine x_cI 10 1 [.int a1, .int a2, .int v2] [.ref (idc 5 i1)] (by decide) cn_X1_47 (im_X6_init hl i1 a1 a2 v2) (by decide) rfl (Nat.le_of_ble_eq_true rfl) dX1_write_10 fun v3 => x_stV ?_
  refine x_astore_n 13 [(3, .ref (idc 5 i1)), (0, .ref (idc 0 i0)), (1, .int a1), (2, .int a2)] dX1_write_13 (by decide) rfl ?_
  refine x_aload_n 14 1 dX1_write_14 rfl ?_
  refine x_getR 15 fa_X1_50_0 dX1_write_15 fun v4 => ?_
  refine x_aload_n 18 0 dX1_write_18 rfl ?_
  refine x_isK fun i5 h6 => ?_
  subst h6
  refine x_cF 19 6 [.ref (idc 5 i1)] [] (by decide) cf_X1_19_13 (im_J2_add hl i5 (idc 5 i1)) (by decide) rfl (Nat.le_of_ble_eq_true rfl) dX1_write_19 fun v7 => x_stI ?_
  refine x_pop 24 dX1_write_24 rfl ?_
  refine x_aload_n 25 1 dX1_write_25 rfl ?_
  refine x_aload_n 26 0 dX1_write_26 rfl ?_
  refine x_aload_n 27 1 dX1_write_27 rfl ?_
  refine x_getI 28 fa_X1_53_0 dX1_write_28 fun v8 => ?_
  refine x_cV 31 0 [.int v8] [.ref (idc 0 i0)] ⟨by decide, rfl⟩ cv_X1_56 (im_X6_after hl i1 v8) (by decide) rfl (Nat.le_of_ble_eq_true rfl) dX1_write_31 fun v9 => x_stI ?_
  refine x_putI 34 fa_X1_53_0 rfl (Or.inl rfl) dX1_write_34 ?_
  exact x_vret 37 hZ rfl dX1_write_37
def f_X1_sign (i0 : Nat) (a1 : Int32) : PT Unit := pI 0 i0 20 a1 <| bn0 (f_X1_write i0 (5 : Int32) a1) fun _ => rt ()
theorem im_X1_sign {g : GP} {l : Launch} (hl : l.stackTraces = false) (i0 : Nat) (a1 : Int32) : Im g l 8 yX1_sign cX1_sign 2 none eV [.ref (idc 0 i0), .int a1] (f_X1_sign i0 a1) := by
  refine tx_start hl 8 _ _ _ _ (by decide) (Nat.le_of_ble_eq_true rfl) fun Γ Z hΓ hZ => ?_
  subst hΓ
  unfold f_X1_sign
  show TX g Γ _ Z _ 0 [(0, .ref (idc 0 i0)), (1, .int a1)] [] _
  refine x_aload_n 0 0 dX1_sign_0 rfl ?_
  refine x_iload_n 1 1 dX1_sign_1 rfl ?_
  refine x_putI 2 fa_X1_161_0 rfl (Or.inl rfl) dX1_sign_2 ?_
  refine x_aload_n 5 0 dX1_sign_5 rfl ?_
  refine x_iconst 6 5 (5 : Int32) dX1_sign_6 rfl ?_
  refine x_iload_n 7 1 dX1_sign_7 rfl ?_
  refine x_cV 8 7 [.int (5 : Int32), .int a1] [] ⟨by decide, rfl⟩ cv_X1_27 (im_X1_write hl i0 (5 : Int32) a1) (by decide) rfl (Nat.le_of_ble_eq_true rfl) dX1_sign_8 fun v1 => x_stV ?_
  exact x_vret 11 hZ rfl dX1_sign_11
def f_X1_turnKeys (i0 : Nat) : PT Unit := gI 0 i0 21 fun v1 => bnd (ρ := _) (α := Unit) (cnd (v1 = (-1 : Int32)) (rt ()) (gI 0 i0 16 fun v27 => gI 0 i0 22 fun v28 => cnd (v27 = v28) (gR 0 i0 18 fun v30 => gI 0 i0 20 fun v31 => gI 0 i0 16 fun v32 => isK 32 v30 fun i33 => bI 32 i33 v31 (v32 + (20 : Int32)) <| gI 0 i0 21 fun v35 => bn0 (f_X1_sign i0 v35) fun _ => pI 0 i0 21 (-1 : Int32) <| rt ()) (rt ()))) (fun _ => lp (σ := Int32) (fun r3 => fun u2 => gI 0 i0 19 fun v4 => cnd (v4 ≤ u2) (rt ()) (gR 0 i0 17 fun v6 => gR 0 i0 17 fun v7 => isK 14 v7 fun i8 => bn0 (f_J18_get i8 u2) fun v10 => bnd (ρ := _) (α := Int32) (jo (σ := Unit) (fun _ => rt (0 : Int32)) fun j17 => cnd (v10 = 0) (j17 ()) (gR 0 i0 18 fun v19 => isK 32 v19 fun i20 => aI 32 i20 u2 fun v22 => gI 0 i0 16 fun v23 => cnd (v22 = v23) (j17 ()) (rt (1 : Int32)))) (fun u11 => isK 14 v6 fun i12 => bn0 (f_J18_set_2 i12 u2 u11) fun _ => r3 (u2 + (1 : Int32))))) (0 : Int32))
theorem im_X1_turnKeys {g : GP} {l : Launch} (hl : l.stackTraces = false) (i0 : Nat) : Im g l 9 yX1_turnKeys cX1_turnKeys 2 none eV [.ref (idc 0 i0)] (f_X1_turnKeys i0) := by
  refine tx_start hl 9 _ _ _ _ (by decide) (Nat.le_of_ble_eq_true rfl) fun Γ Z hΓ hZ => ?_
  subst hΓ
  unfold f_X1_turnKeys
  show TX g Γ _ Z _ 0 [(0, .ref (idc 0 i0))] [] _
  refine x_aload_n 0 0 dX1_turnKeys_0 rfl ?_
  refine x_getI 1 fa_X1_134_0 dX1_turnKeys_1 fun v1 => ?_
  refine x_iconst 4 (-1) (-1 : Int32) dX1_turnKeys_4 rfl ?_
  refine x_bndj 48 (fun _ => [(0, .ref (idc 0 i0))]) (fun _ => []) (fun _ => ?_) (fun hj25 => ?_)
  · show TX g Γ _ Z _ 48 [(0, .ref (idc 0 i0))] [] _
    refine x_iconst 48 0 (0 : Int32) dX1_turnKeys_48 rfl ?_
    refine x_istore_n 49 [(1, .int (0 : Int32)), (0, .ref (idc 0 i0))] dX1_turnKeys_49 (by decide) rfl ?_
    refine x_sub [1, 0] [(0, .ref (idc 0 i0)), (1, .int (0 : Int32))] rfl ?_
    refine x_lp (Lf := fun u2 => [(0, .ref (idc 0 i0)), (1, .int u2)]) (sf := fun _ => []) (fun r3 hr3 u2 => ?_) (0 : Int32)
    show TX g Γ _ Z _ 50 [(0, .ref (idc 0 i0)), (1, .int u2)] [] _
    refine x_iload_n 50 1 dX1_turnKeys_50 rfl ?_
    refine x_aload_n 51 0 dX1_turnKeys_51 rfl ?_
    refine x_getI 52 fa_X1_131_0 dX1_turnKeys_52 fun v4 => ?_
    refine x_icmp_ge 55 101 dX1_turnKeys_55 rfl (fun c5 => ?_) (fun c5 => ?_)
    · exact x_vret 101 hZ rfl dX1_turnKeys_101
    · refine x_aload_n 58 0 dX1_turnKeys_58 rfl ?_
      refine x_getR 59 fa_X1_124_0 dX1_turnKeys_59 fun v6 => ?_
      refine x_iload_n 62 1 dX1_turnKeys_62 rfl ?_
      refine x_aload_n 63 0 dX1_turnKeys_63 rfl ?_
      refine x_getR 64 fa_X1_124_0 dX1_turnKeys_64 fun v7 => ?_
      refine x_iload_n 67 1 dX1_turnKeys_67 rfl ?_
      refine x_isK fun i8 h9 => ?_
      subst h9
      refine x_cV 68 1 [.int u2] [.int u2, .ref v6] ⟨by decide, rfl⟩ cv_X1_170 (im_J18_get hl i8 u2) (by decide) rfl (Nat.le_of_ble_eq_true rfl) dX1_turnKeys_68 fun v10 => x_stI ?_
      refine x_bndj 92 (fun u11 => [(0, .ref (idc 0 i0)), (1, .int u2)]) (fun u11 => [.int u11, .int u2, .ref v6]) (fun u11 => ?_) (fun hj15 => ?_)
      · show TX g Γ _ Z _ 92 [(0, .ref (idc 0 i0)), (1, .int u2)] [.int u11, .int u2, .ref v6] _
        refine x_isK fun i12 h13 => ?_
        subst h13
        refine x_cV 92 5 [.int u2, .int u11] [] ⟨by decide, rfl⟩ cv_X1_173 (im_J18_set_2 hl i12 u2 u11) (by decide) rfl (Nat.le_of_ble_eq_true rfl) dX1_turnKeys_92 fun v14 => x_stV ?_
        refine x_iinc 95 1 [(1, .int (u2 + (1 : Int32))), (0, .ref (idc 0 i0))] dX1_turnKeys_95 rfl rfl (by decide) rfl ?_
        refine x_goto 98 50 dX1_turnKeys_98 rfl ?_
        refine x_sub [1, 0] _ rfl ?_
        exact hr3 (u2 + (1 : Int32))
      · refine x_jo 91 (Lf := fun _ => [(0, .ref (idc 0 i0)), (1, .int u2)]) (sf := fun _ => [.int u2, .ref v6]) (fun _ => ?_) (fun j17 hj16 => ?_)
        · show TX g Γ _ Z _ 91 [(0, .ref (idc 0 i0)), (1, .int u2)] [.int u2, .ref v6] _
          refine x_iconst 91 0 (0 : Int32) dX1_turnKeys_91 rfl ?_
          exact hj15 (0 : Int32)
        · refine x_if_eq 71 91 dX1_turnKeys_71 rfl (fun c18 => ?_) (fun c18 => ?_)
          · exact hj16 ()
          · refine x_aload_n 74 0 dX1_turnKeys_74 rfl ?_
            refine x_getR 75 fa_X1_128_0 dX1_turnKeys_75 fun v19 => ?_
            refine x_iload_n 78 1 dX1_turnKeys_78 rfl ?_
            refine x_isK fun i20 h21 => ?_
            subst h21
            refine x_iald 79 dX1_turnKeys_79 fun v22 => ?_
            refine x_aload_n 80 0 dX1_turnKeys_80 rfl ?_
            refine x_getI 81 fa_X1_44_0 dX1_turnKeys_81 fun v23 => ?_
            refine x_icmp_eq 84 91 dX1_turnKeys_84 rfl (fun c24 => ?_) (fun c24 => ?_)
            · exact hj16 ()
            · refine x_iconst 87 1 (1 : Int32) dX1_turnKeys_87 rfl ?_
              refine x_goto 88 92 dX1_turnKeys_88 rfl ?_
              exact hj15 (1 : Int32)
  · refine x_icmp_eq 5 48 dX1_turnKeys_5 rfl (fun c26 => ?_) (fun c26 => ?_)
    · exact hj25 ()
    · refine x_aload_n 8 0 dX1_turnKeys_8 rfl ?_
      refine x_getI 9 fa_X1_44_0 dX1_turnKeys_9 fun v27 => ?_
      refine x_aload_n 12 0 dX1_turnKeys_12 rfl ?_
      refine x_getI 13 fa_X1_164_0 dX1_turnKeys_13 fun v28 => ?_
      refine x_icmp_ne 16 48 dX1_turnKeys_16 rfl (fun c29 => ?_) (fun c29 => ?_)
      · refine x_aload_n 19 0 dX1_turnKeys_19 rfl ?_
        refine x_getR 20 fa_X1_128_0 dX1_turnKeys_20 fun v30 => ?_
        refine x_aload_n 23 0 dX1_turnKeys_23 rfl ?_
        refine x_getI 24 fa_X1_161_0 dX1_turnKeys_24 fun v31 => ?_
        refine x_aload_n 27 0 dX1_turnKeys_27 rfl ?_
        refine x_getI 28 fa_X1_44_0 dX1_turnKeys_28 fun v32 => ?_
        refine x_bipush 31 20 (20 : Int32) dX1_turnKeys_31 rfl ?_
        refine x_iadd 33 dX1_turnKeys_33 ?_
        refine x_isK fun i33 h34 => ?_
        subst h34
        refine x_iast 34 dX1_turnKeys_34 ?_
        refine x_aload_n 35 0 dX1_turnKeys_35 rfl ?_
        refine x_aload_n 36 0 dX1_turnKeys_36 rfl ?_
        refine x_getI 37 fa_X1_134_0 dX1_turnKeys_37 fun v35 => ?_
        refine x_cV 40 8 [.int v35] [] ⟨by decide, rfl⟩ cv_X1_167 (im_X1_sign hl i0 v35) (by decide) rfl (Nat.le_of_ble_eq_true rfl) dX1_turnKeys_40 fun v36 => x_stV ?_
        refine x_aload_n 43 0 dX1_turnKeys_43 rfl ?_
        refine x_iconst 44 (-1) (-1 : Int32) dX1_turnKeys_44 rfl ?_
        refine x_putI 45 fa_X1_134_0 rfl (Or.inl rfl) dX1_turnKeys_45 ?_
        exact hj25 ()
      · exact hj25 ()
def f_X9_isOut (i0 : Nat) : PT Int32 := gR 8 i0 8 fun v1 => isK 0 v1 fun i2 => gI 0 i2 16 fun v4 => gI 8 i0 4 fun v5 => cnd ((30 : Int32) < (v4 - v5)) (asr ((1 : Int32) = 0 ∨ (1 : Int32) = 1) (rt (1 : Int32))) (gR 8 i0 8 fun v7 => isK 0 v7 fun i8 => gI 0 i8 16 fun v10 => gI 8 i0 3 fun v11 => cnd ((v10 - v11) ≤ (480 : Int32)) (asr ((0 : Int32) = 0 ∨ (0 : Int32) = 1) (rt (0 : Int32))) (asr ((1 : Int32) = 0 ∨ (1 : Int32) = 1) (rt (1 : Int32))))
theorem im_X9_isOut {g : GP} {l : Launch} (hl : l.stackTraces = false) (i0 : Nat) : Im g l 0 yX9_isOut cX9_isOut 1 (some .boolean) eI [.ref (idc 8 i0)] (f_X9_isOut i0) := by
  refine tx_start hl 0 _ _ _ _ (by decide) (Nat.le_of_ble_eq_true rfl) fun Γ Z hΓ hZ => ?_
  subst hΓ
  unfold f_X9_isOut
  show TX g Γ _ Z _ 0 [(0, .ref (idc 8 i0))] [] _
  refine x_aload_n 0 0 dX9_isOut_0 rfl ?_
  refine x_getR 1 fa_X9_3_8 dX9_isOut_1 fun v1 => ?_
  refine x_isK fun i2 h3 => ?_
  subst h3
  refine x_getI 4 fa_X9_15_0 dX9_isOut_4 fun v4 => ?_
  refine x_aload_n 7 0 dX9_isOut_7 rfl ?_
  refine x_getI 8 fa_X9_22_8 dX9_isOut_8 fun v5 => ?_
  refine x_isub 11 dX9_isOut_11 ?_
  refine x_bipush 12 30 (30 : Int32) dX9_isOut_12 rfl ?_
  refine x_icmp_gt 14 35 dX9_isOut_14 rfl (fun c6 => ?_) (fun c6 => ?_)
  · refine x_iconst 35 1 (1 : Int32) dX9_isOut_35 rfl ?_
    refine x_goto 36 40 dX9_isOut_36 rfl ?_
    exact x_zret 40 hZ rfl dX9_isOut_40
  · refine x_aload_n 17 0 dX9_isOut_17 rfl ?_
    refine x_getR 18 fa_X9_3_8 dX9_isOut_18 fun v7 => ?_
    refine x_isK fun i8 h9 => ?_
    subst h9
    refine x_getI 21 fa_X9_15_0 dX9_isOut_21 fun v10 => ?_
    refine x_aload_n 24 0 dX9_isOut_24 rfl ?_
    refine x_getI 25 fa_X9_19_8 dX9_isOut_25 fun v11 => ?_
    refine x_isub 28 dX9_isOut_28 ?_
    refine x_sipush 29 480 (480 : Int32) dX9_isOut_29 rfl ?_
    refine x_icmp_le 32 39 dX9_isOut_32 rfl (fun c12 => ?_) (fun c12 => ?_)
    · refine x_iconst 39 0 (0 : Int32) dX9_isOut_39 rfl ?_
      exact x_zret 40 hZ rfl dX9_isOut_40
    · refine x_iconst 35 1 (1 : Int32) dX9_isOut_35 rfl ?_
      refine x_goto 36 40 dX9_isOut_36 rfl ?_
      exact x_zret 40 hZ rfl dX9_isOut_40
def f_X4_tell (i0 : Nat) (a1 : Nat) : PT Unit := gI 3 i0 0 fun v1 => cnd (v1 = 0) (gR 3 i0 3 fun v3 => isK 10 a1 fun i4 => gI 10 i4 0 fun v6 => isK 14 v3 fun i7 => bn0 (f_J18_set i7 v6) fun _ => rt ()) (gR 3 i0 4 fun v10 => isK 15 v10 fun i11 => bn0 (f_J20_add i11 a1) fun v13 => rt ())
theorem im_X4_tell {g : GP} {l : Launch} (hl : l.stackTraces = false) (i0 : Nat) (a1 : Nat) : Im g l 5 yX4_tell cX4_tell 2 none eV [.ref (idc 3 i0), .ref a1] (f_X4_tell i0 a1) := by
  refine tx_start hl 5 _ _ _ _ (by decide) (Nat.le_of_ble_eq_true rfl) fun Γ Z hΓ hZ => ?_
  subst hΓ
  unfold f_X4_tell
  show TX g Γ _ Z _ 0 [(0, .ref (idc 3 i0)), (1, .ref a1)] [] _
  refine x_aload_n 0 0 dX4_tell_0 rfl ?_
  refine x_getI 1 fa_X4_36_3 dX4_tell_1 fun v1 => ?_
  refine x_if_eq 4 19 dX4_tell_4 rfl (fun c2 => ?_) (fun c2 => ?_)
  · refine x_aload_n 19 0 dX4_tell_19 rfl ?_
    refine x_getR 20 fa_X4_22_3 dX4_tell_20 fun v3 => ?_
    refine x_aload_n 23 1 dX4_tell_23 rfl ?_
    refine x_isK fun i4 h5 => ?_
    subst h5
    refine x_getI 24 fa_X4_44_10 dX4_tell_24 fun v6 => ?_
    refine x_isK fun i7 h8 => ?_
    subst h8
    refine x_cV 27 4 [.int v6] [] ⟨by decide, rfl⟩ cv_X4_32 (im_J18_set hl i7 v6) (by decide) rfl (Nat.le_of_ble_eq_true rfl) dX4_tell_27 fun v9 => x_stV ?_
    exact x_vret 30 hZ rfl dX4_tell_30
  · refine x_aload_n 7 0 dX4_tell_7 rfl ?_
    refine x_getR 8 fa_X4_28_3 dX4_tell_8 fun v10 => ?_
    refine x_aload_n 11 1 dX4_tell_11 rfl ?_
    refine x_isK fun i11 h12 => ?_
    subst h12
    refine x_cV 12 3 [.ref a1] [] ⟨by decide, rfl⟩ cv_X4_40 (im_J20_add hl i11 a1) (by decide) rfl (Nat.le_of_ble_eq_true rfl) dX4_tell_12 fun v13 => x_stI ?_
    refine x_pop 15 dX4_tell_15 rfl ?_
    refine x_goto 16 30 dX4_tell_16 rfl ?_
    exact x_vret 30 hZ rfl dX4_tell_30
def f_X11_end (i0 : Nat) : PT Int32 := gI 10 i0 5 fun v1 => cnd (v1 = 0) (asr ((0 : Int32) = 0 ∨ (0 : Int32) = 1) (rt (0 : Int32))) (pZ 10 i0 5 (0 : Int32) <| gR 10 i0 10 fun v3 => gI 10 i0 0 fun v4 => isK 0 v3 fun i5 => bn0 (f_X1_write i5 (3 : Int32) v4) fun _ => gR 10 i0 8 fun v8 => isK 14 v8 fun i9 => bn0 (f_J18_nextSetBit i9 (0 : Int32)) fun v11 => lp (σ := Int32) (fun r13 => fun u12 => cnd (u12 < 0) (asr ((1 : Int32) = 0 ∨ (1 : Int32) = 1) (rt (1 : Int32))) (gR 10 i0 10 fun v15 => isK 0 v15 fun i16 => gR 0 i16 9 fun v18 => isK 37 v18 fun i19 => aR 37 i19 u12 fun v21 => isK 3 v21 fun i22 => bn0 (f_X4_tell i22 (idc 10 i0)) fun _ => gR 10 i0 8 fun v25 => isK 14 v25 fun i26 => bn0 (f_J18_nextSetBit i26 (u12 + (1 : Int32))) fun v28 => r13 v28)) v11)
theorem im_X11_end {g : GP} {l : Launch} (hl : l.stackTraces = false) (i0 : Nat) : Im g l 8 yX11_end cX11_end 2 (some .boolean) eI [.ref (idc 10 i0)] (f_X11_end i0) := by
  refine tx_start hl 8 _ _ _ _ (by decide) (Nat.le_of_ble_eq_true rfl) fun Γ Z hΓ hZ => ?_
  subst hΓ
  unfold f_X11_end
  show TX g Γ _ Z _ 0 [(0, .ref (idc 10 i0))] [] _
  refine x_aload_n 0 0 dX11_end_0 rfl ?_
  refine x_getI 1 fa_X11_15_10 dX11_end_1 fun v1 => ?_
  refine x_if_ne 4 9 dX11_end_4 rfl (fun c2 => ?_) (fun c2 => ?_)
  · refine x_iconst 7 0 (0 : Int32) dX11_end_7 rfl ?_
    exact x_zret 8 hZ rfl dX11_end_8
  · refine x_aload_n 9 0 dX11_end_9 rfl ?_
    refine x_iconst 10 0 (0 : Int32) dX11_end_10 rfl ?_
    refine x_putZ 11 fa_X11_15_10 rfl (Or.inl rfl) dX11_end_11 ?_
    refine x_aload_n 14 0 dX11_end_14 rfl ?_
    refine x_getR 15 fa_X11_3_10 dX11_end_15 fun v3 => ?_
    refine x_iconst 18 3 (3 : Int32) dX11_end_18 rfl ?_
    refine x_aload_n 19 0 dX11_end_19 rfl ?_
    refine x_getI 20 fa_X11_30_10 dX11_end_20 fun v4 => ?_
    refine x_isK fun i5 h6 => ?_
    subst h6
    refine x_cVn 23 7 [.int (3 : Int32), .int v4] [] ⟨by decide, rfl⟩ cv_X11_109 (im_X1_write hl i5 (3 : Int32) v4) (by decide) rfl (Nat.le_of_ble_eq_true rfl) dX11_end_23 fun v7 => x_stV ?_
    refine x_aload_n 26 0 dX11_end_26 rfl ?_
    refine x_getR 27 fa_X11_26_10 dX11_end_27 fun v8 => ?_
    refine x_iconst 30 0 (0 : Int32) dX11_end_30 rfl ?_
    refine x_isK fun i9 h10 => ?_
    subst h10
    refine x_cV 31 2 [.int (0 : Int32)] [] ⟨by decide, rfl⟩ cv_X11_113 (im_J18_nextSetBit hl i9 (0 : Int32)) (by decide) rfl (Nat.le_of_ble_eq_true rfl) dX11_end_31 fun v11 => x_stI ?_
    refine x_istore_n 34 [(1, .int v11), (0, .ref (idc 10 i0))] dX11_end_34 (by decide) rfl ?_
    refine x_sub [1, 0] [(0, .ref (idc 10 i0)), (1, .int v11)] rfl ?_
    refine x_lp (Lf := fun u12 => [(0, .ref (idc 10 i0)), (1, .int u12)]) (sf := fun _ => []) (fun r13 hr13 u12 => ?_) v11
    show TX g Γ _ Z _ 35 [(0, .ref (idc 10 i0)), (1, .int u12)] [] _
    refine x_iload_n 35 1 dX11_end_35 rfl ?_
    refine x_if_lt 36 66 dX11_end_36 rfl (fun c14 => ?_) (fun c14 => ?_)
    · refine x_iconst 66 1 (1 : Int32) dX11_end_66 rfl ?_
      exact x_zret 67 hZ rfl dX11_end_67
    · refine x_aload_n 39 0 dX11_end_39 rfl ?_
      refine x_getR 40 fa_X11_3_10 dX11_end_40 fun v15 => ?_
      refine x_isK fun i16 h17 => ?_
      subst h17
      refine x_getR 43 fa_X11_117_0 dX11_end_43 fun v18 => ?_
      refine x_iload_n 46 1 dX11_end_46 rfl ?_
      refine x_isK fun i19 h20 => ?_
      subst h20
      refine x_aald 47 (by decide) dX11_end_47 fun v21 => ?_
      refine x_aload_n 48 0 dX11_end_48 rfl ?_
      refine x_isK fun i22 h23 => ?_
      subst h23
      refine x_cV 49 5 [.ref (idc 10 i0)] [] ⟨by decide, rfl⟩ cv_X11_121 (im_X4_tell hl i22 (idc 10 i0)) (by decide) rfl (Nat.le_of_ble_eq_true rfl) dX11_end_49 fun v24 => x_stV ?_
      refine x_aload_n 52 0 dX11_end_52 rfl ?_
      refine x_getR 53 fa_X11_26_10 dX11_end_53 fun v25 => ?_
      refine x_iload_n 56 1 dX11_end_56 rfl ?_
      refine x_iconst 57 1 (1 : Int32) dX11_end_57 rfl ?_
      refine x_iadd 58 dX11_end_58 ?_
      refine x_isK fun i26 h27 => ?_
      subst h27
      refine x_cV 59 2 [.int (u12 + (1 : Int32))] [] ⟨by decide, rfl⟩ cv_X11_113 (im_J18_nextSetBit hl i26 (u12 + (1 : Int32))) (by decide) rfl (Nat.le_of_ble_eq_true rfl) dX11_end_59 fun v28 => x_stI ?_
      refine x_istore_n 62 [(1, .int v28), (0, .ref (idc 10 i0))] dX11_end_62 (by decide) rfl ?_
      refine x_goto 63 35 dX11_end_63 rfl ?_
      refine x_sub [1, 0] _ rfl ?_
      exact hr13 v28
def f_X9_end : Nat → Nat → PT Int32
  | 0 => fun i0 => stk
  | n + 1 => fun i0 => gI 8 i0 5 fun v1 => cnd (v1 = 0) (rt (0 : Int32)) (pZ 8 i0 5 (0 : Int32) <| gR 8 i0 8 fun v3 => gI 8 i0 0 fun v4 => isK 0 v3 fun i5 => bn0 (f_X1_write i5 (1 : Int32) v4) fun _ => gI 8 i0 0 fun v8 => bnd (lp (σ := Int32 × Int32) (ρ := Int32) (fun r11 => un2 fun u9 u10 => gR 8 i0 8 fun v14 => isK 0 v14 fun i15 => gR 0 i15 4 fun v17 => isK 13 v17 fun i18 => bn0 (f_J2_size i18) fun v20 => cnd (v20 ≤ u10) (rt u9) (gR 8 i0 8 fun v22 => isK 0 v22 fun i23 => gR 0 i23 4 fun v25 => isK 13 v25 fun i26 => bn0 (f_J2_get i26 u10) fun v28 => isK 8 v28 fun i29 => gR 8 i29 2 fun v31 => asr (cmpN v31 ∧ cmpN (idc 8 i0)) <| cnd (v31 = (idc 8 i0)) (gR 8 i0 8 fun v33 => isK 0 v33 fun i34 => gR 0 i34 4 fun v36 => isK 13 v36 fun i37 => bn0 (f_J2_get i37 u10) fun v39 => isK 8 v39 fun i40 => bn0 (f_X9_end n i40) fun v42 => r11 (u9 + v42, u10 + (1 : Int32))) (r11 (u9 + (0 : Int32), u10 + (1 : Int32))))) ((1 : Int32), v8 + (1 : Int32))) (fun u12 => lp (σ := Int32) (fun r44 => fun u43 => gR 8 i0 8 fun v45 => isK 0 v45 fun i46 => gR 0 i46 6 fun v48 => isK 13 v48 fun i49 => bn0 (f_J2_size i49) fun v51 => cnd (v51 ≤ u43) (rt u12) (gR 8 i0 8 fun v53 => isK 0 v53 fun i54 => gR 0 i54 6 fun v56 => isK 13 v56 fun i57 => bn0 (f_J2_get i57 u43) fun v59 => isK 10 v59 fun i60 => gR 10 i60 1 fun v62 => asr (cmpN v62 ∧ cmpN (idc 8 i0)) <| cnd (v62 = (idc 8 i0)) (gR 8 i0 8 fun v64 => isK 0 v64 fun i65 => gR 0 i65 6 fun v67 => isK 13 v67 fun i68 => bn0 (f_J2_get i68 u43) fun v70 => isK 10 v70 fun i71 => bn0 (f_X11_end i71) fun v73 => r44 (u43 + (1 : Int32))) (r44 (u43 + (1 : Int32))))) (0 : Int32)))
theorem im_X9_end (n : Nat) {g : GP} {l : Launch} (hl : l.stackTraces = false) (i0 : Nat) : Im g l (10 + n) yX9_end cX9_end 3 (some .int) eI [.ref (idc 8 i0)] (f_X9_end n i0) := by
  induction n generalizing l i0 with
  | zero => exact fun A C Po X sz tz hok hpr => hpr.elim
  | succ n ih =>
    refine tx_start hl (10 + (n + 1)) _ _ _ _ (by decide) (Nat.le_of_ble_eq_true rfl) fun Γ Z hΓ hZ => ?_
    subst hΓ
    show TX g Γ _ Z _ 0 [(0, .ref (idc 8 i0))] [] (gI 8 i0 5 fun v1 => cnd (v1 = 0) (rt (0 : Int32)) (pZ 8 i0 5 (0 : Int32) <| gR 8 i0 8 fun v3 => gI 8 i0 0 fun v4 => isK 0 v3 fun i5 => bn0 (f_X1_write i5 (1 : Int32) v4) fun _ => gI 8 i0 0 fun v8 => bnd (lp (σ := Int32 × Int32) (ρ := Int32) (fun r11 => un2 fun u9 u10 => gR 8 i0 8 fun v14 => isK 0 v14 fun i15 => gR 0 i15 4 fun v17 => isK 13 v17 fun i18 => bn0 (f_J2_size i18) fun v20 => cnd (v20 ≤ u10) (rt u9) (gR 8 i0 8 fun v22 => isK 0 v22 fun i23 => gR 0 i23 4 fun v25 => isK 13 v25 fun i26 => bn0 (f_J2_get i26 u10) fun v28 => isK 8 v28 fun i29 => gR 8 i29 2 fun v31 => asr (cmpN v31 ∧ cmpN (idc 8 i0)) <| cnd (v31 = (idc 8 i0)) (gR 8 i0 8 fun v33 => isK 0 v33 fun i34 => gR 0 i34 4 fun v36 => isK 13 v36 fun i37 => bn0 (f_J2_get i37 u10) fun v39 => isK 8 v39 fun i40 => bn0 (f_X9_end n i40) fun v42 => r11 (u9 + v42, u10 + (1 : Int32))) (r11 (u9 + (0 : Int32), u10 + (1 : Int32))))) ((1 : Int32), v8 + (1 : Int32))) (fun u12 => lp (σ := Int32) (fun r44 => fun u43 => gR 8 i0 8 fun v45 => isK 0 v45 fun i46 => gR 0 i46 6 fun v48 => isK 13 v48 fun i49 => bn0 (f_J2_size i49) fun v51 => cnd (v51 ≤ u43) (rt u12) (gR 8 i0 8 fun v53 => isK 0 v53 fun i54 => gR 0 i54 6 fun v56 => isK 13 v56 fun i57 => bn0 (f_J2_get i57 u43) fun v59 => isK 10 v59 fun i60 => gR 10 i60 1 fun v62 => asr (cmpN v62 ∧ cmpN (idc 8 i0)) <| cnd (v62 = (idc 8 i0)) (gR 8 i0 8 fun v64 => isK 0 v64 fun i65 => gR 0 i65 6 fun v67 => isK 13 v67 fun i68 => bn0 (f_J2_get i68 u43) fun v70 => isK 10 v70 fun i71 => bn0 (f_X11_end i71) fun v73 => r44 (u43 + (1 : Int32))) (r44 (u43 + (1 : Int32))))) (0 : Int32))))
    refine x_aload_n 0 0 dX9_end_0 rfl ?_
    refine x_getI 1 fa_X9_25_8 dX9_end_1 fun v1 => ?_
    refine x_if_ne 4 9 dX9_end_4 rfl (fun c2 => ?_) (fun c2 => ?_)
    · refine x_iconst 7 0 (0 : Int32) dX9_end_7 rfl ?_
      exact x_iret 8 hZ rfl dX9_end_8
    · refine x_aload_n 9 0 dX9_end_9 rfl ?_
      refine x_iconst 10 0 (0 : Int32) dX9_end_10 rfl ?_
      refine x_putZ 11 fa_X9_25_8 rfl (Or.inl rfl) dX9_end_11 ?_
      refine x_aload_n 14 0 dX9_end_14 rfl ?_
      refine x_getR 15 fa_X9_3_8 dX9_end_15 fun v3 => ?_
      refine x_iconst 18 1 (1 : Int32) dX9_end_18 rfl ?_
      refine x_aload_n 19 0 dX9_end_19 rfl ?_
      refine x_getI 20 fa_X9_29_8 dX9_end_20 fun v4 => ?_
      refine x_isK fun i5 h6 => ?_
      subst h6
      refine x_cVn 23 7 [.int (1 : Int32), .int v4] [] ⟨by decide, rfl⟩ cv_X9_56 (im_X1_write hl i5 (1 : Int32) v4) ⟨by show _ + 1 ≤ 10 + (n + 1); omega, by decide⟩ rfl (Nat.le_of_ble_eq_true rfl) dX9_end_23 fun v7 => x_stV ?_
      refine x_iconst 26 1 (1 : Int32) dX9_end_26 rfl ?_
      refine x_istore_n 27 [(1, .int (1 : Int32)), (0, .ref (idc 8 i0))] dX9_end_27 (by first | decide | exact Nat.le_of_ble_eq_true rfl) rfl ?_
      refine x_aload_n 28 1 dX9_end_28 rfl ?_
      refine x_getI 29 fa_X9_29_8 dX9_end_29 fun v8 => ?_
      refine x_iconst 32 1 (1 : Int32) dX9_end_32 rfl ?_
      refine x_iadd 33 dX9_end_33 ?_
      refine x_istore_n 34 [(2, .int (v8 + (1 : Int32))), (1, .int (1 : Int32)), (0, .ref (idc 8 i0))] dX9_end_34 (by first | decide | exact Nat.le_of_ble_eq_true rfl) rfl ?_
      refine x_sub [2, 1, 0] [(0, .ref (idc 8 i0)), (1, .int (1 : Int32)), (2, .int (v8 + (1 : Int32)))] rfl ?_
      refine x_bndj 106 (fun u12 => [(0, .ref (idc 8 i0)), (1, .int u12)]) (fun u12 => []) (fun u12 => ?_) (fun hj13 => ?_)
      · show TX g Γ _ Z _ 106 [(0, .ref (idc 8 i0)), (1, .int u12)] [] _
        refine x_iconst 106 0 (0 : Int32) dX9_end_106 rfl ?_
        refine x_istore_n 107 [(2, .int (0 : Int32)), (0, .ref (idc 8 i0)), (1, .int u12)] dX9_end_107 (by first | decide | exact Nat.le_of_ble_eq_true rfl) rfl ?_
        refine x_sub [1, 2, 0] [(0, .ref (idc 8 i0)), (1, .int u12), (2, .int (0 : Int32))] rfl ?_
        refine x_lp (Lf := fun u43 => [(0, .ref (idc 8 i0)), (1, .int u12), (2, .int u43)]) (sf := fun _ => []) (fun r44 hr44 u43 => ?_) (0 : Int32)
        show TX g Γ _ Z _ 108 [(0, .ref (idc 8 i0)), (1, .int u12), (2, .int u43)] [] _
        refine x_iload_n 108 2 dX9_end_108 rfl ?_
        refine x_aload_n 109 0 dX9_end_109 rfl ?_
        refine x_getR 110 fa_X9_3_8 dX9_end_110 fun v45 => ?_
        refine x_isK fun i46 h47 => ?_
        subst h47
        refine x_getR 113 fa_X9_77_0 dX9_end_113 fun v48 => ?_
        refine x_isK fun i49 h50 => ?_
        subst h50
        refine x_cF 116 0 [] [.int u43] (by first | decide | exact Nat.le_of_ble_eq_true rfl) cf_X9_64_13 (im_J2_size hl i49) ⟨by show _ + 1 ≤ 10 + (n + 1); omega, by decide⟩ rfl (Nat.le_of_ble_eq_true rfl) dX9_end_116 fun v51 => x_stI ?_
        refine x_icmp_ge 121 173 dX9_end_121 rfl (fun c52 => ?_) (fun c52 => ?_)
        · refine x_iload_n 173 1 dX9_end_173 rfl ?_
          exact x_iret 174 hZ rfl dX9_end_174
        · refine x_aload_n 124 0 dX9_end_124 rfl ?_
          refine x_getR 125 fa_X9_3_8 dX9_end_125 fun v53 => ?_
          refine x_isK fun i54 h55 => ?_
          subst h55
          refine x_getR 128 fa_X9_77_0 dX9_end_128 fun v56 => ?_
          refine x_iload_n 131 2 dX9_end_131 rfl ?_
          refine x_isK fun i57 h58 => ?_
          subst h58
          refine x_cF 132 2 [.int u43] [] (by first | decide | exact Nat.le_of_ble_eq_true rfl) cf_X9_70_13 (im_J2_get hl i57 u43) ⟨by show _ + 1 ≤ 10 + (n + 1); omega, by decide⟩ rfl (Nat.le_of_ble_eq_true rfl) dX9_end_132 fun v59 => x_stR ?_
          refine x_isK fun i60 h61 => ?_
          subst h61
          refine x_castS 137 (by first | decide | exact Nat.le_of_ble_eq_true rfl) q1056 dX9_end_137 ?_
          refine x_getR 140 fa_X9_82_10 dX9_end_140 fun v62 => ?_
          refine x_aload_n 143 0 dX9_end_143 rfl ?_
          refine x_acmp_ne 144 167 dX9_end_144 rfl (fun c63 => ?_) (fun c63 => ?_)
          · refine x_aload_n 147 0 dX9_end_147 rfl ?_
            refine x_getR 148 fa_X9_3_8 dX9_end_148 fun v64 => ?_
            refine x_isK fun i65 h66 => ?_
            subst h66
            refine x_getR 151 fa_X9_77_0 dX9_end_151 fun v67 => ?_
            refine x_iload_n 154 2 dX9_end_154 rfl ?_
            refine x_isK fun i68 h69 => ?_
            subst h69
            refine x_cF 155 2 [.int u43] [] (by first | decide | exact Nat.le_of_ble_eq_true rfl) cf_X9_70_13 (im_J2_get hl i68 u43) ⟨by show _ + 1 ≤ 10 + (n + 1); omega, by decide⟩ rfl (Nat.le_of_ble_eq_true rfl) dX9_end_155 fun v70 => x_stR ?_
            refine x_isK fun i71 h72 => ?_
            subst h72
            refine x_castS 160 (by first | decide | exact Nat.le_of_ble_eq_true rfl) q1056 dX9_end_160 ?_
            refine x_cV 163 8 [] [] ⟨by decide, rfl⟩ cv_X9_85 (im_X11_end hl i71) ⟨by show _ + 1 ≤ 10 + (n + 1); omega, by decide⟩ rfl (Nat.le_of_ble_eq_true rfl) dX9_end_163 fun v73 => x_stI ?_
            refine x_pop 166 dX9_end_166 rfl ?_
            refine x_iinc 167 2 [(2, .int (u43 + (1 : Int32))), (0, .ref (idc 8 i0)), (1, .int u12)] dX9_end_167 rfl rfl (by first | decide | exact Nat.le_of_ble_eq_true rfl) rfl ?_
            refine x_goto 170 108 dX9_end_170 rfl ?_
            refine x_sub [1, 2, 0] _ rfl ?_
            exact hr44 (u43 + (1 : Int32))
          · refine x_iinc 167 2 [(2, .int (u43 + (1 : Int32))), (0, .ref (idc 8 i0)), (1, .int u12)] dX9_end_167 rfl rfl (by first | decide | exact Nat.le_of_ble_eq_true rfl) rfl ?_
            refine x_goto 170 108 dX9_end_170 rfl ?_
            refine x_sub [1, 2, 0] _ rfl ?_
            exact hr44 (u43 + (1 : Int32))
      · refine x_lp (Lf := fun u => [(0, .ref (idc 8 i0)), (1, .int u.1), (2, .int u.2)]) (sf := fun _ => []) (fun r11 hr11 u => ?_) ((1 : Int32), v8 + (1 : Int32))
        obtain ⟨u9, u10⟩ := u
        show TX g Γ _ Z _ 35 [(0, .ref (idc 8 i0)), (1, .int u9), (2, .int u10)] [] _
        refine x_un2 ?_
        refine x_iload_n 35 2 dX9_end_35 rfl ?_
        refine x_aload_n 36 0 dX9_end_36 rfl ?_
        refine x_getR 37 fa_X9_3_8 dX9_end_37 fun v14 => ?_
        refine x_isK fun i15 h16 => ?_
        subst h16
        refine x_getR 40 fa_X9_60_0 dX9_end_40 fun v17 => ?_
        refine x_isK fun i18 h19 => ?_
        subst h19
        refine x_cF 43 0 [] [.int u10] (by first | decide | exact Nat.le_of_ble_eq_true rfl) cf_X9_64_13 (im_J2_size hl i18) ⟨by show _ + 1 ≤ 10 + (n + 1); omega, by decide⟩ rfl (Nat.le_of_ble_eq_true rfl) dX9_end_43 fun v20 => x_stI ?_
        refine x_icmp_ge 48 106 dX9_end_48 rfl (fun c21 => ?_) (fun c21 => ?_)
        · refine x_sub [0, 1] _ rfl ?_
          exact hj13 u9
        · refine x_iload_n 51 1 dX9_end_51 rfl ?_
          refine x_aload_n 52 0 dX9_end_52 rfl ?_
          refine x_getR 53 fa_X9_3_8 dX9_end_53 fun v22 => ?_
          refine x_isK fun i23 h24 => ?_
          subst h24
          refine x_getR 56 fa_X9_60_0 dX9_end_56 fun v25 => ?_
          refine x_iload_n 59 2 dX9_end_59 rfl ?_
          refine x_isK fun i26 h27 => ?_
          subst h27
          refine x_cF 60 2 [.int u10] [.int u9] (by first | decide | exact Nat.le_of_ble_eq_true rfl) cf_X9_70_13 (im_J2_get hl i26 u10) ⟨by show _ + 1 ≤ 10 + (n + 1); omega, by decide⟩ rfl (Nat.le_of_ble_eq_true rfl) dX9_end_60 fun v28 => x_stR ?_
          refine x_isK fun i29 h30 => ?_
          subst h30
          refine x_castS 65 (by first | decide | exact Nat.le_of_ble_eq_true rfl) q1054 dX9_end_65 ?_
          refine x_getR 68 fa_X9_36_8 dX9_end_68 fun v31 => ?_
          refine x_aload_n 71 0 dX9_end_71 rfl ?_
          refine x_acmp_ne 72 97 dX9_end_72 rfl (fun c32 => ?_) (fun c32 => ?_)
          · refine x_aload_n 75 0 dX9_end_75 rfl ?_
            refine x_getR 76 fa_X9_3_8 dX9_end_76 fun v33 => ?_
            refine x_isK fun i34 h35 => ?_
            subst h35
            refine x_getR 79 fa_X9_60_0 dX9_end_79 fun v36 => ?_
            refine x_iload_n 82 2 dX9_end_82 rfl ?_
            refine x_isK fun i37 h38 => ?_
            subst h38
            refine x_cF 83 2 [.int u10] [.int u9] (by first | decide | exact Nat.le_of_ble_eq_true rfl) cf_X9_70_13 (im_J2_get hl i37 u10) ⟨by show _ + 1 ≤ 10 + (n + 1); omega, by decide⟩ rfl (Nat.le_of_ble_eq_true rfl) dX9_end_83 fun v39 => x_stR ?_
            refine x_isK fun i40 h41 => ?_
            subst h41
            refine x_castS 88 (by first | decide | exact Nat.le_of_ble_eq_true rfl) q1054 dX9_end_88 ?_
            refine x_cV 91 (10 + n) [] [.int u9] ⟨by decide, rfl⟩ cv_X9_74 (ih hl i40) ⟨Nat.le_refl _, by decide⟩ rfl (Nat.le_of_ble_eq_true rfl) dX9_end_91 fun v42 => x_stI ?_
            refine x_goto 94 98 dX9_end_94 rfl ?_
            refine x_iadd 98 dX9_end_98 ?_
            refine x_istore_n 99 [(1, .int (u9 + v42)), (0, .ref (idc 8 i0)), (2, .int u10)] dX9_end_99 (by first | decide | exact Nat.le_of_ble_eq_true rfl) rfl ?_
            refine x_iinc 100 2 [(2, .int (u10 + (1 : Int32))), (1, .int (u9 + v42)), (0, .ref (idc 8 i0))] dX9_end_100 rfl rfl (by first | decide | exact Nat.le_of_ble_eq_true rfl) rfl ?_
            refine x_goto 103 35 dX9_end_103 rfl ?_
            refine x_sub [2, 1, 0] _ rfl ?_
            exact hr11 (u9 + v42, u10 + (1 : Int32))
          · refine x_iconst 97 0 (0 : Int32) dX9_end_97 rfl ?_
            refine x_iadd 98 dX9_end_98 ?_
            refine x_istore_n 99 [(1, .int (u9 + (0 : Int32))), (0, .ref (idc 8 i0)), (2, .int u10)] dX9_end_99 (by first | decide | exact Nat.le_of_ble_eq_true rfl) rfl ?_
            refine x_iinc 100 2 [(2, .int (u10 + (1 : Int32))), (1, .int (u9 + (0 : Int32))), (0, .ref (idc 8 i0))] dX9_end_100 rfl rfl (by first | decide | exact Nat.le_of_ble_eq_true rfl) rfl ?_
            refine x_goto 103 35 dX9_end_103 rfl ?_
            refine x_sub [2, 1, 0] _ rfl ?_
            exact hr11 (u9 + (0 : Int32), u10 + (1 : Int32))
def f_X1_pass (i0 : Nat) (a1 : Int32) : PT Int32 := bnd (f_X1_fit a1 (1 : Int32) (600 : Int32)) fun _ => gI 0 i0 16 fun v2 => bnd (ρ := _) (α := Int32) (cnd ((30000 : Int32) < (v2 + a1)) (rt (0 : Int32)) (rt (1 : Int32))) (fun u3 => bnd (f_X1_can u3) fun _ => lp (σ := Int32 × Int32) (fun r7 => un2 fun u5 u6 => cnd (a1 ≤ u6) (rt u5) (gI 0 i0 16 fun v9 => pI 0 i0 16 (v9 + (1 : Int32)) <| bn0 (f_X1_turnKeys i0) fun _ => lp (σ := Int32 × Int32) (fun r13 => un2 fun u11 u12 => gR 0 i0 4 fun v14 => isK 13 v14 fun i15 => bn0 (f_J2_size i15) fun v17 => cnd (v17 ≤ u12) (r7 (u11, u6 + (1 : Int32))) (gR 0 i0 4 fun v19 => isK 13 v19 fun i20 => bn0 (f_J2_get i20 u12) fun v22 => isK 8 v22 fun i23 => bn0 (f_X9_isOut i23) fun v25 => cnd (v25 = 0) (r13 (u11 + (0 : Int32), u12 + (1 : Int32))) (gR 0 i0 4 fun v27 => isK 13 v27 fun i28 => bn0 (f_J2_get i28 u12) fun v30 => isK 8 v30 fun i31 => bn0 (f_X9_end 30 i31) fun v33 => r13 (u11 + v33, u12 + (1 : Int32))))) (u5, (0 : Int32)))) ((0 : Int32), (0 : Int32)))
theorem im_X1_pass {g : GP} {l : Launch} (hl : l.stackTraces = false) (i0 : Nat) (a1 : Int32) : Im g l 41 yX1_pass cX1_pass 5 (some .int) eI [.ref (idc 0 i0), .int a1] (f_X1_pass i0 a1) := by
  refine tx_start hl 41 _ _ _ _ (by decide) (Nat.le_of_ble_eq_true rfl) fun Γ Z hΓ hZ => ?_
  subst hΓ
  unfold f_X1_pass
  show TX g Γ _ Z _ 0 [(0, .ref (idc 0 i0)), (1, .int a1)] [] _
  refine x_iload_n 0 1 dX1_pass_0 rfl ?_
  refine x_iconst 1 1 (1 : Int32) dX1_pass_1 rfl ?_
  refine x_sipush 2 600 (600 : Int32) dX1_pass_2 rfl ?_
  refine x_cSx 5 6 [.int a1, .int (1 : Int32), .int (600 : Int32)] [] rfl cs_X1_149 (im_X1_fit hl a1 (1 : Int32) (600 : Int32)) (by decide) rfl (Nat.le_of_ble_eq_true rfl) dX1_pass_5 fun v1 => x_stV ?_
  refine x_aload_n 8 0 dX1_pass_8 rfl ?_
  refine x_getI 9 fa_X1_44_0 dX1_pass_9 fun v2 => ?_
  refine x_iload_n 12 1 dX1_pass_12 rfl ?_
  refine x_iadd 13 dX1_pass_13 ?_
  refine x_sipush 14 30000 (30000 : Int32) dX1_pass_14 rfl ?_
  refine x_bndj 25 (fun u3 => [(0, .ref (idc 0 i0)), (1, .int a1)]) (fun u3 => [.int u3]) (fun u3 => ?_) (fun hj34 => ?_)
  · show TX g Γ _ Z _ 25 [(0, .ref (idc 0 i0)), (1, .int a1)] [.int u3] _
    refine x_cSx 25 6 [.int u3] [] rfl cs_X1_176 (im_X1_can hl u3) (by decide) rfl (Nat.le_of_ble_eq_true rfl) dX1_pass_25 fun v4 => x_stV ?_
    refine x_iconst 28 0 (0 : Int32) dX1_pass_28 rfl ?_
    refine x_istore_n 29 [(2, .int (0 : Int32)), (0, .ref (idc 0 i0)), (1, .int a1)] dX1_pass_29 (by decide) rfl ?_
    refine x_iconst 30 0 (0 : Int32) dX1_pass_30 rfl ?_
    refine x_istore_n 31 [(3, .int (0 : Int32)), (2, .int (0 : Int32)), (0, .ref (idc 0 i0)), (1, .int a1)] dX1_pass_31 (by decide) rfl ?_
    refine x_sub [2, 3, 1, 0] [(0, .ref (idc 0 i0)), (1, .int a1), (2, .int (0 : Int32)), (3, .int (0 : Int32))] rfl ?_
    refine x_lp (Lf := fun u => [(0, .ref (idc 0 i0)), (1, .int a1), (2, .int u.1), (3, .int u.2)]) (sf := fun _ => []) (fun r7 hr7 u => ?_) ((0 : Int32), (0 : Int32))
    obtain ⟨u5, u6⟩ := u
    show TX g Γ _ Z _ 32 [(0, .ref (idc 0 i0)), (1, .int a1), (2, .int u5), (3, .int u6)] [] _
    refine x_un2 ?_
    refine x_iload_n 32 3 dX1_pass_32 rfl ?_
    refine x_iload_n 33 1 dX1_pass_33 rfl ?_
    refine x_icmp_ge 34 124 dX1_pass_34 rfl (fun c8 => ?_) (fun c8 => ?_)
    · refine x_iload_n 124 2 dX1_pass_124 rfl ?_
      exact x_iret 125 hZ rfl dX1_pass_125
    · refine x_aload_n 37 0 dX1_pass_37 rfl ?_
      refine x_dup 38 dX1_pass_38 rfl ?_
      refine x_getI 39 fa_X1_44_0 dX1_pass_39 fun v9 => ?_
      refine x_iconst 42 1 (1 : Int32) dX1_pass_42 rfl ?_
      refine x_iadd 43 dX1_pass_43 ?_
      refine x_putI 44 fa_X1_44_0 rfl (Or.inl rfl) dX1_pass_44 ?_
      refine x_aload_n 47 0 dX1_pass_47 rfl ?_
      refine x_cV 48 9 [] [] ⟨by decide, rfl⟩ cv_X1_180 (im_X1_turnKeys hl i0) (by decide) rfl (Nat.le_of_ble_eq_true rfl) dX1_pass_48 fun v10 => x_stV ?_
      refine x_iconst 51 0 (0 : Int32) dX1_pass_51 rfl ?_
      refine x_istore 52 [(4, .int (0 : Int32)), (0, .ref (idc 0 i0)), (1, .int a1), (2, .int u5), (3, .int u6)] dX1_pass_52 (by decide) rfl ?_
      refine x_sub [1, 2, 3, 4, 0] [(0, .ref (idc 0 i0)), (1, .int a1), (2, .int u5), (3, .int u6), (4, .int (0 : Int32))] rfl ?_
      refine x_lp (Lf := fun u => [(0, .ref (idc 0 i0)), (1, .int a1), (2, .int u.1), (3, .int u6), (4, .int u.2)]) (sf := fun _ => []) (fun r13 hr13 u => ?_) (u5, (0 : Int32))
      obtain ⟨u11, u12⟩ := u
      show TX g Γ _ Z _ 54 [(0, .ref (idc 0 i0)), (1, .int a1), (2, .int u11), (3, .int u6), (4, .int u12)] [] _
      refine x_un2 ?_
      refine x_iload 54 4 dX1_pass_54 rfl ?_
      refine x_aload_n 56 0 dX1_pass_56 rfl ?_
      refine x_getR 57 fa_X1_5_0 dX1_pass_57 fun v14 => ?_
      refine x_isK fun i15 h16 => ?_
      subst h16
      refine x_cF 60 0 [] [.int u12] (by decide) cf_X1_9_13 (im_J2_size hl i15) (by decide) rfl (Nat.le_of_ble_eq_true rfl) dX1_pass_60 fun v17 => x_stI ?_
      refine x_icmp_ge 65 118 dX1_pass_65 rfl (fun c18 => ?_) (fun c18 => ?_)
      · refine x_iinc 118 3 [(3, .int (u6 + (1 : Int32))), (0, .ref (idc 0 i0)), (1, .int a1), (2, .int u11), (4, .int u12)] dX1_pass_118 rfl rfl (by decide) rfl ?_
        refine x_goto 121 32 dX1_pass_121 rfl ?_
        refine x_sub [1, 2, 3, 0] _ rfl ?_
        exact hr7 (u11, u6 + (1 : Int32))
      · refine x_iload_n 68 2 dX1_pass_68 rfl ?_
        refine x_aload_n 69 0 dX1_pass_69 rfl ?_
        refine x_getR 70 fa_X1_5_0 dX1_pass_70 fun v19 => ?_
        refine x_iload 73 4 dX1_pass_73 rfl ?_
        refine x_isK fun i20 h21 => ?_
        subst h21
        refine x_cF 75 2 [.int u12] [.int u11] (by decide) cf_X1_31_13 (im_J2_get hl i20 u12) (by decide) rfl (Nat.le_of_ble_eq_true rfl) dX1_pass_75 fun v22 => x_stR ?_
        refine x_isK fun i23 h24 => ?_
        subst h24
        refine x_castS 80 (by decide) q1040 dX1_pass_80 ?_
        refine x_cV 83 0 [] [.int u11] ⟨by decide, rfl⟩ cv_X1_183 (im_X9_isOut hl i23) (by decide) rfl (Nat.le_of_ble_eq_true rfl) dX1_pass_83 fun v25 => x_stI ?_
        refine x_if_eq 86 109 dX1_pass_86 rfl (fun c26 => ?_) (fun c26 => ?_)
        · refine x_iconst 109 0 (0 : Int32) dX1_pass_109 rfl ?_
          refine x_iadd 110 dX1_pass_110 ?_
          refine x_istore_n 111 [(2, .int (u11 + (0 : Int32))), (0, .ref (idc 0 i0)), (1, .int a1), (3, .int u6), (4, .int u12)] dX1_pass_111 (by decide) rfl ?_
          refine x_iinc 112 4 [(4, .int (u12 + (1 : Int32))), (2, .int (u11 + (0 : Int32))), (0, .ref (idc 0 i0)), (1, .int a1), (3, .int u6)] dX1_pass_112 rfl rfl (by decide) rfl ?_
          refine x_goto 115 54 dX1_pass_115 rfl ?_
          refine x_sub [2, 3, 1, 4, 0] _ rfl ?_
          exact hr13 (u11 + (0 : Int32), u12 + (1 : Int32))
        · refine x_aload_n 89 0 dX1_pass_89 rfl ?_
          refine x_getR 90 fa_X1_5_0 dX1_pass_90 fun v27 => ?_
          refine x_iload 93 4 dX1_pass_93 rfl ?_
          refine x_isK fun i28 h29 => ?_
          subst h29
          refine x_cF 95 2 [.int u12] [.int u11] (by decide) cf_X1_31_13 (im_J2_get hl i28 u12) (by decide) rfl (Nat.le_of_ble_eq_true rfl) dX1_pass_95 fun v30 => x_stR ?_
          refine x_isK fun i31 h32 => ?_
          subst h32
          refine x_castS 100 (by decide) q1040 dX1_pass_100 ?_
          refine x_cV 103 40 [] [.int u11] ⟨by decide, rfl⟩ cv_X1_39 (im_X9_end 30 hl i31) (by decide) rfl (Nat.le_of_ble_eq_true rfl) dX1_pass_103 fun v33 => x_stI ?_
          refine x_goto 106 110 dX1_pass_106 rfl ?_
          refine x_iadd 110 dX1_pass_110 ?_
          refine x_istore_n 111 [(2, .int (u11 + v33)), (0, .ref (idc 0 i0)), (1, .int a1), (3, .int u6), (4, .int u12)] dX1_pass_111 (by decide) rfl ?_
          refine x_iinc 112 4 [(4, .int (u12 + (1 : Int32))), (2, .int (u11 + v33)), (0, .ref (idc 0 i0)), (1, .int a1), (3, .int u6)] dX1_pass_112 rfl rfl (by decide) rfl ?_
          refine x_goto 115 54 dX1_pass_115 rfl ?_
          refine x_sub [2, 3, 1, 4, 0] _ rfl ?_
          exact hr13 (u11 + v33, u12 + (1 : Int32))
  · refine x_icmp_gt 17 24 dX1_pass_17 rfl (fun c35 => ?_) (fun c35 => ?_)
    · refine x_iconst 24 0 (0 : Int32) dX1_pass_24 rfl ?_
      exact hj34 (0 : Int32)
    · refine x_iconst 20 1 (1 : Int32) dX1_pass_20 rfl ?_
      refine x_goto 21 25 dX1_pass_21 rfl ?_
      exact hj34 (1 : Int32)
def f_X1_there (a1 : Int32) (a2 : Int32) : PT Unit := cnd (a1 < 0) (thr "java/lang/IndexOutOfBoundsException") (cnd (a1 < a2) (rt ()) (thr "java/lang/IndexOutOfBoundsException"))
theorem im_X1_there {g : GP} {l : Launch} (hl : l.stackTraces = false) (a1 : Int32) (a2 : Int32) : Im g l 6 yX1_there cX1_there 2 none eV [.int a1, .int a2] (f_X1_there a1 a2) := by
  refine tx_start hl 6 _ _ _ _ (by decide) (Nat.le_of_ble_eq_true rfl) fun Γ Z hΓ hZ => ?_
  subst hΓ
  unfold f_X1_there
  show TX g Γ _ Z _ 0 [(0, .int a1), (1, .int a2)] [] _
  refine x_iload_n 0 0 dX1_there_0 rfl ?_
  refine x_if_lt 1 9 dX1_there_1 rfl (fun c1 => ?_) (fun c1 => ?_)
  · exact x_thr 9 rfl ta_X1_152 dX1_there_9 dX1_there_12 dX1_there_13 dX1_there_16 (by decide) (Nat.le_of_ble_eq_true rfl)
  · refine x_iload_n 4 0 dX1_there_4 rfl ?_
    refine x_iload_n 5 1 dX1_there_5 rfl ?_
    refine x_icmp_lt 6 17 dX1_there_6 rfl (fun c2 => ?_) (fun c2 => ?_)
    · exact x_vret 17 hZ rfl dX1_there_17
    · exact x_thr 9 rfl ta_X1_152 dX1_there_9 dX1_there_12 dX1_there_13 dX1_there_16 (by decide) (Nat.le_of_ble_eq_true rfl)
def f_X1_personAt (i0 : Nat) (a1 : Int32) : PT Nat := bnd (f_X1_there a1 (6 : Int32)) fun _ => gR 0 i0 0 fun v2 => isK 36 v2 fun i3 => aR 36 i3 a1 fun v5 => rt v5
theorem im_X1_personAt {g : GP} {l : Launch} (hl : l.stackTraces = false) (i0 : Nat) (a1 : Int32) : Im g l 7 yX1_personAt cX1_personAt 2 (some (.object "KeyringCourt$Person")) eR [.ref (idc 0 i0), .int a1] (f_X1_personAt i0 a1) := by
  refine tx_start hl 7 _ _ _ _ (by decide) (Nat.le_of_ble_eq_true rfl) fun Γ Z hΓ hZ => ?_
  subst hΓ
  unfold f_X1_personAt
  show TX g Γ _ Z _ 0 [(0, .ref (idc 0 i0)), (1, .int a1)] [] _
  refine x_iload_n 0 1 dX1_personAt_0 rfl ?_
  refine x_bipush 1 6 (6 : Int32) dX1_personAt_1 rfl ?_
  refine x_cSx 3 6 [.int a1, .int (6 : Int32)] [] rfl cs_X1_158 (im_X1_there hl a1 (6 : Int32)) (by decide) rfl (Nat.le_of_ble_eq_true rfl) dX1_personAt_3 fun v1 => x_stV ?_
  refine x_aload_n 6 0 dX1_personAt_6 rfl ?_
  refine x_getR 7 fa_X1_67_0 dX1_personAt_7 fun v2 => ?_
  refine x_iload_n 10 1 dX1_personAt_10 rfl ?_
  refine x_isK fun i3 h4 => ?_
  subst h4
  refine x_aald 11 (by decide) dX1_personAt_11 fun v5 => ?_
  exact x_aret 12 hZ (Or.inl ⟨_, rfl⟩) dX1_personAt_12
def f_X1_fitFactor (a1 : Int32) : PT Unit := bnd (f_X1_fit a1 (0 : Int32) (2 : Int32)) fun _ => rt ()
theorem im_X1_fitFactor {g : GP} {l : Launch} (hl : l.stackTraces = false) (a1 : Int32) : Im g l 7 yX1_fitFactor cX1_fitFactor 1 none eV [.int a1] (f_X1_fitFactor a1) := by
  refine tx_start hl 7 _ _ _ _ (by decide) (Nat.le_of_ble_eq_true rfl) fun Γ Z hΓ hZ => ?_
  subst hΓ
  unfold f_X1_fitFactor
  show TX g Γ _ Z _ 0 [(0, .int a1)] [] _
  refine x_iload_n 0 0 dX1_fitFactor_0 rfl ?_
  refine x_iconst 1 0 (0 : Int32) dX1_fitFactor_1 rfl ?_
  refine x_iconst 2 2 (2 : Int32) dX1_fitFactor_2 rfl ?_
  refine x_cSx 3 6 [.int a1, .int (0 : Int32), .int (2 : Int32)] [] rfl cs_X1_149 (im_X1_fit hl a1 (0 : Int32) (2 : Int32)) (by decide) rfl (Nat.le_of_ble_eq_true rfl) dX1_fitFactor_3 fun v1 => x_stV ?_
  exact x_vret 6 hZ rfl dX1_fitFactor_6
def f_X3_enroll (i0 : Nat) (a1 : Int32) : PT Int32 := gR 2 i0 1 fun v1 => isK 32 v1 fun i2 => aI 32 i2 a1 fun v4 => gR 2 i0 1 fun v5 => isK 32 v5 fun i6 => bI 32 i6 a1 (1 : Int32) <| gR 2 i0 2 fun v8 => isK 32 v8 fun i9 => bI 32 i9 a1 (0 : Int32) <| bnd (ρ := _) (α := Int32) (cnd (a1 = (2 : Int32)) (rt (0 : Int32)) (gI 2 i0 3 fun v14 => rt v14)) (fun u11 => pI 2 i0 3 u11 <| rt v4)
theorem im_X3_enroll {g : GP} {l : Launch} (hl : l.stackTraces = false) (i0 : Nat) (a1 : Int32) : Im g l 0 yX3_enroll cX3_enroll 3 (some .int) eI [.ref (idc 2 i0), .int a1] (f_X3_enroll i0 a1) := by
  refine tx_start hl 0 _ _ _ _ (by decide) (Nat.le_of_ble_eq_true rfl) fun Γ Z hΓ hZ => ?_
  subst hΓ
  unfold f_X3_enroll
  show TX g Γ _ Z _ 0 [(0, .ref (idc 2 i0)), (1, .int a1)] [] _
  refine x_aload_n 0 0 dX3_enroll_0 rfl ?_
  refine x_getR 1 fa_X3_15_2 dX3_enroll_1 fun v1 => ?_
  refine x_iload_n 4 1 dX3_enroll_4 rfl ?_
  refine x_isK fun i2 h3 => ?_
  subst h3
  refine x_iald 5 dX3_enroll_5 fun v4 => ?_
  refine x_istore_n 6 [(2, .int v4), (0, .ref (idc 2 i0)), (1, .int a1)] dX3_enroll_6 (by decide) rfl ?_
  refine x_aload_n 7 1 dX3_enroll_7 rfl ?_
  refine x_getR 8 fa_X3_15_2 dX3_enroll_8 fun v5 => ?_
  refine x_iload_n 11 2 dX3_enroll_11 rfl ?_
  refine x_iconst 12 1 (1 : Int32) dX3_enroll_12 rfl ?_
  refine x_isK fun i6 h7 => ?_
  subst h7
  refine x_iast 13 dX3_enroll_13 ?_
  refine x_aload_n 14 1 dX3_enroll_14 rfl ?_
  refine x_getR 15 fa_X3_19_2 dX3_enroll_15 fun v8 => ?_
  refine x_iload_n 18 2 dX3_enroll_18 rfl ?_
  refine x_iconst 19 0 (0 : Int32) dX3_enroll_19 rfl ?_
  refine x_isK fun i9 h10 => ?_
  subst h10
  refine x_iast 20 dX3_enroll_20 ?_
  refine x_aload_n 21 1 dX3_enroll_21 rfl ?_
  refine x_iload_n 22 2 dX3_enroll_22 rfl ?_
  refine x_iconst 23 2 (2 : Int32) dX3_enroll_23 rfl ?_
  refine x_bndj 35 (fun u11 => [(2, .int v4)]) (fun u11 => [.int u11, .ref (idc 2 i0)]) (fun u11 => ?_) (fun hj12 => ?_)
  · show TX g Γ _ Z _ 35 [(2, .int v4)] [.int u11, .ref (idc 2 i0)] _
    refine x_putI 35 fa_X3_46_2 rfl (Or.inl rfl) dX3_enroll_35 ?_
    refine x_iload_n 38 0 dX3_enroll_38 rfl ?_
    exact x_iret 39 hZ rfl dX3_enroll_39
  · refine x_icmp_ne 24 31 dX3_enroll_24 rfl (fun c13 => ?_) (fun c13 => ?_)
    · refine x_iconst 27 0 (0 : Int32) dX3_enroll_27 rfl ?_
      refine x_goto 28 35 dX3_enroll_28 rfl ?_
      refine x_sub [0] _ rfl ?_
      exact hj12 (0 : Int32)
    · refine x_aload_n 31 1 dX3_enroll_31 rfl ?_
      refine x_getI 32 fa_X3_46_2 dX3_enroll_32 fun v14 => ?_
      refine x_sub [0] _ rfl ?_
      exact hj12 v14
def f_X1_enroll (i0 : Nat) (a1 : Int32) (a2 : Int32) : PT Int32 := bnd (f_X1_personAt i0 a1) fun v1 => bnd (f_X1_fitFactor a2) fun _ => isK 2 v1 fun i3 => bn0 (f_X3_enroll i3 a2) fun v5 => rt v5
theorem im_X1_enroll {g : GP} {l : Launch} (hl : l.stackTraces = false) (i0 : Nat) (a1 : Int32) (a2 : Int32) : Im g l 8 yX1_enroll cX1_enroll 4 (some .int) eI [.ref (idc 0 i0), .int a1, .int a2] (f_X1_enroll i0 a1 a2) := by
  refine tx_start hl 8 _ _ _ _ (by decide) (Nat.le_of_ble_eq_true rfl) fun Γ Z hΓ hZ => ?_
  subst hΓ
  unfold f_X1_enroll
  show TX g Γ _ Z _ 0 [(0, .ref (idc 0 i0)), (1, .int a1), (2, .int a2)] [] _
  refine x_aload_n 0 0 dX1_enroll_0 rfl ?_
  refine x_iload_n 1 1 dX1_enroll_1 rfl ?_
  refine x_cVx 2 7 [.int a1] [] ⟨by decide, rfl⟩ rfl cv_X1_187 (im_X1_personAt hl i0 a1) (by decide) rfl (Nat.le_of_ble_eq_true rfl) dX1_enroll_2 fun v1 => x_stR ?_
  refine x_astore_n 5 [(3, .ref v1), (0, .ref (idc 0 i0)), (1, .int a1), (2, .int a2)] dX1_enroll_5 (by decide) rfl ?_
  refine x_iload_n 6 3 dX1_enroll_6 rfl ?_
  refine x_cSx 7 7 [.int a2] [] rfl cs_X1_191 (im_X1_fitFactor hl a2) (by decide) rfl (Nat.le_of_ble_eq_true rfl) dX1_enroll_7 fun v2 => x_stV ?_
  refine x_aload_n 10 0 dX1_enroll_10 rfl ?_
  refine x_iload_n 11 3 dX1_enroll_11 rfl ?_
  refine x_isK fun i3 h4 => ?_
  subst h4
  refine x_cV 12 0 [.int a2] [] ⟨by decide, rfl⟩ cv_X1_194 (im_X3_enroll hl i3 a2) (by decide) rfl (Nat.le_of_ble_eq_true rfl) dX1_enroll_12 fun v5 => x_stI ?_
  exact x_iret 15 hZ rfl dX1_enroll_15
def f_X1_factor (i0 : Nat) (a1 : Int32) (a2 : Int32) : PT Int32 := bnd (f_X1_personAt i0 a1) fun v1 => bnd (f_X1_fitFactor a2) fun _ => isK 2 v1 fun i3 => gR 2 i3 1 fun v5 => isK 32 v5 fun i6 => aI 32 i6 a2 fun v8 => rt v8
theorem im_X1_factor {g : GP} {l : Launch} (hl : l.stackTraces = false) (i0 : Nat) (a1 : Int32) (a2 : Int32) : Im g l 8 yX1_factor cX1_factor 4 (some .int) eI [.ref (idc 0 i0), .int a1, .int a2] (f_X1_factor i0 a1 a2) := by
  refine tx_start hl 8 _ _ _ _ (by decide) (Nat.le_of_ble_eq_true rfl) fun Γ Z hΓ hZ => ?_
  subst hΓ
  unfold f_X1_factor
  show TX g Γ _ Z _ 0 [(0, .ref (idc 0 i0)), (1, .int a1), (2, .int a2)] [] _
  refine x_aload_n 0 0 dX1_factor_0 rfl ?_
  refine x_iload_n 1 1 dX1_factor_1 rfl ?_
  refine x_cVx 2 7 [.int a1] [] ⟨by decide, rfl⟩ rfl cv_X1_187 (im_X1_personAt hl i0 a1) (by decide) rfl (Nat.le_of_ble_eq_true rfl) dX1_factor_2 fun v1 => x_stR ?_
  refine x_astore_n 5 [(3, .ref v1), (0, .ref (idc 0 i0)), (1, .int a1), (2, .int a2)] dX1_factor_5 (by decide) rfl ?_
  refine x_iload_n 6 3 dX1_factor_6 rfl ?_
  refine x_cSx 7 7 [.int a2] [] rfl cs_X1_191 (im_X1_fitFactor hl a2) (by decide) rfl (Nat.le_of_ble_eq_true rfl) dX1_factor_7 fun v2 => x_stV ?_
  refine x_aload_n 10 0 dX1_factor_10 rfl ?_
  refine x_isK fun i3 h4 => ?_
  subst h4
  refine x_getR 11 fa_X1_197_2 dX1_factor_11 fun v5 => ?_
  refine x_iload_n 14 3 dX1_factor_14 rfl ?_
  refine x_isK fun i6 h7 => ?_
  subst h7
  refine x_iald 15 dX1_factor_15 fun v8 => ?_
  exact x_iret 16 hZ rfl dX1_factor_16
def f_X1_mostFor (a1 : Int32) : PT Int32 := cnd (a1 = (0 : Int32)) (rt (2 : Int32)) (cnd (a1 = (1 : Int32)) (rt (0 : Int32)) (cnd (a1 = (2 : Int32)) (rt (20 : Int32)) (cnd (a1 = (3 : Int32)) (rt (2 : Int32)) (cnd (a1 = (4 : Int32)) (rt (6 : Int32)) (rt (0 : Int32))))))
theorem im_X1_mostFor {g : GP} {l : Launch} (hl : l.stackTraces = false) (a1 : Int32) : Im g l 0 yX1_mostFor cX1_mostFor 1 (some .int) eI [.int a1] (f_X1_mostFor a1) := by
  refine tx_start hl 0 _ _ _ _ (by decide) (Nat.le_of_ble_eq_true rfl) fun Γ Z hΓ hZ => ?_
  subst hΓ
  unfold f_X1_mostFor
  show TX g Γ _ Z _ 0 [(0, .int a1)] [] _
  refine x_iload_n 0 0 dX1_mostFor_0 rfl ?_
  refine x_cnd (fun c1 => ?_) (fun c1 => ?_)
  · refine x_tsw 1 36 (0 : Int32) 0 35 c1 rfl dX1_mostFor_1 (by decide) (by decide) rfl rfl ?_
    refine x_iconst 36 2 (2 : Int32) dX1_mostFor_36 rfl ?_
    exact x_iret 37 hZ rfl dX1_mostFor_37
  · refine x_cnd (fun c2 => ?_) (fun c2 => ?_)
    · refine x_tsw 1 44 (1 : Int32) 1 43 c2 rfl dX1_mostFor_1 (by decide) (by decide) rfl rfl ?_
      refine x_iconst 44 0 (0 : Int32) dX1_mostFor_44 rfl ?_
      exact x_iret 45 hZ rfl dX1_mostFor_45
    · refine x_cnd (fun c3 => ?_) (fun c3 => ?_)
      · refine x_tsw 1 38 (2 : Int32) 2 37 c3 rfl dX1_mostFor_1 (by decide) (by decide) rfl rfl ?_
        refine x_bipush 38 20 (20 : Int32) dX1_mostFor_38 rfl ?_
        exact x_iret 40 hZ rfl dX1_mostFor_40
      · refine x_cnd (fun c4 => ?_) (fun c4 => ?_)
        · refine x_tsw 1 36 (3 : Int32) 3 35 c4 rfl dX1_mostFor_1 (by decide) (by decide) rfl rfl ?_
          refine x_iconst 36 2 (2 : Int32) dX1_mostFor_36 rfl ?_
          exact x_iret 37 hZ rfl dX1_mostFor_37
        · refine x_cnd (fun c5 => ?_) (fun c5 => ?_)
          · refine x_tsw 1 41 (4 : Int32) 4 40 c5 rfl dX1_mostFor_1 (by decide) (by decide) rfl rfl ?_
            refine x_bipush 41 6 (6 : Int32) dX1_mostFor_41 rfl ?_
            exact x_iret 43 hZ rfl dX1_mostFor_43
          · refine x_tswD 1 44 dX1_mostFor_1 (sw_out fun n hn => ?_) rfl ?_
            · have hn : n < 5 := by omega
              match n, hn with
              | 0, _ => exact i32_ne c1 rfl
              | 1, _ => exact i32_ne c2 rfl
              | 2, _ => exact i32_ne c3 rfl
              | 3, _ => exact i32_ne c4 rfl
              | 4, _ => exact i32_ne c5 rfl
            · refine x_iconst 44 0 (0 : Int32) dX1_mostFor_44 rfl ?_
              exact x_iret 45 hZ rfl dX1_mostFor_45
def f_X7_init (i0 : Nat) (a1 : Int32) (a2 : Int32) (a3 : Int32) (a4 : Int32) (a5 : Int32) : PT Unit := pI 6 i0 0 a1 <| pI 6 i0 1 a2 <| pI 6 i0 2 a3 <| pI 6 i0 3 a4 <| pI 6 i0 4 a5 <| rt ()
theorem im_X7_init {g : GP} {l : Launch} (hl : l.stackTraces = false) (i0 : Nat) (a1 : Int32) (a2 : Int32) (a3 : Int32) (a4 : Int32) (a5 : Int32) : Im g l 1 yX7_init cX7_init 6 none eV [.ref (idc 6 i0), .int a1, .int a2, .int a3, .int a4, .int a5] (f_X7_init i0 a1 a2 a3 a4 a5) := by
  refine tx_start hl 1 _ _ _ _ (by decide) (Nat.le_of_ble_eq_true rfl) fun Γ Z hΓ hZ => ?_
  subst hΓ
  unfold f_X7_init
  show TX g Γ _ Z _ 0 [(0, .ref (idc 6 i0)), (1, .int a1), (2, .int a2), (3, .int a3), (4, .int a4), (5, .int a5)] [] _
  refine x_aload_n 0 0 dX7_init_0 rfl ?_
  refine x_objI 1 (by decide) q1143 q128 q129 dX7_init_1 (Nat.le_of_ble_eq_true rfl) (by decide) ?_
  refine x_aload_n 4 0 dX7_init_4 rfl ?_
  refine x_iload_n 5 1 dX7_init_5 rfl ?_
  refine x_putI 6 fa_X7_9_6 rfl (Or.inr ⟨rfl, rfl, rfl⟩) dX7_init_6 ?_
  refine x_aload_n 9 0 dX7_init_9 rfl ?_
  refine x_iload_n 10 2 dX7_init_10 rfl ?_
  refine x_putI 11 fa_X7_15_6 rfl (Or.inr ⟨rfl, rfl, rfl⟩) dX7_init_11 ?_
  refine x_aload_n 14 0 dX7_init_14 rfl ?_
  refine x_iload_n 15 3 dX7_init_15 rfl ?_
  refine x_putI 16 fa_X7_18_6 rfl (Or.inr ⟨rfl, rfl, rfl⟩) dX7_init_16 ?_
  refine x_aload_n 19 0 dX7_init_19 rfl ?_
  refine x_iload 20 4 dX7_init_20 rfl ?_
  refine x_putI 22 fa_X7_21_6 rfl (Or.inr ⟨rfl, rfl, rfl⟩) dX7_init_22 ?_
  refine x_aload_n 25 0 dX7_init_25 rfl ?_
  refine x_iload 26 5 dX7_init_26 rfl ?_
  refine x_putI 28 fa_X7_24_6 rfl (Or.inr ⟨rfl, rfl, rfl⟩) dX7_init_28 ?_
  exact x_vret 31 hZ rfl dX7_init_31
def f_X1_step (i0 : Nat) (a1 : Int32) (a2 : Int32) (a3 : Int32) (a4 : Int32) (a5 : Int32) : PT Int32 := bnd (f_X1_fit a1 (0 : Int32) (6 : Int32)) fun _ => bn0 (f_X1_mostFor a1) fun v2 => bnd (f_X1_fit a2 (0 : Int32) v2) fun _ => bnd (ρ := _) (α := Int32) (cnd (a1 = 0) (rt (1 : Int32)) (rt (0 : Int32))) (fun u4 => bnd (ρ := _) (α := Int32) (cnd (a1 = 0) (rt (3 : Int32)) (rt (0 : Int32))) (fun u5 => bnd (f_X1_fit a3 u4 u5) fun _ => bnd (ρ := _) (α := Unit) (cnd ((5 : Int32) ≤ a1) (rt ()) (bnd (f_X1_fit a4 (-1 : Int32) (11 : Int32)) fun _ => bnd (f_X1_fit a5 (-1 : Int32) (11 : Int32)) fun _ => rt ())) (fun _ => gR 0 i0 1 fun v7 => isK 1 v7 fun i8 => gR 1 i8 0 fun v10 => isK 13 v10 fun i11 => bn0 (f_J2_size i11) fun v13 => bnd (ρ := _) (α := Int32) (cnd ((12 : Int32) ≤ v13) (rt (0 : Int32)) (rt (1 : Int32))) (fun u14 => bnd (f_X1_can u14) fun _ => gR 0 i0 1 fun v16 => isK 1 v16 fun i17 => gR 1 i17 0 fun v19 => nw 6 5 fun i20 => bn0 (f_X7_init i20 a1 a2 a3 a4 a5) fun _ => isK 13 v19 fun i22 => bn0 (f_J2_add i22 (idc 6 i20)) fun v24 => gR 0 i0 1 fun v25 => isK 1 v25 fun i26 => gR 1 i26 0 fun v28 => isK 13 v28 fun i29 => bn0 (f_J2_size i29) fun v31 => rt (v31 - (1 : Int32))))))
theorem im_X1_step {g : GP} {l : Launch} (hl : l.stackTraces = false) (i0 : Nat) (a1 : Int32) (a2 : Int32) (a3 : Int32) (a4 : Int32) (a5 : Int32) : Im g l 7 yX1_step cX1_step 6 (some .int) eI [.ref (idc 0 i0), .int a1, .int a2, .int a3, .int a4, .int a5] (f_X1_step i0 a1 a2 a3 a4 a5) := by
  refine tx_start hl 7 _ _ _ _ (by decide) (Nat.le_of_ble_eq_true rfl) fun Γ Z hΓ hZ => ?_
  subst hΓ
  unfold f_X1_step
  show TX g Γ _ Z _ 0 [(0, .ref (idc 0 i0)), (1, .int a1), (2, .int a2), (3, .int a3), (4, .int a4), (5, .int a5)] [] _
  refine x_iload_n 0 1 dX1_step_0 rfl ?_
  refine x_iconst 1 0 (0 : Int32) dX1_step_1 rfl ?_
  refine x_bipush 2 6 (6 : Int32) dX1_step_2 rfl ?_
  refine x_cSx 4 6 [.int a1, .int (0 : Int32), .int (6 : Int32)] [] rfl cs_X1_149 (im_X1_fit hl a1 (0 : Int32) (6 : Int32)) (by decide) rfl (Nat.le_of_ble_eq_true rfl) dX1_step_4 fun v1 => x_stV ?_
  refine x_iload_n 7 2 dX1_step_7 rfl ?_
  refine x_iconst 8 0 (0 : Int32) dX1_step_8 rfl ?_
  refine x_iload_n 9 1 dX1_step_9 rfl ?_
  refine x_cS 10 0 [.int a1] [.int (0 : Int32), .int a2] cs_X1_200 (im_X1_mostFor hl a1) (by decide) rfl (Nat.le_of_ble_eq_true rfl) dX1_step_10 fun v2 => x_stI ?_
  refine x_cSx 13 6 [.int a2, .int (0 : Int32), .int v2] [] rfl cs_X1_149 (im_X1_fit hl a2 (0 : Int32) v2) (by decide) rfl (Nat.le_of_ble_eq_true rfl) dX1_step_13 fun v3 => x_stV ?_
  refine x_iload_n 16 3 dX1_step_16 rfl ?_
  refine x_iload_n 17 1 dX1_step_17 rfl ?_
  refine x_bndj 26 (fun u4 => [(0, .ref (idc 0 i0)), (1, .int a1), (2, .int a2), (3, .int a3), (4, .int a4), (5, .int a5)]) (fun u4 => [.int u4, .int a3]) (fun u4 => ?_) (fun hj40 => ?_)
  · show TX g Γ _ Z _ 26 [(0, .ref (idc 0 i0)), (1, .int a1), (2, .int a2), (3, .int a3), (4, .int a4), (5, .int a5)] [.int u4, .int a3] _
    refine x_iload_n 26 1 dX1_step_26 rfl ?_
    refine x_bndj 35 (fun u5 => [(0, .ref (idc 0 i0)), (1, .int a1), (2, .int a2), (3, .int a3), (4, .int a4), (5, .int a5)]) (fun u5 => [.int u5, .int u4, .int a3]) (fun u5 => ?_) (fun hj38 => ?_)
    · show TX g Γ _ Z _ 35 [(0, .ref (idc 0 i0)), (1, .int a1), (2, .int a2), (3, .int a3), (4, .int a4), (5, .int a5)] [.int u5, .int u4, .int a3] _
      refine x_cSx 35 6 [.int a3, .int u4, .int u5] [] rfl cs_X1_149 (im_X1_fit hl a3 u4 u5) (by decide) rfl (Nat.le_of_ble_eq_true rfl) dX1_step_35 fun v6 => x_stV ?_
      refine x_iload_n 38 1 dX1_step_38 rfl ?_
      refine x_iconst 39 5 (5 : Int32) dX1_step_39 rfl ?_
      refine x_bndj 59 (fun _ => [(0, .ref (idc 0 i0)), (1, .int a1), (2, .int a2), (3, .int a3), (4, .int a4), (5, .int a5)]) (fun _ => []) (fun _ => ?_) (fun hj34 => ?_)
      · show TX g Γ _ Z _ 59 [(0, .ref (idc 0 i0)), (1, .int a1), (2, .int a2), (3, .int a3), (4, .int a4), (5, .int a5)] [] _
        refine x_aload_n 59 0 dX1_step_59 rfl ?_
        refine x_getR 60 fa_X1_74_0 dX1_step_60 fun v7 => ?_
        refine x_isK fun i8 h9 => ?_
        subst h9
        refine x_getR 63 fa_X1_203_1 dX1_step_63 fun v10 => ?_
        refine x_isK fun i11 h12 => ?_
        subst h12
        refine x_cF 66 0 [] [] (by decide) cf_X1_9_13 (im_J2_size hl i11) (by decide) rfl (Nat.le_of_ble_eq_true rfl) dX1_step_66 fun v13 => x_stI ?_
        refine x_bipush 71 12 (12 : Int32) dX1_step_71 rfl ?_
        refine x_bndj 81 (fun u14 => [(0, .ref (idc 0 i0)), (1, .int a1), (2, .int a2), (3, .int a3), (4, .int a4), (5, .int a5)]) (fun u14 => [.int u14]) (fun u14 => ?_) (fun hj32 => ?_)
        · show TX g Γ _ Z _ 81 [(0, .ref (idc 0 i0)), (1, .int a1), (2, .int a2), (3, .int a3), (4, .int a4), (5, .int a5)] [.int u14] _
          refine x_cSx 81 6 [.int u14] [] rfl cs_X1_176 (im_X1_can hl u14) (by decide) rfl (Nat.le_of_ble_eq_true rfl) dX1_step_81 fun v15 => x_stV ?_
          refine x_aload_n 84 0 dX1_step_84 rfl ?_
          refine x_getR 85 fa_X1_74_0 dX1_step_85 fun v16 => ?_
          refine x_isK fun i17 h18 => ?_
          subst h18
          refine x_getR 88 fa_X1_203_1 dX1_step_88 fun v19 => ?_
          refine x_new 91 na_X1_206 dX1_step_91 fun i20 => ?_
          refine x_dup 94 dX1_step_94 rfl ?_
          refine x_iload_n 95 1 dX1_step_95 rfl ?_
          refine x_iload_n 96 2 dX1_step_96 rfl ?_
          refine x_iload_n 97 3 dX1_step_97 rfl ?_
          refine x_iload 98 4 dX1_step_98 rfl ?_
          refine x_iload 100 5 dX1_step_100 rfl ?_
          refine x_cI 102 1 [.int a1, .int a2, .int a3, .int a4, .int a5] [.ref (idc 6 i20), .ref v19] (by decide) cn_X1_208 (im_X7_init hl i20 a1 a2 a3 a4 a5) (by decide) rfl (Nat.le_of_ble_eq_true rfl) dX1_step_102 fun v21 => x_stV ?_
          refine x_isK fun i22 h23 => ?_
          subst h23
          refine x_cF 105 6 [.ref (idc 6 i20)] [] (by decide) cf_X1_19_13 (im_J2_add hl i22 (idc 6 i20)) (by decide) rfl (Nat.le_of_ble_eq_true rfl) dX1_step_105 fun v24 => x_stI ?_
          refine x_pop 110 dX1_step_110 rfl ?_
          refine x_aload_n 111 0 dX1_step_111 rfl ?_
          refine x_getR 112 fa_X1_74_0 dX1_step_112 fun v25 => ?_
          refine x_isK fun i26 h27 => ?_
          subst h27
          refine x_getR 115 fa_X1_203_1 dX1_step_115 fun v28 => ?_
          refine x_isK fun i29 h30 => ?_
          subst h30
          refine x_cF 118 0 [] [] (by decide) cf_X1_9_13 (im_J2_size hl i29) (by decide) rfl (Nat.le_of_ble_eq_true rfl) dX1_step_118 fun v31 => x_stI ?_
          refine x_iconst 123 1 (1 : Int32) dX1_step_123 rfl ?_
          refine x_isub 124 dX1_step_124 ?_
          exact x_iret 125 hZ rfl dX1_step_125
        · refine x_icmp_ge 73 80 dX1_step_73 rfl (fun c33 => ?_) (fun c33 => ?_)
          · refine x_iconst 80 0 (0 : Int32) dX1_step_80 rfl ?_
            exact hj32 (0 : Int32)
          · refine x_iconst 76 1 (1 : Int32) dX1_step_76 rfl ?_
            refine x_goto 77 81 dX1_step_77 rfl ?_
            exact hj32 (1 : Int32)
      · refine x_icmp_ge 40 59 dX1_step_40 rfl (fun c35 => ?_) (fun c35 => ?_)
        · exact hj34 ()
        · refine x_iload 43 4 dX1_step_43 rfl ?_
          refine x_iconst 45 (-1) (-1 : Int32) dX1_step_45 rfl ?_
          refine x_bipush 46 11 (11 : Int32) dX1_step_46 rfl ?_
          refine x_cSx 48 6 [.int a4, .int (-1 : Int32), .int (11 : Int32)] [] rfl cs_X1_149 (im_X1_fit hl a4 (-1 : Int32) (11 : Int32)) (by decide) rfl (Nat.le_of_ble_eq_true rfl) dX1_step_48 fun v36 => x_stV ?_
          refine x_iload 51 5 dX1_step_51 rfl ?_
          refine x_iconst 53 (-1) (-1 : Int32) dX1_step_53 rfl ?_
          refine x_bipush 54 11 (11 : Int32) dX1_step_54 rfl ?_
          refine x_cSx 56 6 [.int a5, .int (-1 : Int32), .int (11 : Int32)] [] rfl cs_X1_149 (im_X1_fit hl a5 (-1 : Int32) (11 : Int32)) (by decide) rfl (Nat.le_of_ble_eq_true rfl) dX1_step_56 fun v37 => x_stV ?_
          exact hj34 ()
    · refine x_if_ne 27 34 dX1_step_27 rfl (fun c39 => ?_) (fun c39 => ?_)
      · refine x_iconst 30 3 (3 : Int32) dX1_step_30 rfl ?_
        refine x_goto 31 35 dX1_step_31 rfl ?_
        exact hj38 (3 : Int32)
      · refine x_iconst 34 0 (0 : Int32) dX1_step_34 rfl ?_
        exact hj38 (0 : Int32)
  · refine x_if_ne 18 25 dX1_step_18 rfl (fun c41 => ?_) (fun c41 => ?_)
    · refine x_iconst 21 1 (1 : Int32) dX1_step_21 rfl ?_
      refine x_goto 22 26 dX1_step_22 rfl ?_
      exact hj40 (1 : Int32)
    · refine x_iconst 25 0 (0 : Int32) dX1_step_25 rfl ?_
      exact hj40 (0 : Int32)
def f_X7_isEnd (i0 : Nat) : PT Int32 := gI 6 i0 0 fun v1 => cnd (v1 < (5 : Int32)) (asr ((0 : Int32) = 0 ∨ (0 : Int32) = 1) (rt (0 : Int32))) (asr ((1 : Int32) = 0 ∨ (1 : Int32) = 1) (rt (1 : Int32)))
theorem im_X7_isEnd {g : GP} {l : Launch} (hl : l.stackTraces = false) (i0 : Nat) : Im g l 0 yX7_isEnd cX7_isEnd 1 (some .boolean) eI [.ref (idc 6 i0)] (f_X7_isEnd i0) := by
  refine tx_start hl 0 _ _ _ _ (by decide) (Nat.le_of_ble_eq_true rfl) fun Γ Z hΓ hZ => ?_
  subst hΓ
  unfold f_X7_isEnd
  show TX g Γ _ Z _ 0 [(0, .ref (idc 6 i0))] [] _
  refine x_aload_n 0 0 dX7_isEnd_0 rfl ?_
  refine x_getI 1 fa_X7_9_6 dX7_isEnd_1 fun v1 => ?_
  refine x_iconst 4 5 (5 : Int32) dX7_isEnd_4 rfl ?_
  refine x_icmp_lt 5 12 dX7_isEnd_5 rfl (fun c2 => ?_) (fun c2 => ?_)
  · refine x_iconst 12 0 (0 : Int32) dX7_isEnd_12 rfl ?_
    exact x_zret 13 hZ rfl dX7_isEnd_13
  · refine x_iconst 8 1 (1 : Int32) dX7_isEnd_8 rfl ?_
    refine x_goto 9 13 dX7_isEnd_9 rfl ?_
    exact x_zret 13 hZ rfl dX7_isEnd_13
def f_X2_isThere (i0 : Nat) (a1 : Int32) : PT Int32 := gR 1 i0 0 fun v1 => isK 13 v1 fun i2 => bn0 (f_J2_size i2) fun v4 => cnd (v4 ≤ a1) (asr ((0 : Int32) = 0 ∨ (0 : Int32) = 1) (rt (0 : Int32))) (asr ((1 : Int32) = 0 ∨ (1 : Int32) = 1) (rt (1 : Int32)))
theorem im_X2_isThere {g : GP} {l : Launch} (hl : l.stackTraces = false) (i0 : Nat) (a1 : Int32) : Im g l 1 yX2_isThere cX2_isThere 2 (some .boolean) eI [.ref (idc 1 i0), .int a1] (f_X2_isThere i0 a1) := by
  refine tx_start hl 1 _ _ _ _ (by decide) (Nat.le_of_ble_eq_true rfl) fun Γ Z hΓ hZ => ?_
  subst hΓ
  unfold f_X2_isThere
  show TX g Γ _ Z _ 0 [(0, .ref (idc 1 i0)), (1, .int a1)] [] _
  refine x_iload_n 0 1 dX2_isThere_0 rfl ?_
  refine x_aload_n 1 0 dX2_isThere_1 rfl ?_
  refine x_getR 2 fa_X2_14_1 dX2_isThere_2 fun v1 => ?_
  refine x_isK fun i2 h3 => ?_
  subst h3
  refine x_cF 5 0 [] [.int a1] (by decide) cf_X2_20_13 (im_J2_size hl i2) (by decide) rfl (Nat.le_of_ble_eq_true rfl) dX2_isThere_5 fun v4 => x_stI ?_
  refine x_icmp_ge 10 17 dX2_isThere_10 rfl (fun c5 => ?_) (fun c5 => ?_)
  · refine x_iconst 17 0 (0 : Int32) dX2_isThere_17 rfl ?_
    exact x_zret 18 hZ rfl dX2_isThere_18
  · refine x_iconst 13 1 (1 : Int32) dX2_isThere_13 rfl ?_
    refine x_goto 14 18 dX2_isThere_14 rfl ?_
    exact x_zret 18 hZ rfl dX2_isThere_18
def f_X7_isTest (i0 : Nat) : PT Int32 := gI 6 i0 0 fun v1 => cnd (v1 ≤ 0) (asr ((0 : Int32) = 0 ∨ (0 : Int32) = 1) (rt (0 : Int32))) (gI 6 i0 0 fun v3 => cnd ((5 : Int32) ≤ v3) (asr ((0 : Int32) = 0 ∨ (0 : Int32) = 1) (rt (0 : Int32))) (asr ((1 : Int32) = 0 ∨ (1 : Int32) = 1) (rt (1 : Int32))))
theorem im_X7_isTest {g : GP} {l : Launch} (hl : l.stackTraces = false) (i0 : Nat) : Im g l 0 yX7_isTest cX7_isTest 1 (some .boolean) eI [.ref (idc 6 i0)] (f_X7_isTest i0) := by
  refine tx_start hl 0 _ _ _ _ (by decide) (Nat.le_of_ble_eq_true rfl) fun Γ Z hΓ hZ => ?_
  subst hΓ
  unfold f_X7_isTest
  show TX g Γ _ Z _ 0 [(0, .ref (idc 6 i0))] [] _
  refine x_aload_n 0 0 dX7_isTest_0 rfl ?_
  refine x_getI 1 fa_X7_9_6 dX7_isTest_1 fun v1 => ?_
  refine x_if_le 4 19 dX7_isTest_4 rfl (fun c2 => ?_) (fun c2 => ?_)
  · refine x_iconst 19 0 (0 : Int32) dX7_isTest_19 rfl ?_
    exact x_zret 20 hZ rfl dX7_isTest_20
  · refine x_aload_n 7 0 dX7_isTest_7 rfl ?_
    refine x_getI 8 fa_X7_9_6 dX7_isTest_8 fun v3 => ?_
    refine x_iconst 11 5 (5 : Int32) dX7_isTest_11 rfl ?_
    refine x_icmp_ge 12 19 dX7_isTest_12 rfl (fun c4 => ?_) (fun c4 => ?_)
    · refine x_iconst 19 0 (0 : Int32) dX7_isTest_19 rfl ?_
      exact x_zret 20 hZ rfl dX7_isTest_20
    · refine x_iconst 15 1 (1 : Int32) dX7_isTest_15 rfl ?_
      refine x_goto 16 20 dX7_isTest_16 rfl ?_
      exact x_zret 20 hZ rfl dX7_isTest_20
def f_X2_isCircle (i0 : Nat) (a1 : Int32) : PT Int32 := nw 14 3 fun i1 => bn0 (f_J18_init i1) fun _ => nw 17 3 fun i3 => bn0 (f_J27_init i3) fun _ => bn0 (f_J17_valueOf a1) fun v5 => bn0 (f_J27_add i3 v5) fun v6 => lp (σ := Unit) (fun r7 => fun _ => bn0 (f_J27_isEmpty i3) fun v8 => cnd (v8 = 0) (gR 1 i0 0 fun v10 => bn0 (f_J27_poll i3) fun v11 => asr (isB v11) <| asr (isB v11) <| bn0 (f_J17_intValue v11) fun v13 => isK 13 v10 fun i14 => bn0 (f_J2_get i14 v13) fun v16 => isK 6 v16 fun i17 => lp (σ := Int32) (fun r20 => fun u19 => bn0 (f_X7_isTest i17) fun v21 => cnd (v21 = 0) (r7 ()) (cnd ((2 : Int32) ≤ u19) (r7 ()) (bnd (ρ := _) (α := Int32) (cnd (u19 = 0) (gI 6 i17 3 fun v34 => rt v34) (gI 6 i17 4 fun v35 => rt v35)) (fun u24 => cnd (u24 = a1) (asr ((1 : Int32) = 0 ∨ (1 : Int32) = 1) (rt (1 : Int32))) (cnd (u24 = (-1 : Int32)) (r20 (u19 + (1 : Int32))) (bn0 (f_J18_get i1 u24) fun v27 => cnd (v27 = 0) (bn0 (f_J18_set i1 u24) fun _ => bn0 (f_J17_valueOf u24) fun v30 => bn0 (f_J27_add i3 v30) fun v31 => r20 (u19 + (1 : Int32))) (r20 (u19 + (1 : Int32))))))))) (0 : Int32)) (asr ((0 : Int32) = 0 ∨ (0 : Int32) = 1) (rt (0 : Int32)))) ()
theorem im_X2_isCircle {g : GP} {l : Launch} (hl : l.stackTraces = false) (i0 : Nat) (a1 : Int32) : Im g l 6 yX2_isCircle cX2_isCircle 7 (some .boolean) eI [.ref (idc 1 i0), .int a1] (f_X2_isCircle i0 a1) := by
  refine tx_start hl 6 _ _ _ _ (by decide) (Nat.le_of_ble_eq_true rfl) fun Γ Z hΓ hZ => ?_
  subst hΓ
  unfold f_X2_isCircle
  show TX g Γ _ Z _ 0 [(0, .ref (idc 1 i0)), (1, .int a1)] [] _
  refine x_new 0 na_X2_53 dX2_isCircle_0 fun i1 => ?_
  refine x_dup 3 dX2_isCircle_3 rfl ?_
  refine x_cI 4 2 [] [.ref (idc 14 i1)] (by decide) cn_X2_55 (im_J18_init hl i1) (by decide) rfl (Nat.le_of_ble_eq_true rfl) dX2_isCircle_4 fun v2 => x_stV ?_
  refine x_astore_n 7 [(2, .ref (idc 14 i1)), (0, .ref (idc 1 i0)), (1, .int a1)] dX2_isCircle_7 (by decide) rfl ?_
  refine x_new 8 na_X2_56 dX2_isCircle_8 fun i3 => ?_
  refine x_dup 11 dX2_isCircle_11 rfl ?_
  refine x_cI 12 2 [] [.ref (idc 17 i3)] (by decide) cn_X2_58 (im_J27_init hl i3) (by decide) rfl (Nat.le_of_ble_eq_true rfl) dX2_isCircle_12 fun v4 => x_stV ?_
  refine x_astore_n 15 [(3, .ref (idc 17 i3)), (2, .ref (idc 14 i1)), (0, .ref (idc 1 i0)), (1, .int a1)] dX2_isCircle_15 (by decide) rfl ?_
  refine x_aload_n 16 0 dX2_isCircle_16 rfl ?_
  refine x_iload_n 17 3 dX2_isCircle_17 rfl ?_
  refine x_cS 18 3 [.int a1] [.ref (idc 17 i3)] cs_X2_59 (im_J17_valueOf hl a1) (by decide) rfl (Nat.le_of_ble_eq_true rfl) dX2_isCircle_18 fun v5 => x_stR ?_
  refine x_cF 21 5 [.ref v5] [] (by decide) cf_X2_65_17 (im_J27_add hl i3 v5) (by decide) rfl (Nat.le_of_ble_eq_true rfl) dX2_isCircle_21 fun v6 => x_stI ?_
  refine x_pop 26 dX2_isCircle_26 rfl ?_
  refine x_sub [2, 3, 1, 0] [(0, .ref (idc 1 i0)), (1, .int a1), (2, .ref (idc 14 i1)), (3, .ref (idc 17 i3))] rfl ?_
  refine x_lp (Lf := fun _ => [(0, .ref (idc 1 i0)), (1, .int a1), (2, .ref (idc 14 i1)), (3, .ref (idc 17 i3))]) (sf := fun _ => []) (fun r7 hr7 _ => ?_) ()
  show TX g Γ _ Z _ 27 [(0, .ref (idc 1 i0)), (1, .int a1), (2, .ref (idc 14 i1)), (3, .ref (idc 17 i3))] [] _
  refine x_aload_n 27 3 dX2_isCircle_27 rfl ?_
  refine x_cFe 28 0 [] rfl q1301 q1303 q106 q1305 q1265 (im_J27_isEmpty hl i3) (by decide) (Nat.le_of_ble_eq_true rfl) dX2_isCircle_28 fun v8 => x_stI ?_
  refine x_if_ne 33 149 dX2_isCircle_33 rfl (fun c9 => ?_) (fun c9 => ?_)
  · refine x_aload_n 36 0 dX2_isCircle_36 rfl ?_
    refine x_getR 37 fa_X2_14_1 dX2_isCircle_37 fun v10 => ?_
    refine x_aload_n 40 3 dX2_isCircle_40 rfl ?_
    refine x_cF 41 2 [] [.ref v10] (by decide) cf_X2_72_17 (im_J27_poll hl i3) (by decide) rfl (Nat.le_of_ble_eq_true rfl) dX2_isCircle_41 fun v11 => x_stR ?_
    refine x_asr fun h12 => ?_
    refine x_castI 46 h12 q1332 dX2_isCircle_46 ?_
    refine x_cVb 49 0 [] [.ref v10] rfl cv_X2_76 (im_J17_intValue hl v11) (by decide) rfl (Nat.le_of_ble_eq_true rfl) dX2_isCircle_49 fun v13 => x_stI ?_
    refine x_isK fun i14 h15 => ?_
    subst h15
    refine x_cF 52 2 [.int v13] [] (by decide) cf_X2_30_13 (im_J2_get hl i14 v13) (by decide) rfl (Nat.le_of_ble_eq_true rfl) dX2_isCircle_52 fun v16 => x_stR ?_
    refine x_isK fun i17 h18 => ?_
    subst h18
    refine x_castS 57 (by decide) q1209 dX2_isCircle_57 ?_
    refine x_astore 60 [(4, .ref (idc 6 i17)), (0, .ref (idc 1 i0)), (1, .int a1), (2, .ref (idc 14 i1)), (3, .ref (idc 17 i3))] dX2_isCircle_60 (by decide) rfl ?_
    refine x_iconst 62 0 (0 : Int32) dX2_isCircle_62 rfl ?_
    refine x_istore 63 [(5, .int (0 : Int32)), (4, .ref (idc 6 i17)), (0, .ref (idc 1 i0)), (1, .int a1), (2, .ref (idc 14 i1)), (3, .ref (idc 17 i3))] dX2_isCircle_63 (by decide) rfl ?_
    refine x_sub [2, 3, 4, 5, 1, 0] [(0, .ref (idc 1 i0)), (1, .int a1), (2, .ref (idc 14 i1)), (3, .ref (idc 17 i3)), (4, .ref (idc 6 i17)), (5, .int (0 : Int32))] rfl ?_
    refine x_lp (Lf := fun u19 => [(0, .ref (idc 1 i0)), (1, .int a1), (2, .ref (idc 14 i1)), (3, .ref (idc 17 i3)), (4, .ref (idc 6 i17)), (5, .int u19)]) (sf := fun _ => []) (fun r20 hr20 u19 => ?_) (0 : Int32)
    show TX g Γ _ Z _ 65 [(0, .ref (idc 1 i0)), (1, .int a1), (2, .ref (idc 14 i1)), (3, .ref (idc 17 i3)), (4, .ref (idc 6 i17)), (5, .int u19)] [] _
    refine x_aload 65 4 dX2_isCircle_65 rfl ?_
    refine x_cV 67 0 [] [] ⟨by decide, rfl⟩ cv_X2_79 (im_X7_isTest hl i17) (by decide) rfl (Nat.le_of_ble_eq_true rfl) dX2_isCircle_67 fun v21 => x_stI ?_
    refine x_if_eq 70 146 dX2_isCircle_70 rfl (fun c22 => ?_) (fun c22 => ?_)
    · refine x_goto 146 27 dX2_isCircle_146 rfl ?_
      refine x_sub [0, 1, 2, 3] _ rfl ?_
      exact hr7 ()
    · refine x_iload 73 5 dX2_isCircle_73 rfl ?_
      refine x_iconst 75 2 (2 : Int32) dX2_isCircle_75 rfl ?_
      refine x_icmp_ge 76 146 dX2_isCircle_76 rfl (fun c23 => ?_) (fun c23 => ?_)
      · refine x_goto 146 27 dX2_isCircle_146 rfl ?_
        refine x_sub [0, 1, 2, 3] _ rfl ?_
        exact hr7 ()
      · refine x_iload 79 5 dX2_isCircle_79 rfl ?_
        refine x_bndj 97 (fun u24 => [(0, .ref (idc 1 i0)), (1, .int a1), (2, .ref (idc 14 i1)), (3, .ref (idc 17 i3)), (4, .ref (idc 6 i17)), (5, .int u19)]) (fun u24 => [.int u24]) (fun u24 => ?_) (fun hj32 => ?_)
        · show TX g Γ _ Z _ 97 [(0, .ref (idc 1 i0)), (1, .int a1), (2, .ref (idc 14 i1)), (3, .ref (idc 17 i3)), (4, .ref (idc 6 i17)), (5, .int u19)] [.int u24] _
          refine x_istore 97 [(6, .int u24), (0, .ref (idc 1 i0)), (1, .int a1), (2, .ref (idc 14 i1)), (3, .ref (idc 17 i3)), (4, .ref (idc 6 i17)), (5, .int u19)] dX2_isCircle_97 (by decide) rfl ?_
          refine x_iload 99 0 dX2_isCircle_99 rfl ?_
          refine x_iload_n 101 2 dX2_isCircle_101 rfl ?_
          refine x_icmp_ne 102 107 dX2_isCircle_102 rfl (fun c25 => ?_) (fun c25 => ?_)
          · refine x_iconst 105 1 (1 : Int32) dX2_isCircle_105 rfl ?_
            exact x_zret 106 hZ rfl dX2_isCircle_106
          · refine x_iload 107 0 dX2_isCircle_107 rfl ?_
            refine x_iconst 109 (-1) (-1 : Int32) dX2_isCircle_109 rfl ?_
            refine x_icmp_eq 110 140 dX2_isCircle_110 rfl (fun c26 => ?_) (fun c26 => ?_)
            · refine x_iinc 140 6 [(5, .int (u19 + (1 : Int32))), (6, .int u24), (0, .ref (idc 1 i0)), (1, .int a1), (2, .ref (idc 14 i1)), (3, .ref (idc 17 i3)), (4, .ref (idc 6 i17))] dX2_isCircle_140 rfl rfl (by decide) rfl ?_
              refine x_goto 143 65 dX2_isCircle_143 rfl ?_
              refine x_sub [2, 3, 4, 5, 6, 0] _ rfl ?_
              exact hr20 (u19 + (1 : Int32))
            · refine x_aload_n 113 3 dX2_isCircle_113 rfl ?_
              refine x_iload 114 0 dX2_isCircle_114 rfl ?_
              refine x_cV 116 1 [.int u24] [] ⟨by decide, rfl⟩ cv_X2_82 (im_J18_get hl i1 u24) (by decide) rfl (Nat.le_of_ble_eq_true rfl) dX2_isCircle_116 fun v27 => x_stI ?_
              refine x_if_ne 119 140 dX2_isCircle_119 rfl (fun c28 => ?_) (fun c28 => ?_)
              · refine x_aload_n 122 3 dX2_isCircle_122 rfl ?_
                refine x_iload 123 0 dX2_isCircle_123 rfl ?_
                refine x_cV 125 4 [.int u24] [] ⟨by decide, rfl⟩ cv_X2_84 (im_J18_set hl i1 u24) (by decide) rfl (Nat.le_of_ble_eq_true rfl) dX2_isCircle_125 fun v29 => x_stV ?_
                refine x_aload_n 128 4 dX2_isCircle_128 rfl ?_
                refine x_iload 129 0 dX2_isCircle_129 rfl ?_
                refine x_cS 131 3 [.int u24] [.ref (idc 17 i3)] cs_X2_59 (im_J17_valueOf hl u24) (by decide) rfl (Nat.le_of_ble_eq_true rfl) dX2_isCircle_131 fun v30 => x_stR ?_
                refine x_cF 134 5 [.ref v30] [] (by decide) cf_X2_65_17 (im_J27_add hl i3 v30) (by decide) rfl (Nat.le_of_ble_eq_true rfl) dX2_isCircle_134 fun v31 => x_stI ?_
                refine x_pop 139 dX2_isCircle_139 rfl ?_
                refine x_iinc 140 6 [(5, .int (u19 + (1 : Int32))), (6, .int u24), (0, .ref (idc 1 i0)), (1, .int a1), (2, .ref (idc 14 i1)), (3, .ref (idc 17 i3)), (4, .ref (idc 6 i17))] dX2_isCircle_140 rfl rfl (by decide) rfl ?_
                refine x_goto 143 65 dX2_isCircle_143 rfl ?_
                refine x_sub [2, 3, 4, 5, 6, 0] _ rfl ?_
                exact hr20 (u19 + (1 : Int32))
              · refine x_iinc 140 6 [(5, .int (u19 + (1 : Int32))), (6, .int u24), (0, .ref (idc 1 i0)), (1, .int a1), (2, .ref (idc 14 i1)), (3, .ref (idc 17 i3)), (4, .ref (idc 6 i17))] dX2_isCircle_140 rfl rfl (by decide) rfl ?_
                refine x_goto 143 65 dX2_isCircle_143 rfl ?_
                refine x_sub [2, 3, 4, 5, 6, 0] _ rfl ?_
                exact hr20 (u19 + (1 : Int32))
        · refine x_if_ne 81 92 dX2_isCircle_81 rfl (fun c33 => ?_) (fun c33 => ?_)
          · refine x_aload 84 4 dX2_isCircle_84 rfl ?_
            refine x_getI 86 fa_X2_39_6 dX2_isCircle_86 fun v34 => ?_
            refine x_goto 89 97 dX2_isCircle_89 rfl ?_
            exact hj32 v34
          · refine x_aload 92 4 dX2_isCircle_92 rfl ?_
            refine x_getI 94 fa_X2_47_6 dX2_isCircle_94 fun v35 => ?_
            exact hj32 v35
  · refine x_iconst 149 0 (0 : Int32) dX2_isCircle_149 rfl ?_
    exact x_zret 150 hZ rfl dX2_isCircle_150
def f_X2_isSound (i0 : Nat) : PT Int32 := gR 1 i0 0 fun v1 => isK 13 v1 fun i2 => bn0 (f_J2_isEmpty i2) fun v4 => bnd (ρ := _) (α := Int32) (cnd (v4 = 0) (rt (1 : Int32)) (rt (0 : Int32))) (fun u5 => bnd (lp (σ := Int32 × Int32) (ρ := Int32) (fun r8 => un2 fun u6 u7 => gR 1 i0 0 fun v11 => isK 13 v11 fun i12 => bn0 (f_J2_size i12) fun v14 => cnd (v14 ≤ u7) (rt u6) (gR 1 i0 0 fun v16 => isK 13 v16 fun i17 => bn0 (f_J2_get i17 u7) fun v19 => isK 6 v19 fun i20 => bn0 (f_X7_isEnd i20) fun v22 => jo (σ := Int32) (fun u23 => r8 (u6 &&& (1 : Int32), u23 + (1 : Int32))) fun j25 => cnd (v22 = 0) (gI 6 i20 3 fun v27 => bn0 (f_X2_isThere i0 v27) fun v28 => jo (σ := Unit) (fun _ => r8 (u6 &&& (0 : Int32), u7 + (1 : Int32))) fun j30 => cnd (v28 = 0) (j30 ()) (gI 6 i20 4 fun v32 => bn0 (f_X2_isThere i0 v32) fun v33 => cnd (v33 = 0) (j30 ()) (j25 u7))) (j25 u7))) (u5, (0 : Int32))) (fun u9 => lp (σ := Int32 × Int32) (fun r37 => un2 fun u35 u36 => cnd (u35 = 0) (asr (u35 = 0 ∨ u35 = 1) (rt u35)) (gR 1 i0 0 fun v39 => isK 13 v39 fun i40 => bn0 (f_J2_size i40) fun v42 => cnd (v42 ≤ u36) (asr (u35 = 0 ∨ u35 = 1) (rt u35)) (bn0 (f_X2_isCircle i0 u36) fun v44 => cnd (v44 = 0) (r37 ((1 : Int32), u36 + (1 : Int32))) (r37 ((0 : Int32), u36 + (1 : Int32)))))) (u9, (0 : Int32))))
theorem im_X2_isSound {g : GP} {l : Launch} (hl : l.stackTraces = false) (i0 : Nat) : Im g l 7 yX2_isSound cX2_isSound 4 (some .boolean) eI [.ref (idc 1 i0)] (f_X2_isSound i0) := by
  refine tx_start hl 7 _ _ _ _ (by decide) (Nat.le_of_ble_eq_true rfl) fun Γ Z hΓ hZ => ?_
  subst hΓ
  unfold f_X2_isSound
  show TX g Γ _ Z _ 0 [(0, .ref (idc 1 i0))] [] _
  refine x_aload_n 0 0 dX2_isSound_0 rfl ?_
  refine x_getR 1 fa_X2_14_1 dX2_isSound_1 fun v1 => ?_
  refine x_isK fun i2 h3 => ?_
  subst h3
  refine x_cF 4 0 [] [] (by decide) cf_X2_26_13 (im_J2_isEmpty hl i2) (by decide) rfl (Nat.le_of_ble_eq_true rfl) dX2_isSound_4 fun v4 => x_stI ?_
  refine x_bndj 17 (fun u5 => [(0, .ref (idc 1 i0))]) (fun u5 => [.int u5]) (fun u5 => ?_) (fun hj46 => ?_)
  · show TX g Γ _ Z _ 17 [(0, .ref (idc 1 i0))] [.int u5] _
    refine x_istore_n 17 [(1, .int u5), (0, .ref (idc 1 i0))] dX2_isSound_17 (by decide) rfl ?_
    refine x_iconst 18 0 (0 : Int32) dX2_isSound_18 rfl ?_
    refine x_istore_n 19 [(2, .int (0 : Int32)), (1, .int u5), (0, .ref (idc 1 i0))] dX2_isSound_19 (by decide) rfl ?_
    refine x_sub [2, 1, 0] [(0, .ref (idc 1 i0)), (1, .int u5), (2, .int (0 : Int32))] rfl ?_
    refine x_bndj 90 (fun u9 => [(0, .ref (idc 1 i0)), (1, .int u9)]) (fun u9 => []) (fun u9 => ?_) (fun hj10 => ?_)
    · show TX g Γ _ Z _ 90 [(0, .ref (idc 1 i0)), (1, .int u9)] [] _
      refine x_iconst 90 0 (0 : Int32) dX2_isSound_90 rfl ?_
      refine x_istore_n 91 [(2, .int (0 : Int32)), (0, .ref (idc 1 i0)), (1, .int u9)] dX2_isSound_91 (by decide) rfl ?_
      refine x_sub [1, 2, 0] [(0, .ref (idc 1 i0)), (1, .int u9), (2, .int (0 : Int32))] rfl ?_
      refine x_lp (Lf := fun u => [(0, .ref (idc 1 i0)), (1, .int u.1), (2, .int u.2)]) (sf := fun _ => []) (fun r37 hr37 u => ?_) (u9, (0 : Int32))
      obtain ⟨u35, u36⟩ := u
      show TX g Γ _ Z _ 92 [(0, .ref (idc 1 i0)), (1, .int u35), (2, .int u36)] [] _
      refine x_un2 ?_
      refine x_iload_n 92 1 dX2_isSound_92 rfl ?_
      refine x_if_eq 93 129 dX2_isSound_93 rfl (fun c38 => ?_) (fun c38 => ?_)
      · refine x_iload_n 129 1 dX2_isSound_129 rfl ?_
        exact x_zret 130 hZ rfl dX2_isSound_130
      · refine x_iload_n 96 2 dX2_isSound_96 rfl ?_
        refine x_aload_n 97 0 dX2_isSound_97 rfl ?_
        refine x_getR 98 fa_X2_14_1 dX2_isSound_98 fun v39 => ?_
        refine x_isK fun i40 h41 => ?_
        subst h41
        refine x_cF 101 0 [] [.int u36] (by decide) cf_X2_20_13 (im_J2_size hl i40) (by decide) rfl (Nat.le_of_ble_eq_true rfl) dX2_isSound_101 fun v42 => x_stI ?_
        refine x_icmp_ge 106 129 dX2_isSound_106 rfl (fun c43 => ?_) (fun c43 => ?_)
        · refine x_iload_n 129 1 dX2_isSound_129 rfl ?_
          exact x_zret 130 hZ rfl dX2_isSound_130
        · refine x_aload_n 109 0 dX2_isSound_109 rfl ?_
          refine x_iload_n 110 2 dX2_isSound_110 rfl ?_
          refine x_cV 111 6 [.int u36] [] ⟨by decide, rfl⟩ cv_X2_50 (im_X2_isCircle hl i0 u36) (by decide) rfl (Nat.le_of_ble_eq_true rfl) dX2_isSound_111 fun v44 => x_stI ?_
          refine x_if_ne 114 121 dX2_isSound_114 rfl (fun c45 => ?_) (fun c45 => ?_)
          · refine x_iconst 117 1 (1 : Int32) dX2_isSound_117 rfl ?_
            refine x_goto 118 122 dX2_isSound_118 rfl ?_
            refine x_istore_n 122 [(1, .int (1 : Int32)), (0, .ref (idc 1 i0)), (2, .int u36)] dX2_isSound_122 (by decide) rfl ?_
            refine x_iinc 123 2 [(2, .int (u36 + (1 : Int32))), (1, .int (1 : Int32)), (0, .ref (idc 1 i0))] dX2_isSound_123 rfl rfl (by decide) rfl ?_
            refine x_goto 126 92 dX2_isSound_126 rfl ?_
            refine x_sub [2, 1, 0] _ rfl ?_
            exact hr37 ((1 : Int32), u36 + (1 : Int32))
          · refine x_iconst 121 0 (0 : Int32) dX2_isSound_121 rfl ?_
            refine x_istore_n 122 [(1, .int (0 : Int32)), (0, .ref (idc 1 i0)), (2, .int u36)] dX2_isSound_122 (by decide) rfl ?_
            refine x_iinc 123 2 [(2, .int (u36 + (1 : Int32))), (1, .int (0 : Int32)), (0, .ref (idc 1 i0))] dX2_isSound_123 rfl rfl (by decide) rfl ?_
            refine x_goto 126 92 dX2_isSound_126 rfl ?_
            refine x_sub [2, 1, 0] _ rfl ?_
            exact hr37 ((0 : Int32), u36 + (1 : Int32))
    · refine x_lp (Lf := fun u => [(0, .ref (idc 1 i0)), (1, .int u.1), (2, .int u.2)]) (sf := fun _ => []) (fun r8 hr8 u => ?_) (u5, (0 : Int32))
      obtain ⟨u6, u7⟩ := u
      show TX g Γ _ Z _ 20 [(0, .ref (idc 1 i0)), (1, .int u6), (2, .int u7)] [] _
      refine x_un2 ?_
      refine x_iload_n 20 2 dX2_isSound_20 rfl ?_
      refine x_aload_n 21 0 dX2_isSound_21 rfl ?_
      refine x_getR 22 fa_X2_14_1 dX2_isSound_22 fun v11 => ?_
      refine x_isK fun i12 h13 => ?_
      subst h13
      refine x_cF 25 0 [] [.int u7] (by decide) cf_X2_20_13 (im_J2_size hl i12) (by decide) rfl (Nat.le_of_ble_eq_true rfl) dX2_isSound_25 fun v14 => x_stI ?_
      refine x_icmp_ge 30 90 dX2_isSound_30 rfl (fun c15 => ?_) (fun c15 => ?_)
      · refine x_sub [0, 1] _ rfl ?_
        exact hj10 u6
      · refine x_aload_n 33 0 dX2_isSound_33 rfl ?_
        refine x_getR 34 fa_X2_14_1 dX2_isSound_34 fun v16 => ?_
        refine x_iload_n 37 2 dX2_isSound_37 rfl ?_
        refine x_isK fun i17 h18 => ?_
        subst h18
        refine x_cF 38 2 [.int u7] [] (by decide) cf_X2_30_13 (im_J2_get hl i17 u7) (by decide) rfl (Nat.le_of_ble_eq_true rfl) dX2_isSound_38 fun v19 => x_stR ?_
        refine x_isK fun i20 h21 => ?_
        subst h21
        refine x_castS 43 (by decide) q1209 dX2_isSound_43 ?_
        refine x_astore_n 46 [(3, .ref (idc 6 i20)), (0, .ref (idc 1 i0)), (1, .int u6), (2, .int u7)] dX2_isSound_46 (by decide) rfl ?_
        refine x_iload_n 47 2 dX2_isSound_47 rfl ?_
        refine x_aload_n 48 0 dX2_isSound_48 rfl ?_
        refine x_cV 49 0 [] [.int u6] ⟨by decide, rfl⟩ cv_X2_36 (im_X7_isEnd hl i20) (by decide) rfl (Nat.le_of_ble_eq_true rfl) dX2_isSound_49 fun v22 => x_stI ?_
        refine x_jo 77 (Lf := fun u23 => [(0, .ref (idc 1 i0)), (2, .int u23)]) (sf := fun u23 => [.int u6]) (fun u23 => ?_) (fun j25 hj24 => ?_)
        · show TX g Γ _ Z _ 77 [(0, .ref (idc 1 i0)), (2, .int u23)] [.int u6] _
          refine x_iconst 77 1 (1 : Int32) dX2_isSound_77 rfl ?_
          refine x_goto 78 82 dX2_isSound_78 rfl ?_
          refine x_iand 82 dX2_isSound_82 ?_
          refine x_istore_n 83 [(1, .int (u6 &&& (1 : Int32))), (0, .ref (idc 1 i0)), (2, .int u23)] dX2_isSound_83 (by decide) rfl ?_
          refine x_iinc 84 2 [(2, .int (u23 + (1 : Int32))), (1, .int (u6 &&& (1 : Int32))), (0, .ref (idc 1 i0))] dX2_isSound_84 rfl rfl (by decide) rfl ?_
          refine x_goto 87 20 dX2_isSound_87 rfl ?_
          refine x_sub [2, 1, 0] _ rfl ?_
          exact hr8 (u6 &&& (1 : Int32), u23 + (1 : Int32))
        · refine x_if_ne 52 77 dX2_isSound_52 rfl (fun c26 => ?_) (fun c26 => ?_)
          · refine x_aload_n 55 1 dX2_isSound_55 rfl ?_
            refine x_aload_n 56 0 dX2_isSound_56 rfl ?_
            refine x_getI 57 fa_X2_39_6 dX2_isSound_57 fun v27 => ?_
            refine x_cV 60 1 [.int v27] [.int u6] ⟨by decide, rfl⟩ cv_X2_43 (im_X2_isThere hl i0 v27) (by decide) rfl (Nat.le_of_ble_eq_true rfl) dX2_isSound_60 fun v28 => x_stI ?_
            refine x_jo 81 (Lf := fun _ => [(0, .ref (idc 1 i0)), (2, .int u7)]) (sf := fun _ => [.int u6]) (fun _ => ?_) (fun j30 hj29 => ?_)
            · show TX g Γ _ Z _ 81 [(0, .ref (idc 1 i0)), (2, .int u7)] [.int u6] _
              refine x_iconst 81 0 (0 : Int32) dX2_isSound_81 rfl ?_
              refine x_iand 82 dX2_isSound_82 ?_
              refine x_istore_n 83 [(1, .int (u6 &&& (0 : Int32))), (0, .ref (idc 1 i0)), (2, .int u7)] dX2_isSound_83 (by decide) rfl ?_
              refine x_iinc 84 2 [(2, .int (u7 + (1 : Int32))), (1, .int (u6 &&& (0 : Int32))), (0, .ref (idc 1 i0))] dX2_isSound_84 rfl rfl (by decide) rfl ?_
              refine x_goto 87 20 dX2_isSound_87 rfl ?_
              refine x_sub [2, 1, 0] _ rfl ?_
              exact hr8 (u6 &&& (0 : Int32), u7 + (1 : Int32))
            · refine x_if_eq 63 81 dX2_isSound_63 rfl (fun c31 => ?_) (fun c31 => ?_)
              · refine x_sub [1, 3] _ rfl ?_
                exact hj29 ()
              · refine x_aload_n 66 1 dX2_isSound_66 rfl ?_
                refine x_aload_n 67 0 dX2_isSound_67 rfl ?_
                refine x_getI 68 fa_X2_47_6 dX2_isSound_68 fun v32 => ?_
                refine x_cV 71 1 [.int v32] [.int u6] ⟨by decide, rfl⟩ cv_X2_43 (im_X2_isThere hl i0 v32) (by decide) rfl (Nat.le_of_ble_eq_true rfl) dX2_isSound_71 fun v33 => x_stI ?_
                refine x_if_eq 74 81 dX2_isSound_74 rfl (fun c34 => ?_) (fun c34 => ?_)
                · refine x_sub [1, 3] _ rfl ?_
                  exact hj29 ()
                · refine x_sub [1, 3] _ rfl ?_
                  exact hj24 u7
          · refine x_sub [1, 3] _ rfl ?_
            exact hj24 u7
  · refine x_if_ne 9 16 dX2_isSound_9 rfl (fun c47 => ?_) (fun c47 => ?_)
    · refine x_iconst 12 1 (1 : Int32) dX2_isSound_12 rfl ?_
      refine x_goto 13 17 dX2_isSound_13 rfl ?_
      exact hj46 (1 : Int32)
    · refine x_iconst 16 0 (0 : Int32) dX2_isSound_16 rfl ?_
      exact hj46 (0 : Int32)
def f_X1_publish (i0 : Nat) : PT Int32 := gR 0 i0 1 fun v1 => isK 1 v1 fun i2 => bn0 (f_X2_isSound i2) fun v4 => bnd (ρ := _) (α := Int32) (jo (σ := Unit) (fun _ => rt (0 : Int32)) fun j20 => cnd (v4 = 0) (j20 ()) (gR 0 i0 2 fun v22 => isK 13 v22 fun i23 => bn0 (f_J2_size i23) fun v25 => cnd ((8 : Int32) ≤ v25) (j20 ()) (rt (1 : Int32)))) (fun u5 => bnd (f_X1_can u5) fun _ => gR 0 i0 2 fun v7 => gR 0 i0 1 fun v8 => isK 13 v7 fun i9 => bn0 (f_J2_add i9 v8) fun v11 => nw 1 1 fun i12 => bn0 (f_X2_init i12) fun _ => pR 0 i0 1 (idc 1 i12) <| gR 0 i0 2 fun v14 => isK 13 v14 fun i15 => bn0 (f_J2_size i15) fun v17 => rt (v17 - (1 : Int32)))
theorem im_X1_publish {g : GP} {l : Launch} (hl : l.stackTraces = false) (i0 : Nat) : Im g l 8 yX1_publish cX1_publish 1 (some .int) eI [.ref (idc 0 i0)] (f_X1_publish i0) := by
  refine tx_start hl 8 _ _ _ _ (by decide) (Nat.le_of_ble_eq_true rfl) fun Γ Z hΓ hZ => ?_
  subst hΓ
  unfold f_X1_publish
  show TX g Γ _ Z _ 0 [(0, .ref (idc 0 i0))] [] _
  refine x_aload_n 0 0 dX1_publish_0 rfl ?_
  refine x_getR 1 fa_X1_74_0 dX1_publish_1 fun v1 => ?_
  refine x_isK fun i2 h3 => ?_
  subst h3
  refine x_cV 4 7 [] [] ⟨by decide, rfl⟩ cv_X1_211 (im_X2_isSound hl i2) (by decide) rfl (Nat.le_of_ble_eq_true rfl) dX1_publish_4 fun v4 => x_stI ?_
  refine x_bndj 29 (fun u5 => [(0, .ref (idc 0 i0))]) (fun u5 => [.int u5]) (fun u5 => ?_) (fun hj18 => ?_)
  · show TX g Γ _ Z _ 29 [(0, .ref (idc 0 i0))] [.int u5] _
    refine x_cSx 29 6 [.int u5] [] rfl cs_X1_176 (im_X1_can hl u5) (by decide) rfl (Nat.le_of_ble_eq_true rfl) dX1_publish_29 fun v6 => x_stV ?_
    refine x_aload_n 32 0 dX1_publish_32 rfl ?_
    refine x_getR 33 fa_X1_83_0 dX1_publish_33 fun v7 => ?_
    refine x_aload_n 36 0 dX1_publish_36 rfl ?_
    refine x_getR 37 fa_X1_74_0 dX1_publish_37 fun v8 => ?_
    refine x_isK fun i9 h10 => ?_
    subst h10
    refine x_cF 40 6 [.ref v8] [] (by decide) cf_X1_19_13 (im_J2_add hl i9 v8) (by decide) rfl (Nat.le_of_ble_eq_true rfl) dX1_publish_40 fun v11 => x_stI ?_
    refine x_pop 45 dX1_publish_45 rfl ?_
    refine x_aload_n 46 0 dX1_publish_46 rfl ?_
    refine x_new 47 na_X1_71 dX1_publish_47 fun i12 => ?_
    refine x_dup 50 dX1_publish_50 rfl ?_
    refine x_cIn 51 4 [] [.ref (idc 1 i12), .ref (idc 0 i0)] (by decide) cn_X1_73 (im_X2_init hl i12) (by decide) rfl (Nat.le_of_ble_eq_true rfl) dX1_publish_51 fun v13 => x_stV ?_
    refine x_putR 54 fa_X1_74_0 rfl (Or.inl rfl) dX1_publish_54 ?_
    refine x_aload_n 57 0 dX1_publish_57 rfl ?_
    refine x_getR 58 fa_X1_83_0 dX1_publish_58 fun v14 => ?_
    refine x_isK fun i15 h16 => ?_
    subst h16
    refine x_cF 61 0 [] [] (by decide) cf_X1_9_13 (im_J2_size hl i15) (by decide) rfl (Nat.le_of_ble_eq_true rfl) dX1_publish_61 fun v17 => x_stI ?_
    refine x_iconst 66 1 (1 : Int32) dX1_publish_66 rfl ?_
    refine x_isub 67 dX1_publish_67 ?_
    exact x_iret 68 hZ rfl dX1_publish_68
  · refine x_jo 28 (Lf := fun _ => [(0, .ref (idc 0 i0))]) (sf := fun _ => []) (fun _ => ?_) (fun j20 hj19 => ?_)
    · show TX g Γ _ Z _ 28 [(0, .ref (idc 0 i0))] [] _
      refine x_iconst 28 0 (0 : Int32) dX1_publish_28 rfl ?_
      exact hj18 (0 : Int32)
    · refine x_if_eq 7 28 dX1_publish_7 rfl (fun c21 => ?_) (fun c21 => ?_)
      · exact hj19 ()
      · refine x_aload_n 10 0 dX1_publish_10 rfl ?_
        refine x_getR 11 fa_X1_83_0 dX1_publish_11 fun v22 => ?_
        refine x_isK fun i23 h24 => ?_
        subst h24
        refine x_cF 14 0 [] [] (by decide) cf_X1_9_13 (im_J2_size hl i23) (by decide) rfl (Nat.le_of_ble_eq_true rfl) dX1_publish_14 fun v25 => x_stI ?_
        refine x_bipush 19 8 (8 : Int32) dX1_publish_19 rfl ?_
        refine x_icmp_ge 21 28 dX1_publish_21 rfl (fun c26 => ?_) (fun c26 => ?_)
        · exact hj19 ()
        · refine x_iconst 24 1 (1 : Int32) dX1_publish_24 rfl ?_
          refine x_goto 25 29 dX1_publish_25 rfl ?_
          exact hj18 (1 : Int32)
def f_X1_at (a1 : Nat) (a2 : Int32) : PT Nat := isK 13 a1 fun i1 => bn0 (f_J2_size i1) fun v3 => bnd (f_X1_there a2 v3) fun _ => bn0 (f_J2_get i1 a2) fun v5 => rt v5
theorem im_X1_at {g : GP} {l : Launch} (hl : l.stackTraces = false) (a1 : Nat) (a2 : Int32) : Im g l 7 yX1_at cX1_at 2 (some (.object "java/lang/Object")) eR [.ref a1, .int a2] (f_X1_at a1 a2) := by
  refine tx_start hl 7 _ _ _ _ (by decide) (Nat.le_of_ble_eq_true rfl) fun Γ Z hΓ hZ => ?_
  subst hΓ
  unfold f_X1_at
  show TX g Γ _ Z _ 0 [(0, .ref a1), (1, .int a2)] [] _
  refine x_iload_n 0 1 dX1_at_0 rfl ?_
  refine x_aload_n 1 0 dX1_at_1 rfl ?_
  refine x_isK fun i1 h2 => ?_
  subst h2
  refine x_cF 2 0 [] [.int a2] (by decide) cf_X1_9_13 (im_J2_size hl i1) (by decide) rfl (Nat.le_of_ble_eq_true rfl) dX1_at_2 fun v3 => x_stI ?_
  refine x_cSx 7 6 [.int a2, .int v3] [] rfl cs_X1_158 (im_X1_there hl a2 v3) (by decide) rfl (Nat.le_of_ble_eq_true rfl) dX1_at_7 fun v4 => x_stV ?_
  refine x_aload_n 10 0 dX1_at_10 rfl ?_
  refine x_iload_n 11 1 dX1_at_11 rfl ?_
  refine x_cF 12 2 [.int a2] [] (by decide) cf_X1_31_13 (im_J2_get hl i1 a2) (by decide) rfl (Nat.le_of_ble_eq_true rfl) dX1_at_12 fun v5 => x_stR ?_
  exact x_aret 17 hZ (Or.inl ⟨_, rfl⟩) dX1_at_17
def f_X2_go (i0 : Nat) (a1 : Int32) (a2 : Int32) (a3 : Nat) (a4 : Nat) : PT Unit := bnd (ρ := _) (α := Int32) (cnd (a1 = (-1 : Int32)) (rt (-1 : Int32)) (rt (((8 : Int32) * a1) + a2))) (fun u1 => cnd (u1 = (-1 : Int32)) (rt ()) (isK 14 a3 fun i3 => bn0 (f_J18_get i3 u1) fun v5 => cnd (v5 = 0) (bn0 (f_J18_set i3 u1) fun _ => bn0 (f_J17_valueOf u1) fun v8 => isK 17 a4 fun i9 => bn0 (f_J27_add i9 v8) fun v11 => rt ()) (rt ())))
theorem im_X2_go {g : GP} {l : Launch} (hl : l.stackTraces = false) (i0 : Nat) (a1 : Int32) (a2 : Int32) (a3 : Nat) (a4 : Nat) : Im g l 6 yX2_go cX2_go 6 none eV [.ref (idc 1 i0), .int a1, .int a2, .ref a3, .ref a4] (f_X2_go i0 a1 a2 a3 a4) := by
  refine tx_start hl 6 _ _ _ _ (by decide) (Nat.le_of_ble_eq_true rfl) fun Γ Z hΓ hZ => ?_
  subst hΓ
  unfold f_X2_go
  show TX g Γ _ Z _ 0 [(0, .ref (idc 1 i0)), (1, .int a1), (2, .int a2), (3, .ref a3), (4, .ref a4)] [] _
  refine x_iload_n 0 1 dX2_go_0 rfl ?_
  refine x_iconst 1 (-1) (-1 : Int32) dX2_go_1 rfl ?_
  refine x_bndj 15 (fun u1 => [(3, .ref a3), (4, .ref a4)]) (fun u1 => [.int u1]) (fun u1 => ?_) (fun hj12 => ?_)
  · show TX g Γ _ Z _ 15 [(3, .ref a3), (4, .ref a4)] [.int u1] _
    refine x_istore 15 [(5, .int u1), (3, .ref a3), (4, .ref a4)] dX2_go_15 (by decide) rfl ?_
    refine x_iload 17 0 dX2_go_17 rfl ?_
    refine x_iconst 19 (-1) (-1 : Int32) dX2_go_19 rfl ?_
    refine x_icmp_eq 20 51 dX2_go_20 rfl (fun c2 => ?_) (fun c2 => ?_)
    · exact x_vret 51 hZ rfl dX2_go_51
    · refine x_aload_n 23 1 dX2_go_23 rfl ?_
      refine x_iload 24 0 dX2_go_24 rfl ?_
      refine x_isK fun i3 h4 => ?_
      subst h4
      refine x_cV 26 1 [.int u1] [] ⟨by decide, rfl⟩ cv_X2_82 (im_J18_get hl i3 u1) (by decide) rfl (Nat.le_of_ble_eq_true rfl) dX2_go_26 fun v5 => x_stI ?_
      refine x_if_ne 29 51 dX2_go_29 rfl (fun c6 => ?_) (fun c6 => ?_)
      · refine x_aload_n 32 1 dX2_go_32 rfl ?_
        refine x_iload 33 0 dX2_go_33 rfl ?_
        refine x_cV 35 4 [.int u1] [] ⟨by decide, rfl⟩ cv_X2_84 (im_J18_set hl i3 u1) (by decide) rfl (Nat.le_of_ble_eq_true rfl) dX2_go_35 fun v7 => x_stV ?_
        refine x_aload 38 2 dX2_go_38 rfl ?_
        refine x_iload 40 0 dX2_go_40 rfl ?_
        refine x_cS 42 3 [.int u1] [.ref a4] cs_X2_59 (im_J17_valueOf hl u1) (by decide) rfl (Nat.le_of_ble_eq_true rfl) dX2_go_42 fun v8 => x_stR ?_
        refine x_isK fun i9 h10 => ?_
        subst h10
        refine x_cF 45 5 [.ref v8] [] (by decide) cf_X2_65_17 (im_J27_add hl i9 v8) (by decide) rfl (Nat.le_of_ble_eq_true rfl) dX2_go_45 fun v11 => x_stI ?_
        refine x_pop 50 dX2_go_50 rfl ?_
        exact x_vret 51 hZ rfl dX2_go_51
      · exact x_vret 51 hZ rfl dX2_go_51
  · refine x_icmp_ne 2 9 dX2_go_2 rfl (fun c13 => ?_) (fun c13 => ?_)
    · refine x_iconst 5 (-1) (-1 : Int32) dX2_go_5 rfl ?_
      refine x_goto 6 15 dX2_go_6 rfl ?_
      refine x_sub [3, 4] _ rfl ?_
      exact hj12 (-1 : Int32)
    · refine x_bipush 9 8 (8 : Int32) dX2_go_9 rfl ?_
      refine x_iload_n 11 1 dX2_go_11 rfl ?_
      refine x_imul 12 dX2_go_12 ?_
      refine x_iload_n 13 2 dX2_go_13 rfl ?_
      refine x_iadd 14 dX2_go_14 ?_
      refine x_sub [3, 4] _ rfl ?_
      exact hj12 (((8 : Int32) * a1) + a2)
def f_X1_levelOf (a1 : Int32) : PT Int32 := lp (σ := Int32 × Int32) (fun r3 => un2 fun u1 u2 => cnd ((3 : Int32) ≤ u2) (rt u1) (cnd (((a1 >>> (u2 &&& 31)) &&& (1 : Int32)) = (1 : Int32)) (r3 (u1 + (u2 + (1 : Int32)), u2 + (1 : Int32))) (r3 (u1 + (0 : Int32), u2 + (1 : Int32))))) ((0 : Int32), (0 : Int32))
theorem im_X1_levelOf {g : GP} {l : Launch} (hl : l.stackTraces = false) (a1 : Int32) : Im g l 0 yX1_levelOf cX1_levelOf 3 (some .int) eI [.int a1] (f_X1_levelOf a1) := by
  refine tx_start hl 0 _ _ _ _ (by decide) (Nat.le_of_ble_eq_true rfl) fun Γ Z hΓ hZ => ?_
  subst hΓ
  unfold f_X1_levelOf
  show TX g Γ _ Z _ 0 [(0, .int a1)] [] _
  refine x_iconst 0 0 (0 : Int32) dX1_levelOf_0 rfl ?_
  refine x_istore_n 1 [(1, .int (0 : Int32)), (0, .int a1)] dX1_levelOf_1 (by decide) rfl ?_
  refine x_iconst 2 0 (0 : Int32) dX1_levelOf_2 rfl ?_
  refine x_istore_n 3 [(2, .int (0 : Int32)), (1, .int (0 : Int32)), (0, .int a1)] dX1_levelOf_3 (by decide) rfl ?_
  refine x_sub [2, 1, 0] [(0, .int a1), (1, .int (0 : Int32)), (2, .int (0 : Int32))] rfl ?_
  refine x_lp (Lf := fun u => [(0, .int a1), (1, .int u.1), (2, .int u.2)]) (sf := fun _ => []) (fun r3 hr3 u => ?_) ((0 : Int32), (0 : Int32))
  obtain ⟨u1, u2⟩ := u
  show TX g Γ _ Z _ 4 [(0, .int a1), (1, .int u1), (2, .int u2)] [] _
  refine x_un2 ?_
  refine x_iload_n 4 2 dX1_levelOf_4 rfl ?_
  refine x_iconst 5 3 (3 : Int32) dX1_levelOf_5 rfl ?_
  refine x_icmp_ge 6 34 dX1_levelOf_6 rfl (fun c4 => ?_) (fun c4 => ?_)
  · refine x_iload_n 34 1 dX1_levelOf_34 rfl ?_
    exact x_iret 35 hZ rfl dX1_levelOf_35
  · refine x_iload_n 9 1 dX1_levelOf_9 rfl ?_
    refine x_iload_n 10 0 dX1_levelOf_10 rfl ?_
    refine x_iload_n 11 2 dX1_levelOf_11 rfl ?_
    refine x_ishr 12 dX1_levelOf_12 ?_
    refine x_iconst 13 1 (1 : Int32) dX1_levelOf_13 rfl ?_
    refine x_iand 14 dX1_levelOf_14 ?_
    refine x_iconst 15 1 (1 : Int32) dX1_levelOf_15 rfl ?_
    refine x_icmp_ne 16 25 dX1_levelOf_16 rfl (fun c5 => ?_) (fun c5 => ?_)
    · refine x_iload_n 19 2 dX1_levelOf_19 rfl ?_
      refine x_iconst 20 1 (1 : Int32) dX1_levelOf_20 rfl ?_
      refine x_iadd 21 dX1_levelOf_21 ?_
      refine x_goto 22 26 dX1_levelOf_22 rfl ?_
      refine x_iadd 26 dX1_levelOf_26 ?_
      refine x_istore_n 27 [(1, .int (u1 + (u2 + (1 : Int32)))), (0, .int a1), (2, .int u2)] dX1_levelOf_27 (by decide) rfl ?_
      refine x_iinc 28 2 [(2, .int (u2 + (1 : Int32))), (1, .int (u1 + (u2 + (1 : Int32)))), (0, .int a1)] dX1_levelOf_28 rfl rfl (by decide) rfl ?_
      refine x_goto 31 4 dX1_levelOf_31 rfl ?_
      refine x_sub [2, 1, 0] _ rfl ?_
      exact hr3 (u1 + (u2 + (1 : Int32)), u2 + (1 : Int32))
    · refine x_iconst 25 0 (0 : Int32) dX1_levelOf_25 rfl ?_
      refine x_iadd 26 dX1_levelOf_26 ?_
      refine x_istore_n 27 [(1, .int (u1 + (0 : Int32))), (0, .int a1), (2, .int u2)] dX1_levelOf_27 (by decide) rfl ?_
      refine x_iinc 28 2 [(2, .int (u2 + (1 : Int32))), (1, .int (u1 + (0 : Int32))), (0, .int a1)] dX1_levelOf_28 rfl rfl (by decide) rfl ?_
      refine x_goto 31 4 dX1_levelOf_31 rfl ?_
      refine x_sub [2, 1, 0] _ rfl ?_
      exact hr3 (u1 + (0 : Int32), u2 + (1 : Int32))
def f_X2_weakest (i0 : Nat) : PT Int32 := nw 14 3 fun i1 => bn0 (f_J18_init i1) fun _ => nw 17 3 fun i3 => bn0 (f_J27_init i3) fun _ => bn0 (f_X2_go i0 (0 : Int32) (0 : Int32) (idc 14 i1) (idc 17 i3)) fun _ => lp (σ := Int32) (fun r7 => fun u6 => bn0 (f_J27_isEmpty i3) fun v8 => cnd (v8 = 0) (bn0 (f_J27_poll i3) fun v10 => asr (isB v10) <| asr (isB v10) <| bn0 (f_J17_intValue v10) fun v12 => gR 1 i0 0 fun v13 => isK 13 v13 fun i14 => bn0 (f_J2_get i14 (v12 / (8 : Int32))) fun v16 => isK 6 v16 fun i17 => bn0 (f_X1_levelOf (v12 - v12 / (8 : Int32) * (8 : Int32))) fun v19 => gI 6 i17 0 fun v20 => cnd (v20 = (5 : Int32)) (jo (σ := Unit) (fun _ => r7 v19) fun j23 => cnd (u6 = (-1 : Int32)) (j23 ()) (cnd (u6 ≤ v19) (r7 u6) (j23 ()))) (gI 6 i17 0 fun v26 => cnd (v26 = 0) (gI 6 i17 3 fun v28 => gI 6 i17 1 fun v29 => bn0 (f_X2_go i0 v28 ((v12 - v12 / (8 : Int32) * (8 : Int32)) ||| ((1 : Int32) <<< (v29 &&& 31))) (idc 14 i1) (idc 17 i3)) fun _ => gI 6 i17 4 fun v31 => bn0 (f_X2_go i0 v31 (v12 - v12 / (8 : Int32) * (8 : Int32)) (idc 14 i1) (idc 17 i3)) fun _ => r7 u6) (gI 6 i17 0 fun v33 => cnd (v33 = (4 : Int32)) (gI 6 i17 1 fun v35 => bnd (ρ := _) (α := Int32) (cnd (v19 < v35) (gI 6 i17 4 fun v40 => rt v40) (gI 6 i17 3 fun v41 => rt v41)) (fun u36 => bn0 (f_X2_go i0 u36 (v12 - v12 / (8 : Int32) * (8 : Int32)) (idc 14 i1) (idc 17 i3)) fun _ => r7 u6)) (gI 6 i17 0 fun v42 => cnd (v42 = (6 : Int32)) (r7 u6) (gI 6 i17 3 fun v44 => bn0 (f_X2_go i0 v44 (v12 - v12 / (8 : Int32) * (8 : Int32)) (idc 14 i1) (idc 17 i3)) fun _ => gI 6 i17 4 fun v46 => bn0 (f_X2_go i0 v46 (v12 - v12 / (8 : Int32) * (8 : Int32)) (idc 14 i1) (idc 17 i3)) fun _ => r7 u6))))) (rt u6)) (-1 : Int32)
theorem im_X2_weakest {g : GP} {l : Launch} (hl : l.stackTraces = false) (i0 : Nat) : Im g l 7 yX2_weakest cX2_weakest 8 (some .int) eI [.ref (idc 1 i0)] (f_X2_weakest i0) := by
  refine tx_start hl 7 _ _ _ _ (by decide) (Nat.le_of_ble_eq_true rfl) fun Γ Z hΓ hZ => ?_
  subst hΓ
  unfold f_X2_weakest
  show TX g Γ _ Z _ 0 [(0, .ref (idc 1 i0))] [] _
  refine x_new 0 na_X2_53 dX2_weakest_0 fun i1 => ?_
  refine x_dup 3 dX2_weakest_3 rfl ?_
  refine x_cI 4 2 [] [.ref (idc 14 i1)] (by decide) cn_X2_55 (im_J18_init hl i1) (by decide) rfl (Nat.le_of_ble_eq_true rfl) dX2_weakest_4 fun v2 => x_stV ?_
  refine x_astore_n 7 [(1, .ref (idc 14 i1)), (0, .ref (idc 1 i0))] dX2_weakest_7 (by decide) rfl ?_
  refine x_new 8 na_X2_56 dX2_weakest_8 fun i3 => ?_
  refine x_dup 11 dX2_weakest_11 rfl ?_
  refine x_cI 12 2 [] [.ref (idc 17 i3)] (by decide) cn_X2_58 (im_J27_init hl i3) (by decide) rfl (Nat.le_of_ble_eq_true rfl) dX2_weakest_12 fun v4 => x_stV ?_
  refine x_astore_n 15 [(2, .ref (idc 17 i3)), (1, .ref (idc 14 i1)), (0, .ref (idc 1 i0))] dX2_weakest_15 (by decide) rfl ?_
  refine x_aload_n 16 2 dX2_weakest_16 rfl ?_
  refine x_iconst 17 0 (0 : Int32) dX2_weakest_17 rfl ?_
  refine x_iconst 18 0 (0 : Int32) dX2_weakest_18 rfl ?_
  refine x_aload_n 19 1 dX2_weakest_19 rfl ?_
  refine x_aload_n 20 0 dX2_weakest_20 rfl ?_
  refine x_cV 21 6 [.int (0 : Int32), .int (0 : Int32), .ref (idc 14 i1), .ref (idc 17 i3)] [] ⟨by decide, rfl⟩ cv_X2_87 (im_X2_go hl i0 (0 : Int32) (0 : Int32) (idc 14 i1) (idc 17 i3)) (by decide) rfl (Nat.le_of_ble_eq_true rfl) dX2_weakest_21 fun v5 => x_stV ?_
  refine x_iconst 24 (-1) (-1 : Int32) dX2_weakest_24 rfl ?_
  refine x_istore_n 25 [(3, .int (-1 : Int32)), (2, .ref (idc 17 i3)), (1, .ref (idc 14 i1)), (0, .ref (idc 1 i0))] dX2_weakest_25 (by decide) rfl ?_
  refine x_sub [3, 2, 1, 0] [(0, .ref (idc 1 i0)), (1, .ref (idc 14 i1)), (2, .ref (idc 17 i3)), (3, .int (-1 : Int32))] rfl ?_
  refine x_lp (Lf := fun u6 => [(0, .ref (idc 1 i0)), (1, .ref (idc 14 i1)), (2, .ref (idc 17 i3)), (3, .int u6)]) (sf := fun _ => []) (fun r7 hr7 u6 => ?_) (-1 : Int32)
  show TX g Γ _ Z _ 26 [(0, .ref (idc 1 i0)), (1, .ref (idc 14 i1)), (2, .ref (idc 17 i3)), (3, .int u6)] [] _
  refine x_aload_n 26 2 dX2_weakest_26 rfl ?_
  refine x_cFe 27 0 [] rfl q1301 q1303 q106 q1305 q1265 (im_J27_isEmpty hl i3) (by decide) (Nat.le_of_ble_eq_true rfl) dX2_weakest_27 fun v8 => x_stI ?_
  refine x_if_ne 32 239 dX2_weakest_32 rfl (fun c9 => ?_) (fun c9 => ?_)
  · refine x_aload_n 35 2 dX2_weakest_35 rfl ?_
    refine x_cF 36 2 [] [] (by decide) cf_X2_72_17 (im_J27_poll hl i3) (by decide) rfl (Nat.le_of_ble_eq_true rfl) dX2_weakest_36 fun v10 => x_stR ?_
    refine x_asr fun h11 => ?_
    refine x_castI 41 h11 q1332 dX2_weakest_41 ?_
    refine x_cVb 44 0 [] [] rfl cv_X2_76 (im_J17_intValue hl v10) (by decide) rfl (Nat.le_of_ble_eq_true rfl) dX2_weakest_44 fun v12 => x_stI ?_
    refine x_istore 47 [(4, .int v12), (0, .ref (idc 1 i0)), (1, .ref (idc 14 i1)), (2, .ref (idc 17 i3)), (3, .int u6)] dX2_weakest_47 (by decide) rfl ?_
    refine x_aload_n 49 1 dX2_weakest_49 rfl ?_
    refine x_getR 50 fa_X2_14_1 dX2_weakest_50 fun v13 => ?_
    refine x_iload 53 0 dX2_weakest_53 rfl ?_
    refine x_bipush 55 8 (8 : Int32) dX2_weakest_55 rfl ?_
    refine x_idiv 57 dX2_weakest_57 (by decide) ?_
    refine x_isK fun i14 h15 => ?_
    subst h15
    refine x_cF 58 2 [.int (v12 / (8 : Int32))] [] (by decide) cf_X2_30_13 (im_J2_get hl i14 (v12 / (8 : Int32))) (by decide) rfl (Nat.le_of_ble_eq_true rfl) dX2_weakest_58 fun v16 => x_stR ?_
    refine x_isK fun i17 h18 => ?_
    subst h18
    refine x_castS 63 (by decide) q1209 dX2_weakest_63 ?_
    refine x_astore 66 [(5, .ref (idc 6 i17)), (4, .int v12), (0, .ref (idc 1 i0)), (1, .ref (idc 14 i1)), (2, .ref (idc 17 i3)), (3, .int u6)] dX2_weakest_66 (by decide) rfl ?_
    refine x_iload 68 1 dX2_weakest_68 rfl ?_
    refine x_bipush 70 8 (8 : Int32) dX2_weakest_70 rfl ?_
    refine x_irem 72 dX2_weakest_72 (by decide) ?_
    refine x_istore 73 [(6, .int (v12 - v12 / (8 : Int32) * (8 : Int32))), (5, .ref (idc 6 i17)), (4, .int v12), (0, .ref (idc 1 i0)), (1, .ref (idc 14 i1)), (2, .ref (idc 17 i3)), (3, .int u6)] dX2_weakest_73 (by decide) rfl ?_
    refine x_iload 75 0 dX2_weakest_75 rfl ?_
    refine x_cSn 77 0 [.int (v12 - v12 / (8 : Int32) * (8 : Int32))] [] cs_X2_91 (im_X1_levelOf hl (v12 - v12 / (8 : Int32) * (8 : Int32))) (by decide) rfl (Nat.le_of_ble_eq_true rfl) dX2_weakest_77 fun v19 => x_stI ?_
    refine x_istore 80 [(7, .int v19), (6, .int (v12 - v12 / (8 : Int32) * (8 : Int32))), (5, .ref (idc 6 i17)), (4, .int v12), (0, .ref (idc 1 i0)), (1, .ref (idc 14 i1)), (2, .ref (idc 17 i3)), (3, .int u6)] dX2_weakest_80 (by decide) rfl ?_
    refine x_aload 82 2 dX2_weakest_82 rfl ?_
    refine x_getI 84 fa_X2_95_6 dX2_weakest_84 fun v20 => ?_
    refine x_iconst 87 5 (5 : Int32) dX2_weakest_87 rfl ?_
    refine x_icmp_ne 88 112 dX2_weakest_88 rfl (fun c21 => ?_) (fun c21 => ?_)
    · refine x_iload_n 91 7 dX2_weakest_91 rfl ?_
      refine x_iconst 92 (-1) (-1 : Int32) dX2_weakest_92 rfl ?_
      refine x_jo 102 (Lf := fun _ => [(0, .ref (idc 1 i0)), (1, .ref (idc 14 i1)), (2, .ref (idc 17 i3)), (7, .int v19)]) (sf := fun _ => []) (fun _ => ?_) (fun j23 hj22 => ?_)
      · show TX g Γ _ Z _ 102 [(0, .ref (idc 1 i0)), (1, .ref (idc 14 i1)), (2, .ref (idc 17 i3)), (7, .int v19)] [] _
        refine x_iload 102 3 dX2_weakest_102 rfl ?_
        refine x_goto 104 108 dX2_weakest_104 rfl ?_
        refine x_istore_n 108 [(3, .int v19), (0, .ref (idc 1 i0)), (1, .ref (idc 14 i1)), (2, .ref (idc 17 i3)), (7, .int v19)] dX2_weakest_108 (by decide) rfl ?_
        refine x_goto 109 236 dX2_weakest_109 rfl ?_
        refine x_goto 236 26 dX2_weakest_236 rfl ?_
        refine x_sub [1, 2, 3, 0] _ rfl ?_
        exact hr7 v19
      · refine x_icmp_eq 93 102 dX2_weakest_93 rfl (fun c24 => ?_) (fun c24 => ?_)
        · refine x_sub [4, 5, 6, 0] _ rfl ?_
          exact hj22 ()
        · refine x_iload 96 0 dX2_weakest_96 rfl ?_
          refine x_iload_n 98 7 dX2_weakest_98 rfl ?_
          refine x_icmp_ge 99 107 dX2_weakest_99 rfl (fun c25 => ?_) (fun c25 => ?_)
          · refine x_iload_n 107 7 dX2_weakest_107 rfl ?_
            refine x_istore_n 108 [(3, .int u6), (7, .int v19), (6, .int (v12 - v12 / (8 : Int32) * (8 : Int32))), (5, .ref (idc 6 i17)), (4, .int v12), (0, .ref (idc 1 i0)), (1, .ref (idc 14 i1)), (2, .ref (idc 17 i3))] dX2_weakest_108 (by decide) rfl ?_
            refine x_goto 109 236 dX2_weakest_109 rfl ?_
            refine x_goto 236 26 dX2_weakest_236 rfl ?_
            refine x_sub [5, 6, 7, 0] _ rfl ?_
            exact hr7 u6
          · refine x_sub [4, 5, 6, 0] _ rfl ?_
            exact hj22 ()
    · refine x_aload 112 2 dX2_weakest_112 rfl ?_
      refine x_getI 114 fa_X2_95_6 dX2_weakest_114 fun v26 => ?_
      refine x_if_ne 117 157 dX2_weakest_117 rfl (fun c27 => ?_) (fun c27 => ?_)
      · refine x_aload_n 120 4 dX2_weakest_120 rfl ?_
        refine x_aload 121 2 dX2_weakest_121 rfl ?_
        refine x_getI 123 fa_X2_39_6 dX2_weakest_123 fun v28 => ?_
        refine x_iload 126 1 dX2_weakest_126 rfl ?_
        refine x_iconst 128 1 (1 : Int32) dX2_weakest_128 rfl ?_
        refine x_aload 129 2 dX2_weakest_129 rfl ?_
        refine x_getI 131 fa_X2_98_6 dX2_weakest_131 fun v29 => ?_
        refine x_ishl 134 dX2_weakest_134 ?_
        refine x_ior 135 dX2_weakest_135 ?_
        refine x_aload_n 136 5 dX2_weakest_136 rfl ?_
        refine x_aload_n 137 6 dX2_weakest_137 rfl ?_
        refine x_cV 138 6 [.int v28, .int ((v12 - v12 / (8 : Int32) * (8 : Int32)) ||| ((1 : Int32) <<< (v29 &&& 31))), .ref (idc 14 i1), .ref (idc 17 i3)] [] ⟨by decide, rfl⟩ cv_X2_87 (im_X2_go hl i0 v28 ((v12 - v12 / (8 : Int32) * (8 : Int32)) ||| ((1 : Int32) <<< (v29 &&& 31))) (idc 14 i1) (idc 17 i3)) (by decide) rfl (Nat.le_of_ble_eq_true rfl) dX2_weakest_138 fun v30 => x_stV ?_
        refine x_aload_n 141 4 dX2_weakest_141 rfl ?_
        refine x_aload 142 2 dX2_weakest_142 rfl ?_
        refine x_getI 144 fa_X2_47_6 dX2_weakest_144 fun v31 => ?_
        refine x_iload 147 1 dX2_weakest_147 rfl ?_
        refine x_aload_n 149 5 dX2_weakest_149 rfl ?_
        refine x_aload_n 150 6 dX2_weakest_150 rfl ?_
        refine x_cV 151 6 [.int v31, .int (v12 - v12 / (8 : Int32) * (8 : Int32)), .ref (idc 14 i1), .ref (idc 17 i3)] [] ⟨by decide, rfl⟩ cv_X2_87 (im_X2_go hl i0 v31 (v12 - v12 / (8 : Int32) * (8 : Int32)) (idc 14 i1) (idc 17 i3)) (by decide) rfl (Nat.le_of_ble_eq_true rfl) dX2_weakest_151 fun v32 => x_stV ?_
        refine x_goto 154 236 dX2_weakest_154 rfl ?_
        refine x_goto 236 26 dX2_weakest_236 rfl ?_
        refine x_sub [4, 5, 6, 7] _ rfl ?_
        exact hr7 u6
      · refine x_aload 157 2 dX2_weakest_157 rfl ?_
        refine x_getI 159 fa_X2_95_6 dX2_weakest_159 fun v33 => ?_
        refine x_iconst 162 4 (4 : Int32) dX2_weakest_162 rfl ?_
        refine x_icmp_ne 163 200 dX2_weakest_163 rfl (fun c34 => ?_) (fun c34 => ?_)
        · refine x_aload_n 166 4 dX2_weakest_166 rfl ?_
          refine x_iload 167 0 dX2_weakest_167 rfl ?_
          refine x_aload 169 2 dX2_weakest_169 rfl ?_
          refine x_getI 171 fa_X2_98_6 dX2_weakest_171 fun v35 => ?_
          refine x_bndj 190 (fun u36 => [(0, .ref (idc 1 i0)), (1, .ref (idc 14 i1)), (2, .ref (idc 17 i3)), (3, .int u6), (6, .int (v12 - v12 / (8 : Int32) * (8 : Int32)))]) (fun u36 => [.int u36, .ref (idc 1 i0)]) (fun u36 => ?_) (fun hj38 => ?_)
          · show TX g Γ _ Z _ 190 [(0, .ref (idc 1 i0)), (1, .ref (idc 14 i1)), (2, .ref (idc 17 i3)), (3, .int u6), (6, .int (v12 - v12 / (8 : Int32) * (8 : Int32)))] [.int u36, .ref (idc 1 i0)] _
            refine x_iload 190 4 dX2_weakest_190 rfl ?_
            refine x_aload_n 192 1 dX2_weakest_192 rfl ?_
            refine x_aload_n 193 2 dX2_weakest_193 rfl ?_
            refine x_cV 194 6 [.int u36, .int (v12 - v12 / (8 : Int32) * (8 : Int32)), .ref (idc 14 i1), .ref (idc 17 i3)] [] ⟨by decide, rfl⟩ cv_X2_87 (im_X2_go hl i0 u36 (v12 - v12 / (8 : Int32) * (8 : Int32)) (idc 14 i1) (idc 17 i3)) (by decide) rfl (Nat.le_of_ble_eq_true rfl) dX2_weakest_194 fun v37 => x_stV ?_
            refine x_goto 197 236 dX2_weakest_197 rfl ?_
            refine x_goto 236 26 dX2_weakest_236 rfl ?_
            refine x_sub [0, 1, 2, 3] _ rfl ?_
            exact hr7 u6
          · refine x_icmp_lt 174 185 dX2_weakest_174 rfl (fun c39 => ?_) (fun c39 => ?_)
            · refine x_aload 185 2 dX2_weakest_185 rfl ?_
              refine x_getI 187 fa_X2_47_6 dX2_weakest_187 fun v40 => ?_
              refine x_sub [4, 5, 6, 7, 1] _ rfl ?_
              exact hj38 v40
            · refine x_aload 177 2 dX2_weakest_177 rfl ?_
              refine x_getI 179 fa_X2_39_6 dX2_weakest_179 fun v41 => ?_
              refine x_goto 182 190 dX2_weakest_182 rfl ?_
              refine x_sub [4, 5, 6, 7, 1] _ rfl ?_
              exact hj38 v41
        · refine x_aload 200 2 dX2_weakest_200 rfl ?_
          refine x_getI 202 fa_X2_95_6 dX2_weakest_202 fun v42 => ?_
          refine x_bipush 205 6 (6 : Int32) dX2_weakest_205 rfl ?_
          refine x_icmp_eq 207 236 dX2_weakest_207 rfl (fun c43 => ?_) (fun c43 => ?_)
          · refine x_goto 236 26 dX2_weakest_236 rfl ?_
            refine x_sub [4, 5, 6, 7] _ rfl ?_
            exact hr7 u6
          · refine x_aload_n 210 4 dX2_weakest_210 rfl ?_
            refine x_aload 211 2 dX2_weakest_211 rfl ?_
            refine x_getI 213 fa_X2_39_6 dX2_weakest_213 fun v44 => ?_
            refine x_iload 216 1 dX2_weakest_216 rfl ?_
            refine x_aload_n 218 5 dX2_weakest_218 rfl ?_
            refine x_aload_n 219 6 dX2_weakest_219 rfl ?_
            refine x_cV 220 6 [.int v44, .int (v12 - v12 / (8 : Int32) * (8 : Int32)), .ref (idc 14 i1), .ref (idc 17 i3)] [] ⟨by decide, rfl⟩ cv_X2_87 (im_X2_go hl i0 v44 (v12 - v12 / (8 : Int32) * (8 : Int32)) (idc 14 i1) (idc 17 i3)) (by decide) rfl (Nat.le_of_ble_eq_true rfl) dX2_weakest_220 fun v45 => x_stV ?_
            refine x_aload_n 223 4 dX2_weakest_223 rfl ?_
            refine x_aload 224 2 dX2_weakest_224 rfl ?_
            refine x_getI 226 fa_X2_47_6 dX2_weakest_226 fun v46 => ?_
            refine x_iload 229 1 dX2_weakest_229 rfl ?_
            refine x_aload_n 231 5 dX2_weakest_231 rfl ?_
            refine x_aload_n 232 6 dX2_weakest_232 rfl ?_
            refine x_cV 233 6 [.int v46, .int (v12 - v12 / (8 : Int32) * (8 : Int32)), .ref (idc 14 i1), .ref (idc 17 i3)] [] ⟨by decide, rfl⟩ cv_X2_87 (im_X2_go hl i0 v46 (v12 - v12 / (8 : Int32) * (8 : Int32)) (idc 14 i1) (idc 17 i3)) (by decide) rfl (Nat.le_of_ble_eq_true rfl) dX2_weakest_233 fun v47 => x_stV ?_
            refine x_goto 236 26 dX2_weakest_236 rfl ?_
            refine x_sub [4, 5, 6, 7] _ rfl ?_
            exact hr7 u6
  · refine x_iload_n 239 3 dX2_weakest_239 rfl ?_
    exact x_iret 240 hZ rfl dX2_weakest_240
def f_X1_weakest (i0 : Nat) (a1 : Int32) : PT Int32 := gR 0 i0 2 fun v1 => bnd (f_X1_at v1 a1) fun v2 => isK 1 v2 fun i3 => bn0 (f_X2_weakest i3) fun v5 => rt v5
theorem im_X1_weakest {g : GP} {l : Launch} (hl : l.stackTraces = false) (i0 : Nat) (a1 : Int32) : Im g l 8 yX1_weakest cX1_weakest 2 (some .int) eI [.ref (idc 0 i0), .int a1] (f_X1_weakest i0 a1) := by
  refine tx_start hl 8 _ _ _ _ (by decide) (Nat.le_of_ble_eq_true rfl) fun Γ Z hΓ hZ => ?_
  subst hΓ
  unfold f_X1_weakest
  show TX g Γ _ Z _ 0 [(0, .ref (idc 0 i0)), (1, .int a1)] [] _
  refine x_aload_n 0 0 dX1_weakest_0 rfl ?_
  refine x_getR 1 fa_X1_83_0 dX1_weakest_1 fun v1 => ?_
  refine x_iload_n 4 1 dX1_weakest_4 rfl ?_
  refine x_cSx 5 7 [.ref v1, .int a1] [] rfl cs_X1_214 (im_X1_at hl v1 a1) (by decide) rfl (Nat.le_of_ble_eq_true rfl) dX1_weakest_5 fun v2 => x_stR ?_
  refine x_isK fun i3 h4 => ?_
  subst h4
  refine x_castS 8 (by decide) q132 dX1_weakest_8 ?_
  refine x_cV 11 7 [] [] ⟨by decide, rfl⟩ cv_X1_218 (im_X2_weakest hl i3) (by decide) rfl (Nat.le_of_ble_eq_true rfl) dX1_weakest_11 fun v5 => x_stI ?_
  exact x_iret 14 hZ rfl dX1_weakest_14
def f_X1_points (i0 : Nat) (a1 : Int32) (a2 : Int32) (a3 : Int32) : PT Int32 := bnd (f_X1_fit a1 (0 : Int32) (2 : Int32)) fun _ => bnd (ρ := _) (α := Int32) (cnd (a3 = 0) (rt (0 : Int32)) (rt (-1 : Int32))) (fun u2 => bnd (f_X1_fit a2 u2 (5 : Int32)) fun _ => bnd (ρ := _) (α := Nat) (cnd (a3 = 0) (gR 0 i0 12 fun v10 => rt v10) (gR 0 i0 13 fun v11 => rt v11)) (fun u4 => isK 32 u4 fun i5 => aI 32 i5 a1 fun v7 => bI 32 i5 a1 a2 <| rt v7))
theorem im_X1_points {g : GP} {l : Launch} (hl : l.stackTraces = false) (i0 : Nat) (a1 : Int32) (a2 : Int32) (a3 : Int32) : Im g l 7 yX1_points cX1_points 6 (some .int) eI [.ref (idc 0 i0), .int a1, .int a2, .int a3] (f_X1_points i0 a1 a2 a3) := by
  refine tx_start hl 7 _ _ _ _ (by decide) (Nat.le_of_ble_eq_true rfl) fun Γ Z hΓ hZ => ?_
  subst hΓ
  unfold f_X1_points
  show TX g Γ _ Z _ 0 [(0, .ref (idc 0 i0)), (1, .int a1), (2, .int a2), (3, .int a3)] [] _
  refine x_iload_n 0 1 dX1_points_0 rfl ?_
  refine x_iconst 1 0 (0 : Int32) dX1_points_1 rfl ?_
  refine x_iconst 2 2 (2 : Int32) dX1_points_2 rfl ?_
  refine x_cSx 3 6 [.int a1, .int (0 : Int32), .int (2 : Int32)] [] rfl cs_X1_149 (im_X1_fit hl a1 (0 : Int32) (2 : Int32)) (by decide) rfl (Nat.le_of_ble_eq_true rfl) dX1_points_3 fun v1 => x_stV ?_
  refine x_iload_n 6 2 dX1_points_6 rfl ?_
  refine x_iload_n 7 3 dX1_points_7 rfl ?_
  refine x_bndj 16 (fun u2 => [(0, .ref (idc 0 i0)), (1, .int a1), (2, .int a2), (3, .int a3)]) (fun u2 => [.int u2, .int a2]) (fun u2 => ?_) (fun hj12 => ?_)
  · show TX g Γ _ Z _ 16 [(0, .ref (idc 0 i0)), (1, .int a1), (2, .int a2), (3, .int a3)] [.int u2, .int a2] _
    refine x_iconst 16 5 (5 : Int32) dX1_points_16 rfl ?_
    refine x_cSx 17 6 [.int a2, .int u2, .int (5 : Int32)] [] rfl cs_X1_149 (im_X1_fit hl a2 u2 (5 : Int32)) (by decide) rfl (Nat.le_of_ble_eq_true rfl) dX1_points_17 fun v3 => x_stV ?_
    refine x_iload_n 20 3 dX1_points_20 rfl ?_
    refine x_bndj 35 (fun u4 => [(1, .int a1), (2, .int a2)]) (fun u4 => [.ref u4]) (fun u4 => ?_) (fun hj8 => ?_)
    · show TX g Γ _ Z _ 35 [(1, .int a1), (2, .int a2)] [.ref u4] _
      refine x_astore 35 [(4, .ref u4), (1, .int a1), (2, .int a2)] dX1_points_35 (by decide) rfl ?_
      refine x_aload 37 0 dX1_points_37 rfl ?_
      refine x_iload_n 39 1 dX1_points_39 rfl ?_
      refine x_isK fun i5 h6 => ?_
      subst h6
      refine x_iald 40 dX1_points_40 fun v7 => ?_
      refine x_istore 41 [(5, .int v7), (4, .ref (idc 32 i5)), (1, .int a1), (2, .int a2)] dX1_points_41 (by decide) rfl ?_
      refine x_aload 43 1 dX1_points_43 rfl ?_
      refine x_iload_n 45 2 dX1_points_45 rfl ?_
      refine x_iload_n 46 3 dX1_points_46 rfl ?_
      refine x_iast 47 dX1_points_47 ?_
      refine x_iload 48 0 dX1_points_48 rfl ?_
      exact x_iret 50 hZ rfl dX1_points_50
    · refine x_if_eq 21 31 dX1_points_21 rfl (fun c9 => ?_) (fun c9 => ?_)
      · refine x_aload_n 31 0 dX1_points_31 rfl ?_
        refine x_getR 32 fa_X1_115_0 dX1_points_32 fun v10 => ?_
        refine x_sub [1, 2] _ rfl ?_
        exact hj8 v10
      · refine x_aload_n 24 0 dX1_points_24 rfl ?_
        refine x_getR 25 fa_X1_118_0 dX1_points_25 fun v11 => ?_
        refine x_goto 28 35 dX1_points_28 rfl ?_
        refine x_sub [1, 2] _ rfl ?_
        exact hj8 v11
  · refine x_if_eq 8 15 dX1_points_8 rfl (fun c13 => ?_) (fun c13 => ?_)
    · refine x_iconst 15 0 (0 : Int32) dX1_points_15 rfl ?_
      exact hj12 (0 : Int32)
    · refine x_iconst 11 (-1) (-1 : Int32) dX1_points_11 rfl ?_
      refine x_goto 12 16 dX1_points_12 rfl ?_
      exact hj12 (-1 : Int32)
def f_X3_wrongsOfHour (i0 : Nat) : PT Int32 := gR 2 i0 9 fun v1 => isK 15 v1 fun i2 => bn0 (f_J20_descendingIterator i2) fun v4 => lp (σ := Int32) (fun r6 => fun u5 => cnd ((3 : Int32) ≤ u5) (rt u5) (isK 18 v4 fun i8 => bn0 (f_J28_hasNext i8) fun v10 => cnd (v10 = 0) (rt u5) (gR 2 i0 10 fun v12 => isK 0 v12 fun i13 => gI 0 i13 16 fun v15 => bn0 (f_J28_next i8) fun v16 => asr (isB v16) <| asr (isB v16) <| bn0 (f_J17_intValue v16) fun v18 => cnd ((60 : Int32) ≤ (v15 - v18)) (rt u5) (r6 (u5 + (1 : Int32)))))) (0 : Int32)
theorem im_X3_wrongsOfHour {g : GP} {l : Launch} (hl : l.stackTraces = false) (i0 : Nat) : Im g l 4 yX3_wrongsOfHour cX3_wrongsOfHour 3 (some .int) eI [.ref (idc 2 i0)] (f_X3_wrongsOfHour i0) := by
  refine tx_start hl 4 _ _ _ _ (by decide) (Nat.le_of_ble_eq_true rfl) fun Γ Z hΓ hZ => ?_
  subst hΓ
  unfold f_X3_wrongsOfHour
  show TX g Γ _ Z _ 0 [(0, .ref (idc 2 i0))] [] _
  refine x_iconst 0 0 (0 : Int32) dX3_wrongsOfHour_0 rfl ?_
  refine x_istore_n 1 [(1, .int (0 : Int32)), (0, .ref (idc 2 i0))] dX3_wrongsOfHour_1 (by decide) rfl ?_
  refine x_aload_n 2 1 dX3_wrongsOfHour_2 rfl ?_
  refine x_getR 3 fa_X3_38_2 dX3_wrongsOfHour_3 fun v1 => ?_
  refine x_isK fun i2 h3 => ?_
  subst h3
  refine x_cV 6 3 [] [] ⟨by decide, rfl⟩ cv_X3_74 (im_J20_descendingIterator hl i2) (by decide) rfl (Nat.le_of_ble_eq_true rfl) dX3_wrongsOfHour_6 fun v4 => x_stR ?_
  refine x_astore_n 9 [(2, .ref v4), (1, .int (0 : Int32)), (0, .ref (idc 2 i0))] dX3_wrongsOfHour_9 (by decide) rfl ?_
  refine x_sub [2, 1, 0] [(0, .ref (idc 2 i0)), (1, .int (0 : Int32)), (2, .ref v4)] rfl ?_
  refine x_lp (Lf := fun u5 => [(0, .ref (idc 2 i0)), (1, .int u5), (2, .ref v4)]) (sf := fun _ => []) (fun r6 hr6 u5 => ?_) (0 : Int32)
  show TX g Γ _ Z _ 10 [(0, .ref (idc 2 i0)), (1, .int u5), (2, .ref v4)] [] _
  refine x_iload_n 10 1 dX3_wrongsOfHour_10 rfl ?_
  refine x_iconst 11 3 (3 : Int32) dX3_wrongsOfHour_11 rfl ?_
  refine x_icmp_ge 12 55 dX3_wrongsOfHour_12 rfl (fun c7 => ?_) (fun c7 => ?_)
  · refine x_iload_n 55 1 dX3_wrongsOfHour_55 rfl ?_
    exact x_iret 56 hZ rfl dX3_wrongsOfHour_56
  · refine x_aload_n 15 2 dX3_wrongsOfHour_15 rfl ?_
    refine x_isK fun i8 h9 => ?_
    subst h9
    refine x_cF 16 1 [] [] (by decide) cf_X3_78_18 (im_J28_hasNext hl i8) (by decide) rfl (Nat.le_of_ble_eq_true rfl) dX3_wrongsOfHour_16 fun v10 => x_stI ?_
    refine x_if_eq 21 55 dX3_wrongsOfHour_21 rfl (fun c11 => ?_) (fun c11 => ?_)
    · refine x_iload_n 55 1 dX3_wrongsOfHour_55 rfl ?_
      exact x_iret 56 hZ rfl dX3_wrongsOfHour_56
    · refine x_aload_n 24 0 dX3_wrongsOfHour_24 rfl ?_
      refine x_getR 25 fa_X3_3_2 dX3_wrongsOfHour_25 fun v12 => ?_
      refine x_isK fun i13 h14 => ?_
      subst h14
      refine x_getI 28 fa_X3_61_0 dX3_wrongsOfHour_28 fun v15 => ?_
      refine x_aload_n 31 2 dX3_wrongsOfHour_31 rfl ?_
      refine x_cF 32 2 [] [.int v15] (by decide) cf_X3_84_18 (im_J28_next hl i8) (by decide) rfl (Nat.le_of_ble_eq_true rfl) dX3_wrongsOfHour_32 fun v16 => x_stR ?_
      refine x_asr fun h17 => ?_
      refine x_castI 37 h17 q1596 dX3_wrongsOfHour_37 ?_
      refine x_cVb 40 0 [] [.int v15] rfl cv_X3_88 (im_J17_intValue hl v16) (by decide) rfl (Nat.le_of_ble_eq_true rfl) dX3_wrongsOfHour_40 fun v18 => x_stI ?_
      refine x_isub 43 dX3_wrongsOfHour_43 ?_
      refine x_bipush 44 60 (60 : Int32) dX3_wrongsOfHour_44 rfl ?_
      refine x_icmp_ge 46 55 dX3_wrongsOfHour_46 rfl (fun c19 => ?_) (fun c19 => ?_)
      · refine x_iload_n 55 1 dX3_wrongsOfHour_55 rfl ?_
        exact x_iret 56 hZ rfl dX3_wrongsOfHour_56
      · refine x_iinc 49 1 [(1, .int (u5 + (1 : Int32))), (0, .ref (idc 2 i0)), (2, .ref (idc 18 i8))] dX3_wrongsOfHour_49 rfl rfl (by decide) rfl ?_
        refine x_goto 52 10 dX3_wrongsOfHour_52 rfl ?_
        refine x_sub [1, 0, 2] _ rfl ?_
        exact hr6 (u5 + (1 : Int32))
def f_X1_pointsOf (i0 : Nat) (a1 : Int32) (a2 : Int32) : PT Int32 := cnd (a2 = 0) (gR 0 i0 12 fun v2 => isK 32 v2 fun i3 => aI 32 i3 a1 fun v5 => rt v5) (gR 0 i0 13 fun v6 => isK 32 v6 fun i7 => aI 32 i7 a1 fun v9 => cnd (v9 = (-1 : Int32)) (gR 0 i0 12 fun v11 => isK 32 v11 fun i12 => aI 32 i12 a1 fun v14 => rt v14) (gR 0 i0 13 fun v15 => isK 32 v15 fun i16 => aI 32 i16 a1 fun v18 => rt v18))
theorem im_X1_pointsOf {g : GP} {l : Launch} (hl : l.stackTraces = false) (i0 : Nat) (a1 : Int32) (a2 : Int32) : Im g l 0 yX1_pointsOf cX1_pointsOf 3 (some .int) eI [.ref (idc 0 i0), .int a1, .int a2] (f_X1_pointsOf i0 a1 a2) := by
  refine tx_start hl 0 _ _ _ _ (by decide) (Nat.le_of_ble_eq_true rfl) fun Γ Z hΓ hZ => ?_
  subst hΓ
  unfold f_X1_pointsOf
  show TX g Γ _ Z _ 0 [(0, .ref (idc 0 i0)), (1, .int a1), (2, .int a2)] [] _
  refine x_iload_n 0 2 dX1_pointsOf_0 rfl ?_
  refine x_if_eq 1 23 dX1_pointsOf_1 rfl (fun c1 => ?_) (fun c1 => ?_)
  · refine x_aload_n 23 0 dX1_pointsOf_23 rfl ?_
    refine x_getR 24 fa_X1_115_0 dX1_pointsOf_24 fun v2 => ?_
    refine x_iload_n 27 1 dX1_pointsOf_27 rfl ?_
    refine x_isK fun i3 h4 => ?_
    subst h4
    refine x_iald 28 dX1_pointsOf_28 fun v5 => ?_
    exact x_iret 29 hZ rfl dX1_pointsOf_29
  · refine x_aload_n 4 0 dX1_pointsOf_4 rfl ?_
    refine x_getR 5 fa_X1_118_0 dX1_pointsOf_5 fun v6 => ?_
    refine x_iload_n 8 1 dX1_pointsOf_8 rfl ?_
    refine x_isK fun i7 h8 => ?_
    subst h8
    refine x_iald 9 dX1_pointsOf_9 fun v9 => ?_
    refine x_iconst 10 (-1) (-1 : Int32) dX1_pointsOf_10 rfl ?_
    refine x_icmp_eq 11 23 dX1_pointsOf_11 rfl (fun c10 => ?_) (fun c10 => ?_)
    · refine x_aload_n 23 0 dX1_pointsOf_23 rfl ?_
      refine x_getR 24 fa_X1_115_0 dX1_pointsOf_24 fun v11 => ?_
      refine x_iload_n 27 1 dX1_pointsOf_27 rfl ?_
      refine x_isK fun i12 h13 => ?_
      subst h13
      refine x_iald 28 dX1_pointsOf_28 fun v14 => ?_
      exact x_iret 29 hZ rfl dX1_pointsOf_29
    · refine x_aload_n 14 0 dX1_pointsOf_14 rfl ?_
      refine x_getR 15 fa_X1_118_0 dX1_pointsOf_15 fun v15 => ?_
      refine x_iload_n 18 1 dX1_pointsOf_18 rfl ?_
      refine x_isK fun i16 h17 => ?_
      subst h17
      refine x_iald 19 dX1_pointsOf_19 fun v18 => ?_
      refine x_goto 20 29 dX1_pointsOf_20 rfl ?_
      exact x_iret 29 hZ rfl dX1_pointsOf_29
def f_X8_risk (i0 : Nat) (a1 : Int32) : PT Int32 := gR 7 i0 0 fun v1 => isK 2 v1 fun i2 => gR 2 i2 6 fun v4 => gI 7 i0 1 fun v5 => isK 14 v4 fun i6 => bn0 (f_J18_get i6 v5) fun v8 => bnd (ρ := _) (α := Int32) (cnd (v8 = 0) (gR 7 i0 11 fun v35 => isK 0 v35 fun i36 => bn0 (f_X1_pointsOf i36 (0 : Int32) a1) fun v38 => rt v38) (rt (0 : Int32))) (fun u9 => gR 7 i0 0 fun v10 => isK 2 v10 fun i11 => gR 2 i11 7 fun v13 => gI 7 i0 2 fun v14 => isK 14 v13 fun i15 => bn0 (f_J18_get i15 v14) fun v17 => bnd (ρ := _) (α := Int32) (cnd (v17 = 0) (gR 7 i0 11 fun v29 => isK 0 v29 fun i30 => bn0 (f_X1_pointsOf i30 (1 : Int32) a1) fun v32 => rt v32) (rt (0 : Int32))) (fun u18 => gR 7 i0 0 fun v19 => isK 2 v19 fun i20 => bn0 (f_X3_wrongsOfHour i20) fun v22 => gR 7 i0 11 fun v23 => isK 0 v23 fun i24 => bn0 (f_X1_pointsOf i24 (2 : Int32) a1) fun v26 => rt ((u9 + u18) + (v22 * v26))))
theorem im_X8_risk {g : GP} {l : Launch} (hl : l.stackTraces = false) (i0 : Nat) (a1 : Int32) : Im g l 5 yX8_risk cX8_risk 3 (some .int) eI [.ref (idc 7 i0), .int a1] (f_X8_risk i0 a1) := by
  refine tx_start hl 5 _ _ _ _ (by decide) (Nat.le_of_ble_eq_true rfl) fun Γ Z hΓ hZ => ?_
  subst hΓ
  unfold f_X8_risk
  show TX g Γ _ Z _ 0 [(0, .ref (idc 7 i0)), (1, .int a1)] [] _
  refine x_aload_n 0 0 dX8_risk_0 rfl ?_
  refine x_getR 1 fa_X8_26_7 dX8_risk_1 fun v1 => ?_
  refine x_isK fun i2 h3 => ?_
  subst h3
  refine x_getR 4 fa_X8_44_2 dX8_risk_4 fun v4 => ?_
  refine x_aload_n 7 0 dX8_risk_7 rfl ?_
  refine x_getI 8 fa_X8_30_7 dX8_risk_8 fun v5 => ?_
  refine x_isK fun i6 h7 => ?_
  subst h7
  refine x_cV 11 1 [.int v5] [] ⟨by decide, rfl⟩ cv_X8_50 (im_J18_get hl i6 v5) (by decide) rfl (Nat.le_of_ble_eq_true rfl) dX8_risk_11 fun v8 => x_stI ?_
  refine x_bndj 30 (fun u9 => [(0, .ref (idc 7 i0)), (1, .int a1)]) (fun u9 => [.int u9]) (fun u9 => ?_) (fun hj33 => ?_)
  · show TX g Γ _ Z _ 30 [(0, .ref (idc 7 i0)), (1, .int a1)] [.int u9] _
    refine x_istore_n 30 [(2, .int u9), (0, .ref (idc 7 i0)), (1, .int a1)] dX8_risk_30 (by decide) rfl ?_
    refine x_iload_n 31 0 dX8_risk_31 rfl ?_
    refine x_aload_n 32 1 dX8_risk_32 rfl ?_
    refine x_getR 33 fa_X8_26_7 dX8_risk_33 fun v10 => ?_
    refine x_isK fun i11 h12 => ?_
    subst h12
    refine x_getR 36 fa_X8_60_2 dX8_risk_36 fun v13 => ?_
    refine x_aload_n 39 1 dX8_risk_39 rfl ?_
    refine x_getI 40 fa_X8_33_7 dX8_risk_40 fun v14 => ?_
    refine x_isK fun i15 h16 => ?_
    subst h16
    refine x_cV 43 1 [.int v14] [.int u9] ⟨by decide, rfl⟩ cv_X8_50 (im_J18_get hl i15 v14) (by decide) rfl (Nat.le_of_ble_eq_true rfl) dX8_risk_43 fun v17 => x_stI ?_
    refine x_bndj 62 (fun u18 => [(0, .ref (idc 7 i0)), (1, .int a1)]) (fun u18 => [.int u18, .int u9]) (fun u18 => ?_) (fun hj27 => ?_)
    · show TX g Γ _ Z _ 62 [(0, .ref (idc 7 i0)), (1, .int a1)] [.int u18, .int u9] _
      refine x_iadd 62 dX8_risk_62 ?_
      refine x_istore_n 63 [(2, .int (u9 + u18)), (0, .ref (idc 7 i0)), (1, .int a1)] dX8_risk_63 (by decide) rfl ?_
      refine x_iload_n 64 0 dX8_risk_64 rfl ?_
      refine x_aload_n 65 1 dX8_risk_65 rfl ?_
      refine x_getR 66 fa_X8_26_7 dX8_risk_66 fun v19 => ?_
      refine x_isK fun i20 h21 => ?_
      subst h21
      refine x_cV 69 4 [] [.int (u9 + u18)] ⟨by decide, rfl⟩ cv_X8_63 (im_X3_wrongsOfHour hl i20) (by decide) rfl (Nat.le_of_ble_eq_true rfl) dX8_risk_69 fun v22 => x_stI ?_
      refine x_aload_n 72 1 dX8_risk_72 rfl ?_
      refine x_getR 73 fa_X8_3_7 dX8_risk_73 fun v23 => ?_
      refine x_iconst 76 2 (2 : Int32) dX8_risk_76 rfl ?_
      refine x_iload_n 77 2 dX8_risk_77 rfl ?_
      refine x_isK fun i24 h25 => ?_
      subst h25
      refine x_cVn 78 0 [.int (2 : Int32), .int a1] [.int v22, .int (u9 + u18)] ⟨by decide, rfl⟩ cv_X8_56 (im_X1_pointsOf hl i24 (2 : Int32) a1) (by decide) rfl (Nat.le_of_ble_eq_true rfl) dX8_risk_78 fun v26 => x_stI ?_
      refine x_imul 81 dX8_risk_81 ?_
      refine x_iadd 82 dX8_risk_82 ?_
      exact x_iret 83 hZ rfl dX8_risk_83
    · refine x_if_eq 46 53 dX8_risk_46 rfl (fun c28 => ?_) (fun c28 => ?_)
      · refine x_aload_n 53 1 dX8_risk_53 rfl ?_
        refine x_getR 54 fa_X8_3_7 dX8_risk_54 fun v29 => ?_
        refine x_iconst 57 1 (1 : Int32) dX8_risk_57 rfl ?_
        refine x_iload_n 58 2 dX8_risk_58 rfl ?_
        refine x_isK fun i30 h31 => ?_
        subst h31
        refine x_cVn 59 0 [.int (1 : Int32), .int a1] [.int u9] ⟨by decide, rfl⟩ cv_X8_56 (im_X1_pointsOf hl i30 (1 : Int32) a1) (by decide) rfl (Nat.le_of_ble_eq_true rfl) dX8_risk_59 fun v32 => x_stI ?_
        refine x_sub [1, 2] _ rfl ?_
        exact hj27 v32
      · refine x_iconst 49 0 (0 : Int32) dX8_risk_49 rfl ?_
        refine x_goto 50 62 dX8_risk_50 rfl ?_
        refine x_sub [1, 2] _ rfl ?_
        exact hj27 (0 : Int32)
  · refine x_if_eq 14 21 dX8_risk_14 rfl (fun c34 => ?_) (fun c34 => ?_)
    · refine x_aload_n 21 0 dX8_risk_21 rfl ?_
      refine x_getR 22 fa_X8_3_7 dX8_risk_22 fun v35 => ?_
      refine x_iconst 25 0 (0 : Int32) dX8_risk_25 rfl ?_
      refine x_iload_n 26 1 dX8_risk_26 rfl ?_
      refine x_isK fun i36 h37 => ?_
      subst h37
      refine x_cVn 27 0 [.int (0 : Int32), .int a1] [] ⟨by decide, rfl⟩ cv_X8_56 (im_X1_pointsOf hl i36 (0 : Int32) a1) (by decide) rfl (Nat.le_of_ble_eq_true rfl) dX8_risk_27 fun v38 => x_stI ?_
      exact hj33 v38
    · refine x_iconst 17 0 (0 : Int32) dX8_risk_17 rfl ?_
      refine x_goto 18 30 dX8_risk_18 rfl ?_
      exact hj33 (0 : Int32)
def f_X8_holds (i0 : Nat) (a1 : Nat) : PT Int32 := isK 6 a1 fun i1 => gI 6 i1 0 fun v3 => cnd (v3 = (1 : Int32)) (gR 7 i0 0 fun v5 => isK 2 v5 fun i6 => gR 2 i6 6 fun v8 => gI 7 i0 1 fun v9 => isK 14 v8 fun i10 => bn0 (f_J18_get i10 v9) fun v12 => asr (v12 = 0 ∨ v12 = 1) (rt v12)) (cnd (v3 = (2 : Int32)) (bn0 (f_X8_risk i0 (0 : Int32)) fun v14 => gI 6 i1 1 fun v15 => cnd (v14 < v15) (asr ((0 : Int32) = 0 ∨ (0 : Int32) = 1) (rt (0 : Int32))) (asr ((1 : Int32) = 0 ∨ (1 : Int32) = 1) (rt (1 : Int32)))) (cnd (v3 = (3 : Int32)) (gR 7 i0 0 fun v18 => isK 2 v18 fun i19 => gR 2 i19 1 fun v21 => gI 6 i1 1 fun v22 => isK 32 v21 fun i23 => aI 32 i23 v22 fun v25 => cnd (v25 = (1 : Int32)) (asr ((1 : Int32) = 0 ∨ (1 : Int32) = 1) (rt (1 : Int32))) (asr ((0 : Int32) = 0 ∨ (0 : Int32) = 1) (rt (0 : Int32)))) (gI 7 i0 9 fun v27 => bn0 (f_X1_levelOf v27) fun v28 => gI 6 i1 1 fun v29 => cnd (v28 < v29) (asr ((0 : Int32) = 0 ∨ (0 : Int32) = 1) (rt (0 : Int32))) (asr ((1 : Int32) = 0 ∨ (1 : Int32) = 1) (rt (1 : Int32))))))
theorem im_X8_holds {g : GP} {l : Launch} (hl : l.stackTraces = false) (i0 : Nat) (a1 : Nat) : Im g l 6 yX8_holds cX8_holds 2 (some .boolean) eI [.ref (idc 7 i0), .ref a1] (f_X8_holds i0 a1) := by
  refine tx_start hl 6 _ _ _ _ (by decide) (Nat.le_of_ble_eq_true rfl) fun Γ Z hΓ hZ => ?_
  subst hΓ
  unfold f_X8_holds
  show TX g Γ _ Z _ 0 [(0, .ref (idc 7 i0)), (1, .ref a1)] [] _
  refine x_aload_n 0 1 dX8_holds_0 rfl ?_
  refine x_isK fun i1 h2 => ?_
  subst h2
  refine x_getI 1 fa_X8_67_6 dX8_holds_1 fun v3 => ?_
  refine x_cnd (fun c4 => ?_) (fun c4 => ?_)
  · refine x_tsw 4 32 (1 : Int32) 1 28 c4 rfl dX8_holds_4 (by decide) (by decide) rfl rfl ?_
    refine x_aload_n 32 0 dX8_holds_32 rfl ?_
    refine x_getR 33 fa_X8_26_7 dX8_holds_33 fun v5 => ?_
    refine x_isK fun i6 h7 => ?_
    subst h7
    refine x_getR 36 fa_X8_44_2 dX8_holds_36 fun v8 => ?_
    refine x_aload_n 39 0 dX8_holds_39 rfl ?_
    refine x_getI 40 fa_X8_30_7 dX8_holds_40 fun v9 => ?_
    refine x_isK fun i10 h11 => ?_
    subst h11
    refine x_cV 43 1 [.int v9] [] ⟨by decide, rfl⟩ cv_X8_50 (im_J18_get hl i10 v9) (by decide) rfl (Nat.le_of_ble_eq_true rfl) dX8_holds_43 fun v12 => x_stI ?_
    exact x_zret 46 hZ rfl dX8_holds_46
  · refine x_cnd (fun c13 => ?_) (fun c13 => ?_)
    · refine x_tsw 4 47 (2 : Int32) 2 43 c13 rfl dX8_holds_4 (by decide) (by decide) rfl rfl ?_
      refine x_aload_n 47 0 dX8_holds_47 rfl ?_
      refine x_iconst 48 0 (0 : Int32) dX8_holds_48 rfl ?_
      refine x_cV 49 5 [.int (0 : Int32)] [] ⟨by decide, rfl⟩ cv_X8_72 (im_X8_risk hl i0 (0 : Int32)) (by decide) rfl (Nat.le_of_ble_eq_true rfl) dX8_holds_49 fun v14 => x_stI ?_
      refine x_aload_n 52 1 dX8_holds_52 rfl ?_
      refine x_getI 53 fa_X8_76_6 dX8_holds_53 fun v15 => ?_
      refine x_icmp_lt 56 63 dX8_holds_56 rfl (fun c16 => ?_) (fun c16 => ?_)
      · refine x_iconst 63 0 (0 : Int32) dX8_holds_63 rfl ?_
        exact x_zret 64 hZ rfl dX8_holds_64
      · refine x_iconst 59 1 (1 : Int32) dX8_holds_59 rfl ?_
        refine x_goto 60 64 dX8_holds_60 rfl ?_
        exact x_zret 64 hZ rfl dX8_holds_64
    · refine x_cnd (fun c17 => ?_) (fun c17 => ?_)
      · refine x_tsw 4 65 (3 : Int32) 3 61 c17 rfl dX8_holds_4 (by decide) (by decide) rfl rfl ?_
        refine x_aload_n 65 0 dX8_holds_65 rfl ?_
        refine x_getR 66 fa_X8_26_7 dX8_holds_66 fun v18 => ?_
        refine x_isK fun i19 h20 => ?_
        subst h20
        refine x_getR 69 fa_X8_79_2 dX8_holds_69 fun v21 => ?_
        refine x_aload_n 72 1 dX8_holds_72 rfl ?_
        refine x_getI 73 fa_X8_76_6 dX8_holds_73 fun v22 => ?_
        refine x_isK fun i23 h24 => ?_
        subst h24
        refine x_iald 76 dX8_holds_76 fun v25 => ?_
        refine x_iconst 77 1 (1 : Int32) dX8_holds_77 rfl ?_
        refine x_icmp_ne 78 85 dX8_holds_78 rfl (fun c26 => ?_) (fun c26 => ?_)
        · refine x_iconst 81 1 (1 : Int32) dX8_holds_81 rfl ?_
          refine x_goto 82 86 dX8_holds_82 rfl ?_
          exact x_zret 86 hZ rfl dX8_holds_86
        · refine x_iconst 85 0 (0 : Int32) dX8_holds_85 rfl ?_
          exact x_zret 86 hZ rfl dX8_holds_86
      · refine x_tswD 4 87 dX8_holds_4 (sw_out fun n hn => ?_) rfl ?_
        · have hn : n < 3 := by omega
          match n, hn with
          | 0, _ => exact i32_ne c4 rfl
          | 1, _ => exact i32_ne c13 rfl
          | 2, _ => exact i32_ne c17 rfl
        · refine x_aload_n 87 0 dX8_holds_87 rfl ?_
          refine x_getI 88 fa_X8_82_7 dX8_holds_88 fun v27 => ?_
          refine x_cSn 91 0 [.int v27] [] cs_X8_85 (im_X1_levelOf hl v27) (by decide) rfl (Nat.le_of_ble_eq_true rfl) dX8_holds_91 fun v28 => x_stI ?_
          refine x_aload_n 94 1 dX8_holds_94 rfl ?_
          refine x_getI 95 fa_X8_76_6 dX8_holds_95 fun v29 => ?_
          refine x_icmp_lt 98 105 dX8_holds_98 rfl (fun c30 => ?_) (fun c30 => ?_)
          · refine x_iconst 105 0 (0 : Int32) dX8_holds_105 rfl ?_
            exact x_zret 106 hZ rfl dX8_holds_106
          · refine x_iconst 101 1 (1 : Int32) dX8_holds_101 rfl ?_
            refine x_goto 102 106 dX8_holds_102 rfl ?_
            exact x_zret 106 hZ rfl dX8_holds_106
def f_X9_init (i0 : Nat) (a1 : Nat) (a2 : Int32) (a3 : Nat) (a4 : Nat) (a5 : Nat) (a6 : Int32) : PT Unit := pR 8 i0 8 a1 <| gR 8 i0 8 fun v1 => isK 0 v1 fun i2 => gI 0 i2 16 fun v4 => pI 8 i0 3 v4 <| gR 8 i0 8 fun v5 => isK 0 v5 fun i6 => gI 0 i6 16 fun v8 => pI 8 i0 4 v8 <| pZ 8 i0 5 (1 : Int32) <| pI 8 i0 0 a2 <| pR 8 i0 1 a3 <| pR 8 i0 2 a4 <| cln 32 a5 fun i9 => pR 8 i0 6 (idc 32 i9) <| pI 8 i0 7 a6 <| rt ()
theorem im_X9_init {g : GP} {l : Launch} (hl : l.stackTraces = false) (i0 : Nat) (a1 : Nat) (a2 : Int32) (a3 : Nat) (a4 : Nat) (a5 : Nat) (a6 : Int32) : Im g l 1 yX9_init cX9_init 7 none eV [.ref (idc 8 i0), .ref a1, .int a2, .ref a3, .ref a4, .ref (idc 32 a5), .int a6] (f_X9_init i0 a1 a2 a3 a4 a5 a6) := by
  refine tx_start hl 1 _ _ _ _ (by decide) (Nat.le_of_ble_eq_true rfl) fun Γ Z hΓ hZ => ?_
  subst hΓ
  unfold f_X9_init
  show TX g Γ _ Z _ 0 [(0, .ref (idc 8 i0)), (1, .ref a1), (2, .int a2), (3, .ref a3), (4, .ref a4), (5, .ref (idc 32 a5)), (6, .int a6)] [] _
  refine x_aload_n 0 0 dX9_init_0 rfl ?_
  refine x_aload_n 1 1 dX9_init_1 rfl ?_
  refine x_putR 2 fa_X9_3_8 rfl (Or.inr ⟨rfl, rfl, rfl⟩) dX9_init_2 ?_
  refine x_aload_n 5 0 dX9_init_5 rfl ?_
  refine x_objI 6 (by decide) q1609 q128 q129 dX9_init_6 (Nat.le_of_ble_eq_true rfl) (by decide) ?_
  refine x_aload_n 9 0 dX9_init_9 rfl ?_
  refine x_aload_n 10 0 dX9_init_10 rfl ?_
  refine x_getR 11 fa_X9_3_8 dX9_init_11 fun v1 => ?_
  refine x_isK fun i2 h3 => ?_
  subst h3
  refine x_getI 14 fa_X9_15_0 dX9_init_14 fun v4 => ?_
  refine x_putI 17 fa_X9_19_8 rfl (Or.inr ⟨rfl, rfl, rfl⟩) dX9_init_17 ?_
  refine x_aload_n 20 0 dX9_init_20 rfl ?_
  refine x_aload_n 21 0 dX9_init_21 rfl ?_
  refine x_getR 22 fa_X9_3_8 dX9_init_22 fun v5 => ?_
  refine x_isK fun i6 h7 => ?_
  subst h7
  refine x_getI 25 fa_X9_15_0 dX9_init_25 fun v8 => ?_
  refine x_putI 28 fa_X9_22_8 rfl (Or.inl rfl) dX9_init_28 ?_
  refine x_aload_n 31 0 dX9_init_31 rfl ?_
  refine x_iconst 32 1 (1 : Int32) dX9_init_32 rfl ?_
  refine x_putZ 33 fa_X9_25_8 rfl (Or.inl rfl) dX9_init_33 ?_
  refine x_aload_n 36 0 dX9_init_36 rfl ?_
  refine x_iload_n 37 2 dX9_init_37 rfl ?_
  refine x_putI 38 fa_X9_29_8 rfl (Or.inr ⟨rfl, rfl, rfl⟩) dX9_init_38 ?_
  refine x_aload_n 41 0 dX9_init_41 rfl ?_
  refine x_aload_n 42 3 dX9_init_42 rfl ?_
  refine x_putR 43 fa_X9_32_8 rfl (Or.inr ⟨rfl, rfl, rfl⟩) dX9_init_43 ?_
  refine x_aload_n 46 0 dX9_init_46 rfl ?_
  refine x_aload 47 4 dX9_init_47 rfl ?_
  refine x_putR 49 fa_X9_36_8 rfl (Or.inr ⟨rfl, rfl, rfl⟩) dX9_init_49 ?_
  refine x_aload_n 52 0 dX9_init_52 rfl ?_
  refine x_aload 53 5 dX9_init_53 rfl ?_
  refine x_clnA 55 (Or.inl ⟨rfl, rfl⟩) q1610 q1611 q266 q267 q1612 q1613 (by decide) (Nat.le_of_ble_eq_true rfl) dX9_init_55 fun i9 => ?_
  refine x_castA 58 (Or.inl ⟨rfl, rfl⟩) q1614 dX9_init_58 ?_
  refine x_putR 61 fa_X9_46_8 rfl (Or.inr ⟨rfl, rfl, rfl⟩) dX9_init_61 ?_
  refine x_aload_n 64 0 dX9_init_64 rfl ?_
  refine x_iload 65 6 dX9_init_65 rfl ?_
  refine x_putI 67 fa_X9_49_8 rfl (Or.inl rfl) dX9_init_67 ?_
  exact x_vret 70 hZ rfl dX9_init_70
def f_X1_beginSession (i0 : Nat) (a1 : Nat) (a2 : Nat) (a3 : Nat) (a4 : Int32) : PT Int32 := nw 8 9 fun i1 => gR 0 i0 4 fun v2 => isK 13 v2 fun i3 => bn0 (f_J2_size i3) fun v5 => bn0 (f_X9_init i1 (idc 0 i0) v5 a1 a2 a3 a4) fun _ => gR 0 i0 4 fun v7 => isK 13 v7 fun i8 => bn0 (f_J2_add i8 (idc 8 i1)) fun v10 => gI 8 i1 0 fun v11 => bn0 (f_X1_write i0 (0 : Int32) v11) fun _ => gI 8 i1 0 fun v13 => rt v13
theorem im_X1_beginSession {g : GP} {l : Launch} (hl : l.stackTraces = false) (i0 : Nat) (a1 : Nat) (a2 : Nat) (a3 : Nat) (a4 : Int32) : Im g l 8 yX1_beginSession cX1_beginSession 6 (some .int) eI [.ref (idc 0 i0), .ref a1, .ref a2, .ref (idc 32 a3), .int a4] (f_X1_beginSession i0 a1 a2 a3 a4) := by
  refine tx_start hl 8 _ _ _ _ (by decide) (Nat.le_of_ble_eq_true rfl) fun Γ Z hΓ hZ => ?_
  subst hΓ
  unfold f_X1_beginSession
  show TX g Γ _ Z _ 0 [(0, .ref (idc 0 i0)), (1, .ref a1), (2, .ref a2), (3, .ref (idc 32 a3)), (4, .int a4)] [] _
  refine x_new 0 na_X1_3 dX1_beginSession_0 fun i1 => ?_
  refine x_dup 3 dX1_beginSession_3 rfl ?_
  refine x_aload_n 4 0 dX1_beginSession_4 rfl ?_
  refine x_aload_n 5 0 dX1_beginSession_5 rfl ?_
  refine x_getR 6 fa_X1_5_0 dX1_beginSession_6 fun v2 => ?_
  refine x_isK fun i3 h4 => ?_
  subst h4
  refine x_cF 9 0 [] [.ref (idc 0 i0), .ref (idc 8 i1), .ref (idc 8 i1)] (by decide) cf_X1_9_13 (im_J2_size hl i3) (by decide) rfl (Nat.le_of_ble_eq_true rfl) dX1_beginSession_9 fun v5 => x_stI ?_
  refine x_aload_n 14 1 dX1_beginSession_14 rfl ?_
  refine x_aload_n 15 2 dX1_beginSession_15 rfl ?_
  refine x_aload_n 16 3 dX1_beginSession_16 rfl ?_
  refine x_iload 17 4 dX1_beginSession_17 rfl ?_
  refine x_cI 19 1 [.ref (idc 0 i0), .int v5, .ref a1, .ref a2, .ref (idc 32 a3), .int a4] [.ref (idc 8 i1)] (by decide) cn_X1_15 (im_X9_init hl i1 (idc 0 i0) v5 a1 a2 a3 a4) (by decide) rfl (Nat.le_of_ble_eq_true rfl) dX1_beginSession_19 fun v6 => x_stV ?_
  refine x_astore 22 [(5, .ref (idc 8 i1)), (0, .ref (idc 0 i0)), (1, .ref a1), (2, .ref a2), (3, .ref (idc 32 a3)), (4, .int a4)] dX1_beginSession_22 (by decide) rfl ?_
  refine x_aload_n 24 1 dX1_beginSession_24 rfl ?_
  refine x_getR 25 fa_X1_5_0 dX1_beginSession_25 fun v7 => ?_
  refine x_aload 28 0 dX1_beginSession_28 rfl ?_
  refine x_isK fun i8 h9 => ?_
  subst h9
  refine x_cF 30 6 [.ref (idc 8 i1)] [] (by decide) cf_X1_19_13 (im_J2_add hl i8 (idc 8 i1)) (by decide) rfl (Nat.le_of_ble_eq_true rfl) dX1_beginSession_30 fun v10 => x_stI ?_
  refine x_pop 35 dX1_beginSession_35 rfl ?_
  refine x_aload_n 36 1 dX1_beginSession_36 rfl ?_
  refine x_iconst 37 0 (0 : Int32) dX1_beginSession_37 rfl ?_
  refine x_aload 38 0 dX1_beginSession_38 rfl ?_
  refine x_getI 40 fa_X1_23_8 dX1_beginSession_40 fun v11 => ?_
  refine x_cV 43 7 [.int (0 : Int32), .int v11] [] ⟨by decide, rfl⟩ cv_X1_27 (im_X1_write hl i0 (0 : Int32) v11) (by decide) rfl (Nat.le_of_ble_eq_true rfl) dX1_beginSession_43 fun v12 => x_stV ?_
  refine x_aload 46 0 dX1_beginSession_46 rfl ?_
  refine x_getI 48 fa_X1_23_8 dX1_beginSession_48 fun v13 => ?_
  exact x_iret 51 hZ rfl dX1_beginSession_51
def f_X8_go (i0 : Nat) (a1 : Int32) : PT Unit := bnd (lp (σ := Int32) (ρ := Int32) (fun r2 => fun u1 => cnd (u1 = (-1 : Int32)) (rt u1) (gR 7 i0 3 fun v6 => isK 1 v6 fun i7 => gR 1 i7 0 fun v9 => isK 13 v9 fun i10 => bn0 (f_J2_get i10 u1) fun v12 => isK 6 v12 fun i13 => bn0 (f_X7_isTest i13) fun v15 => cnd (v15 = 0) (rt u1) (gR 7 i0 3 fun v17 => isK 1 v17 fun i18 => gR 1 i18 0 fun v20 => isK 13 v20 fun i21 => bn0 (f_J2_get i21 u1) fun v23 => isK 6 v23 fun i24 => bn0 (f_X8_holds i0 (idc 6 i24)) fun v26 => cnd (v26 = 0) (gI 6 i24 4 fun v28 => r2 v28) (gI 6 i24 3 fun v29 => r2 v29)))) a1) (fun u3 => bnd (ρ := _) (α := Nat) (cnd (u3 = (-1 : Int32)) (rt nul) (gR 7 i0 3 fun v87 => isK 1 v87 fun i88 => gR 1 i88 0 fun v90 => isK 13 v90 fun i91 => bn0 (f_J2_get i91 u3) fun v93 => isK 6 v93 fun i94 => rt (idc 6 i94))) (fun u30 => pR 7 i0 4 u30 <| pI 7 i0 5 (0 : Int32) <| gR 7 i0 4 fun v31 => jo (σ := Unit) (fun _ => pI 7 i0 7 (2 : Int32) <| rt ()) fun j33 => cnd (v31 = nul) (j33 ()) (gR 7 i0 4 fun v35 => isK 6 v35 fun i36 => gI 6 i36 0 fun v38 => cnd (v38 = (6 : Int32)) (j33 ()) (gR 7 i0 4 fun v40 => isK 6 v40 fun i41 => gI 6 i41 0 fun v43 => jo (σ := Unit) (fun _ => gR 7 i0 4 fun v44 => isK 6 v44 fun i45 => gI 6 i45 0 fun v47 => cnd (v47 = (5 : Int32)) (pI 7 i0 7 (1 : Int32) <| gR 7 i0 11 fun v49 => gR 7 i0 0 fun v50 => gR 7 i0 8 fun v51 => gI 7 i0 9 fun v52 => isK 0 v49 fun i53 => isK 32 v51 fun i55 => bn0 (f_X1_beginSession i53 v50 nul i55 v52) fun v57 => pI 7 i0 10 v57 <| gR 7 i0 0 fun v58 => isK 2 v58 fun i59 => gR 2 i59 6 fun v61 => gI 7 i0 1 fun v62 => isK 14 v61 fun i63 => bn0 (f_J18_set i63 v62) fun _ => gR 7 i0 0 fun v66 => isK 2 v66 fun i67 => gR 2 i67 7 fun v69 => gI 7 i0 2 fun v70 => isK 14 v69 fun i71 => bn0 (f_J18_set i71 v70) fun _ => rt ()) (rt ())) fun j75 => cnd (v43 = (5 : Int32)) (gR 7 i0 11 fun v77 => isK 0 v77 fun i78 => gR 0 i78 4 fun v80 => isK 13 v80 fun i81 => bn0 (f_J2_size i81) fun v83 => cnd (v83 = (60 : Int32)) (j33 ()) (j75 ())) (j75 ())))))
theorem im_X8_go {g : GP} {l : Launch} (hl : l.stackTraces = false) (i0 : Nat) (a1 : Int32) : Im g l 9 yX8_go cX8_go 4 none eV [.ref (idc 7 i0), .int a1] (f_X8_go i0 a1) := by
  refine tx_start hl 9 _ _ _ _ (by decide) (Nat.le_of_ble_eq_true rfl) fun Γ Z hΓ hZ => ?_
  subst hΓ
  unfold f_X8_go
  show TX g Γ _ Z _ 0 [(0, .ref (idc 7 i0)), (1, .int a1)] [] _
  refine x_iload_n 0 1 dX8_go_0 rfl ?_
  refine x_istore_n 1 [(2, .int a1), (0, .ref (idc 7 i0)), (1, .int a1)] dX8_go_1 (by decide) rfl ?_
  refine x_sub [1, 0] [(0, .ref (idc 7 i0)), (2, .int a1)] rfl ?_
  refine x_bndj 69 (fun u3 => [(0, .ref (idc 7 i0)), (2, .int u3)]) (fun u3 => []) (fun u3 => ?_) (fun hj4 => ?_)
  · show TX g Γ _ Z _ 69 [(0, .ref (idc 7 i0)), (2, .int u3)] [] _
    refine x_aload_n 69 0 dX8_go_69 rfl ?_
    refine x_iload_n 70 1 dX8_go_70 rfl ?_
    refine x_iconst 71 (-1) (-1 : Int32) dX8_go_71 rfl ?_
    refine x_bndj 95 (fun u30 => [(0, .ref (idc 7 i0))]) (fun u30 => [.ref u30, .ref (idc 7 i0)]) (fun u30 => ?_) (fun hj85 => ?_)
    · show TX g Γ _ Z _ 95 [(0, .ref (idc 7 i0))] [.ref u30, .ref (idc 7 i0)] _
      refine x_putR 95 fa_X8_114_7 rfl (Or.inl rfl) dX8_go_95 ?_
      refine x_aload_n 98 0 dX8_go_98 rfl ?_
      refine x_iconst 99 0 (0 : Int32) dX8_go_99 rfl ?_
      refine x_putI 100 fa_X8_118_7 rfl (Or.inl rfl) dX8_go_100 ?_
      refine x_aload_n 103 0 dX8_go_103 rfl ?_
      refine x_getR 104 fa_X8_114_7 dX8_go_104 fun v31 => ?_
      refine x_jo 150 (Lf := fun _ => [(0, .ref (idc 7 i0))]) (sf := fun _ => []) (fun _ => ?_) (fun j33 hj32 => ?_)
      · show TX g Γ _ Z _ 150 [(0, .ref (idc 7 i0))] [] _
        refine x_aload_n 150 0 dX8_go_150 rfl ?_
        refine x_iconst 151 2 (2 : Int32) dX8_go_151 rfl ?_
        refine x_putI 152 fa_X8_15_7 rfl (Or.inl rfl) dX8_go_152 ?_
        refine x_goto 155 226 dX8_go_155 rfl ?_
        exact x_vret 226 hZ rfl dX8_go_226
      · refine x_ifnull 107 150 dX8_go_107 rfl (fun c34 => ?_) (fun c34 => ?_)
        · exact hj32 ()
        · refine x_aload_n 110 0 dX8_go_110 rfl ?_
          refine x_getR 111 fa_X8_114_7 dX8_go_111 fun v35 => ?_
          refine x_isK fun i36 h37 => ?_
          subst h37
          refine x_getI 114 fa_X8_67_6 dX8_go_114 fun v38 => ?_
          refine x_bipush 117 6 (6 : Int32) dX8_go_117 rfl ?_
          refine x_icmp_eq 119 150 dX8_go_119 rfl (fun c39 => ?_) (fun c39 => ?_)
          · exact hj32 ()
          · refine x_aload_n 122 0 dX8_go_122 rfl ?_
            refine x_getR 123 fa_X8_114_7 dX8_go_123 fun v40 => ?_
            refine x_isK fun i41 h42 => ?_
            subst h42
            refine x_getI 126 fa_X8_67_6 dX8_go_126 fun v43 => ?_
            refine x_iconst 129 5 (5 : Int32) dX8_go_129 rfl ?_
            refine x_jo 158 (Lf := fun _ => [(0, .ref (idc 7 i0))]) (sf := fun _ => []) (fun _ => ?_) (fun j75 hj74 => ?_)
            · show TX g Γ _ Z _ 158 [(0, .ref (idc 7 i0))] [] _
              refine x_aload_n 158 0 dX8_go_158 rfl ?_
              refine x_getR 159 fa_X8_114_7 dX8_go_159 fun v44 => ?_
              refine x_isK fun i45 h46 => ?_
              subst h46
              refine x_getI 162 fa_X8_67_6 dX8_go_162 fun v47 => ?_
              refine x_iconst 165 5 (5 : Int32) dX8_go_165 rfl ?_
              refine x_icmp_ne 166 226 dX8_go_166 rfl (fun c48 => ?_) (fun c48 => ?_)
              · refine x_aload_n 169 0 dX8_go_169 rfl ?_
                refine x_iconst 170 1 (1 : Int32) dX8_go_170 rfl ?_
                refine x_putI 171 fa_X8_15_7 rfl (Or.inl rfl) dX8_go_171 ?_
                refine x_aload_n 174 0 dX8_go_174 rfl ?_
                refine x_aload_n 175 0 dX8_go_175 rfl ?_
                refine x_getR 176 fa_X8_3_7 dX8_go_176 fun v49 => ?_
                refine x_aload_n 179 0 dX8_go_179 rfl ?_
                refine x_getR 180 fa_X8_26_7 dX8_go_180 fun v50 => ?_
                refine x_null 183 dX8_go_183 ?_
                refine x_aload_n 184 0 dX8_go_184 rfl ?_
                refine x_getR 185 fa_X8_19_7 dX8_go_185 fun v51 => ?_
                refine x_aload_n 188 0 dX8_go_188 rfl ?_
                refine x_getI 189 fa_X8_82_7 dX8_go_189 fun v52 => ?_
                refine x_isK fun i53 h54 => ?_
                subst h54
                refine x_isK fun i55 h56 => ?_
                subst h56
                refine x_cVn 192 8 [.ref v50, .ref nul, .ref (idc 32 i55), .int v52] [.ref (idc 7 i0)] ⟨by decide, rfl⟩ cv_X8_127 (im_X1_beginSession hl i53 v50 nul i55 v52) (by decide) rfl (Nat.le_of_ble_eq_true rfl) dX8_go_192 fun v57 => x_stI ?_
                refine x_putI 195 fa_X8_23_7 rfl (Or.inl rfl) dX8_go_195 ?_
                refine x_aload_n 198 0 dX8_go_198 rfl ?_
                refine x_getR 199 fa_X8_26_7 dX8_go_199 fun v58 => ?_
                refine x_isK fun i59 h60 => ?_
                subst h60
                refine x_getR 202 fa_X8_44_2 dX8_go_202 fun v61 => ?_
                refine x_aload_n 205 0 dX8_go_205 rfl ?_
                refine x_getI 206 fa_X8_30_7 dX8_go_206 fun v62 => ?_
                refine x_isK fun i63 h64 => ?_
                subst h64
                refine x_cV 209 4 [.int v62] [] ⟨by decide, rfl⟩ cv_X8_131 (im_J18_set hl i63 v62) (by decide) rfl (Nat.le_of_ble_eq_true rfl) dX8_go_209 fun v65 => x_stV ?_
                refine x_aload_n 212 0 dX8_go_212 rfl ?_
                refine x_getR 213 fa_X8_26_7 dX8_go_213 fun v66 => ?_
                refine x_isK fun i67 h68 => ?_
                subst h68
                refine x_getR 216 fa_X8_60_2 dX8_go_216 fun v69 => ?_
                refine x_aload_n 219 0 dX8_go_219 rfl ?_
                refine x_getI 220 fa_X8_33_7 dX8_go_220 fun v70 => ?_
                refine x_isK fun i71 h72 => ?_
                subst h72
                refine x_cV 223 4 [.int v70] [] ⟨by decide, rfl⟩ cv_X8_131 (im_J18_set hl i71 v70) (by decide) rfl (Nat.le_of_ble_eq_true rfl) dX8_go_223 fun v73 => x_stV ?_
                exact x_vret 226 hZ rfl dX8_go_226
              · exact x_vret 226 hZ rfl dX8_go_226
            · refine x_icmp_ne 130 158 dX8_go_130 rfl (fun c76 => ?_) (fun c76 => ?_)
              · refine x_aload_n 133 0 dX8_go_133 rfl ?_
                refine x_getR 134 fa_X8_3_7 dX8_go_134 fun v77 => ?_
                refine x_isK fun i78 h79 => ?_
                subst h79
                refine x_getR 137 fa_X8_121_0 dX8_go_137 fun v80 => ?_
                refine x_isK fun i81 h82 => ?_
                subst h82
                refine x_cF 140 0 [] [] (by decide) cf_X8_124_13 (im_J2_size hl i81) (by decide) rfl (Nat.le_of_ble_eq_true rfl) dX8_go_140 fun v83 => x_stI ?_
                refine x_bipush 145 60 (60 : Int32) dX8_go_145 rfl ?_
                refine x_icmp_ne 147 158 dX8_go_147 rfl (fun c84 => ?_) (fun c84 => ?_)
                · exact hj32 ()
                · exact hj74 ()
              · exact hj74 ()
    · refine x_icmp_ne 72 79 dX8_go_72 rfl (fun c86 => ?_) (fun c86 => ?_)
      · refine x_null 75 dX8_go_75 ?_
        refine x_goto 76 95 dX8_go_76 rfl ?_
        refine x_sub [0] _ rfl ?_
        exact hj85 nul
      · refine x_aload_n 79 0 dX8_go_79 rfl ?_
        refine x_getR 80 fa_X8_36_7 dX8_go_80 fun v87 => ?_
        refine x_isK fun i88 h89 => ?_
        subst h89
        refine x_getR 83 fa_X8_89_1 dX8_go_83 fun v90 => ?_
        refine x_iload_n 86 1 dX8_go_86 rfl ?_
        refine x_isK fun i91 h92 => ?_
        subst h92
        refine x_cF 87 2 [.int u3] [.ref (idc 7 i0)] (by decide) cf_X8_95_13 (im_J2_get hl i91 u3) (by decide) rfl (Nat.le_of_ble_eq_true rfl) dX8_go_87 fun v93 => x_stR ?_
        refine x_isK fun i94 h95 => ?_
        subst h95
        refine x_castS 92 (by decide) q1392 dX8_go_92 ?_
        refine x_sub [0] _ rfl ?_
        exact hj85 (idc 6 i94)
  · refine x_lp (Lf := fun u1 => [(0, .ref (idc 7 i0)), (2, .int u1)]) (sf := fun _ => []) (fun r2 hr2 u1 => ?_) a1
    show TX g Γ _ Z _ 2 [(0, .ref (idc 7 i0)), (2, .int u1)] [] _
    refine x_iload_n 2 1 dX8_go_2 rfl ?_
    refine x_iconst 3 (-1) (-1 : Int32) dX8_go_3 rfl ?_
    refine x_icmp_eq 4 69 dX8_go_4 rfl (fun c5 => ?_) (fun c5 => ?_)
    · exact hj4 u1
    · refine x_aload_n 7 0 dX8_go_7 rfl ?_
      refine x_getR 8 fa_X8_36_7 dX8_go_8 fun v6 => ?_
      refine x_isK fun i7 h8 => ?_
      subst h8
      refine x_getR 11 fa_X8_89_1 dX8_go_11 fun v9 => ?_
      refine x_iload_n 14 1 dX8_go_14 rfl ?_
      refine x_isK fun i10 h11 => ?_
      subst h11
      refine x_cF 15 2 [.int u1] [] (by decide) cf_X8_95_13 (im_J2_get hl i10 u1) (by decide) rfl (Nat.le_of_ble_eq_true rfl) dX8_go_15 fun v12 => x_stR ?_
      refine x_isK fun i13 h14 => ?_
      subst h14
      refine x_castS 20 (by decide) q1392 dX8_go_20 ?_
      refine x_cV 23 0 [] [] ⟨by decide, rfl⟩ cv_X8_100 (im_X7_isTest hl i13) (by decide) rfl (Nat.le_of_ble_eq_true rfl) dX8_go_23 fun v15 => x_stI ?_
      refine x_if_eq 26 69 dX8_go_26 rfl (fun c16 => ?_) (fun c16 => ?_)
      · exact hj4 u1
      · refine x_aload_n 29 0 dX8_go_29 rfl ?_
        refine x_getR 30 fa_X8_36_7 dX8_go_30 fun v17 => ?_
        refine x_isK fun i18 h19 => ?_
        subst h19
        refine x_getR 33 fa_X8_89_1 dX8_go_33 fun v20 => ?_
        refine x_iload_n 36 1 dX8_go_36 rfl ?_
        refine x_isK fun i21 h22 => ?_
        subst h22
        refine x_cF 37 2 [.int u1] [] (by decide) cf_X8_95_13 (im_J2_get hl i21 u1) (by decide) rfl (Nat.le_of_ble_eq_true rfl) dX8_go_37 fun v23 => x_stR ?_
        refine x_isK fun i24 h25 => ?_
        subst h25
        refine x_castS 42 (by decide) q1392 dX8_go_42 ?_
        refine x_astore_n 45 [(3, .ref (idc 6 i24)), (0, .ref (idc 7 i0)), (2, .int u1)] dX8_go_45 (by decide) rfl ?_
        refine x_aload_n 46 1 dX8_go_46 rfl ?_
        refine x_aload_n 47 0 dX8_go_47 rfl ?_
        refine x_cV 48 6 [.ref (idc 6 i24)] [] ⟨by decide, rfl⟩ cv_X8_104 (im_X8_holds hl i0 (idc 6 i24)) (by decide) rfl (Nat.le_of_ble_eq_true rfl) dX8_go_48 fun v26 => x_stI ?_
        refine x_if_eq 51 61 dX8_go_51 rfl (fun c27 => ?_) (fun c27 => ?_)
        · refine x_aload_n 61 0 dX8_go_61 rfl ?_
          refine x_getI 62 fa_X8_111_6 dX8_go_62 fun v28 => ?_
          refine x_istore_n 65 [(2, .int v28), (3, .ref (idc 6 i24)), (0, .ref (idc 7 i0))] dX8_go_65 (by decide) rfl ?_
          refine x_goto 66 2 dX8_go_66 rfl ?_
          refine x_sub [2, 0] _ rfl ?_
          exact hr2 v28
        · refine x_aload_n 54 0 dX8_go_54 rfl ?_
          refine x_getI 55 fa_X8_108_6 dX8_go_55 fun v29 => ?_
          refine x_goto 58 65 dX8_go_58 rfl ?_
          refine x_istore_n 65 [(2, .int v29), (3, .ref (idc 6 i24)), (0, .ref (idc 7 i0))] dX8_go_65 (by decide) rfl ?_
          refine x_goto 66 2 dX8_go_66 rfl ?_
          refine x_sub [2, 0] _ rfl ?_
          exact hr2 v29
def f_X8_init (i0 : Nat) (a1 : Nat) (a2 : Nat) (a3 : Int32) (a4 : Int32) (a5 : Nat) : PT Unit := pR 7 i0 11 a1 <| pI 7 i0 7 (0 : Int32) <| nwA 32 (3 : Int32) fun i1 => pR 7 i0 8 (idc 32 i1) <| pI 7 i0 10 (-1 : Int32) <| pR 7 i0 0 a2 <| pI 7 i0 1 a3 <| pI 7 i0 2 a4 <| pR 7 i0 3 a5 <| bn0 (f_X8_go i0 (0 : Int32)) fun _ => rt ()
theorem im_X8_init {g : GP} {l : Launch} (hl : l.stackTraces = false) (i0 : Nat) (a1 : Nat) (a2 : Nat) (a3 : Int32) (a4 : Int32) (a5 : Nat) : Im g l 10 yX8_init cX8_init 6 none eV [.ref (idc 7 i0), .ref a1, .ref a2, .int a3, .int a4, .ref a5] (f_X8_init i0 a1 a2 a3 a4 a5) := by
  refine tx_start hl 10 _ _ _ _ (by decide) (Nat.le_of_ble_eq_true rfl) fun Γ Z hΓ hZ => ?_
  subst hΓ
  unfold f_X8_init
  show TX g Γ _ Z _ 0 [(0, .ref (idc 7 i0)), (1, .ref a1), (2, .ref a2), (3, .int a3), (4, .int a4), (5, .ref a5)] [] _
  refine x_aload_n 0 0 dX8_init_0 rfl ?_
  refine x_aload_n 1 1 dX8_init_1 rfl ?_
  refine x_putR 2 fa_X8_3_7 rfl (Or.inr ⟨rfl, rfl, rfl⟩) dX8_init_2 ?_
  refine x_aload_n 5 0 dX8_init_5 rfl ?_
  refine x_objI 6 (by decide) q1385 q128 q129 dX8_init_6 (Nat.le_of_ble_eq_true rfl) (by decide) ?_
  refine x_aload_n 9 0 dX8_init_9 rfl ?_
  refine x_iconst 10 0 (0 : Int32) dX8_init_10 rfl ?_
  refine x_putI 11 fa_X8_15_7 rfl (Or.inl rfl) dX8_init_11 ?_
  refine x_aload_n 14 0 dX8_init_14 rfl ?_
  refine x_iconst 15 3 (3 : Int32) dX8_init_15 rfl ?_
  refine x_newa 16 (Or.inl rfl) rfl q526 dX8_init_16 fun i1 => ?_
  refine x_putR 18 fa_X8_19_7 rfl (Or.inr ⟨rfl, rfl, rfl⟩) dX8_init_18 ?_
  refine x_aload_n 21 0 dX8_init_21 rfl ?_
  refine x_iconst 22 (-1) (-1 : Int32) dX8_init_22 rfl ?_
  refine x_putI 23 fa_X8_23_7 rfl (Or.inl rfl) dX8_init_23 ?_
  refine x_aload_n 26 0 dX8_init_26 rfl ?_
  refine x_aload_n 27 2 dX8_init_27 rfl ?_
  refine x_putR 28 fa_X8_26_7 rfl (Or.inr ⟨rfl, rfl, rfl⟩) dX8_init_28 ?_
  refine x_aload_n 31 0 dX8_init_31 rfl ?_
  refine x_iload_n 32 3 dX8_init_32 rfl ?_
  refine x_putI 33 fa_X8_30_7 rfl (Or.inr ⟨rfl, rfl, rfl⟩) dX8_init_33 ?_
  refine x_aload_n 36 0 dX8_init_36 rfl ?_
  refine x_iload 37 4 dX8_init_37 rfl ?_
  refine x_putI 39 fa_X8_33_7 rfl (Or.inr ⟨rfl, rfl, rfl⟩) dX8_init_39 ?_
  refine x_aload_n 42 0 dX8_init_42 rfl ?_
  refine x_aload 43 5 dX8_init_43 rfl ?_
  refine x_putR 45 fa_X8_36_7 rfl (Or.inr ⟨rfl, rfl, rfl⟩) dX8_init_45 ?_
  refine x_aload_n 48 0 dX8_init_48 rfl ?_
  refine x_iconst 49 0 (0 : Int32) dX8_init_49 rfl ?_
  refine x_cV 50 9 [.int (0 : Int32)] [] ⟨by decide, rfl⟩ cv_X8_40 (im_X8_go hl i0 (0 : Int32)) (by decide) rfl (Nat.le_of_ble_eq_true rfl) dX8_init_50 fun v2 => x_stV ?_
  exact x_vret 53 hZ rfl dX8_init_53
def f_X1_begin (i0 : Nat) (a1 : Int32) (a2 : Int32) (a3 : Int32) : PT Int32 := bnd (f_X1_personAt i0 a1) fun v1 => bnd (f_X1_there a2 (6 : Int32)) fun _ => bnd (f_X1_there a3 (6 : Int32)) fun _ => gR 0 i0 2 fun v4 => isK 13 v4 fun i5 => bn0 (f_J2_isEmpty i5) fun v7 => bnd (ρ := _) (α := Int32) (jo (σ := Unit) (fun _ => rt (0 : Int32)) fun j32 => cnd (v7 = 0) (isK 2 v1 fun i34 => gI 2 i34 4 fun v36 => cnd (v36 = 0) (gR 0 i0 3 fun v38 => isK 13 v38 fun i39 => bn0 (f_J2_size i39) fun v41 => cnd ((60 : Int32) ≤ v41) (j32 ()) (rt (1 : Int32))) (j32 ())) (j32 ())) (fun u8 => bnd (f_X1_can u8) fun _ => gR 0 i0 3 fun v10 => nw 7 12 fun i11 => gR 0 i0 2 fun v12 => gR 0 i0 2 fun v13 => isK 13 v13 fun i14 => bn0 (f_J2_size i14) fun v16 => isK 13 v12 fun i17 => bn0 (f_J2_get i17 (v16 - (1 : Int32))) fun v19 => isK 1 v19 fun i20 => bn0 (f_X8_init i11 (idc 0 i0) v1 a2 a3 (idc 1 i20)) fun _ => isK 13 v10 fun i23 => bn0 (f_J2_add i23 (idc 7 i11)) fun v25 => gR 0 i0 3 fun v26 => isK 13 v26 fun i27 => bn0 (f_J2_size i27) fun v29 => rt (v29 - (1 : Int32)))
theorem im_X1_begin {g : GP} {l : Launch} (hl : l.stackTraces = false) (i0 : Nat) (a1 : Int32) (a2 : Int32) (a3 : Int32) : Im g l 11 yX1_begin cX1_begin 5 (some .int) eI [.ref (idc 0 i0), .int a1, .int a2, .int a3] (f_X1_begin i0 a1 a2 a3) := by
  refine tx_start hl 11 _ _ _ _ (by decide) (Nat.le_of_ble_eq_true rfl) fun Γ Z hΓ hZ => ?_
  subst hΓ
  unfold f_X1_begin
  show TX g Γ _ Z _ 0 [(0, .ref (idc 0 i0)), (1, .int a1), (2, .int a2), (3, .int a3)] [] _
  refine x_aload_n 0 0 dX1_begin_0 rfl ?_
  refine x_iload_n 1 1 dX1_begin_1 rfl ?_
  refine x_cVx 2 7 [.int a1] [] ⟨by decide, rfl⟩ rfl cv_X1_187 (im_X1_personAt hl i0 a1) (by decide) rfl (Nat.le_of_ble_eq_true rfl) dX1_begin_2 fun v1 => x_stR ?_
  refine x_astore 5 [(4, .ref v1), (0, .ref (idc 0 i0)), (1, .int a1), (2, .int a2), (3, .int a3)] dX1_begin_5 (by decide) rfl ?_
  refine x_iload_n 7 3 dX1_begin_7 rfl ?_
  refine x_bipush 8 6 (6 : Int32) dX1_begin_8 rfl ?_
  refine x_cSx 10 6 [.int a2, .int (6 : Int32)] [] rfl cs_X1_158 (im_X1_there hl a2 (6 : Int32)) (by decide) rfl (Nat.le_of_ble_eq_true rfl) dX1_begin_10 fun v2 => x_stV ?_
  refine x_iload_n 13 4 dX1_begin_13 rfl ?_
  refine x_bipush 14 6 (6 : Int32) dX1_begin_14 rfl ?_
  refine x_cSx 16 6 [.int a3, .int (6 : Int32)] [] rfl cs_X1_158 (im_X1_there hl a3 (6 : Int32)) (by decide) rfl (Nat.le_of_ble_eq_true rfl) dX1_begin_16 fun v3 => x_stV ?_
  refine x_aload_n 19 1 dX1_begin_19 rfl ?_
  refine x_getR 20 fa_X1_83_0 dX1_begin_20 fun v4 => ?_
  refine x_isK fun i5 h6 => ?_
  subst h6
  refine x_cF 23 0 [] [] (by decide) cf_X1_221_13 (im_J2_isEmpty hl i5) (by decide) rfl (Nat.le_of_ble_eq_true rfl) dX1_begin_23 fun v7 => x_stI ?_
  refine x_bndj 58 (fun u8 => [(0, .ref (idc 0 i0)), (2, .int a2), (3, .int a3), (4, .ref v1)]) (fun u8 => [.int u8]) (fun u8 => ?_) (fun hj30 => ?_)
  · show TX g Γ _ Z _ 58 [(0, .ref (idc 0 i0)), (2, .int a2), (3, .int a3), (4, .ref v1)] [.int u8] _
    refine x_cSx 58 6 [.int u8] [] rfl cs_X1_176 (im_X1_can hl u8) (by decide) rfl (Nat.le_of_ble_eq_true rfl) dX1_begin_58 fun v9 => x_stV ?_
    refine x_aload_n 61 0 dX1_begin_61 rfl ?_
    refine x_getR 62 fa_X1_87_0 dX1_begin_62 fun v10 => ?_
    refine x_new 65 na_X1_228 dX1_begin_65 fun i11 => ?_
    refine x_dup 68 dX1_begin_68 rfl ?_
    refine x_aload_n 69 0 dX1_begin_69 rfl ?_
    refine x_aload 70 3 dX1_begin_70 rfl ?_
    refine x_iload_n 72 1 dX1_begin_72 rfl ?_
    refine x_iload_n 73 2 dX1_begin_73 rfl ?_
    refine x_aload_n 74 0 dX1_begin_74 rfl ?_
    refine x_getR 75 fa_X1_83_0 dX1_begin_75 fun v12 => ?_
    refine x_aload_n 78 0 dX1_begin_78 rfl ?_
    refine x_getR 79 fa_X1_83_0 dX1_begin_79 fun v13 => ?_
    refine x_isK fun i14 h15 => ?_
    subst h15
    refine x_cF 82 0 [] [.ref v12, .int a3, .int a2, .ref v1, .ref (idc 0 i0), .ref (idc 7 i11), .ref (idc 7 i11), .ref v10] (by decide) cf_X1_9_13 (im_J2_size hl i14) (by decide) rfl (Nat.le_of_ble_eq_true rfl) dX1_begin_82 fun v16 => x_stI ?_
    refine x_iconst 87 1 (1 : Int32) dX1_begin_87 rfl ?_
    refine x_isub 88 dX1_begin_88 ?_
    refine x_isK fun i17 h18 => ?_
    subst h18
    refine x_cF 89 2 [.int (v16 - (1 : Int32))] [.int a3, .int a2, .ref v1, .ref (idc 0 i0), .ref (idc 7 i11), .ref (idc 7 i11), .ref v10] (by decide) cf_X1_31_13 (im_J2_get hl i17 (v16 - (1 : Int32))) (by decide) rfl (Nat.le_of_ble_eq_true rfl) dX1_begin_89 fun v19 => x_stR ?_
    refine x_isK fun i20 h21 => ?_
    subst h21
    refine x_castS 94 (by decide) q132 dX1_begin_94 ?_
    refine x_cI 97 10 [.ref (idc 0 i0), .ref v1, .int a2, .int a3, .ref (idc 1 i20)] [.ref (idc 7 i11), .ref v10] (by decide) cn_X1_230 (im_X8_init hl i11 (idc 0 i0) v1 a2 a3 (idc 1 i20)) (by decide) rfl (Nat.le_of_ble_eq_true rfl) dX1_begin_97 fun v22 => x_stV ?_
    refine x_isK fun i23 h24 => ?_
    subst h24
    refine x_cF 100 6 [.ref (idc 7 i11)] [] (by decide) cf_X1_19_13 (im_J2_add hl i23 (idc 7 i11)) (by decide) rfl (Nat.le_of_ble_eq_true rfl) dX1_begin_100 fun v25 => x_stI ?_
    refine x_pop 105 dX1_begin_105 rfl ?_
    refine x_aload_n 106 0 dX1_begin_106 rfl ?_
    refine x_getR 107 fa_X1_87_0 dX1_begin_107 fun v26 => ?_
    refine x_isK fun i27 h28 => ?_
    subst h28
    refine x_cF 110 0 [] [] (by decide) cf_X1_9_13 (im_J2_size hl i27) (by decide) rfl (Nat.le_of_ble_eq_true rfl) dX1_begin_110 fun v29 => x_stI ?_
    refine x_iconst 115 1 (1 : Int32) dX1_begin_115 rfl ?_
    refine x_isub 116 dX1_begin_116 ?_
    exact x_iret 117 hZ rfl dX1_begin_117
  · refine x_jo 57 (Lf := fun _ => [(0, .ref (idc 0 i0)), (2, .int a2), (3, .int a3), (4, .ref v1)]) (sf := fun _ => []) (fun _ => ?_) (fun j32 hj31 => ?_)
    · show TX g Γ _ Z _ 57 [(0, .ref (idc 0 i0)), (2, .int a2), (3, .int a3), (4, .ref v1)] [] _
      refine x_iconst 57 0 (0 : Int32) dX1_begin_57 rfl ?_
      exact hj30 (0 : Int32)
    · refine x_if_ne 28 57 dX1_begin_28 rfl (fun c33 => ?_) (fun c33 => ?_)
      · refine x_aload 31 0 dX1_begin_31 rfl ?_
        refine x_isK fun i34 h35 => ?_
        subst h35
        refine x_getI 33 fa_X1_224_2 dX1_begin_33 fun v36 => ?_
        refine x_if_ne 36 57 dX1_begin_36 rfl (fun c37 => ?_) (fun c37 => ?_)
        · refine x_aload_n 39 1 dX1_begin_39 rfl ?_
          refine x_getR 40 fa_X1_87_0 dX1_begin_40 fun v38 => ?_
          refine x_isK fun i39 h40 => ?_
          subst h40
          refine x_cF 43 0 [] [] (by decide) cf_X1_9_13 (im_J2_size hl i39) (by decide) rfl (Nat.le_of_ble_eq_true rfl) dX1_begin_43 fun v41 => x_stI ?_
          refine x_bipush 48 60 (60 : Int32) dX1_begin_48 rfl ?_
          refine x_icmp_ge 50 57 dX1_begin_50 rfl (fun c42 => ?_) (fun c42 => ?_)
          · refine x_sub [1, 3, 4, 0] _ rfl ?_
            exact hj31 ()
          · refine x_iconst 53 1 (1 : Int32) dX1_begin_53 rfl ?_
            refine x_goto 54 58 dX1_begin_54 rfl ?_
            refine x_sub [1, 3, 4, 0] _ rfl ?_
            exact hj30 (1 : Int32)
        · refine x_sub [1, 3, 4, 0] _ rfl ?_
          exact hj31 ()
      · refine x_sub [1, 3, 4, 0] _ rfl ?_
        exact hj31 ()
def f_X3_suspend (i0 : Nat) (a1 : Int32) : PT Unit := gR 2 i0 1 fun v1 => isK 32 v1 fun i2 => bI 32 i2 a1 (2 : Int32) <| gR 2 i0 10 fun v4 => gI 2 i0 0 fun v5 => isK 0 v4 fun i6 => bn0 (f_X1_write i6 (4 : Int32) (((3 : Int32) * v5) + a1)) fun _ => rt ()
theorem im_X3_suspend {g : GP} {l : Launch} (hl : l.stackTraces = false) (i0 : Nat) (a1 : Int32) : Im g l 8 yX3_suspend cX3_suspend 2 none eV [.ref (idc 2 i0), .int a1] (f_X3_suspend i0 a1) := by
  refine tx_start hl 8 _ _ _ _ (by decide) (Nat.le_of_ble_eq_true rfl) fun Γ Z hΓ hZ => ?_
  subst hΓ
  unfold f_X3_suspend
  show TX g Γ _ Z _ 0 [(0, .ref (idc 2 i0)), (1, .int a1)] [] _
  refine x_aload_n 0 0 dX3_suspend_0 rfl ?_
  refine x_getR 1 fa_X3_15_2 dX3_suspend_1 fun v1 => ?_
  refine x_iload_n 4 1 dX3_suspend_4 rfl ?_
  refine x_iconst 5 2 (2 : Int32) dX3_suspend_5 rfl ?_
  refine x_isK fun i2 h3 => ?_
  subst h3
  refine x_iast 6 dX3_suspend_6 ?_
  refine x_aload_n 7 0 dX3_suspend_7 rfl ?_
  refine x_getR 8 fa_X3_3_2 dX3_suspend_8 fun v4 => ?_
  refine x_iconst 11 4 (4 : Int32) dX3_suspend_11 rfl ?_
  refine x_iconst 12 3 (3 : Int32) dX3_suspend_12 rfl ?_
  refine x_aload_n 13 0 dX3_suspend_13 rfl ?_
  refine x_getI 14 fa_X3_42_2 dX3_suspend_14 fun v5 => ?_
  refine x_imul 17 dX3_suspend_17 ?_
  refine x_iload_n 18 1 dX3_suspend_18 rfl ?_
  refine x_iadd 19 dX3_suspend_19 ?_
  refine x_isK fun i6 h7 => ?_
  subst h7
  refine x_cVn 20 7 [.int (4 : Int32), .int (((3 : Int32) * v5) + a1)] [] ⟨by decide, rfl⟩ cv_X3_49 (im_X1_write hl i6 (4 : Int32) (((3 : Int32) * v5) + a1)) (by decide) rfl (Nat.le_of_ble_eq_true rfl) dX3_suspend_20 fun v8 => x_stV ?_
  exact x_vret 23 hZ rfl dX3_suspend_23
def f_X3_isTaken (i0 : Nat) (a1 : Int32) (a2 : Int32) (a3 : Int32) : PT Int32 := gR 2 i0 1 fun v1 => isK 32 v1 fun i2 => aI 32 i2 a1 fun v4 => cnd (v4 = (1 : Int32)) (jo (σ := Unit) (fun _ => gR 2 i0 2 fun v6 => bnd (ρ := _) (α := Int32) (cnd (a2 = 0) (gR 2 i0 2 fun v26 => isK 32 v26 fun i27 => aI 32 i27 a1 fun v29 => rt (v29 + (1 : Int32))) (rt (0 : Int32))) (fun u7 => isK 32 v6 fun i8 => bI 32 i8 a1 u7 <| gR 2 i0 2 fun v10 => isK 32 v10 fun i11 => aI 32 i11 a1 fun v13 => bnd (ρ := _) (α := Unit) (cnd (v13 = (5 : Int32)) (bn0 (f_X3_suspend i0 a1) fun _ => rt ()) (rt ())) (fun _ => bnd (ρ := _) (α := Int32) (jo (σ := Unit) (fun _ => gI 2 i0 3 fun v16 => rt v16) fun j18 => cnd (a2 = 0) (j18 ()) (cnd (a1 = (2 : Int32)) (rt a3) (j18 ()))) (fun u14 => pI 2 i0 3 u14 <| asr (a2 = 0 ∨ a2 = 1) (rt a2))))) fun j31 => cnd (a2 = 0) (j31 ()) (cnd (a1 = (2 : Int32)) (gI 2 i0 3 fun v34 => cnd (v34 < a3) (j31 ()) (bn0 (f_X3_suspend i0 (2 : Int32)) fun _ => asr ((0 : Int32) = 0 ∨ (0 : Int32) = 1) (rt (0 : Int32)))) (j31 ()))) (asr ((0 : Int32) = 0 ∨ (0 : Int32) = 1) (rt (0 : Int32)))
theorem im_X3_isTaken {g : GP} {l : Launch} (hl : l.stackTraces = false) (i0 : Nat) (a1 : Int32) (a2 : Int32) (a3 : Int32) : Im g l 9 yX3_isTaken cX3_isTaken 4 (some .boolean) eI [.ref (idc 2 i0), .int a1, .int a2, .int a3] (f_X3_isTaken i0 a1 a2 a3) := by
  refine tx_start hl 9 _ _ _ _ (by decide) (Nat.le_of_ble_eq_true rfl) fun Γ Z hΓ hZ => ?_
  subst hΓ
  unfold f_X3_isTaken
  show TX g Γ _ Z _ 0 [(0, .ref (idc 2 i0)), (1, .int a1), (2, .int a2), (3, .int a3)] [] _
  refine x_aload_n 0 0 dX3_isTaken_0 rfl ?_
  refine x_getR 1 fa_X3_15_2 dX3_isTaken_1 fun v1 => ?_
  refine x_iload_n 4 1 dX3_isTaken_4 rfl ?_
  refine x_isK fun i2 h3 => ?_
  subst h3
  refine x_iald 5 dX3_isTaken_5 fun v4 => ?_
  refine x_iconst 6 1 (1 : Int32) dX3_isTaken_6 rfl ?_
  refine x_icmp_eq 7 12 dX3_isTaken_7 rfl (fun c5 => ?_) (fun c5 => ?_)
  · refine x_iload_n 12 2 dX3_isTaken_12 rfl ?_
    refine x_jo 36 (Lf := fun _ => [(0, .ref (idc 2 i0)), (1, .int a1), (2, .int a2), (3, .int a3)]) (sf := fun _ => []) (fun _ => ?_) (fun j31 hj30 => ?_)
    · show TX g Γ _ Z _ 36 [(0, .ref (idc 2 i0)), (1, .int a1), (2, .int a2), (3, .int a3)] [] _
      refine x_aload_n 36 0 dX3_isTaken_36 rfl ?_
      refine x_getR 37 fa_X3_19_2 dX3_isTaken_37 fun v6 => ?_
      refine x_iload_n 40 1 dX3_isTaken_40 rfl ?_
      refine x_iload_n 41 2 dX3_isTaken_41 rfl ?_
      refine x_bndj 57 (fun u7 => [(0, .ref (idc 2 i0)), (1, .int a1), (2, .int a2), (3, .int a3)]) (fun u7 => [.int u7, .int a1, .ref v6]) (fun u7 => ?_) (fun hj24 => ?_)
      · show TX g Γ _ Z _ 57 [(0, .ref (idc 2 i0)), (1, .int a1), (2, .int a2), (3, .int a3)] [.int u7, .int a1, .ref v6] _
        refine x_isK fun i8 h9 => ?_
        subst h9
        refine x_iast 57 dX3_isTaken_57 ?_
        refine x_aload_n 58 0 dX3_isTaken_58 rfl ?_
        refine x_getR 59 fa_X3_19_2 dX3_isTaken_59 fun v10 => ?_
        refine x_iload_n 62 1 dX3_isTaken_62 rfl ?_
        refine x_isK fun i11 h12 => ?_
        subst h12
        refine x_iald 63 dX3_isTaken_63 fun v13 => ?_
        refine x_iconst 64 5 (5 : Int32) dX3_isTaken_64 rfl ?_
        refine x_bndj 73 (fun _ => [(0, .ref (idc 2 i0)), (1, .int a1), (2, .int a2), (3, .int a3)]) (fun _ => []) (fun _ => ?_) (fun hj21 => ?_)
        · show TX g Γ _ Z _ 73 [(0, .ref (idc 2 i0)), (1, .int a1), (2, .int a2), (3, .int a3)] [] _
          refine x_aload_n 73 0 dX3_isTaken_73 rfl ?_
          refine x_iload_n 74 2 dX3_isTaken_74 rfl ?_
          refine x_bndj 91 (fun u14 => [(2, .int a2)]) (fun u14 => [.int u14, .ref (idc 2 i0)]) (fun u14 => ?_) (fun hj15 => ?_)
          · show TX g Γ _ Z _ 91 [(2, .int a2)] [.int u14, .ref (idc 2 i0)] _
            refine x_putI 91 fa_X3_46_2 rfl (Or.inl rfl) dX3_isTaken_91 ?_
            refine x_iload_n 94 0 dX3_isTaken_94 rfl ?_
            exact x_zret 95 hZ rfl dX3_isTaken_95
          · refine x_jo 87 (Lf := fun _ => [(0, .ref (idc 2 i0)), (2, .int a2)]) (sf := fun _ => [.ref (idc 2 i0)]) (fun _ => ?_) (fun j18 hj17 => ?_)
            · show TX g Γ _ Z _ 87 [(0, .ref (idc 2 i0)), (2, .int a2)] [.ref (idc 2 i0)] _
              refine x_aload_n 87 0 dX3_isTaken_87 rfl ?_
              refine x_getI 88 fa_X3_46_2 dX3_isTaken_88 fun v16 => ?_
              refine x_sub [1] _ rfl ?_
              exact hj15 v16
            · refine x_if_eq 75 87 dX3_isTaken_75 rfl (fun c19 => ?_) (fun c19 => ?_)
              · refine x_sub [0, 2] _ rfl ?_
                exact hj17 ()
              · refine x_iload_n 78 1 dX3_isTaken_78 rfl ?_
                refine x_iconst 79 2 (2 : Int32) dX3_isTaken_79 rfl ?_
                refine x_icmp_ne 80 87 dX3_isTaken_80 rfl (fun c20 => ?_) (fun c20 => ?_)
                · refine x_iload_n 83 3 dX3_isTaken_83 rfl ?_
                  refine x_goto 84 91 dX3_isTaken_84 rfl ?_
                  refine x_sub [2] _ rfl ?_
                  exact hj15 a3
                · refine x_sub [0, 2] _ rfl ?_
                  exact hj17 ()
        · refine x_icmp_ne 65 73 dX3_isTaken_65 rfl (fun c22 => ?_) (fun c22 => ?_)
          · refine x_aload_n 68 0 dX3_isTaken_68 rfl ?_
            refine x_iload_n 69 1 dX3_isTaken_69 rfl ?_
            refine x_cV 70 8 [.int a1] [] ⟨by decide, rfl⟩ cv_X3_53 (im_X3_suspend hl i0 a1) (by decide) rfl (Nat.le_of_ble_eq_true rfl) dX3_isTaken_70 fun v23 => x_stV ?_
            exact hj21 ()
          · exact hj21 ()
      · refine x_if_eq 42 49 dX3_isTaken_42 rfl (fun c25 => ?_) (fun c25 => ?_)
        · refine x_aload_n 49 0 dX3_isTaken_49 rfl ?_
          refine x_getR 50 fa_X3_19_2 dX3_isTaken_50 fun v26 => ?_
          refine x_iload_n 53 1 dX3_isTaken_53 rfl ?_
          refine x_isK fun i27 h28 => ?_
          subst h28
          refine x_iald 54 dX3_isTaken_54 fun v29 => ?_
          refine x_iconst 55 1 (1 : Int32) dX3_isTaken_55 rfl ?_
          refine x_iadd 56 dX3_isTaken_56 ?_
          exact hj24 (v29 + (1 : Int32))
        · refine x_iconst 45 0 (0 : Int32) dX3_isTaken_45 rfl ?_
          refine x_goto 46 57 dX3_isTaken_46 rfl ?_
          exact hj24 (0 : Int32)
    · refine x_if_eq 13 36 dX3_isTaken_13 rfl (fun c32 => ?_) (fun c32 => ?_)
      · exact hj30 ()
      · refine x_iload_n 16 1 dX3_isTaken_16 rfl ?_
        refine x_iconst 17 2 (2 : Int32) dX3_isTaken_17 rfl ?_
        refine x_icmp_ne 18 36 dX3_isTaken_18 rfl (fun c33 => ?_) (fun c33 => ?_)
        · refine x_iload_n 21 3 dX3_isTaken_21 rfl ?_
          refine x_aload_n 22 0 dX3_isTaken_22 rfl ?_
          refine x_getI 23 fa_X3_46_2 dX3_isTaken_23 fun v34 => ?_
          refine x_icmp_gt 26 36 dX3_isTaken_26 rfl (fun c35 => ?_) (fun c35 => ?_)
          · exact hj30 ()
          · refine x_aload_n 29 0 dX3_isTaken_29 rfl ?_
            refine x_iconst 30 2 (2 : Int32) dX3_isTaken_30 rfl ?_
            refine x_cV 31 8 [.int (2 : Int32)] [] ⟨by decide, rfl⟩ cv_X3_53 (im_X3_suspend hl i0 (2 : Int32)) (by decide) rfl (Nat.le_of_ble_eq_true rfl) dX3_isTaken_31 fun v36 => x_stV ?_
            refine x_iconst 34 0 (0 : Int32) dX3_isTaken_34 rfl ?_
            exact x_zret 35 hZ rfl dX3_isTaken_35
        · exact hj30 ()
  · refine x_iconst 10 0 (0 : Int32) dX3_isTaken_10 rfl ?_
    exact x_zret 11 hZ rfl dX3_isTaken_11
def f_X3_answers (i0 : Nat) (a1 : Int32) (a2 : Int32) (a3 : Int32) : PT Int32 := bn0 (f_X3_isTaken i0 a1 a2 a3) fun v1 => cnd (v1 = 0) (gR 2 i0 9 fun v3 => gR 2 i0 10 fun v4 => isK 0 v4 fun i5 => gI 0 i5 16 fun v7 => bn0 (f_J17_valueOf v7) fun v8 => isK 15 v3 fun i9 => bn0 (f_J20_add i9 v8) fun v11 => asr (v1 = 0 ∨ v1 = 1) (rt v1)) (asr (v1 = 0 ∨ v1 = 1) (rt v1))
theorem im_X3_answers {g : GP} {l : Launch} (hl : l.stackTraces = false) (i0 : Nat) (a1 : Int32) (a2 : Int32) (a3 : Int32) : Im g l 10 yX3_answers cX3_answers 5 (some .boolean) eI [.ref (idc 2 i0), .int a1, .int a2, .int a3] (f_X3_answers i0 a1 a2 a3) := by
  refine tx_start hl 10 _ _ _ _ (by decide) (Nat.le_of_ble_eq_true rfl) fun Γ Z hΓ hZ => ?_
  subst hΓ
  unfold f_X3_answers
  show TX g Γ _ Z _ 0 [(0, .ref (idc 2 i0)), (1, .int a1), (2, .int a2), (3, .int a3)] [] _
  refine x_aload_n 0 0 dX3_answers_0 rfl ?_
  refine x_iload_n 1 1 dX3_answers_1 rfl ?_
  refine x_iload_n 2 2 dX3_answers_2 rfl ?_
  refine x_iload_n 3 3 dX3_answers_3 rfl ?_
  refine x_cV 4 9 [.int a1, .int a2, .int a3] [] ⟨by decide, rfl⟩ cv_X3_57 (im_X3_isTaken hl i0 a1 a2 a3) (by decide) rfl (Nat.le_of_ble_eq_true rfl) dX3_answers_4 fun v1 => x_stI ?_
  refine x_istore 7 [(4, .int v1), (0, .ref (idc 2 i0)), (1, .int a1), (2, .int a2), (3, .int a3)] dX3_answers_7 (by decide) rfl ?_
  refine x_iload 9 0 dX3_answers_9 rfl ?_
  refine x_if_ne 11 32 dX3_answers_11 rfl (fun c2 => ?_) (fun c2 => ?_)
  · refine x_aload_n 14 1 dX3_answers_14 rfl ?_
    refine x_getR 15 fa_X3_38_2 dX3_answers_15 fun v3 => ?_
    refine x_aload_n 18 1 dX3_answers_18 rfl ?_
    refine x_getR 19 fa_X3_3_2 dX3_answers_19 fun v4 => ?_
    refine x_isK fun i5 h6 => ?_
    subst h6
    refine x_getI 22 fa_X3_61_0 dX3_answers_22 fun v7 => ?_
    refine x_cS 25 3 [.int v7] [.ref v3] cs_X3_64 (im_J17_valueOf hl v7) (by decide) rfl (Nat.le_of_ble_eq_true rfl) dX3_answers_25 fun v8 => x_stR ?_
    refine x_isK fun i9 h10 => ?_
    subst h10
    refine x_cV 28 3 [.ref v8] [] ⟨by decide, rfl⟩ cv_X3_70 (im_J20_add hl i9 v8) (by decide) rfl (Nat.le_of_ble_eq_true rfl) dX3_answers_28 fun v11 => x_stI ?_
    refine x_pop 31 dX3_answers_31 rfl ?_
    refine x_iload 32 0 dX3_answers_32 rfl ?_
    exact x_zret 34 hZ rfl dX3_answers_34
  · refine x_iload 32 0 dX3_answers_32 rfl ?_
    exact x_zret 34 hZ rfl dX3_answers_34
def f_X8_answer (i0 : Nat) (a1 : Int32) (a2 : Int32) : PT Int32 := gR 7 i0 4 fun v1 => isK 6 v1 fun i2 => gI 6 i2 1 fun v4 => gI 7 i0 6 fun v5 => pI 7 i0 6 (v5 + (1 : Int32)) <| gR 7 i0 0 fun v6 => isK 2 v6 fun i7 => bn0 (f_X3_answers i7 v4 a1 a2) fun v9 => bnd (ρ := _) (α := Unit) (cnd (v9 = 0) (gI 7 i0 5 fun v22 => pI 7 i0 5 (v22 + (1 : Int32)) <| gI 7 i0 5 fun v23 => gR 7 i0 4 fun v24 => isK 6 v24 fun i25 => gI 6 i25 2 fun v27 => cnd (v23 = v27) (gR 7 i0 4 fun v29 => isK 6 v29 fun i30 => gI 6 i30 4 fun v32 => bn0 (f_X8_go i0 v32) fun _ => rt ()) (rt ())) (gI 7 i0 9 fun v34 => pI 7 i0 9 (v34 ||| ((1 : Int32) <<< (v4 &&& 31))) <| gR 7 i0 8 fun v35 => gR 7 i0 11 fun v36 => isK 0 v36 fun i37 => gI 0 i37 16 fun v39 => isK 32 v35 fun i40 => bI 32 i40 v4 v39 <| gR 7 i0 4 fun v42 => isK 6 v42 fun i43 => gI 6 i43 3 fun v45 => bn0 (f_X8_go i0 v45) fun _ => rt ())) (fun _ => gI 7 i0 7 fun v10 => bnd (ρ := _) (α := Int32) (jo (σ := Unit) (fun _ => gI 7 i0 7 fun v14 => rt v14) fun j16 => cnd (v10 = 0) (gI 7 i0 6 fun v18 => cnd (v18 = (12 : Int32)) (rt (2 : Int32)) (j16 ())) (j16 ())) (fun u11 => pI 7 i0 7 u11 <| gI 7 i0 7 fun v12 => rt v12))
theorem im_X8_answer {g : GP} {l : Launch} (hl : l.stackTraces = false) (i0 : Nat) (a1 : Int32) (a2 : Int32) : Im g l 11 yX8_answer cX8_answer 4 (some .int) eI [.ref (idc 7 i0), .int a1, .int a2] (f_X8_answer i0 a1 a2) := by
  refine tx_start hl 11 _ _ _ _ (by decide) (Nat.le_of_ble_eq_true rfl) fun Γ Z hΓ hZ => ?_
  subst hΓ
  unfold f_X8_answer
  show TX g Γ _ Z _ 0 [(0, .ref (idc 7 i0)), (1, .int a1), (2, .int a2)] [] _
  refine x_aload_n 0 0 dX8_answer_0 rfl ?_
  refine x_getR 1 fa_X8_114_7 dX8_answer_1 fun v1 => ?_
  refine x_isK fun i2 h3 => ?_
  subst h3
  refine x_getI 4 fa_X8_76_6 dX8_answer_4 fun v4 => ?_
  refine x_istore_n 7 [(3, .int v4), (0, .ref (idc 7 i0)), (1, .int a1), (2, .int a2)] dX8_answer_7 (by decide) rfl ?_
  refine x_aload_n 8 1 dX8_answer_8 rfl ?_
  refine x_dup 9 dX8_answer_9 rfl ?_
  refine x_getI 10 fa_X8_133_7 dX8_answer_10 fun v5 => ?_
  refine x_iconst 13 1 (1 : Int32) dX8_answer_13 rfl ?_
  refine x_iadd 14 dX8_answer_14 ?_
  refine x_putI 15 fa_X8_133_7 rfl (Or.inl rfl) dX8_answer_15 ?_
  refine x_aload_n 18 1 dX8_answer_18 rfl ?_
  refine x_getR 19 fa_X8_26_7 dX8_answer_19 fun v6 => ?_
  refine x_iload_n 22 0 dX8_answer_22 rfl ?_
  refine x_iload_n 23 2 dX8_answer_23 rfl ?_
  refine x_iload_n 24 3 dX8_answer_24 rfl ?_
  refine x_isK fun i7 h8 => ?_
  subst h8
  refine x_cV 25 10 [.int v4, .int a1, .int a2] [] ⟨by decide, rfl⟩ cv_X8_136 (im_X3_answers hl i7 v4 a1 a2) (by decide) rfl (Nat.le_of_ble_eq_true rfl) dX8_answer_25 fun v9 => x_stI ?_
  refine x_bndj 105 (fun _ => [(0, .ref (idc 7 i0))]) (fun _ => []) (fun _ => ?_) (fun hj20 => ?_)
  · show TX g Γ _ Z _ 105 [(0, .ref (idc 7 i0))] [] _
    refine x_aload_n 105 0 dX8_answer_105 rfl ?_
    refine x_aload_n 106 0 dX8_answer_106 rfl ?_
    refine x_getI 107 fa_X8_15_7 dX8_answer_107 fun v10 => ?_
    refine x_bndj 130 (fun u11 => [(0, .ref (idc 7 i0))]) (fun u11 => [.int u11, .ref (idc 7 i0)]) (fun u11 => ?_) (fun hj13 => ?_)
    · show TX g Γ _ Z _ 130 [(0, .ref (idc 7 i0))] [.int u11, .ref (idc 7 i0)] _
      refine x_putI 130 fa_X8_15_7 rfl (Or.inl rfl) dX8_answer_130 ?_
      refine x_aload_n 133 0 dX8_answer_133 rfl ?_
      refine x_getI 134 fa_X8_15_7 dX8_answer_134 fun v12 => ?_
      exact x_iret 137 hZ rfl dX8_answer_137
    · refine x_jo 126 (Lf := fun _ => [(0, .ref (idc 7 i0))]) (sf := fun _ => [.ref (idc 7 i0)]) (fun _ => ?_) (fun j16 hj15 => ?_)
      · show TX g Γ _ Z _ 126 [(0, .ref (idc 7 i0))] [.ref (idc 7 i0)] _
        refine x_aload_n 126 0 dX8_answer_126 rfl ?_
        refine x_getI 127 fa_X8_15_7 dX8_answer_127 fun v14 => ?_
        exact hj13 v14
      · refine x_if_ne 110 126 dX8_answer_110 rfl (fun c17 => ?_) (fun c17 => ?_)
        · refine x_aload_n 113 0 dX8_answer_113 rfl ?_
          refine x_getI 114 fa_X8_133_7 dX8_answer_114 fun v18 => ?_
          refine x_bipush 117 12 (12 : Int32) dX8_answer_117 rfl ?_
          refine x_icmp_ne 119 126 dX8_answer_119 rfl (fun c19 => ?_) (fun c19 => ?_)
          · refine x_iconst 122 2 (2 : Int32) dX8_answer_122 rfl ?_
            refine x_goto 123 130 dX8_answer_123 rfl ?_
            exact hj13 (2 : Int32)
          · exact hj15 ()
        · exact hj15 ()
  · refine x_if_eq 28 70 dX8_answer_28 rfl (fun c21 => ?_) (fun c21 => ?_)
    · refine x_aload_n 70 1 dX8_answer_70 rfl ?_
      refine x_dup 71 dX8_answer_71 rfl ?_
      refine x_getI 72 fa_X8_118_7 dX8_answer_72 fun v22 => ?_
      refine x_iconst 75 1 (1 : Int32) dX8_answer_75 rfl ?_
      refine x_iadd 76 dX8_answer_76 ?_
      refine x_putI 77 fa_X8_118_7 rfl (Or.inl rfl) dX8_answer_77 ?_
      refine x_aload_n 80 1 dX8_answer_80 rfl ?_
      refine x_getI 81 fa_X8_118_7 dX8_answer_81 fun v23 => ?_
      refine x_aload_n 84 1 dX8_answer_84 rfl ?_
      refine x_getR 85 fa_X8_114_7 dX8_answer_85 fun v24 => ?_
      refine x_isK fun i25 h26 => ?_
      subst h26
      refine x_getI 88 fa_X8_142_6 dX8_answer_88 fun v27 => ?_
      refine x_icmp_ne 91 105 dX8_answer_91 rfl (fun c28 => ?_) (fun c28 => ?_)
      · refine x_aload_n 94 1 dX8_answer_94 rfl ?_
        refine x_aload_n 95 1 dX8_answer_95 rfl ?_
        refine x_getR 96 fa_X8_114_7 dX8_answer_96 fun v29 => ?_
        refine x_isK fun i30 h31 => ?_
        subst h31
        refine x_getI 99 fa_X8_111_6 dX8_answer_99 fun v32 => ?_
        refine x_cV 102 9 [.int v32] [] ⟨by decide, rfl⟩ cv_X8_40 (im_X8_go hl i0 v32) (by decide) rfl (Nat.le_of_ble_eq_true rfl) dX8_answer_102 fun v33 => x_stV ?_
        refine x_sub [1] _ rfl ?_
        exact hj20 ()
      · refine x_sub [1] _ rfl ?_
        exact hj20 ()
    · refine x_aload_n 31 1 dX8_answer_31 rfl ?_
      refine x_dup 32 dX8_answer_32 rfl ?_
      refine x_getI 33 fa_X8_82_7 dX8_answer_33 fun v34 => ?_
      refine x_iconst 36 1 (1 : Int32) dX8_answer_36 rfl ?_
      refine x_iload_n 37 0 dX8_answer_37 rfl ?_
      refine x_ishl 38 dX8_answer_38 ?_
      refine x_ior 39 dX8_answer_39 ?_
      refine x_putI 40 fa_X8_82_7 rfl (Or.inl rfl) dX8_answer_40 ?_
      refine x_aload_n 43 1 dX8_answer_43 rfl ?_
      refine x_getR 44 fa_X8_19_7 dX8_answer_44 fun v35 => ?_
      refine x_iload_n 47 0 dX8_answer_47 rfl ?_
      refine x_aload_n 48 1 dX8_answer_48 rfl ?_
      refine x_getR 49 fa_X8_3_7 dX8_answer_49 fun v36 => ?_
      refine x_isK fun i37 h38 => ?_
      subst h38
      refine x_getI 52 fa_X8_139_0 dX8_answer_52 fun v39 => ?_
      refine x_isK fun i40 h41 => ?_
      subst h41
      refine x_iast 55 dX8_answer_55 ?_
      refine x_aload_n 56 1 dX8_answer_56 rfl ?_
      refine x_aload_n 57 1 dX8_answer_57 rfl ?_
      refine x_getR 58 fa_X8_114_7 dX8_answer_58 fun v42 => ?_
      refine x_isK fun i43 h44 => ?_
      subst h44
      refine x_getI 61 fa_X8_108_6 dX8_answer_61 fun v45 => ?_
      refine x_cV 64 9 [.int v45] [] ⟨by decide, rfl⟩ cv_X8_40 (im_X8_go hl i0 v45) (by decide) rfl (Nat.le_of_ble_eq_true rfl) dX8_answer_64 fun v46 => x_stV ?_
      refine x_goto 67 105 dX8_answer_67 rfl ?_
      refine x_sub [1] _ rfl ?_
      exact hj20 ()
def f_X1_answer (i0 : Nat) (a1 : Int32) (a2 : Int32) (a3 : Int32) : PT Int32 := gR 0 i0 3 fun v1 => bnd (f_X1_at v1 a1) fun v2 => isK 7 v2 fun i3 => bnd (f_X1_fit a3 (0 : Int32) (9999 : Int32)) fun _ => gI 7 i3 7 fun v6 => bnd (ρ := _) (α := Int32) (cnd (v6 = 0) (rt (1 : Int32)) (rt (0 : Int32))) (fun u7 => bnd (f_X1_can u7) fun _ => bn0 (f_X8_answer i3 a2 a3) fun v9 => rt v9)
theorem im_X1_answer {g : GP} {l : Launch} (hl : l.stackTraces = false) (i0 : Nat) (a1 : Int32) (a2 : Int32) (a3 : Int32) : Im g l 12 yX1_answer cX1_answer 5 (some .int) eI [.ref (idc 0 i0), .int a1, .int a2, .int a3] (f_X1_answer i0 a1 a2 a3) := by
  refine tx_start hl 12 _ _ _ _ (by decide) (Nat.le_of_ble_eq_true rfl) fun Γ Z hΓ hZ => ?_
  subst hΓ
  unfold f_X1_answer
  show TX g Γ _ Z _ 0 [(0, .ref (idc 0 i0)), (1, .int a1), (2, .int a2), (3, .int a3)] [] _
  refine x_aload_n 0 0 dX1_answer_0 rfl ?_
  refine x_getR 1 fa_X1_87_0 dX1_answer_1 fun v1 => ?_
  refine x_iload_n 4 1 dX1_answer_4 rfl ?_
  refine x_cSx 5 7 [.ref v1, .int a1] [] rfl cs_X1_214 (im_X1_at hl v1 a1) (by decide) rfl (Nat.le_of_ble_eq_true rfl) dX1_answer_5 fun v2 => x_stR ?_
  refine x_isK fun i3 h4 => ?_
  subst h4
  refine x_castS 8 (by decide) q1380 dX1_answer_8 ?_
  refine x_astore 11 [(4, .ref (idc 7 i3)), (0, .ref (idc 0 i0)), (1, .int a1), (2, .int a2), (3, .int a3)] dX1_answer_11 (by decide) rfl ?_
  refine x_iload_n 13 4 dX1_answer_13 rfl ?_
  refine x_iconst 14 0 (0 : Int32) dX1_answer_14 rfl ?_
  refine x_sipush 15 9999 (9999 : Int32) dX1_answer_15 rfl ?_
  refine x_cSx 18 6 [.int a3, .int (0 : Int32), .int (9999 : Int32)] [] rfl cs_X1_149 (im_X1_fit hl a3 (0 : Int32) (9999 : Int32)) (by decide) rfl (Nat.le_of_ble_eq_true rfl) dX1_answer_18 fun v5 => x_stV ?_
  refine x_aload 21 0 dX1_answer_21 rfl ?_
  refine x_getI 23 fa_X1_233_7 dX1_answer_23 fun v6 => ?_
  refine x_bndj 34 (fun u7 => [(2, .int a2), (3, .int a3), (4, .ref (idc 7 i3))]) (fun u7 => [.int u7]) (fun u7 => ?_) (fun hj10 => ?_)
  · show TX g Γ _ Z _ 34 [(2, .int a2), (3, .int a3), (4, .ref (idc 7 i3))] [.int u7] _
    refine x_cSx 34 6 [.int u7] [] rfl cs_X1_176 (im_X1_can hl u7) (by decide) rfl (Nat.le_of_ble_eq_true rfl) dX1_answer_34 fun v8 => x_stV ?_
    refine x_aload 37 2 dX1_answer_37 rfl ?_
    refine x_iload_n 39 0 dX1_answer_39 rfl ?_
    refine x_iload_n 40 1 dX1_answer_40 rfl ?_
    refine x_cV 41 11 [.int a2, .int a3] [] ⟨by decide, rfl⟩ cv_X1_236 (im_X8_answer hl i3 a2 a3) (by decide) rfl (Nat.le_of_ble_eq_true rfl) dX1_answer_41 fun v9 => x_stI ?_
    exact x_iret 44 hZ rfl dX1_answer_44
  · refine x_if_ne 26 33 dX1_answer_26 rfl (fun c11 => ?_) (fun c11 => ?_)
    · refine x_iconst 29 1 (1 : Int32) dX1_answer_29 rfl ?_
      refine x_goto 30 34 dX1_answer_30 rfl ?_
      refine x_sub [3, 4, 0] _ rfl ?_
      exact hj10 (1 : Int32)
    · refine x_iconst 33 0 (0 : Int32) dX1_answer_33 rfl ?_
      refine x_sub [3, 4, 0] _ rfl ?_
      exact hj10 (0 : Int32)
def f_X1_state (i0 : Nat) (a1 : Int32) : PT Int32 := gR 0 i0 3 fun v1 => bnd (f_X1_at v1 a1) fun v2 => isK 7 v2 fun i3 => gI 7 i3 7 fun v5 => rt v5
theorem im_X1_state {g : GP} {l : Launch} (hl : l.stackTraces = false) (i0 : Nat) (a1 : Int32) : Im g l 8 yX1_state cX1_state 2 (some .int) eI [.ref (idc 0 i0), .int a1] (f_X1_state i0 a1) := by
  refine tx_start hl 8 _ _ _ _ (by decide) (Nat.le_of_ble_eq_true rfl) fun Γ Z hΓ hZ => ?_
  subst hΓ
  unfold f_X1_state
  show TX g Γ _ Z _ 0 [(0, .ref (idc 0 i0)), (1, .int a1)] [] _
  refine x_aload_n 0 0 dX1_state_0 rfl ?_
  refine x_getR 1 fa_X1_87_0 dX1_state_1 fun v1 => ?_
  refine x_iload_n 4 1 dX1_state_4 rfl ?_
  refine x_cSx 5 7 [.ref v1, .int a1] [] rfl cs_X1_214 (im_X1_at hl v1 a1) (by decide) rfl (Nat.le_of_ble_eq_true rfl) dX1_state_5 fun v2 => x_stR ?_
  refine x_isK fun i3 h4 => ?_
  subst h4
  refine x_castS 8 (by decide) q1380 dX1_state_8 ?_
  refine x_getI 11 fa_X1_233_7 dX1_state_11 fun v5 => ?_
  exact x_iret 14 hZ rfl dX1_state_14
def f_X8_asked (i0 : Nat) : PT Int32 := gI 7 i0 7 fun v1 => cnd (v1 = 0) (gR 7 i0 4 fun v3 => isK 6 v3 fun i4 => gI 6 i4 1 fun v6 => rt v6) (rt (-1 : Int32))
theorem im_X8_asked {g : GP} {l : Launch} (hl : l.stackTraces = false) (i0 : Nat) : Im g l 0 yX8_asked cX8_asked 1 (some .int) eI [.ref (idc 7 i0)] (f_X8_asked i0) := by
  refine tx_start hl 0 _ _ _ _ (by decide) (Nat.le_of_ble_eq_true rfl) fun Γ Z hΓ hZ => ?_
  subst hΓ
  unfold f_X8_asked
  show TX g Γ _ Z _ 0 [(0, .ref (idc 7 i0))] [] _
  refine x_aload_n 0 0 dX8_asked_0 rfl ?_
  refine x_getI 1 fa_X8_15_7 dX8_asked_1 fun v1 => ?_
  refine x_if_ne 4 17 dX8_asked_4 rfl (fun c2 => ?_) (fun c2 => ?_)
  · refine x_aload_n 7 0 dX8_asked_7 rfl ?_
    refine x_getR 8 fa_X8_114_7 dX8_asked_8 fun v3 => ?_
    refine x_isK fun i4 h5 => ?_
    subst h5
    refine x_getI 11 fa_X8_76_6 dX8_asked_11 fun v6 => ?_
    refine x_goto 14 18 dX8_asked_14 rfl ?_
    exact x_iret 18 hZ rfl dX8_asked_18
  · refine x_iconst 17 (-1) (-1 : Int32) dX8_asked_17 rfl ?_
    exact x_iret 18 hZ rfl dX8_asked_18
def f_X1_asked (i0 : Nat) (a1 : Int32) : PT Int32 := gR 0 i0 3 fun v1 => bnd (f_X1_at v1 a1) fun v2 => isK 7 v2 fun i3 => bn0 (f_X8_asked i3) fun v5 => rt v5
theorem im_X1_asked {g : GP} {l : Launch} (hl : l.stackTraces = false) (i0 : Nat) (a1 : Int32) : Im g l 8 yX1_asked cX1_asked 2 (some .int) eI [.ref (idc 0 i0), .int a1] (f_X1_asked i0 a1) := by
  refine tx_start hl 8 _ _ _ _ (by decide) (Nat.le_of_ble_eq_true rfl) fun Γ Z hΓ hZ => ?_
  subst hΓ
  unfold f_X1_asked
  show TX g Γ _ Z _ 0 [(0, .ref (idc 0 i0)), (1, .int a1)] [] _
  refine x_aload_n 0 0 dX1_asked_0 rfl ?_
  refine x_getR 1 fa_X1_87_0 dX1_asked_1 fun v1 => ?_
  refine x_iload_n 4 1 dX1_asked_4 rfl ?_
  refine x_cSx 5 7 [.ref v1, .int a1] [] rfl cs_X1_214 (im_X1_at hl v1 a1) (by decide) rfl (Nat.le_of_ble_eq_true rfl) dX1_asked_5 fun v2 => x_stR ?_
  refine x_isK fun i3 h4 => ?_
  subst h4
  refine x_castS 8 (by decide) q1380 dX1_asked_8 ?_
  refine x_cV 11 0 [] [] ⟨by decide, rfl⟩ cv_X1_240 (im_X8_asked hl i3) (by decide) rfl (Nat.le_of_ble_eq_true rfl) dX1_asked_11 fun v5 => x_stI ?_
  exact x_iret 14 hZ rfl dX1_asked_14
def f_X1_sessionOf (i0 : Nat) (a1 : Int32) : PT Int32 := gR 0 i0 3 fun v1 => bnd (f_X1_at v1 a1) fun v2 => isK 7 v2 fun i3 => gI 7 i3 10 fun v5 => rt v5
theorem im_X1_sessionOf {g : GP} {l : Launch} (hl : l.stackTraces = false) (i0 : Nat) (a1 : Int32) : Im g l 8 yX1_sessionOf cX1_sessionOf 2 (some .int) eI [.ref (idc 0 i0), .int a1] (f_X1_sessionOf i0 a1) := by
  refine tx_start hl 8 _ _ _ _ (by decide) (Nat.le_of_ble_eq_true rfl) fun Γ Z hΓ hZ => ?_
  subst hΓ
  unfold f_X1_sessionOf
  show TX g Γ _ Z _ 0 [(0, .ref (idc 0 i0)), (1, .int a1)] [] _
  refine x_aload_n 0 0 dX1_sessionOf_0 rfl ?_
  refine x_getR 1 fa_X1_87_0 dX1_sessionOf_1 fun v1 => ?_
  refine x_iload_n 4 1 dX1_sessionOf_4 rfl ?_
  refine x_cSx 5 7 [.ref v1, .int a1] [] rfl cs_X1_214 (im_X1_at hl v1 a1) (by decide) rfl (Nat.le_of_ble_eq_true rfl) dX1_sessionOf_5 fun v2 => x_stR ?_
  refine x_isK fun i3 h4 => ?_
  subst h4
  refine x_castS 8 (by decide) q1380 dX1_sessionOf_8 ?_
  refine x_getI 11 fa_X1_243_7 dX1_sessionOf_11 fun v5 => ?_
  exact x_iret 14 hZ rfl dX1_sessionOf_14
def f_X1_risk (i0 : Nat) (a1 : Int32) : PT Int32 := gR 0 i0 3 fun v1 => bnd (f_X1_at v1 a1) fun v2 => isK 7 v2 fun i3 => bn0 (f_X8_risk i3 (0 : Int32)) fun v5 => rt v5
theorem im_X1_risk {g : GP} {l : Launch} (hl : l.stackTraces = false) (i0 : Nat) (a1 : Int32) : Im g l 8 yX1_risk cX1_risk 2 (some .int) eI [.ref (idc 0 i0), .int a1] (f_X1_risk i0 a1) := by
  refine tx_start hl 8 _ _ _ _ (by decide) (Nat.le_of_ble_eq_true rfl) fun Γ Z hΓ hZ => ?_
  subst hΓ
  unfold f_X1_risk
  show TX g Γ _ Z _ 0 [(0, .ref (idc 0 i0)), (1, .int a1)] [] _
  refine x_aload_n 0 0 dX1_risk_0 rfl ?_
  refine x_getR 1 fa_X1_87_0 dX1_risk_1 fun v1 => ?_
  refine x_iload_n 4 1 dX1_risk_4 rfl ?_
  refine x_cSx 5 7 [.ref v1, .int a1] [] rfl cs_X1_214 (im_X1_at hl v1 a1) (by decide) rfl (Nat.le_of_ble_eq_true rfl) dX1_risk_5 fun v2 => x_stR ?_
  refine x_isK fun i3 h4 => ?_
  subst h4
  refine x_castS 8 (by decide) q1380 dX1_risk_8 ?_
  refine x_iconst 11 0 (0 : Int32) dX1_risk_11 rfl ?_
  refine x_cV 12 5 [.int (0 : Int32)] [] ⟨by decide, rfl⟩ cv_X1_246 (im_X8_risk hl i3 (0 : Int32)) (by decide) rfl (Nat.le_of_ble_eq_true rfl) dX1_risk_12 fun v5 => x_stI ?_
  exact x_iret 15 hZ rfl dX1_risk_15
def f_X1_trialRisk (i0 : Nat) (a1 : Int32) : PT Int32 := gR 0 i0 3 fun v1 => bnd (f_X1_at v1 a1) fun v2 => isK 7 v2 fun i3 => bn0 (f_X8_risk i3 (1 : Int32)) fun v5 => rt v5
theorem im_X1_trialRisk {g : GP} {l : Launch} (hl : l.stackTraces = false) (i0 : Nat) (a1 : Int32) : Im g l 8 yX1_trialRisk cX1_trialRisk 2 (some .int) eI [.ref (idc 0 i0), .int a1] (f_X1_trialRisk i0 a1) := by
  refine tx_start hl 8 _ _ _ _ (by decide) (Nat.le_of_ble_eq_true rfl) fun Γ Z hΓ hZ => ?_
  subst hΓ
  unfold f_X1_trialRisk
  show TX g Γ _ Z _ 0 [(0, .ref (idc 0 i0)), (1, .int a1)] [] _
  refine x_aload_n 0 0 dX1_trialRisk_0 rfl ?_
  refine x_getR 1 fa_X1_87_0 dX1_trialRisk_1 fun v1 => ?_
  refine x_iload_n 4 1 dX1_trialRisk_4 rfl ?_
  refine x_cSx 5 7 [.ref v1, .int a1] [] rfl cs_X1_214 (im_X1_at hl v1 a1) (by decide) rfl (Nat.le_of_ble_eq_true rfl) dX1_trialRisk_5 fun v2 => x_stR ?_
  refine x_isK fun i3 h4 => ?_
  subst h4
  refine x_castS 8 (by decide) q1380 dX1_trialRisk_8 ?_
  refine x_iconst 11 1 (1 : Int32) dX1_trialRisk_11 rfl ?_
  refine x_cV 12 5 [.int (1 : Int32)] [] ⟨by decide, rfl⟩ cv_X1_246 (im_X8_risk hl i3 (1 : Int32)) (by decide) rfl (Nat.le_of_ble_eq_true rfl) dX1_trialRisk_12 fun v5 => x_stI ?_
  exact x_iret 15 hZ rfl dX1_trialRisk_15
def f_X1_isLive (i0 : Nat) (a1 : Int32) : PT Int32 := gR 0 i0 4 fun v1 => bnd (f_X1_at v1 a1) fun v2 => isK 8 v2 fun i3 => gI 8 i3 5 fun v5 => asr (v5 = 0 ∨ v5 = 1) (rt v5)
theorem im_X1_isLive {g : GP} {l : Launch} (hl : l.stackTraces = false) (i0 : Nat) (a1 : Int32) : Im g l 8 yX1_isLive cX1_isLive 2 (some .boolean) eI [.ref (idc 0 i0), .int a1] (f_X1_isLive i0 a1) := by
  refine tx_start hl 8 _ _ _ _ (by decide) (Nat.le_of_ble_eq_true rfl) fun Γ Z hΓ hZ => ?_
  subst hΓ
  unfold f_X1_isLive
  show TX g Γ _ Z _ 0 [(0, .ref (idc 0 i0)), (1, .int a1)] [] _
  refine x_aload_n 0 0 dX1_isLive_0 rfl ?_
  refine x_getR 1 fa_X1_5_0 dX1_isLive_1 fun v1 => ?_
  refine x_iload_n 4 1 dX1_isLive_4 rfl ?_
  refine x_cSx 5 7 [.ref v1, .int a1] [] rfl cs_X1_214 (im_X1_at hl v1 a1) (by decide) rfl (Nat.le_of_ble_eq_true rfl) dX1_isLive_5 fun v2 => x_stR ?_
  refine x_isK fun i3 h4 => ?_
  subst h4
  refine x_castS 8 (by decide) q1040 dX1_isLive_8 ?_
  refine x_getI 11 fa_X1_250_8 dX1_isLive_11 fun v5 => ?_
  exact x_zret 14 hZ rfl dX1_isLive_14
def f_X1_isLiveByAudit (i0 : Nat) (a1 : Int32) : PT Int32 := gR 0 i0 4 fun v1 => bnd (f_X1_at v1 a1) fun v2 => lp (σ := Int32 × Int32) (fun r5 => un2 fun u3 u4 => gR 0 i0 14 fun v6 => isK 13 v6 fun i7 => bn0 (f_J2_size i7) fun v9 => cnd (v9 ≤ u4) (asr (u3 = 0 ∨ u3 = 1) (rt u3)) (gR 0 i0 14 fun v11 => isK 13 v11 fun i12 => bn0 (f_J2_get i12 u4) fun v14 => isK 5 v14 fun i15 => gI 5 i15 0 fun v17 => cnd ((1 : Int32) < v17) (r5 (u3, u4 + (1 : Int32))) (gI 5 i15 1 fun v19 => cnd (v19 = a1) (gI 5 i15 0 fun v21 => cnd (v21 = 0) (r5 ((1 : Int32), u4 + (1 : Int32))) (r5 ((0 : Int32), u4 + (1 : Int32)))) (r5 (u3, u4 + (1 : Int32)))))) ((0 : Int32), (0 : Int32))
theorem im_X1_isLiveByAudit {g : GP} {l : Launch} (hl : l.stackTraces = false) (i0 : Nat) (a1 : Int32) : Im g l 8 yX1_isLiveByAudit cX1_isLiveByAudit 5 (some .boolean) eI [.ref (idc 0 i0), .int a1] (f_X1_isLiveByAudit i0 a1) := by
  refine tx_start hl 8 _ _ _ _ (by decide) (Nat.le_of_ble_eq_true rfl) fun Γ Z hΓ hZ => ?_
  subst hΓ
  unfold f_X1_isLiveByAudit
  show TX g Γ _ Z _ 0 [(0, .ref (idc 0 i0)), (1, .int a1)] [] _
  refine x_aload_n 0 0 dX1_isLiveByAudit_0 rfl ?_
  refine x_getR 1 fa_X1_5_0 dX1_isLiveByAudit_1 fun v1 => ?_
  refine x_iload_n 4 1 dX1_isLiveByAudit_4 rfl ?_
  refine x_cSx 5 7 [.ref v1, .int a1] [] rfl cs_X1_214 (im_X1_at hl v1 a1) (by decide) rfl (Nat.le_of_ble_eq_true rfl) dX1_isLiveByAudit_5 fun v2 => x_stR ?_
  refine x_pop 8 dX1_isLiveByAudit_8 rfl ?_
  refine x_iconst 9 0 (0 : Int32) dX1_isLiveByAudit_9 rfl ?_
  refine x_istore_n 10 [(2, .int (0 : Int32)), (0, .ref (idc 0 i0)), (1, .int a1)] dX1_isLiveByAudit_10 (by decide) rfl ?_
  refine x_iconst 11 0 (0 : Int32) dX1_isLiveByAudit_11 rfl ?_
  refine x_istore_n 12 [(3, .int (0 : Int32)), (2, .int (0 : Int32)), (0, .ref (idc 0 i0)), (1, .int a1)] dX1_isLiveByAudit_12 (by decide) rfl ?_
  refine x_sub [2, 3, 1, 0] [(0, .ref (idc 0 i0)), (1, .int a1), (2, .int (0 : Int32)), (3, .int (0 : Int32))] rfl ?_
  refine x_lp (Lf := fun u => [(0, .ref (idc 0 i0)), (1, .int a1), (2, .int u.1), (3, .int u.2)]) (sf := fun _ => []) (fun r5 hr5 u => ?_) ((0 : Int32), (0 : Int32))
  obtain ⟨u3, u4⟩ := u
  show TX g Γ _ Z _ 13 [(0, .ref (idc 0 i0)), (1, .int a1), (2, .int u3), (3, .int u4)] [] _
  refine x_un2 ?_
  refine x_iload_n 13 3 dX1_isLiveByAudit_13 rfl ?_
  refine x_aload_n 14 0 dX1_isLiveByAudit_14 rfl ?_
  refine x_getR 15 fa_X1_50_0 dX1_isLiveByAudit_15 fun v6 => ?_
  refine x_isK fun i7 h8 => ?_
  subst h8
  refine x_cF 18 0 [] [.int u4] (by decide) cf_X1_9_13 (im_J2_size hl i7) (by decide) rfl (Nat.le_of_ble_eq_true rfl) dX1_isLiveByAudit_18 fun v9 => x_stI ?_
  refine x_icmp_ge 23 83 dX1_isLiveByAudit_23 rfl (fun c10 => ?_) (fun c10 => ?_)
  · refine x_iload_n 83 2 dX1_isLiveByAudit_83 rfl ?_
    exact x_zret 84 hZ rfl dX1_isLiveByAudit_84
  · refine x_aload_n 26 0 dX1_isLiveByAudit_26 rfl ?_
    refine x_getR 27 fa_X1_50_0 dX1_isLiveByAudit_27 fun v11 => ?_
    refine x_iload_n 30 3 dX1_isLiveByAudit_30 rfl ?_
    refine x_isK fun i12 h13 => ?_
    subst h13
    refine x_cF 31 2 [.int u4] [] (by decide) cf_X1_31_13 (im_J2_get hl i12 u4) (by decide) rfl (Nat.le_of_ble_eq_true rfl) dX1_isLiveByAudit_31 fun v14 => x_stR ?_
    refine x_isK fun i15 h16 => ?_
    subst h16
    refine x_castS 36 (by decide) q851 dX1_isLiveByAudit_36 ?_
    refine x_astore 39 [(4, .ref (idc 5 i15)), (0, .ref (idc 0 i0)), (1, .int a1), (2, .int u3), (3, .int u4)] dX1_isLiveByAudit_39 (by decide) rfl ?_
    refine x_aload 41 0 dX1_isLiveByAudit_41 rfl ?_
    refine x_getI 43 fa_X1_253_5 dX1_isLiveByAudit_43 fun v17 => ?_
    refine x_iconst 46 1 (1 : Int32) dX1_isLiveByAudit_46 rfl ?_
    refine x_icmp_gt 47 75 dX1_isLiveByAudit_47 rfl (fun c18 => ?_) (fun c18 => ?_)
    · refine x_iload_n 75 3 dX1_isLiveByAudit_75 rfl ?_
      refine x_istore_n 76 [(2, .int u3), (4, .ref (idc 5 i15)), (0, .ref (idc 0 i0)), (1, .int a1), (3, .int u4)] dX1_isLiveByAudit_76 (by decide) rfl ?_
      refine x_iinc 77 4 [(3, .int (u4 + (1 : Int32))), (2, .int u3), (4, .ref (idc 5 i15)), (0, .ref (idc 0 i0)), (1, .int a1)] dX1_isLiveByAudit_77 rfl rfl (by decide) rfl ?_
      refine x_goto 80 13 dX1_isLiveByAudit_80 rfl ?_
      refine x_sub [3, 4, 1, 0] _ rfl ?_
      exact hr5 (u3, u4 + (1 : Int32))
    · refine x_aload 50 0 dX1_isLiveByAudit_50 rfl ?_
      refine x_getI 52 fa_X1_256_5 dX1_isLiveByAudit_52 fun v19 => ?_
      refine x_iload_n 55 2 dX1_isLiveByAudit_55 rfl ?_
      refine x_icmp_ne 56 75 dX1_isLiveByAudit_56 rfl (fun c20 => ?_) (fun c20 => ?_)
      · refine x_aload 59 0 dX1_isLiveByAudit_59 rfl ?_
        refine x_getI 61 fa_X1_253_5 dX1_isLiveByAudit_61 fun v21 => ?_
        refine x_if_ne 64 71 dX1_isLiveByAudit_64 rfl (fun c22 => ?_) (fun c22 => ?_)
        · refine x_iconst 67 1 (1 : Int32) dX1_isLiveByAudit_67 rfl ?_
          refine x_goto 68 76 dX1_isLiveByAudit_68 rfl ?_
          refine x_istore_n 76 [(2, .int (1 : Int32)), (4, .ref (idc 5 i15)), (0, .ref (idc 0 i0)), (1, .int a1), (3, .int u4)] dX1_isLiveByAudit_76 (by decide) rfl ?_
          refine x_iinc 77 4 [(3, .int (u4 + (1 : Int32))), (2, .int (1 : Int32)), (4, .ref (idc 5 i15)), (0, .ref (idc 0 i0)), (1, .int a1)] dX1_isLiveByAudit_77 rfl rfl (by decide) rfl ?_
          refine x_goto 80 13 dX1_isLiveByAudit_80 rfl ?_
          refine x_sub [3, 4, 1, 0] _ rfl ?_
          exact hr5 ((1 : Int32), u4 + (1 : Int32))
        · refine x_iconst 71 0 (0 : Int32) dX1_isLiveByAudit_71 rfl ?_
          refine x_goto 72 76 dX1_isLiveByAudit_72 rfl ?_
          refine x_istore_n 76 [(2, .int (0 : Int32)), (4, .ref (idc 5 i15)), (0, .ref (idc 0 i0)), (1, .int a1), (3, .int u4)] dX1_isLiveByAudit_76 (by decide) rfl ?_
          refine x_iinc 77 4 [(3, .int (u4 + (1 : Int32))), (2, .int (0 : Int32)), (4, .ref (idc 5 i15)), (0, .ref (idc 0 i0)), (1, .int a1)] dX1_isLiveByAudit_77 rfl rfl (by decide) rfl ?_
          refine x_goto 80 13 dX1_isLiveByAudit_80 rfl ?_
          refine x_sub [3, 4, 1, 0] _ rfl ?_
          exact hr5 ((0 : Int32), u4 + (1 : Int32))
      · refine x_iload_n 75 3 dX1_isLiveByAudit_75 rfl ?_
        refine x_istore_n 76 [(2, .int u3), (4, .ref (idc 5 i15)), (0, .ref (idc 0 i0)), (1, .int a1), (3, .int u4)] dX1_isLiveByAudit_76 (by decide) rfl ?_
        refine x_iinc 77 4 [(3, .int (u4 + (1 : Int32))), (2, .int u3), (4, .ref (idc 5 i15)), (0, .ref (idc 0 i0)), (1, .int a1)] dX1_isLiveByAudit_77 rfl rfl (by decide) rfl ?_
        refine x_goto 80 13 dX1_isLiveByAudit_80 rfl ?_
        refine x_sub [3, 4, 1, 0] _ rfl ?_
        exact hr5 (u3, u4 + (1 : Int32))
def f_X9_level (i0 : Nat) : PT Int32 := bnd (lp (σ := Int32 × Int32) (ρ := Int32) (fun r3 => un2 fun u1 u2 => cnd ((3 : Int32) ≤ u2) (rt u1) (gI 8 i0 7 fun v7 => jo (σ := Int32) (fun u8 => r3 (u1 ||| (0 : Int32), u8 + (1 : Int32))) fun j10 => cnd (((v7 >>> (u2 &&& 31)) &&& (1 : Int32)) = (1 : Int32)) (gR 8 i0 8 fun v12 => isK 0 v12 fun i13 => gI 0 i13 16 fun v15 => gR 8 i0 6 fun v16 => isK 32 v16 fun i17 => aI 32 i17 u2 fun v19 => cnd ((120 : Int32) < (v15 - v19)) (j10 u2) (r3 (u1 ||| ((1 : Int32) <<< (u2 &&& 31)), u2 + (1 : Int32)))) (j10 u2))) ((0 : Int32), (0 : Int32))) (fun u4 => bn0 (f_X1_levelOf u4) fun v21 => rt v21)
theorem im_X9_level {g : GP} {l : Launch} (hl : l.stackTraces = false) (i0 : Nat) : Im g l 1 yX9_level cX9_level 3 (some .int) eI [.ref (idc 8 i0)] (f_X9_level i0) := by
  refine tx_start hl 1 _ _ _ _ (by decide) (Nat.le_of_ble_eq_true rfl) fun Γ Z hΓ hZ => ?_
  subst hΓ
  unfold f_X9_level
  show TX g Γ _ Z _ 0 [(0, .ref (idc 8 i0))] [] _
  refine x_iconst 0 0 (0 : Int32) dX9_level_0 rfl ?_
  refine x_istore_n 1 [(1, .int (0 : Int32)), (0, .ref (idc 8 i0))] dX9_level_1 (by decide) rfl ?_
  refine x_iconst 2 0 (0 : Int32) dX9_level_2 rfl ?_
  refine x_istore_n 3 [(2, .int (0 : Int32)), (1, .int (0 : Int32)), (0, .ref (idc 8 i0))] dX9_level_3 (by decide) rfl ?_
  refine x_sub [2, 1, 0] [(0, .ref (idc 8 i0)), (1, .int (0 : Int32)), (2, .int (0 : Int32))] rfl ?_
  refine x_bndj 56 (fun u4 => [(1, .int u4)]) (fun u4 => []) (fun u4 => ?_) (fun hj5 => ?_)
  · show TX g Γ _ Z _ 56 [(1, .int u4)] [] _
    refine x_iload_n 56 0 dX9_level_56 rfl ?_
    refine x_cSn 57 0 [.int u4] [] cs_X9_52 (im_X1_levelOf hl u4) (by decide) rfl (Nat.le_of_ble_eq_true rfl) dX9_level_57 fun v21 => x_stI ?_
    exact x_iret 60 hZ rfl dX9_level_60
  · refine x_lp (Lf := fun u => [(0, .ref (idc 8 i0)), (1, .int u.1), (2, .int u.2)]) (sf := fun _ => []) (fun r3 hr3 u => ?_) ((0 : Int32), (0 : Int32))
    obtain ⟨u1, u2⟩ := u
    show TX g Γ _ Z _ 4 [(0, .ref (idc 8 i0)), (1, .int u1), (2, .int u2)] [] _
    refine x_un2 ?_
    refine x_iload_n 4 2 dX9_level_4 rfl ?_
    refine x_iconst 5 3 (3 : Int32) dX9_level_5 rfl ?_
    refine x_icmp_ge 6 56 dX9_level_6 rfl (fun c6 => ?_) (fun c6 => ?_)
    · refine x_sub [1] _ rfl ?_
      exact hj5 u1
    · refine x_iload_n 9 1 dX9_level_9 rfl ?_
      refine x_aload_n 10 0 dX9_level_10 rfl ?_
      refine x_getI 11 fa_X9_49_8 dX9_level_11 fun v7 => ?_
      refine x_iload_n 14 2 dX9_level_14 rfl ?_
      refine x_ishr 15 dX9_level_15 ?_
      refine x_iconst 16 1 (1 : Int32) dX9_level_16 rfl ?_
      refine x_iand 17 dX9_level_17 ?_
      refine x_iconst 18 1 (1 : Int32) dX9_level_18 rfl ?_
      refine x_jo 47 (Lf := fun u8 => [(0, .ref (idc 8 i0)), (2, .int u8)]) (sf := fun u8 => [.int u1]) (fun u8 => ?_) (fun j10 hj9 => ?_)
      · show TX g Γ _ Z _ 47 [(0, .ref (idc 8 i0)), (2, .int u8)] [.int u1] _
        refine x_iconst 47 0 (0 : Int32) dX9_level_47 rfl ?_
        refine x_ior 48 dX9_level_48 ?_
        refine x_istore_n 49 [(1, .int (u1 ||| (0 : Int32))), (0, .ref (idc 8 i0)), (2, .int u8)] dX9_level_49 (by decide) rfl ?_
        refine x_iinc 50 2 [(2, .int (u8 + (1 : Int32))), (1, .int (u1 ||| (0 : Int32))), (0, .ref (idc 8 i0))] dX9_level_50 rfl rfl (by decide) rfl ?_
        refine x_goto 53 4 dX9_level_53 rfl ?_
        refine x_sub [2, 1, 0] _ rfl ?_
        exact hr3 (u1 ||| (0 : Int32), u8 + (1 : Int32))
      · refine x_icmp_ne 19 47 dX9_level_19 rfl (fun c11 => ?_) (fun c11 => ?_)
        · refine x_aload_n 22 0 dX9_level_22 rfl ?_
          refine x_getR 23 fa_X9_3_8 dX9_level_23 fun v12 => ?_
          refine x_isK fun i13 h14 => ?_
          subst h14
          refine x_getI 26 fa_X9_15_0 dX9_level_26 fun v15 => ?_
          refine x_aload_n 29 0 dX9_level_29 rfl ?_
          refine x_getR 30 fa_X9_46_8 dX9_level_30 fun v16 => ?_
          refine x_iload_n 33 2 dX9_level_33 rfl ?_
          refine x_isK fun i17 h18 => ?_
          subst h18
          refine x_iald 34 dX9_level_34 fun v19 => ?_
          refine x_isub 35 dX9_level_35 ?_
          refine x_bipush 36 120 (120 : Int32) dX9_level_36 rfl ?_
          refine x_icmp_gt 38 47 dX9_level_38 rfl (fun c20 => ?_) (fun c20 => ?_)
          · refine x_sub [0, 2] _ rfl ?_
            exact hj9 u2
          · refine x_iconst 41 1 (1 : Int32) dX9_level_41 rfl ?_
            refine x_iload_n 42 2 dX9_level_42 rfl ?_
            refine x_ishl 43 dX9_level_43 ?_
            refine x_goto 44 48 dX9_level_44 rfl ?_
            refine x_ior 48 dX9_level_48 ?_
            refine x_istore_n 49 [(1, .int (u1 ||| ((1 : Int32) <<< (u2 &&& 31)))), (0, .ref (idc 8 i0)), (2, .int u2)] dX9_level_49 (by decide) rfl ?_
            refine x_iinc 50 2 [(2, .int (u2 + (1 : Int32))), (1, .int (u1 ||| ((1 : Int32) <<< (u2 &&& 31)))), (0, .ref (idc 8 i0))] dX9_level_50 rfl rfl (by decide) rfl ?_
            refine x_goto 53 4 dX9_level_53 rfl ?_
            refine x_sub [2, 1, 0] _ rfl ?_
            exact hr3 (u1 ||| ((1 : Int32) <<< (u2 &&& 31)), u2 + (1 : Int32))
        · refine x_sub [0, 2] _ rfl ?_
          exact hj9 u2
def f_X1_level (i0 : Nat) (a1 : Int32) : PT Int32 := gR 0 i0 4 fun v1 => bnd (f_X1_at v1 a1) fun v2 => isK 8 v2 fun i3 => bn0 (f_X9_level i3) fun v5 => rt v5
theorem im_X1_level {g : GP} {l : Launch} (hl : l.stackTraces = false) (i0 : Nat) (a1 : Int32) : Im g l 8 yX1_level cX1_level 2 (some .int) eI [.ref (idc 0 i0), .int a1] (f_X1_level i0 a1) := by
  refine tx_start hl 8 _ _ _ _ (by decide) (Nat.le_of_ble_eq_true rfl) fun Γ Z hΓ hZ => ?_
  subst hΓ
  unfold f_X1_level
  show TX g Γ _ Z _ 0 [(0, .ref (idc 0 i0)), (1, .int a1)] [] _
  refine x_aload_n 0 0 dX1_level_0 rfl ?_
  refine x_getR 1 fa_X1_5_0 dX1_level_1 fun v1 => ?_
  refine x_iload_n 4 1 dX1_level_4 rfl ?_
  refine x_cSx 5 7 [.ref v1, .int a1] [] rfl cs_X1_214 (im_X1_at hl v1 a1) (by decide) rfl (Nat.le_of_ble_eq_true rfl) dX1_level_5 fun v2 => x_stR ?_
  refine x_isK fun i3 h4 => ?_
  subst h4
  refine x_castS 8 (by decide) q1040 dX1_level_8 ?_
  refine x_cV 11 1 [] [] ⟨by decide, rfl⟩ cv_X1_257 (im_X9_level hl i3) (by decide) rfl (Nat.le_of_ble_eq_true rfl) dX1_level_11 fun v5 => x_stI ?_
  exact x_iret 14 hZ rfl dX1_level_14
def f_X9_show (i0 : Nat) (a1 : Int32) : PT Unit := gI 8 i0 7 fun v1 => pI 8 i0 7 (v1 ||| ((1 : Int32) <<< (a1 &&& 31))) <| gR 8 i0 6 fun v2 => gR 8 i0 8 fun v3 => isK 0 v3 fun i4 => gI 0 i4 16 fun v6 => isK 32 v2 fun i7 => bI 32 i7 a1 v6 <| rt ()
theorem im_X9_show {g : GP} {l : Launch} (hl : l.stackTraces = false) (i0 : Nat) (a1 : Int32) : Im g l 0 yX9_show cX9_show 2 none eV [.ref (idc 8 i0), .int a1] (f_X9_show i0 a1) := by
  refine tx_start hl 0 _ _ _ _ (by decide) (Nat.le_of_ble_eq_true rfl) fun Γ Z hΓ hZ => ?_
  subst hΓ
  unfold f_X9_show
  show TX g Γ _ Z _ 0 [(0, .ref (idc 8 i0)), (1, .int a1)] [] _
  refine x_aload_n 0 0 dX9_show_0 rfl ?_
  refine x_dup 1 dX9_show_1 rfl ?_
  refine x_getI 2 fa_X9_49_8 dX9_show_2 fun v1 => ?_
  refine x_iconst 5 1 (1 : Int32) dX9_show_5 rfl ?_
  refine x_iload_n 6 1 dX9_show_6 rfl ?_
  refine x_ishl 7 dX9_show_7 ?_
  refine x_ior 8 dX9_show_8 ?_
  refine x_putI 9 fa_X9_49_8 rfl (Or.inl rfl) dX9_show_9 ?_
  refine x_aload_n 12 0 dX9_show_12 rfl ?_
  refine x_getR 13 fa_X9_46_8 dX9_show_13 fun v2 => ?_
  refine x_iload_n 16 1 dX9_show_16 rfl ?_
  refine x_aload_n 17 0 dX9_show_17 rfl ?_
  refine x_getR 18 fa_X9_3_8 dX9_show_18 fun v3 => ?_
  refine x_isK fun i4 h5 => ?_
  subst h5
  refine x_getI 21 fa_X9_15_0 dX9_show_21 fun v6 => ?_
  refine x_isK fun i7 h8 => ?_
  subst h8
  refine x_iast 24 dX9_show_24 ?_
  exact x_vret 25 hZ rfl dX9_show_25
def f_X1_stepUp (i0 : Nat) (a1 : Int32) (a2 : Int32) (a3 : Int32) (a4 : Int32) : PT Int32 := gR 0 i0 4 fun v1 => bnd (f_X1_at v1 a1) fun v2 => isK 8 v2 fun i3 => bnd (f_X1_fitFactor a2) fun _ => bnd (f_X1_fit a4 (0 : Int32) (9999 : Int32)) fun _ => gI 8 i3 5 fun v7 => bnd (ρ := _) (α := Int32) (jo (σ := Unit) (fun _ => rt (0 : Int32)) fun j21 => cnd (v7 = 0) (j21 ()) (gR 8 i3 2 fun v23 => cnd (v23 = nul) (rt (1 : Int32)) (j21 ()))) (fun u8 => bnd (f_X1_can u8) fun _ => gI 0 i0 16 fun v10 => pI 8 i3 4 v10 <| gR 8 i3 1 fun v11 => isK 2 v11 fun i12 => bn0 (f_X3_answers i12 a2 a3 a4) fun v14 => bnd (ρ := _) (α := Unit) (cnd (v14 = 0) (rt ()) (bn0 (f_X9_show i3 a2) fun _ => rt ())) (fun _ => bn0 (f_X9_level i3) fun v15 => rt v15))
theorem im_X1_stepUp {g : GP} {l : Launch} (hl : l.stackTraces = false) (i0 : Nat) (a1 : Int32) (a2 : Int32) (a3 : Int32) (a4 : Int32) : Im g l 11 yX1_stepUp cX1_stepUp 6 (some .int) eI [.ref (idc 0 i0), .int a1, .int a2, .int a3, .int a4] (f_X1_stepUp i0 a1 a2 a3 a4) := by
  refine tx_start hl 11 _ _ _ _ (by decide) (Nat.le_of_ble_eq_true rfl) fun Γ Z hΓ hZ => ?_
  subst hΓ
  unfold f_X1_stepUp
  show TX g Γ _ Z _ 0 [(0, .ref (idc 0 i0)), (1, .int a1), (2, .int a2), (3, .int a3), (4, .int a4)] [] _
  refine x_aload_n 0 0 dX1_stepUp_0 rfl ?_
  refine x_getR 1 fa_X1_5_0 dX1_stepUp_1 fun v1 => ?_
  refine x_iload_n 4 1 dX1_stepUp_4 rfl ?_
  refine x_cSx 5 7 [.ref v1, .int a1] [] rfl cs_X1_214 (im_X1_at hl v1 a1) (by decide) rfl (Nat.le_of_ble_eq_true rfl) dX1_stepUp_5 fun v2 => x_stR ?_
  refine x_isK fun i3 h4 => ?_
  subst h4
  refine x_castS 8 (by decide) q1040 dX1_stepUp_8 ?_
  refine x_astore 11 [(5, .ref (idc 8 i3)), (0, .ref (idc 0 i0)), (1, .int a1), (2, .int a2), (3, .int a3), (4, .int a4)] dX1_stepUp_11 (by decide) rfl ?_
  refine x_iload_n 13 3 dX1_stepUp_13 rfl ?_
  refine x_cSx 14 7 [.int a2] [] rfl cs_X1_191 (im_X1_fitFactor hl a2) (by decide) rfl (Nat.le_of_ble_eq_true rfl) dX1_stepUp_14 fun v5 => x_stV ?_
  refine x_iload 17 5 dX1_stepUp_17 rfl ?_
  refine x_iconst 19 0 (0 : Int32) dX1_stepUp_19 rfl ?_
  refine x_sipush 20 9999 (9999 : Int32) dX1_stepUp_20 rfl ?_
  refine x_cSx 23 6 [.int a4, .int (0 : Int32), .int (9999 : Int32)] [] rfl cs_X1_149 (im_X1_fit hl a4 (0 : Int32) (9999 : Int32)) (by decide) rfl (Nat.le_of_ble_eq_true rfl) dX1_stepUp_23 fun v6 => x_stV ?_
  refine x_aload 26 0 dX1_stepUp_26 rfl ?_
  refine x_getI 28 fa_X1_250_8 dX1_stepUp_28 fun v7 => ?_
  refine x_bndj 47 (fun u8 => [(0, .ref (idc 0 i0)), (2, .int a2), (3, .int a3), (4, .int a4), (5, .ref (idc 8 i3))]) (fun u8 => [.int u8]) (fun u8 => ?_) (fun hj19 => ?_)
  · show TX g Γ _ Z _ 47 [(0, .ref (idc 0 i0)), (2, .int a2), (3, .int a3), (4, .int a4), (5, .ref (idc 8 i3))] [.int u8] _
    refine x_cSx 47 6 [.int u8] [] rfl cs_X1_176 (im_X1_can hl u8) (by decide) rfl (Nat.le_of_ble_eq_true rfl) dX1_stepUp_47 fun v9 => x_stV ?_
    refine x_aload 50 4 dX1_stepUp_50 rfl ?_
    refine x_aload_n 52 0 dX1_stepUp_52 rfl ?_
    refine x_getI 53 fa_X1_44_0 dX1_stepUp_53 fun v10 => ?_
    refine x_putI 56 fa_X1_264_8 rfl (Or.inl rfl) dX1_stepUp_56 ?_
    refine x_aload 59 4 dX1_stepUp_59 rfl ?_
    refine x_getR 61 fa_X1_35_8 dX1_stepUp_61 fun v11 => ?_
    refine x_iload_n 64 1 dX1_stepUp_64 rfl ?_
    refine x_iload_n 65 2 dX1_stepUp_65 rfl ?_
    refine x_iload 66 3 dX1_stepUp_66 rfl ?_
    refine x_isK fun i12 h13 => ?_
    subst h13
    refine x_cV 68 10 [.int a2, .int a3, .int a4] [] ⟨by decide, rfl⟩ cv_X1_267 (im_X3_answers hl i12 a2 a3 a4) (by decide) rfl (Nat.le_of_ble_eq_true rfl) dX1_stepUp_68 fun v14 => x_stI ?_
    refine x_bndj 80 (fun _ => [(5, .ref (idc 8 i3))]) (fun _ => []) (fun _ => ?_) (fun hj16 => ?_)
    · show TX g Γ _ Z _ 80 [(5, .ref (idc 8 i3))] [] _
      refine x_aload 80 0 dX1_stepUp_80 rfl ?_
      refine x_cV 82 1 [] [] ⟨by decide, rfl⟩ cv_X1_257 (im_X9_level hl i3) (by decide) rfl (Nat.le_of_ble_eq_true rfl) dX1_stepUp_82 fun v15 => x_stI ?_
      exact x_iret 85 hZ rfl dX1_stepUp_85
    · refine x_if_eq 71 80 dX1_stepUp_71 rfl (fun c17 => ?_) (fun c17 => ?_)
      · refine x_sub [4] _ rfl ?_
        exact hj16 ()
      · refine x_aload 74 4 dX1_stepUp_74 rfl ?_
        refine x_iload_n 76 1 dX1_stepUp_76 rfl ?_
        refine x_cV 77 0 [.int a2] [] ⟨by decide, rfl⟩ cv_X1_271 (im_X9_show hl i3 a2) (by decide) rfl (Nat.le_of_ble_eq_true rfl) dX1_stepUp_77 fun v18 => x_stV ?_
        refine x_sub [4] _ rfl ?_
        exact hj16 ()
  · refine x_jo 46 (Lf := fun _ => [(0, .ref (idc 0 i0)), (2, .int a2), (3, .int a3), (4, .int a4), (5, .ref (idc 8 i3))]) (sf := fun _ => []) (fun _ => ?_) (fun j21 hj20 => ?_)
    · show TX g Γ _ Z _ 46 [(0, .ref (idc 0 i0)), (2, .int a2), (3, .int a3), (4, .int a4), (5, .ref (idc 8 i3))] [] _
      refine x_iconst 46 0 (0 : Int32) dX1_stepUp_46 rfl ?_
      exact hj19 (0 : Int32)
    · refine x_if_eq 31 46 dX1_stepUp_31 rfl (fun c22 => ?_) (fun c22 => ?_)
      · refine x_sub [1, 3, 4, 5, 0] _ rfl ?_
        exact hj20 ()
      · refine x_aload 34 0 dX1_stepUp_34 rfl ?_
        refine x_getR 36 fa_X1_260_8 dX1_stepUp_36 fun v23 => ?_
        refine x_ifnonnull 39 46 dX1_stepUp_39 rfl (fun c24 => ?_) (fun c24 => ?_)
        · refine x_iconst 42 1 (1 : Int32) dX1_stepUp_42 rfl ?_
          refine x_goto 43 47 dX1_stepUp_43 rfl ?_
          refine x_sub [1, 3, 4, 5, 0] _ rfl ?_
          exact hj19 (1 : Int32)
        · refine x_sub [1, 3, 4, 5, 0] _ rfl ?_
          exact hj20 ()
def f_X1_signOut (i0 : Nat) (a1 : Int32) : PT Int32 := gR 0 i0 4 fun v1 => bnd (f_X1_at v1 a1) fun v2 => isK 8 v2 fun i3 => gI 8 i3 5 fun v5 => bnd (f_X1_can v5) fun _ => bn0 (f_X9_end 30 i3) fun v7 => rt v7
theorem im_X1_signOut {g : GP} {l : Launch} (hl : l.stackTraces = false) (i0 : Nat) (a1 : Int32) : Im g l 41 yX1_signOut cX1_signOut 3 (some .int) eI [.ref (idc 0 i0), .int a1] (f_X1_signOut i0 a1) := by
  refine tx_start hl 41 _ _ _ _ (by decide) (Nat.le_of_ble_eq_true rfl) fun Γ Z hΓ hZ => ?_
  subst hΓ
  unfold f_X1_signOut
  show TX g Γ _ Z _ 0 [(0, .ref (idc 0 i0)), (1, .int a1)] [] _
  refine x_aload_n 0 0 dX1_signOut_0 rfl ?_
  refine x_getR 1 fa_X1_5_0 dX1_signOut_1 fun v1 => ?_
  refine x_iload_n 4 1 dX1_signOut_4 rfl ?_
  refine x_cSx 5 7 [.ref v1, .int a1] [] rfl cs_X1_214 (im_X1_at hl v1 a1) (by decide) rfl (Nat.le_of_ble_eq_true rfl) dX1_signOut_5 fun v2 => x_stR ?_
  refine x_isK fun i3 h4 => ?_
  subst h4
  refine x_castS 8 (by decide) q1040 dX1_signOut_8 ?_
  refine x_astore_n 11 [(2, .ref (idc 8 i3)), (0, .ref (idc 0 i0)), (1, .int a1)] dX1_signOut_11 (by decide) rfl ?_
  refine x_aload_n 12 0 dX1_signOut_12 rfl ?_
  refine x_getI 13 fa_X1_250_8 dX1_signOut_13 fun v5 => ?_
  refine x_cSx 16 6 [.int v5] [] rfl cs_X1_176 (im_X1_can hl v5) (by decide) rfl (Nat.le_of_ble_eq_true rfl) dX1_signOut_16 fun v6 => x_stV ?_
  refine x_aload_n 19 0 dX1_signOut_19 rfl ?_
  refine x_cV 20 40 [] [] ⟨by decide, rfl⟩ cv_X1_39 (im_X9_end 30 hl i3) (by decide) rfl (Nat.le_of_ble_eq_true rfl) dX1_signOut_20 fun v7 => x_stI ?_
  exact x_iret 23 hZ rfl dX1_signOut_23
def f_X1_helper (i0 : Nat) (a1 : Int32) : PT Int32 := bnd (f_X1_personAt i0 a1) fun v1 => isK 2 v1 fun i2 => gI 2 i2 5 fun v4 => bnd (ρ := _) (α := Int32) (cnd (v4 = 0) (rt (1 : Int32)) (rt (0 : Int32))) (fun u5 => pZ 2 i2 5 u5 <| gI 2 i2 5 fun v6 => asr (v6 = 0 ∨ v6 = 1) (rt v6))
theorem im_X1_helper {g : GP} {l : Launch} (hl : l.stackTraces = false) (i0 : Nat) (a1 : Int32) : Im g l 8 yX1_helper cX1_helper 3 (some .boolean) eI [.ref (idc 0 i0), .int a1] (f_X1_helper i0 a1) := by
  refine tx_start hl 8 _ _ _ _ (by decide) (Nat.le_of_ble_eq_true rfl) fun Γ Z hΓ hZ => ?_
  subst hΓ
  unfold f_X1_helper
  show TX g Γ _ Z _ 0 [(0, .ref (idc 0 i0)), (1, .int a1)] [] _
  refine x_aload_n 0 0 dX1_helper_0 rfl ?_
  refine x_iload_n 1 1 dX1_helper_1 rfl ?_
  refine x_cVx 2 7 [.int a1] [] ⟨by decide, rfl⟩ rfl cv_X1_187 (im_X1_personAt hl i0 a1) (by decide) rfl (Nat.le_of_ble_eq_true rfl) dX1_helper_2 fun v1 => x_stR ?_
  refine x_astore_n 5 [(2, .ref v1), (0, .ref (idc 0 i0)), (1, .int a1)] dX1_helper_5 (by decide) rfl ?_
  refine x_aload_n 6 0 dX1_helper_6 rfl ?_
  refine x_aload_n 7 0 dX1_helper_7 rfl ?_
  refine x_isK fun i2 h3 => ?_
  subst h3
  refine x_getI 8 fa_X1_274_2 dX1_helper_8 fun v4 => ?_
  refine x_bndj 19 (fun u5 => [(2, .ref (idc 2 i2))]) (fun u5 => [.int u5, .ref (idc 2 i2)]) (fun u5 => ?_) (fun hj7 => ?_)
  · show TX g Γ _ Z _ 19 [(2, .ref (idc 2 i2))] [.int u5, .ref (idc 2 i2)] _
    refine x_putZ 19 fa_X1_274_2 rfl (Or.inl rfl) dX1_helper_19 ?_
    refine x_aload_n 22 0 dX1_helper_22 rfl ?_
    refine x_getI 23 fa_X1_274_2 dX1_helper_23 fun v6 => ?_
    exact x_zret 26 hZ rfl dX1_helper_26
  · refine x_if_ne 11 18 dX1_helper_11 rfl (fun c8 => ?_) (fun c8 => ?_)
    · refine x_iconst 14 1 (1 : Int32) dX1_helper_14 rfl ?_
      refine x_goto 15 19 dX1_helper_15 rfl ?_
      refine x_sub [0] _ rfl ?_
      exact hj7 (1 : Int32)
    · refine x_iconst 18 0 (0 : Int32) dX1_helper_18 rfl ?_
      refine x_sub [0] _ rfl ?_
      exact hj7 (0 : Int32)
def f_X1_act (i0 : Nat) (a1 : Int32) (a2 : Int32) : PT Int32 := gR 0 i0 4 fun v1 => bnd (f_X1_at v1 a1) fun v2 => isK 8 v2 fun i3 => bnd (f_X1_personAt i0 a2) fun v5 => gI 8 i3 5 fun v6 => bnd (ρ := _) (α := Int32) (jo (σ := Unit) (fun _ => rt (0 : Int32)) fun j32 => cnd (v6 = 0) (j32 ()) (gR 8 i3 2 fun v34 => cnd (v34 = nul) (bn0 (f_X9_level i3) fun v36 => cnd (v36 < (3 : Int32)) (j32 ()) (gR 8 i3 1 fun v38 => isK 2 v38 fun i39 => gI 2 i39 5 fun v41 => cnd (v41 = 0) (j32 ()) (rt (1 : Int32)))) (j32 ()))) (fun u7 => bnd (f_X1_can u7) fun _ => gR 8 i3 1 fun v9 => bnd (ρ := _) (α := Int32) (jo (σ := Unit) (fun _ => rt (0 : Int32)) fun j19 => asr (cmpN v5 ∧ cmpN v9) <| cnd (v5 = v9) (j19 ()) (isK 2 v5 fun i21 => gI 2 i21 4 fun v23 => cnd (v23 = 0) (gR 0 i0 4 fun v25 => isK 13 v25 fun i26 => bn0 (f_J2_size i26) fun v28 => cnd ((60 : Int32) ≤ v28) (j19 ()) (rt (1 : Int32))) (j19 ()))) (fun u10 => bnd (f_X1_can u10) fun _ => gR 8 i3 6 fun v12 => gI 8 i3 7 fun v13 => isK 32 v12 fun i14 => bn0 (f_X1_beginSession i0 v5 (idc 8 i3) i14 v13) fun v16 => rt v16))
theorem im_X1_act {g : GP} {l : Launch} (hl : l.stackTraces = false) (i0 : Nat) (a1 : Int32) (a2 : Int32) : Im g l 9 yX1_act cX1_act 5 (some .int) eI [.ref (idc 0 i0), .int a1, .int a2] (f_X1_act i0 a1 a2) := by
  refine tx_start hl 9 _ _ _ _ (by decide) (Nat.le_of_ble_eq_true rfl) fun Γ Z hΓ hZ => ?_
  subst hΓ
  unfold f_X1_act
  show TX g Γ _ Z _ 0 [(0, .ref (idc 0 i0)), (1, .int a1), (2, .int a2)] [] _
  refine x_aload_n 0 0 dX1_act_0 rfl ?_
  refine x_getR 1 fa_X1_5_0 dX1_act_1 fun v1 => ?_
  refine x_iload_n 4 1 dX1_act_4 rfl ?_
  refine x_cSx 5 7 [.ref v1, .int a1] [] rfl cs_X1_214 (im_X1_at hl v1 a1) (by decide) rfl (Nat.le_of_ble_eq_true rfl) dX1_act_5 fun v2 => x_stR ?_
  refine x_isK fun i3 h4 => ?_
  subst h4
  refine x_castS 8 (by decide) q1040 dX1_act_8 ?_
  refine x_astore_n 11 [(3, .ref (idc 8 i3)), (0, .ref (idc 0 i0)), (1, .int a1), (2, .int a2)] dX1_act_11 (by decide) rfl ?_
  refine x_aload_n 12 1 dX1_act_12 rfl ?_
  refine x_iload_n 13 3 dX1_act_13 rfl ?_
  refine x_cVx 14 7 [.int a2] [] ⟨by decide, rfl⟩ rfl cv_X1_187 (im_X1_personAt hl i0 a2) (by decide) rfl (Nat.le_of_ble_eq_true rfl) dX1_act_14 fun v5 => x_stR ?_
  refine x_astore 17 [(4, .ref v5), (3, .ref (idc 8 i3)), (0, .ref (idc 0 i0)), (1, .int a1), (2, .int a2)] dX1_act_17 (by decide) rfl ?_
  refine x_aload_n 19 1 dX1_act_19 rfl ?_
  refine x_getI 20 fa_X1_250_8 dX1_act_20 fun v6 => ?_
  refine x_bndj 56 (fun u7 => [(0, .ref (idc 0 i0)), (3, .ref (idc 8 i3)), (4, .ref v5)]) (fun u7 => [.int u7]) (fun u7 => ?_) (fun hj30 => ?_)
  · show TX g Γ _ Z _ 56 [(0, .ref (idc 0 i0)), (3, .ref (idc 8 i3)), (4, .ref v5)] [.int u7] _
    refine x_cSx 56 6 [.int u7] [] rfl cs_X1_176 (im_X1_can hl u7) (by decide) rfl (Nat.le_of_ble_eq_true rfl) dX1_act_56 fun v8 => x_stV ?_
    refine x_aload 59 2 dX1_act_59 rfl ?_
    refine x_aload_n 61 1 dX1_act_61 rfl ?_
    refine x_getR 62 fa_X1_35_8 dX1_act_62 fun v9 => ?_
    refine x_bndj 95 (fun u10 => [(0, .ref (idc 0 i0)), (3, .ref (idc 8 i3)), (4, .ref v5)]) (fun u10 => [.int u10]) (fun u10 => ?_) (fun hj17 => ?_)
    · show TX g Γ _ Z _ 95 [(0, .ref (idc 0 i0)), (3, .ref (idc 8 i3)), (4, .ref v5)] [.int u10] _
      refine x_cSx 95 6 [.int u10] [] rfl cs_X1_176 (im_X1_can hl u10) (by decide) rfl (Nat.le_of_ble_eq_true rfl) dX1_act_95 fun v11 => x_stV ?_
      refine x_aload_n 98 0 dX1_act_98 rfl ?_
      refine x_aload 99 2 dX1_act_99 rfl ?_
      refine x_aload_n 101 1 dX1_act_101 rfl ?_
      refine x_aload_n 102 1 dX1_act_102 rfl ?_
      refine x_getR 103 fa_X1_277_8 dX1_act_103 fun v12 => ?_
      refine x_aload_n 106 1 dX1_act_106 rfl ?_
      refine x_getI 107 fa_X1_280_8 dX1_act_107 fun v13 => ?_
      refine x_isK fun i14 h15 => ?_
      subst h15
      refine x_cV 110 8 [.ref v5, .ref (idc 8 i3), .ref (idc 32 i14), .int v13] [] ⟨by decide, rfl⟩ cv_X1_282 (im_X1_beginSession hl i0 v5 (idc 8 i3) i14 v13) (by decide) rfl (Nat.le_of_ble_eq_true rfl) dX1_act_110 fun v16 => x_stI ?_
      exact x_iret 113 hZ rfl dX1_act_113
    · refine x_jo 94 (Lf := fun _ => [(0, .ref (idc 0 i0)), (3, .ref (idc 8 i3)), (4, .ref v5)]) (sf := fun _ => []) (fun _ => ?_) (fun j19 hj18 => ?_)
      · show TX g Γ _ Z _ 94 [(0, .ref (idc 0 i0)), (3, .ref (idc 8 i3)), (4, .ref v5)] [] _
        refine x_iconst 94 0 (0 : Int32) dX1_act_94 rfl ?_
        exact hj17 (0 : Int32)
      · refine x_acmp_eq 65 94 dX1_act_65 rfl (fun c20 => ?_) (fun c20 => ?_)
        · exact hj18 ()
        · refine x_aload 68 2 dX1_act_68 rfl ?_
          refine x_isK fun i21 h22 => ?_
          subst h22
          refine x_getI 70 fa_X1_224_2 dX1_act_70 fun v23 => ?_
          refine x_if_ne 73 94 dX1_act_73 rfl (fun c24 => ?_) (fun c24 => ?_)
          · refine x_aload_n 76 0 dX1_act_76 rfl ?_
            refine x_getR 77 fa_X1_5_0 dX1_act_77 fun v25 => ?_
            refine x_isK fun i26 h27 => ?_
            subst h27
            refine x_cF 80 0 [] [] (by decide) cf_X1_9_13 (im_J2_size hl i26) (by decide) rfl (Nat.le_of_ble_eq_true rfl) dX1_act_80 fun v28 => x_stI ?_
            refine x_bipush 85 60 (60 : Int32) dX1_act_85 rfl ?_
            refine x_icmp_ge 87 94 dX1_act_87 rfl (fun c29 => ?_) (fun c29 => ?_)
            · exact hj18 ()
            · refine x_iconst 90 1 (1 : Int32) dX1_act_90 rfl ?_
              refine x_goto 91 95 dX1_act_91 rfl ?_
              exact hj17 (1 : Int32)
          · exact hj18 ()
  · refine x_jo 55 (Lf := fun _ => [(0, .ref (idc 0 i0)), (3, .ref (idc 8 i3)), (4, .ref v5)]) (sf := fun _ => []) (fun _ => ?_) (fun j32 hj31 => ?_)
    · show TX g Γ _ Z _ 55 [(0, .ref (idc 0 i0)), (3, .ref (idc 8 i3)), (4, .ref v5)] [] _
      refine x_iconst 55 0 (0 : Int32) dX1_act_55 rfl ?_
      exact hj30 (0 : Int32)
    · refine x_if_eq 23 55 dX1_act_23 rfl (fun c33 => ?_) (fun c33 => ?_)
      · refine x_sub [2, 1, 0] _ rfl ?_
        exact hj31 ()
      · refine x_aload_n 26 1 dX1_act_26 rfl ?_
        refine x_getR 27 fa_X1_260_8 dX1_act_27 fun v34 => ?_
        refine x_ifnonnull 30 55 dX1_act_30 rfl (fun c35 => ?_) (fun c35 => ?_)
        · refine x_aload_n 33 1 dX1_act_33 rfl ?_
          refine x_cV 34 1 [] [] ⟨by decide, rfl⟩ cv_X1_257 (im_X9_level hl i3) (by decide) rfl (Nat.le_of_ble_eq_true rfl) dX1_act_34 fun v36 => x_stI ?_
          refine x_iconst 37 3 (3 : Int32) dX1_act_37 rfl ?_
          refine x_icmp_lt 38 55 dX1_act_38 rfl (fun c37 => ?_) (fun c37 => ?_)
          · refine x_sub [2, 1, 0] _ rfl ?_
            exact hj31 ()
          · refine x_aload_n 41 1 dX1_act_41 rfl ?_
            refine x_getR 42 fa_X1_35_8 dX1_act_42 fun v38 => ?_
            refine x_isK fun i39 h40 => ?_
            subst h40
            refine x_getI 45 fa_X1_274_2 dX1_act_45 fun v41 => ?_
            refine x_if_eq 48 55 dX1_act_48 rfl (fun c42 => ?_) (fun c42 => ?_)
            · refine x_sub [2, 1, 0] _ rfl ?_
              exact hj31 ()
            · refine x_iconst 51 1 (1 : Int32) dX1_act_51 rfl ?_
              refine x_goto 52 56 dX1_act_52 rfl ?_
              refine x_sub [2, 1, 0] _ rfl ?_
              exact hj30 (1 : Int32)
        · refine x_sub [2, 1, 0] _ rfl ?_
          exact hj31 ()
def f_X1_serviceAt (i0 : Nat) (a1 : Int32) : PT Nat := bnd (f_X1_there a1 (4 : Int32)) fun _ => gR 0 i0 9 fun v2 => isK 37 v2 fun i3 => aR 37 i3 a1 fun v5 => rt v5
theorem im_X1_serviceAt {g : GP} {l : Launch} (hl : l.stackTraces = false) (i0 : Nat) (a1 : Int32) : Im g l 7 yX1_serviceAt cX1_serviceAt 2 (some (.object "KeyringCourt$Service")) eR [.ref (idc 0 i0), .int a1] (f_X1_serviceAt i0 a1) := by
  refine tx_start hl 7 _ _ _ _ (by decide) (Nat.le_of_ble_eq_true rfl) fun Γ Z hΓ hZ => ?_
  subst hΓ
  unfold f_X1_serviceAt
  show TX g Γ _ Z _ 0 [(0, .ref (idc 0 i0)), (1, .int a1)] [] _
  refine x_iload_n 0 1 dX1_serviceAt_0 rfl ?_
  refine x_iconst 1 4 (4 : Int32) dX1_serviceAt_1 rfl ?_
  refine x_cSx 2 6 [.int a1, .int (4 : Int32)] [] rfl cs_X1_158 (im_X1_there hl a1 (4 : Int32)) (by decide) rfl (Nat.le_of_ble_eq_true rfl) dX1_serviceAt_2 fun v1 => x_stV ?_
  refine x_aload_n 5 0 dX1_serviceAt_5 rfl ?_
  refine x_getR 6 fa_X1_104_0 dX1_serviceAt_6 fun v2 => ?_
  refine x_iload_n 9 1 dX1_serviceAt_9 rfl ?_
  refine x_isK fun i3 h4 => ?_
  subst h4
  refine x_aald 10 (by decide) dX1_serviceAt_10 fun v5 => ?_
  exact x_aret 11 hZ (Or.inl ⟨_, rfl⟩) dX1_serviceAt_11
def f_X1_consent (i0 : Nat) (a1 : Int32) (a2 : Int32) (a3 : Int32) : PT Int32 := bnd (ρ := _) (α := Int32) (cnd (a1 = (-1 : Int32)) (rt (0 : Int32)) (rt a1)) (fun u1 => bnd (f_X1_there u1 (6 : Int32)) fun _ => bnd (f_X1_serviceAt i0 a2) fun v3 => bnd (f_X1_fit a3 (0 : Int32) (15 : Int32)) fun _ => bnd (ρ := _) (α := Nat) (cnd (a1 = (-1 : Int32)) (gR 0 i0 10 fun v12 => rt v12) (gR 0 i0 0 fun v13 => isK 36 v13 fun i14 => aR 36 i14 a1 fun v16 => isK 2 v16 fun i17 => gR 2 i17 8 fun v19 => rt v19)) (fun u5 => isK 32 u5 fun i6 => aI 32 i6 a2 fun v8 => bI 32 i6 a2 (v8 ||| a3) <| aI 32 i6 a2 fun v9 => rt v9))
theorem im_X1_consent {g : GP} {l : Launch} (hl : l.stackTraces = false) (i0 : Nat) (a1 : Int32) (a2 : Int32) (a3 : Int32) : Im g l 8 yX1_consent cX1_consent 5 (some .int) eI [.ref (idc 0 i0), .int a1, .int a2, .int a3] (f_X1_consent i0 a1 a2 a3) := by
  refine tx_start hl 8 _ _ _ _ (by decide) (Nat.le_of_ble_eq_true rfl) fun Γ Z hΓ hZ => ?_
  subst hΓ
  unfold f_X1_consent
  show TX g Γ _ Z _ 0 [(0, .ref (idc 0 i0)), (1, .int a1), (2, .int a2), (3, .int a3)] [] _
  refine x_iload_n 0 1 dX1_consent_0 rfl ?_
  refine x_iconst 1 (-1) (-1 : Int32) dX1_consent_1 rfl ?_
  refine x_bndj 10 (fun u1 => [(0, .ref (idc 0 i0)), (1, .int a1), (2, .int a2), (3, .int a3)]) (fun u1 => [.int u1]) (fun u1 => ?_) (fun hj20 => ?_)
  · show TX g Γ _ Z _ 10 [(0, .ref (idc 0 i0)), (1, .int a1), (2, .int a2), (3, .int a3)] [.int u1] _
    refine x_bipush 10 6 (6 : Int32) dX1_consent_10 rfl ?_
    refine x_cSx 12 6 [.int u1, .int (6 : Int32)] [] rfl cs_X1_158 (im_X1_there hl u1 (6 : Int32)) (by decide) rfl (Nat.le_of_ble_eq_true rfl) dX1_consent_12 fun v2 => x_stV ?_
    refine x_aload_n 15 0 dX1_consent_15 rfl ?_
    refine x_iload_n 16 2 dX1_consent_16 rfl ?_
    refine x_cVx 17 7 [.int a2] [] ⟨by decide, rfl⟩ rfl cv_X1_286 (im_X1_serviceAt hl i0 a2) (by decide) rfl (Nat.le_of_ble_eq_true rfl) dX1_consent_17 fun v3 => x_stR ?_
    refine x_pop 20 dX1_consent_20 rfl ?_
    refine x_iload_n 21 3 dX1_consent_21 rfl ?_
    refine x_iconst 22 0 (0 : Int32) dX1_consent_22 rfl ?_
    refine x_bipush 23 15 (15 : Int32) dX1_consent_23 rfl ?_
    refine x_cSx 25 6 [.int a3, .int (0 : Int32), .int (15 : Int32)] [] rfl cs_X1_149 (im_X1_fit hl a3 (0 : Int32) (15 : Int32)) (by decide) rfl (Nat.le_of_ble_eq_true rfl) dX1_consent_25 fun v4 => x_stV ?_
    refine x_iload_n 28 1 dX1_consent_28 rfl ?_
    refine x_iconst 29 (-1) (-1 : Int32) dX1_consent_29 rfl ?_
    refine x_bndj 49 (fun u5 => [(2, .int a2), (3, .int a3)]) (fun u5 => [.ref u5]) (fun u5 => ?_) (fun hj10 => ?_)
    · show TX g Γ _ Z _ 49 [(2, .int a2), (3, .int a3)] [.ref u5] _
      refine x_astore 49 [(4, .ref u5), (2, .int a2), (3, .int a3)] dX1_consent_49 (by decide) rfl ?_
      refine x_aload 51 0 dX1_consent_51 rfl ?_
      refine x_iload_n 53 1 dX1_consent_53 rfl ?_
      refine x_dup2 54 dX1_consent_54 rfl rfl ?_
      refine x_isK fun i6 h7 => ?_
      subst h7
      refine x_iald 55 dX1_consent_55 fun v8 => ?_
      refine x_iload_n 56 2 dX1_consent_56 rfl ?_
      refine x_ior 57 dX1_consent_57 ?_
      refine x_iast 58 dX1_consent_58 ?_
      refine x_aload 59 0 dX1_consent_59 rfl ?_
      refine x_iload_n 61 1 dX1_consent_61 rfl ?_
      refine x_iald 62 dX1_consent_62 fun v9 => ?_
      exact x_iret 63 hZ rfl dX1_consent_63
    · refine x_icmp_ne 30 40 dX1_consent_30 rfl (fun c11 => ?_) (fun c11 => ?_)
      · refine x_aload_n 33 0 dX1_consent_33 rfl ?_
        refine x_getR 34 fa_X1_108_0 dX1_consent_34 fun v12 => ?_
        refine x_goto 37 49 dX1_consent_37 rfl ?_
        refine x_sub [2, 3] _ rfl ?_
        exact hj10 v12
      · refine x_aload_n 40 0 dX1_consent_40 rfl ?_
        refine x_getR 41 fa_X1_67_0 dX1_consent_41 fun v13 => ?_
        refine x_iload_n 44 1 dX1_consent_44 rfl ?_
        refine x_isK fun i14 h15 => ?_
        subst h15
        refine x_aald 45 (by decide) dX1_consent_45 fun v16 => ?_
        refine x_isK fun i17 h18 => ?_
        subst h18
        refine x_getR 46 fa_X1_290_2 dX1_consent_46 fun v19 => ?_
        refine x_sub [2, 3] _ rfl ?_
        exact hj10 v19
  · refine x_icmp_ne 2 9 dX1_consent_2 rfl (fun c21 => ?_) (fun c21 => ?_)
    · refine x_iconst 5 0 (0 : Int32) dX1_consent_5 rfl ?_
      refine x_goto 6 10 dX1_consent_6 rfl ?_
      exact hj20 (0 : Int32)
    · refine x_iload_n 9 1 dX1_consent_9 rfl ?_
      exact hj20 a1
def f_X1_withdraw (i0 : Nat) (a1 : Int32) (a2 : Int32) : PT Int32 := bnd (f_X1_personAt i0 a1) fun v1 => bnd (f_X1_serviceAt i0 a2) fun v2 => isK 2 v1 fun i3 => gR 2 i3 8 fun v5 => isK 32 v5 fun i6 => bI 32 i6 a2 (0 : Int32) <| lp (σ := Int32 × Int32) (fun r10 => un2 fun u8 u9 => gR 0 i0 6 fun v11 => isK 13 v11 fun i12 => bn0 (f_J2_size i12) fun v14 => cnd (v14 ≤ u9) (rt u8) (gR 0 i0 6 fun v16 => isK 13 v16 fun i17 => bn0 (f_J2_get i17 u9) fun v19 => isK 10 v19 fun i20 => gR 10 i20 1 fun v22 => isK 8 v22 fun i23 => gR 8 i23 1 fun v25 => jo (σ := Int32) (fun u26 => r10 (u8 + (0 : Int32), u26 + (1 : Int32))) fun j28 => asr (cmpN v25 ∧ cmpN (idc 2 i3)) <| cnd (v25 = (idc 2 i3)) (gI 10 i20 2 fun v30 => cnd (v30 = a2) (bn0 (f_X11_end i20) fun v32 => cnd (v32 = 0) (j28 u9) (r10 (u8 + (1 : Int32), u9 + (1 : Int32)))) (j28 u9)) (j28 u9))) ((0 : Int32), (0 : Int32))
theorem im_X1_withdraw {g : GP} {l : Launch} (hl : l.stackTraces = false) (i0 : Nat) (a1 : Int32) (a2 : Int32) : Im g l 9 yX1_withdraw cX1_withdraw 7 (some .int) eI [.ref (idc 0 i0), .int a1, .int a2] (f_X1_withdraw i0 a1 a2) := by
  refine tx_start hl 9 _ _ _ _ (by decide) (Nat.le_of_ble_eq_true rfl) fun Γ Z hΓ hZ => ?_
  subst hΓ
  unfold f_X1_withdraw
  show TX g Γ _ Z _ 0 [(0, .ref (idc 0 i0)), (1, .int a1), (2, .int a2)] [] _
  refine x_aload_n 0 0 dX1_withdraw_0 rfl ?_
  refine x_iload_n 1 1 dX1_withdraw_1 rfl ?_
  refine x_cVx 2 7 [.int a1] [] ⟨by decide, rfl⟩ rfl cv_X1_187 (im_X1_personAt hl i0 a1) (by decide) rfl (Nat.le_of_ble_eq_true rfl) dX1_withdraw_2 fun v1 => x_stR ?_
  refine x_astore_n 5 [(3, .ref v1), (0, .ref (idc 0 i0)), (1, .int a1), (2, .int a2)] dX1_withdraw_5 (by decide) rfl ?_
  refine x_aload_n 6 1 dX1_withdraw_6 rfl ?_
  refine x_iload_n 7 3 dX1_withdraw_7 rfl ?_
  refine x_cVx 8 7 [.int a2] [] ⟨by decide, rfl⟩ rfl cv_X1_286 (im_X1_serviceAt hl i0 a2) (by decide) rfl (Nat.le_of_ble_eq_true rfl) dX1_withdraw_8 fun v2 => x_stR ?_
  refine x_pop 11 dX1_withdraw_11 rfl ?_
  refine x_aload_n 12 0 dX1_withdraw_12 rfl ?_
  refine x_isK fun i3 h4 => ?_
  subst h4
  refine x_getR 13 fa_X1_290_2 dX1_withdraw_13 fun v5 => ?_
  refine x_iload_n 16 3 dX1_withdraw_16 rfl ?_
  refine x_iconst 17 0 (0 : Int32) dX1_withdraw_17 rfl ?_
  refine x_isK fun i6 h7 => ?_
  subst h7
  refine x_iast 18 dX1_withdraw_18 ?_
  refine x_iconst 19 0 (0 : Int32) dX1_withdraw_19 rfl ?_
  refine x_istore 20 [(4, .int (0 : Int32)), (3, .ref (idc 2 i3)), (0, .ref (idc 0 i0)), (1, .int a1), (2, .int a2)] dX1_withdraw_20 (by decide) rfl ?_
  refine x_iconst 22 0 (0 : Int32) dX1_withdraw_22 rfl ?_
  refine x_istore 23 [(5, .int (0 : Int32)), (4, .int (0 : Int32)), (3, .ref (idc 2 i3)), (0, .ref (idc 0 i0)), (1, .int a1), (2, .int a2)] dX1_withdraw_23 (by decide) rfl ?_
  refine x_sub [3, 5, 2, 1, 0] [(0, .ref (idc 0 i0)), (2, .int a2), (3, .ref (idc 2 i3)), (4, .int (0 : Int32)), (5, .int (0 : Int32))] rfl ?_
  refine x_lp (Lf := fun u => [(0, .ref (idc 0 i0)), (2, .int a2), (3, .ref (idc 2 i3)), (4, .int u.1), (5, .int u.2)]) (sf := fun _ => []) (fun r10 hr10 u => ?_) ((0 : Int32), (0 : Int32))
  obtain ⟨u8, u9⟩ := u
  show TX g Γ _ Z _ 25 [(0, .ref (idc 0 i0)), (2, .int a2), (3, .ref (idc 2 i3)), (4, .int u8), (5, .int u9)] [] _
  refine x_un2 ?_
  refine x_iload 25 4 dX1_withdraw_25 rfl ?_
  refine x_aload_n 27 0 dX1_withdraw_27 rfl ?_
  refine x_getR 28 fa_X1_93_0 dX1_withdraw_28 fun v11 => ?_
  refine x_isK fun i12 h13 => ?_
  subst h13
  refine x_cF 31 0 [] [.int u9] (by decide) cf_X1_9_13 (im_J2_size hl i12) (by decide) rfl (Nat.le_of_ble_eq_true rfl) dX1_withdraw_31 fun v14 => x_stI ?_
  refine x_icmp_ge 36 100 dX1_withdraw_36 rfl (fun c15 => ?_) (fun c15 => ?_)
  · refine x_iload 100 3 dX1_withdraw_100 rfl ?_
    exact x_iret 102 hZ rfl dX1_withdraw_102
  · refine x_aload_n 39 0 dX1_withdraw_39 rfl ?_
    refine x_getR 40 fa_X1_93_0 dX1_withdraw_40 fun v16 => ?_
    refine x_iload 43 4 dX1_withdraw_43 rfl ?_
    refine x_isK fun i17 h18 => ?_
    subst h18
    refine x_cF 45 2 [.int u9] [] (by decide) cf_X1_31_13 (im_J2_get hl i17 u9) (by decide) rfl (Nat.le_of_ble_eq_true rfl) dX1_withdraw_45 fun v19 => x_stR ?_
    refine x_isK fun i20 h21 => ?_
    subst h21
    refine x_castS 50 (by decide) q1840 dX1_withdraw_50 ?_
    refine x_astore 53 [(6, .ref (idc 10 i20)), (0, .ref (idc 0 i0)), (2, .int a2), (3, .ref (idc 2 i3)), (4, .int u8), (5, .int u9)] dX1_withdraw_53 (by decide) rfl ?_
    refine x_iload 55 4 dX1_withdraw_55 rfl ?_
    refine x_aload 57 0 dX1_withdraw_57 rfl ?_
    refine x_getR 59 fa_X1_295_10 dX1_withdraw_59 fun v22 => ?_
    refine x_isK fun i23 h24 => ?_
    subst h24
    refine x_getR 62 fa_X1_35_8 dX1_withdraw_62 fun v25 => ?_
    refine x_aload_n 65 3 dX1_withdraw_65 rfl ?_
    refine x_jo 90 (Lf := fun u26 => [(0, .ref (idc 0 i0)), (2, .int a2), (3, .ref (idc 2 i3)), (5, .int u26)]) (sf := fun u26 => [.int u8]) (fun u26 => ?_) (fun j28 hj27 => ?_)
    · show TX g Γ _ Z _ 90 [(0, .ref (idc 0 i0)), (2, .int a2), (3, .ref (idc 2 i3)), (5, .int u26)] [.int u8] _
      refine x_iconst 90 0 (0 : Int32) dX1_withdraw_90 rfl ?_
      refine x_iadd 91 dX1_withdraw_91 ?_
      refine x_istore 92 [(4, .int (u8 + (0 : Int32))), (0, .ref (idc 0 i0)), (2, .int a2), (3, .ref (idc 2 i3)), (5, .int u26)] dX1_withdraw_92 (by decide) rfl ?_
      refine x_iinc 94 4 [(5, .int (u26 + (1 : Int32))), (4, .int (u8 + (0 : Int32))), (0, .ref (idc 0 i0)), (2, .int a2), (3, .ref (idc 2 i3))] dX1_withdraw_94 rfl rfl (by decide) rfl ?_
      refine x_goto 97 25 dX1_withdraw_97 rfl ?_
      refine x_sub [2, 3, 4, 1, 0] _ rfl ?_
      exact hr10 (u8 + (0 : Int32), u26 + (1 : Int32))
    · refine x_acmp_ne 66 90 dX1_withdraw_66 rfl (fun c29 => ?_) (fun c29 => ?_)
      · refine x_aload 69 0 dX1_withdraw_69 rfl ?_
        refine x_getI 71 fa_X1_297_10 dX1_withdraw_71 fun v30 => ?_
        refine x_iload_n 74 2 dX1_withdraw_74 rfl ?_
        refine x_icmp_ne 75 90 dX1_withdraw_75 rfl (fun c31 => ?_) (fun c31 => ?_)
        · refine x_aload 78 0 dX1_withdraw_78 rfl ?_
          refine x_cV 80 8 [] [.int u8] ⟨by decide, rfl⟩ cv_X1_300 (im_X11_end hl i20) (by decide) rfl (Nat.le_of_ble_eq_true rfl) dX1_withdraw_80 fun v32 => x_stI ?_
          refine x_if_eq 83 90 dX1_withdraw_83 rfl (fun c33 => ?_) (fun c33 => ?_)
          · refine x_sub [1, 2, 3, 5] _ rfl ?_
            exact hj27 u9
          · refine x_iconst 86 1 (1 : Int32) dX1_withdraw_86 rfl ?_
            refine x_goto 87 91 dX1_withdraw_87 rfl ?_
            refine x_iadd 91 dX1_withdraw_91 ?_
            refine x_istore 92 [(4, .int (u8 + (1 : Int32))), (6, .ref (idc 10 i20)), (0, .ref (idc 0 i0)), (2, .int a2), (3, .ref (idc 2 i3)), (5, .int u9)] dX1_withdraw_92 (by decide) rfl ?_
            refine x_iinc 94 5 [(5, .int (u9 + (1 : Int32))), (4, .int (u8 + (1 : Int32))), (6, .ref (idc 10 i20)), (0, .ref (idc 0 i0)), (2, .int a2), (3, .ref (idc 2 i3))] dX1_withdraw_94 rfl rfl (by decide) rfl ?_
            refine x_goto 97 25 dX1_withdraw_97 rfl ?_
            refine x_sub [3, 4, 5, 1, 0] _ rfl ?_
            exact hr10 (u8 + (1 : Int32), u9 + (1 : Int32))
        · refine x_sub [1, 2, 3, 5] _ rfl ?_
          exact hj27 u9
      · refine x_sub [1, 2, 3, 5] _ rfl ?_
        exact hj27 u9
def f_X1_need (i0 : Nat) (a1 : Int32) (a2 : Int32) : PT Int32 := bnd (f_X1_serviceAt i0 a1) fun v1 => bnd (f_X1_fit a2 (0 : Int32) (6 : Int32)) fun _ => isK 3 v1 fun i3 => gI 3 i3 5 fun v5 => pI 3 i3 5 a2 <| rt v5
theorem im_X1_need {g : GP} {l : Launch} (hl : l.stackTraces = false) (i0 : Nat) (a1 : Int32) (a2 : Int32) : Im g l 8 yX1_need cX1_need 5 (some .int) eI [.ref (idc 0 i0), .int a1, .int a2] (f_X1_need i0 a1 a2) := by
  refine tx_start hl 8 _ _ _ _ (by decide) (Nat.le_of_ble_eq_true rfl) fun Γ Z hΓ hZ => ?_
  subst hΓ
  unfold f_X1_need
  show TX g Γ _ Z _ 0 [(0, .ref (idc 0 i0)), (1, .int a1), (2, .int a2)] [] _
  refine x_aload_n 0 0 dX1_need_0 rfl ?_
  refine x_iload_n 1 1 dX1_need_1 rfl ?_
  refine x_cVx 2 7 [.int a1] [] ⟨by decide, rfl⟩ rfl cv_X1_286 (im_X1_serviceAt hl i0 a1) (by decide) rfl (Nat.le_of_ble_eq_true rfl) dX1_need_2 fun v1 => x_stR ?_
  refine x_astore_n 5 [(3, .ref v1), (0, .ref (idc 0 i0)), (1, .int a1), (2, .int a2)] dX1_need_5 (by decide) rfl ?_
  refine x_iload_n 6 3 dX1_need_6 rfl ?_
  refine x_iconst 7 0 (0 : Int32) dX1_need_7 rfl ?_
  refine x_bipush 8 6 (6 : Int32) dX1_need_8 rfl ?_
  refine x_cSx 10 6 [.int a2, .int (0 : Int32), .int (6 : Int32)] [] rfl cs_X1_149 (im_X1_fit hl a2 (0 : Int32) (6 : Int32)) (by decide) rfl (Nat.le_of_ble_eq_true rfl) dX1_need_10 fun v2 => x_stV ?_
  refine x_aload_n 13 0 dX1_need_13 rfl ?_
  refine x_isK fun i3 h4 => ?_
  subst h4
  refine x_getI 14 fa_X1_302_3 dX1_need_14 fun v5 => ?_
  refine x_istore 17 [(4, .int v5), (3, .ref (idc 3 i3)), (0, .ref (idc 0 i0)), (1, .int a1), (2, .int a2)] dX1_need_17 (by decide) rfl ?_
  refine x_aload_n 19 1 dX1_need_19 rfl ?_
  refine x_iload_n 20 4 dX1_need_20 rfl ?_
  refine x_putI 21 fa_X1_302_3 rfl (Or.inl rfl) dX1_need_21 ?_
  refine x_iload 24 0 dX1_need_24 rfl ?_
  exact x_iret 26 hZ rfl dX1_need_26
def f_X10_init (i0 : Nat) (a1 : Nat) (a2 : Int32) (a3 : Int32) (a4 : Int32) (a5 : Int32) : PT Unit := pR 9 i0 0 a1 <| pI 9 i0 1 a2 <| pI 9 i0 2 a3 <| pI 9 i0 3 a4 <| pI 9 i0 4 a5 <| rt ()
theorem im_X10_init {g : GP} {l : Launch} (hl : l.stackTraces = false) (i0 : Nat) (a1 : Nat) (a2 : Int32) (a3 : Int32) (a4 : Int32) (a5 : Int32) : Im g l 1 yX10_init cX10_init 6 none eV [.ref (idc 9 i0), .ref a1, .int a2, .int a3, .int a4, .int a5] (f_X10_init i0 a1 a2 a3 a4 a5) := by
  refine tx_start hl 1 _ _ _ _ (by decide) (Nat.le_of_ble_eq_true rfl) fun Γ Z hΓ hZ => ?_
  subst hΓ
  unfold f_X10_init
  show TX g Γ _ Z _ 0 [(0, .ref (idc 9 i0)), (1, .ref a1), (2, .int a2), (3, .int a3), (4, .int a4), (5, .int a5)] [] _
  refine x_aload_n 0 0 dX10_init_0 rfl ?_
  refine x_objI 1 (by decide) q1861 q128 q129 dX10_init_1 (Nat.le_of_ble_eq_true rfl) (by decide) ?_
  refine x_aload_n 4 0 dX10_init_4 rfl ?_
  refine x_aload_n 5 1 dX10_init_5 rfl ?_
  refine x_putR 6 fa_X10_7_9 rfl (Or.inr ⟨rfl, rfl, rfl⟩) dX10_init_6 ?_
  refine x_aload_n 9 0 dX10_init_9 rfl ?_
  refine x_iload_n 10 2 dX10_init_10 rfl ?_
  refine x_putI 11 fa_X10_13_9 rfl (Or.inr ⟨rfl, rfl, rfl⟩) dX10_init_11 ?_
  refine x_aload_n 14 0 dX10_init_14 rfl ?_
  refine x_iload_n 15 3 dX10_init_15 rfl ?_
  refine x_putI 16 fa_X10_17_9 rfl (Or.inr ⟨rfl, rfl, rfl⟩) dX10_init_16 ?_
  refine x_aload_n 19 0 dX10_init_19 rfl ?_
  refine x_iload 20 4 dX10_init_20 rfl ?_
  refine x_putI 22 fa_X10_20_9 rfl (Or.inr ⟨rfl, rfl, rfl⟩) dX10_init_22 ?_
  refine x_aload_n 25 0 dX10_init_25 rfl ?_
  refine x_iload 26 5 dX10_init_26 rfl ?_
  refine x_putI 28 fa_X10_23_9 rfl (Or.inr ⟨rfl, rfl, rfl⟩) dX10_init_28 ?_
  exact x_vret 31 hZ rfl dX10_init_31
def f_X1_authorize (i0 : Nat) (a1 : Int32) (a2 : Int32) (a3 : Int32) (a4 : Int32) : PT Int32 := gR 0 i0 4 fun v1 => bnd (f_X1_at v1 a1) fun v2 => isK 8 v2 fun i3 => bnd (f_X1_serviceAt i0 a2) fun v5 => bnd (f_X1_serviceAt i0 a3) fun v6 => bnd (f_X1_fit a4 (1 : Int32) (15 : Int32)) fun _ => gI 8 i3 5 fun v8 => bnd (ρ := _) (α := Int32) (jo (σ := Unit) (fun _ => rt (0 : Int32)) fun j42 => cnd (v8 = 0) (j42 ()) (gR 0 i0 5 fun v44 => isK 13 v44 fun i45 => bn0 (f_J2_size i45) fun v47 => cnd ((60 : Int32) ≤ v47) (j42 ()) (rt (1 : Int32)))) (fun u9 => bnd (f_X1_can u9) fun _ => gI 0 i0 16 fun v11 => pI 8 i3 4 v11 <| gR 8 i3 1 fun v12 => isK 2 v12 fun i13 => gR 2 i13 8 fun v15 => isK 32 v15 fun i16 => aI 32 i16 a2 fun v18 => gR 0 i0 10 fun v19 => isK 32 v19 fun i20 => aI 32 i20 a2 fun v22 => cnd ((a4 &&& ((v18 ||| v22) ^^^ (-1 : Int32))) = 0) (bn0 (f_X9_level i3) fun v24 => isK 3 v6 fun i25 => gI 3 i25 5 fun v27 => cnd (v27 ≤ v24) (gR 0 i0 5 fun v29 => nw 9 6 fun i30 => gI 0 i0 16 fun v31 => bn0 (f_X10_init i30 (idc 8 i3) a2 a3 a4 v31) fun _ => isK 13 v29 fun i33 => bn0 (f_J2_add i33 (idc 9 i30)) fun v35 => gR 0 i0 5 fun v36 => isK 13 v36 fun i37 => bn0 (f_J2_size i37) fun v39 => rt (v39 - (1 : Int32))) (rt (-2 : Int32))) (rt (-3 : Int32)))
theorem im_X1_authorize {g : GP} {l : Launch} (hl : l.stackTraces = false) (i0 : Nat) (a1 : Int32) (a2 : Int32) (a3 : Int32) (a4 : Int32) : Im g l 8 yX1_authorize cX1_authorize 8 (some .int) eI [.ref (idc 0 i0), .int a1, .int a2, .int a3, .int a4] (f_X1_authorize i0 a1 a2 a3 a4) := by
  refine tx_start hl 8 _ _ _ _ (by decide) (Nat.le_of_ble_eq_true rfl) fun Γ Z hΓ hZ => ?_
  subst hΓ
  unfold f_X1_authorize
  show TX g Γ _ Z _ 0 [(0, .ref (idc 0 i0)), (1, .int a1), (2, .int a2), (3, .int a3), (4, .int a4)] [] _
  refine x_aload_n 0 0 dX1_authorize_0 rfl ?_
  refine x_getR 1 fa_X1_5_0 dX1_authorize_1 fun v1 => ?_
  refine x_iload_n 4 1 dX1_authorize_4 rfl ?_
  refine x_cSx 5 7 [.ref v1, .int a1] [] rfl cs_X1_214 (im_X1_at hl v1 a1) (by decide) rfl (Nat.le_of_ble_eq_true rfl) dX1_authorize_5 fun v2 => x_stR ?_
  refine x_isK fun i3 h4 => ?_
  subst h4
  refine x_castS 8 (by decide) q1040 dX1_authorize_8 ?_
  refine x_astore 11 [(5, .ref (idc 8 i3)), (0, .ref (idc 0 i0)), (1, .int a1), (2, .int a2), (3, .int a3), (4, .int a4)] dX1_authorize_11 (by decide) rfl ?_
  refine x_aload_n 13 1 dX1_authorize_13 rfl ?_
  refine x_iload_n 14 3 dX1_authorize_14 rfl ?_
  refine x_cVx 15 7 [.int a2] [] ⟨by decide, rfl⟩ rfl cv_X1_286 (im_X1_serviceAt hl i0 a2) (by decide) rfl (Nat.le_of_ble_eq_true rfl) dX1_authorize_15 fun v5 => x_stR ?_
  refine x_pop 18 dX1_authorize_18 rfl ?_
  refine x_aload_n 19 1 dX1_authorize_19 rfl ?_
  refine x_iload_n 20 4 dX1_authorize_20 rfl ?_
  refine x_cVx 21 7 [.int a3] [] ⟨by decide, rfl⟩ rfl cv_X1_286 (im_X1_serviceAt hl i0 a3) (by decide) rfl (Nat.le_of_ble_eq_true rfl) dX1_authorize_21 fun v6 => x_stR ?_
  refine x_astore 24 [(6, .ref v6), (5, .ref (idc 8 i3)), (0, .ref (idc 0 i0)), (1, .int a1), (2, .int a2), (3, .int a3), (4, .int a4)] dX1_authorize_24 (by decide) rfl ?_
  refine x_iload 26 6 dX1_authorize_26 rfl ?_
  refine x_iconst 28 1 (1 : Int32) dX1_authorize_28 rfl ?_
  refine x_bipush 29 15 (15 : Int32) dX1_authorize_29 rfl ?_
  refine x_cSx 31 6 [.int a4, .int (1 : Int32), .int (15 : Int32)] [] rfl cs_X1_149 (im_X1_fit hl a4 (1 : Int32) (15 : Int32)) (by decide) rfl (Nat.le_of_ble_eq_true rfl) dX1_authorize_31 fun v7 => x_stV ?_
  refine x_aload 34 1 dX1_authorize_34 rfl ?_
  refine x_getI 36 fa_X1_250_8 dX1_authorize_36 fun v8 => ?_
  refine x_bndj 61 (fun u9 => [(0, .ref (idc 0 i0)), (2, .int a2), (3, .int a3), (4, .int a4), (5, .ref (idc 8 i3)), (6, .ref v6)]) (fun u9 => [.int u9]) (fun u9 => ?_) (fun hj40 => ?_)
  · show TX g Γ _ Z _ 61 [(0, .ref (idc 0 i0)), (2, .int a2), (3, .int a3), (4, .int a4), (5, .ref (idc 8 i3)), (6, .ref v6)] [.int u9] _
    refine x_cSx 61 6 [.int u9] [] rfl cs_X1_176 (im_X1_can hl u9) (by decide) rfl (Nat.le_of_ble_eq_true rfl) dX1_authorize_61 fun v10 => x_stV ?_
    refine x_aload 64 4 dX1_authorize_64 rfl ?_
    refine x_aload_n 66 0 dX1_authorize_66 rfl ?_
    refine x_getI 67 fa_X1_44_0 dX1_authorize_67 fun v11 => ?_
    refine x_putI 70 fa_X1_264_8 rfl (Or.inl rfl) dX1_authorize_70 ?_
    refine x_aload 73 4 dX1_authorize_73 rfl ?_
    refine x_getR 75 fa_X1_35_8 dX1_authorize_75 fun v12 => ?_
    refine x_isK fun i13 h14 => ?_
    subst h14
    refine x_getR 78 fa_X1_290_2 dX1_authorize_78 fun v15 => ?_
    refine x_iload_n 81 1 dX1_authorize_81 rfl ?_
    refine x_isK fun i16 h17 => ?_
    subst h17
    refine x_iald 82 dX1_authorize_82 fun v18 => ?_
    refine x_aload_n 83 0 dX1_authorize_83 rfl ?_
    refine x_getR 84 fa_X1_108_0 dX1_authorize_84 fun v19 => ?_
    refine x_iload_n 87 1 dX1_authorize_87 rfl ?_
    refine x_isK fun i20 h21 => ?_
    subst h21
    refine x_iald 88 dX1_authorize_88 fun v22 => ?_
    refine x_ior 89 dX1_authorize_89 ?_
    refine x_istore 90 [(7, .int (v18 ||| v22)), (0, .ref (idc 0 i0)), (2, .int a2), (3, .int a3), (4, .int a4), (5, .ref (idc 8 i3)), (6, .ref v6)] dX1_authorize_90 (by decide) rfl ?_
    refine x_iload 92 4 dX1_authorize_92 rfl ?_
    refine x_iload 94 0 dX1_authorize_94 rfl ?_
    refine x_iconst 96 (-1) (-1 : Int32) dX1_authorize_96 rfl ?_
    refine x_ixor 97 dX1_authorize_97 ?_
    refine x_iand 98 dX1_authorize_98 ?_
    refine x_if_eq 99 105 dX1_authorize_99 rfl (fun c23 => ?_) (fun c23 => ?_)
    · refine x_aload 105 5 dX1_authorize_105 rfl ?_
      refine x_cV 107 1 [] [] ⟨by decide, rfl⟩ cv_X1_257 (im_X9_level hl i3) (by decide) rfl (Nat.le_of_ble_eq_true rfl) dX1_authorize_107 fun v24 => x_stI ?_
      refine x_aload 110 6 dX1_authorize_110 rfl ?_
      refine x_isK fun i25 h26 => ?_
      subst h26
      refine x_getI 112 fa_X1_302_3 dX1_authorize_112 fun v27 => ?_
      refine x_icmp_ge 115 121 dX1_authorize_115 rfl (fun c28 => ?_) (fun c28 => ?_)
      · refine x_aload_n 121 1 dX1_authorize_121 rfl ?_
        refine x_getR 122 fa_X1_90_0 dX1_authorize_122 fun v29 => ?_
        refine x_new 125 na_X1_305 dX1_authorize_125 fun i30 => ?_
        refine x_dup 128 dX1_authorize_128 rfl ?_
        refine x_aload 129 5 dX1_authorize_129 rfl ?_
        refine x_iload_n 131 2 dX1_authorize_131 rfl ?_
        refine x_iload_n 132 3 dX1_authorize_132 rfl ?_
        refine x_iload 133 4 dX1_authorize_133 rfl ?_
        refine x_aload_n 135 1 dX1_authorize_135 rfl ?_
        refine x_getI 136 fa_X1_44_0 dX1_authorize_136 fun v31 => ?_
        refine x_cI 139 1 [.ref (idc 8 i3), .int a2, .int a3, .int a4, .int v31] [.ref (idc 9 i30), .ref v29] (by decide) cn_X1_307 (im_X10_init hl i30 (idc 8 i3) a2 a3 a4 v31) (by decide) rfl (Nat.le_of_ble_eq_true rfl) dX1_authorize_139 fun v32 => x_stV ?_
        refine x_isK fun i33 h34 => ?_
        subst h34
        refine x_cF 142 6 [.ref (idc 9 i30)] [] (by decide) cf_X1_19_13 (im_J2_add hl i33 (idc 9 i30)) (by decide) rfl (Nat.le_of_ble_eq_true rfl) dX1_authorize_142 fun v35 => x_stI ?_
        refine x_pop 147 dX1_authorize_147 rfl ?_
        refine x_aload_n 148 1 dX1_authorize_148 rfl ?_
        refine x_getR 149 fa_X1_90_0 dX1_authorize_149 fun v36 => ?_
        refine x_isK fun i37 h38 => ?_
        subst h38
        refine x_cF 152 0 [] [] (by decide) cf_X1_9_13 (im_J2_size hl i37) (by decide) rfl (Nat.le_of_ble_eq_true rfl) dX1_authorize_152 fun v39 => x_stI ?_
        refine x_iconst 157 1 (1 : Int32) dX1_authorize_157 rfl ?_
        refine x_isub 158 dX1_authorize_158 ?_
        exact x_iret 159 hZ rfl dX1_authorize_159
      · refine x_bipush 118 (-2) (-2 : Int32) dX1_authorize_118 rfl ?_
        exact x_iret 120 hZ rfl dX1_authorize_120
    · refine x_bipush 102 (-3) (-3 : Int32) dX1_authorize_102 rfl ?_
      exact x_iret 104 hZ rfl dX1_authorize_104
  · refine x_jo 60 (Lf := fun _ => [(0, .ref (idc 0 i0)), (2, .int a2), (3, .int a3), (4, .int a4), (5, .ref (idc 8 i3)), (6, .ref v6)]) (sf := fun _ => []) (fun _ => ?_) (fun j42 hj41 => ?_)
    · show TX g Γ _ Z _ 60 [(0, .ref (idc 0 i0)), (2, .int a2), (3, .int a3), (4, .int a4), (5, .ref (idc 8 i3)), (6, .ref v6)] [] _
      refine x_iconst 60 0 (0 : Int32) dX1_authorize_60 rfl ?_
      exact hj40 (0 : Int32)
    · refine x_if_eq 39 60 dX1_authorize_39 rfl (fun c43 => ?_) (fun c43 => ?_)
      · refine x_sub [2, 4, 5, 6, 1, 0] _ rfl ?_
        exact hj41 ()
      · refine x_aload_n 42 2 dX1_authorize_42 rfl ?_
        refine x_getR 43 fa_X1_90_0 dX1_authorize_43 fun v44 => ?_
        refine x_isK fun i45 h46 => ?_
        subst h46
        refine x_cF 46 0 [] [] (by decide) cf_X1_9_13 (im_J2_size hl i45) (by decide) rfl (Nat.le_of_ble_eq_true rfl) dX1_authorize_46 fun v47 => x_stI ?_
        refine x_bipush 51 60 (60 : Int32) dX1_authorize_51 rfl ?_
        refine x_icmp_ge 53 60 dX1_authorize_53 rfl (fun c48 => ?_) (fun c48 => ?_)
        · refine x_sub [2, 4, 5, 6, 1, 0] _ rfl ?_
          exact hj41 ()
        · refine x_iconst 56 1 (1 : Int32) dX1_authorize_56 rfl ?_
          refine x_goto 57 61 dX1_authorize_57 rfl ?_
          refine x_sub [2, 4, 5, 6, 1, 0] _ rfl ?_
          exact hj40 (1 : Int32)
def f_X11_init (i0 : Nat) (a1 : Nat) (a2 : Int32) (a3 : Nat) : PT Unit := pR 10 i0 10 a1 <| pZ 10 i0 5 (1 : Int32) <| pI 10 i0 7 (-1 : Int32) <| nw 14 3 fun i1 => bn0 (f_J18_init i1) fun _ => pR 10 i0 8 (idc 14 i1) <| pI 10 i0 0 a2 <| isK 9 a3 fun i3 => gR 9 i3 0 fun v5 => pR 10 i0 1 v5 <| gI 9 i3 1 fun v6 => pI 10 i0 2 v6 <| gI 9 i3 2 fun v7 => pI 10 i0 3 v7 <| gI 9 i3 3 fun v8 => pI 10 i0 4 v8 <| rt ()
theorem im_X11_init {g : GP} {l : Launch} (hl : l.stackTraces = false) (i0 : Nat) (a1 : Nat) (a2 : Int32) (a3 : Nat) : Im g l 3 yX11_init cX11_init 4 none eV [.ref (idc 10 i0), .ref a1, .int a2, .ref a3] (f_X11_init i0 a1 a2 a3) := by
  refine tx_start hl 3 _ _ _ _ (by decide) (Nat.le_of_ble_eq_true rfl) fun Γ Z hΓ hZ => ?_
  subst hΓ
  unfold f_X11_init
  show TX g Γ _ Z _ 0 [(0, .ref (idc 10 i0)), (1, .ref a1), (2, .int a2), (3, .ref a3)] [] _
  refine x_aload_n 0 0 dX11_init_0 rfl ?_
  refine x_aload_n 1 1 dX11_init_1 rfl ?_
  refine x_putR 2 fa_X11_3_10 rfl (Or.inr ⟨rfl, rfl, rfl⟩) dX11_init_2 ?_
  refine x_aload_n 5 0 dX11_init_5 rfl ?_
  refine x_objI 6 (by decide) q1898 q128 q129 dX11_init_6 (Nat.le_of_ble_eq_true rfl) (by decide) ?_
  refine x_aload_n 9 0 dX11_init_9 rfl ?_
  refine x_iconst 10 1 (1 : Int32) dX11_init_10 rfl ?_
  refine x_putZ 11 fa_X11_15_10 rfl (Or.inl rfl) dX11_init_11 ?_
  refine x_aload_n 14 0 dX11_init_14 rfl ?_
  refine x_iconst 15 (-1) (-1 : Int32) dX11_init_15 rfl ?_
  refine x_putI 16 fa_X11_19_10 rfl (Or.inl rfl) dX11_init_16 ?_
  refine x_aload_n 19 0 dX11_init_19 rfl ?_
  refine x_new 20 na_X11_23 dX11_init_20 fun i1 => ?_
  refine x_dup 23 dX11_init_23 rfl ?_
  refine x_cI 24 2 [] [.ref (idc 14 i1), .ref (idc 10 i0)] (by decide) cn_X11_25 (im_J18_init hl i1) (by decide) rfl (Nat.le_of_ble_eq_true rfl) dX11_init_24 fun v2 => x_stV ?_
  refine x_putR 27 fa_X11_26_10 rfl (Or.inr ⟨rfl, rfl, rfl⟩) dX11_init_27 ?_
  refine x_aload_n 30 0 dX11_init_30 rfl ?_
  refine x_iload_n 31 2 dX11_init_31 rfl ?_
  refine x_putI 32 fa_X11_30_10 rfl (Or.inr ⟨rfl, rfl, rfl⟩) dX11_init_32 ?_
  refine x_aload_n 35 0 dX11_init_35 rfl ?_
  refine x_aload_n 36 3 dX11_init_36 rfl ?_
  refine x_isK fun i3 h4 => ?_
  subst h4
  refine x_getR 37 fa_X11_33_9 dX11_init_37 fun v5 => ?_
  refine x_putR 40 fa_X11_39_10 rfl (Or.inr ⟨rfl, rfl, rfl⟩) dX11_init_40 ?_
  refine x_aload_n 43 0 dX11_init_43 rfl ?_
  refine x_aload_n 44 3 dX11_init_44 rfl ?_
  refine x_getI 45 fa_X11_40_9 dX11_init_45 fun v6 => ?_
  refine x_putI 48 fa_X11_43_10 rfl (Or.inr ⟨rfl, rfl, rfl⟩) dX11_init_48 ?_
  refine x_aload_n 51 0 dX11_init_51 rfl ?_
  refine x_aload_n 52 3 dX11_init_52 rfl ?_
  refine x_getI 53 fa_X11_44_9 dX11_init_53 fun v7 => ?_
  refine x_putI 56 fa_X11_47_10 rfl (Or.inr ⟨rfl, rfl, rfl⟩) dX11_init_56 ?_
  refine x_aload_n 59 0 dX11_init_59 rfl ?_
  refine x_aload_n 60 3 dX11_init_60 rfl ?_
  refine x_getI 61 fa_X11_48_9 dX11_init_61 fun v8 => ?_
  refine x_putI 64 fa_X11_51_10 rfl (Or.inr ⟨rfl, rfl, rfl⟩) dX11_init_64 ?_
  exact x_vret 67 hZ rfl dX11_init_67
def f_X12_init (i0 : Nat) (a1 : Nat) (a2 : Int32) (a3 : Int32) (a4 : Int32) (a5 : Int32) (a6 : Int32) (a7 : Int32) : PT Unit := pR 11 i0 0 a1 <| pI 11 i0 1 a2 <| pI 11 i0 2 a3 <| pI 11 i0 3 a4 <| pI 11 i0 4 a5 <| pI 11 i0 5 a6 <| pI 11 i0 6 a7 <| rt ()
theorem im_X12_init {g : GP} {l : Launch} (hl : l.stackTraces = false) (i0 : Nat) (a1 : Nat) (a2 : Int32) (a3 : Int32) (a4 : Int32) (a5 : Int32) (a6 : Int32) (a7 : Int32) : Im g l 1 yX12_init cX12_init 8 none eV [.ref (idc 11 i0), .ref a1, .int a2, .int a3, .int a4, .int a5, .int a6, .int a7] (f_X12_init i0 a1 a2 a3 a4 a5 a6 a7) := by
  refine tx_start hl 1 _ _ _ _ (by decide) (Nat.le_of_ble_eq_true rfl) fun Γ Z hΓ hZ => ?_
  subst hΓ
  unfold f_X12_init
  show TX g Γ _ Z _ 0 [(0, .ref (idc 11 i0)), (1, .ref a1), (2, .int a2), (3, .int a3), (4, .int a4), (5, .int a5), (6, .int a6), (7, .int a7)] [] _
  refine x_aload_n 0 0 dX12_init_0 rfl ?_
  refine x_objI 1 (by decide) q1956 q128 q129 dX12_init_1 (Nat.le_of_ble_eq_true rfl) (by decide) ?_
  refine x_aload_n 4 0 dX12_init_4 rfl ?_
  refine x_aload_n 5 1 dX12_init_5 rfl ?_
  refine x_putR 6 fa_X12_7_11 rfl (Or.inr ⟨rfl, rfl, rfl⟩) dX12_init_6 ?_
  refine x_aload_n 9 0 dX12_init_9 rfl ?_
  refine x_iload_n 10 2 dX12_init_10 rfl ?_
  refine x_putI 11 fa_X12_13_11 rfl (Or.inr ⟨rfl, rfl, rfl⟩) dX12_init_11 ?_
  refine x_aload_n 14 0 dX12_init_14 rfl ?_
  refine x_iload_n 15 3 dX12_init_15 rfl ?_
  refine x_putI 16 fa_X12_17_11 rfl (Or.inr ⟨rfl, rfl, rfl⟩) dX12_init_16 ?_
  refine x_aload_n 19 0 dX12_init_19 rfl ?_
  refine x_iload 20 4 dX12_init_20 rfl ?_
  refine x_putI 22 fa_X12_20_11 rfl (Or.inr ⟨rfl, rfl, rfl⟩) dX12_init_22 ?_
  refine x_aload_n 25 0 dX12_init_25 rfl ?_
  refine x_iload 26 5 dX12_init_26 rfl ?_
  refine x_putI 28 fa_X12_23_11 rfl (Or.inr ⟨rfl, rfl, rfl⟩) dX12_init_28 ?_
  refine x_aload_n 31 0 dX12_init_31 rfl ?_
  refine x_iload 32 6 dX12_init_32 rfl ?_
  refine x_putI 34 fa_X12_26_11 rfl (Or.inr ⟨rfl, rfl, rfl⟩) dX12_init_34 ?_
  refine x_aload_n 37 0 dX12_init_37 rfl ?_
  refine x_iload 38 7 dX12_init_38 rfl ?_
  refine x_putI 40 fa_X12_29_11 rfl (Or.inr ⟨rfl, rfl, rfl⟩) dX12_init_40 ?_
  exact x_vret 43 hZ rfl dX12_init_43
def f_X11_make_2 (i0 : Nat) (a1 : Int32) (a2 : Int32) (a3 : Int32) (a4 : Int32) (a5 : Int32) : PT Int32 := gR 10 i0 10 fun v1 => isK 0 v1 fun i2 => gR 0 i2 7 fun v4 => nw 11 7 fun i5 => gR 10 i0 10 fun v6 => isK 0 v6 fun i7 => gI 0 i7 20 fun v9 => bn0 (f_X12_init i5 (idc 10 i0) a1 a2 a3 a4 v9 a5) fun _ => isK 13 v4 fun i11 => bn0 (f_J2_add i11 (idc 11 i5)) fun v13 => gR 10 i0 8 fun v14 => isK 14 v14 fun i15 => bn0 (f_J18_set i15 a2) fun _ => gR 10 i0 10 fun v18 => isK 0 v18 fun i19 => gR 0 i19 7 fun v21 => isK 13 v21 fun i22 => bn0 (f_J2_size i22) fun v24 => pI 10 i0 9 (v24 - (1 : Int32)) <| gI 10 i0 9 fun v25 => rt v25
theorem im_X11_make_2 {g : GP} {l : Launch} (hl : l.stackTraces = false) (i0 : Nat) (a1 : Int32) (a2 : Int32) (a3 : Int32) (a4 : Int32) (a5 : Int32) : Im g l 7 yX11_make_2 cX11_make_2 6 (some .int) eI [.ref (idc 10 i0), .int a1, .int a2, .int a3, .int a4, .int a5] (f_X11_make_2 i0 a1 a2 a3 a4 a5) := by
  refine tx_start hl 7 _ _ _ _ (by decide) (Nat.le_of_ble_eq_true rfl) fun Γ Z hΓ hZ => ?_
  subst hΓ
  unfold f_X11_make_2
  show TX g Γ _ Z _ 0 [(0, .ref (idc 10 i0)), (1, .int a1), (2, .int a2), (3, .int a3), (4, .int a4), (5, .int a5)] [] _
  refine x_aload_n 0 0 dX11_make_2_0 rfl ?_
  refine x_getR 1 fa_X11_3_10 dX11_make_2_1 fun v1 => ?_
  refine x_isK fun i2 h3 => ?_
  subst h3
  refine x_getR 4 fa_X11_52_0 dX11_make_2_4 fun v4 => ?_
  refine x_new 7 na_X11_56 dX11_make_2_7 fun i5 => ?_
  refine x_dup 10 dX11_make_2_10 rfl ?_
  refine x_aload_n 11 0 dX11_make_2_11 rfl ?_
  refine x_iload_n 12 1 dX11_make_2_12 rfl ?_
  refine x_iload_n 13 2 dX11_make_2_13 rfl ?_
  refine x_iload_n 14 3 dX11_make_2_14 rfl ?_
  refine x_iload 15 4 dX11_make_2_15 rfl ?_
  refine x_aload_n 17 0 dX11_make_2_17 rfl ?_
  refine x_getR 18 fa_X11_3_10 dX11_make_2_18 fun v6 => ?_
  refine x_isK fun i7 h8 => ?_
  subst h8
  refine x_getI 21 fa_X11_58_0 dX11_make_2_21 fun v9 => ?_
  refine x_iload 24 5 dX11_make_2_24 rfl ?_
  refine x_cI 26 1 [.ref (idc 10 i0), .int a1, .int a2, .int a3, .int a4, .int v9, .int a5] [.ref (idc 11 i5), .ref v4] (by decide) cn_X11_61 (im_X12_init hl i5 (idc 10 i0) a1 a2 a3 a4 v9 a5) (by decide) rfl (Nat.le_of_ble_eq_true rfl) dX11_make_2_26 fun v10 => x_stV ?_
  refine x_isK fun i11 h12 => ?_
  subst h12
  refine x_cF 29 6 [.ref (idc 11 i5)] [] (by decide) cf_X11_64_13 (im_J2_add hl i11 (idc 11 i5)) (by decide) rfl (Nat.le_of_ble_eq_true rfl) dX11_make_2_29 fun v13 => x_stI ?_
  refine x_pop 34 dX11_make_2_34 rfl ?_
  refine x_aload_n 35 0 dX11_make_2_35 rfl ?_
  refine x_getR 36 fa_X11_26_10 dX11_make_2_36 fun v14 => ?_
  refine x_iload_n 39 2 dX11_make_2_39 rfl ?_
  refine x_isK fun i15 h16 => ?_
  subst h16
  refine x_cV 40 4 [.int a2] [] ⟨by decide, rfl⟩ cv_X11_70 (im_J18_set hl i15 a2) (by decide) rfl (Nat.le_of_ble_eq_true rfl) dX11_make_2_40 fun v17 => x_stV ?_
  refine x_aload_n 43 0 dX11_make_2_43 rfl ?_
  refine x_aload_n 44 0 dX11_make_2_44 rfl ?_
  refine x_getR 45 fa_X11_3_10 dX11_make_2_45 fun v18 => ?_
  refine x_isK fun i19 h20 => ?_
  subst h20
  refine x_getR 48 fa_X11_52_0 dX11_make_2_48 fun v21 => ?_
  refine x_isK fun i22 h23 => ?_
  subst h23
  refine x_cF 51 0 [] [.ref (idc 10 i0)] (by decide) cf_X11_74_13 (im_J2_size hl i22) (by decide) rfl (Nat.le_of_ble_eq_true rfl) dX11_make_2_51 fun v24 => x_stI ?_
  refine x_iconst 56 1 (1 : Int32) dX11_make_2_56 rfl ?_
  refine x_isub 57 dX11_make_2_57 ?_
  refine x_putI 58 fa_X11_78_10 rfl (Or.inl rfl) dX11_make_2_58 ?_
  refine x_aload_n 61 0 dX11_make_2_61 rfl ?_
  refine x_getI 62 fa_X11_78_10 dX11_make_2_62 fun v25 => ?_
  exact x_iret 65 hZ rfl dX11_make_2_65
def f_X11_make (i0 : Nat) : PT Unit := gI 10 i0 2 fun v1 => gI 10 i0 3 fun v2 => gI 10 i0 4 fun v3 => gR 10 i0 10 fun v4 => isK 0 v4 fun i5 => gI 0 i5 16 fun v7 => bn0 (f_X11_make_2 i0 v1 v2 v3 (0 : Int32) (v7 + (10 : Int32))) fun v8 => rt ()
theorem im_X11_make {g : GP} {l : Launch} (hl : l.stackTraces = false) (i0 : Nat) : Im g l 8 yX11_make cX11_make 1 none eV [.ref (idc 10 i0)] (f_X11_make i0) := by
  refine tx_start hl 8 _ _ _ _ (by decide) (Nat.le_of_ble_eq_true rfl) fun Γ Z hΓ hZ => ?_
  subst hΓ
  unfold f_X11_make
  show TX g Γ _ Z _ 0 [(0, .ref (idc 10 i0))] [] _
  refine x_aload_n 0 0 dX11_make_0 rfl ?_
  refine x_aload_n 1 0 dX11_make_1 rfl ?_
  refine x_getI 2 fa_X11_43_10 dX11_make_2 fun v1 => ?_
  refine x_aload_n 5 0 dX11_make_5 rfl ?_
  refine x_getI 6 fa_X11_47_10 dX11_make_6 fun v2 => ?_
  refine x_aload_n 9 0 dX11_make_9 rfl ?_
  refine x_getI 10 fa_X11_51_10 dX11_make_10 fun v3 => ?_
  refine x_iconst 13 0 (0 : Int32) dX11_make_13 rfl ?_
  refine x_aload_n 14 0 dX11_make_14 rfl ?_
  refine x_getR 15 fa_X11_3_10 dX11_make_15 fun v4 => ?_
  refine x_isK fun i5 h6 => ?_
  subst h6
  refine x_getI 18 fa_X11_81_0 dX11_make_18 fun v7 => ?_
  refine x_bipush 21 10 (10 : Int32) dX11_make_21 rfl ?_
  refine x_iadd 23 dX11_make_23 ?_
  refine x_cV 24 7 [.int v1, .int v2, .int v3, .int (0 : Int32), .int (v7 + (10 : Int32))] [] ⟨by decide, rfl⟩ cv_X11_84 (im_X11_make_2 hl i0 v1 v2 v3 (0 : Int32) (v7 + (10 : Int32))) (by decide) rfl (Nat.le_of_ble_eq_true rfl) dX11_make_24 fun v8 => x_stI ?_
  refine x_pop 27 dX11_make_27 rfl ?_
  exact x_vret 28 hZ rfl dX11_make_28
def f_X1_redeem (i0 : Nat) (a1 : Int32) : PT Int32 := gR 0 i0 5 fun v1 => bnd (f_X1_at v1 a1) fun v2 => isK 9 v2 fun i3 => gR 9 i3 5 fun v5 => cnd (v5 = nul) (gI 0 i0 16 fun v7 => gI 9 i3 4 fun v8 => cnd ((5 : Int32) < (v7 - v8)) (rt (-1 : Int32)) (gR 9 i3 0 fun v10 => isK 8 v10 fun i11 => gI 8 i11 5 fun v13 => cnd (v13 = 0) (rt (-1 : Int32)) (gR 0 i0 7 fun v15 => isK 13 v15 fun i16 => bn0 (f_J2_size i16) fun v18 => bnd (ρ := _) (α := Int32) (cnd ((200 : Int32) ≤ v18) (rt (0 : Int32)) (rt (1 : Int32))) (fun u19 => bnd (f_X1_can u19) fun _ => nw 10 11 fun i21 => gR 0 i0 6 fun v22 => isK 13 v22 fun i23 => bn0 (f_J2_size i23) fun v25 => bn0 (f_X11_init i21 (idc 0 i0) v25 (idc 9 i3)) fun _ => pR 9 i3 5 (idc 10 i21) <| gR 0 i0 6 fun v27 => gR 9 i3 5 fun v28 => isK 13 v27 fun i29 => bn0 (f_J2_add i29 v28) fun v31 => gR 9 i3 5 fun v32 => isK 10 v32 fun i33 => gI 10 i33 0 fun v35 => bn0 (f_X1_write i0 (2 : Int32) v35) fun _ => gR 9 i3 5 fun v37 => isK 10 v37 fun i38 => bn0 (f_X11_make i38) fun _ => gR 9 i3 5 fun v41 => isK 10 v41 fun i42 => gI 10 i42 0 fun v44 => rt v44)))) (gR 9 i3 5 fun v47 => isK 10 v47 fun i48 => bn0 (f_X11_end i48) fun v50 => rt (-1 : Int32))
theorem im_X1_redeem {g : GP} {l : Launch} (hl : l.stackTraces = false) (i0 : Nat) (a1 : Int32) : Im g l 9 yX1_redeem cX1_redeem 3 (some .int) eI [.ref (idc 0 i0), .int a1] (f_X1_redeem i0 a1) := by
  refine tx_start hl 9 _ _ _ _ (by decide) (Nat.le_of_ble_eq_true rfl) fun Γ Z hΓ hZ => ?_
  subst hΓ
  unfold f_X1_redeem
  show TX g Γ _ Z _ 0 [(0, .ref (idc 0 i0)), (1, .int a1)] [] _
  refine x_aload_n 0 0 dX1_redeem_0 rfl ?_
  refine x_getR 1 fa_X1_90_0 dX1_redeem_1 fun v1 => ?_
  refine x_iload_n 4 1 dX1_redeem_4 rfl ?_
  refine x_cSx 5 7 [.ref v1, .int a1] [] rfl cs_X1_214 (im_X1_at hl v1 a1) (by decide) rfl (Nat.le_of_ble_eq_true rfl) dX1_redeem_5 fun v2 => x_stR ?_
  refine x_isK fun i3 h4 => ?_
  subst h4
  refine x_castS 8 (by decide) q1856 dX1_redeem_8 ?_
  refine x_astore_n 11 [(2, .ref (idc 9 i3)), (0, .ref (idc 0 i0)), (1, .int a1)] dX1_redeem_11 (by decide) rfl ?_
  refine x_aload_n 12 0 dX1_redeem_12 rfl ?_
  refine x_getR 13 fa_X1_310_9 dX1_redeem_13 fun v5 => ?_
  refine x_ifnull 16 29 dX1_redeem_16 rfl (fun c6 => ?_) (fun c6 => ?_)
  · refine x_aload_n 29 1 dX1_redeem_29 rfl ?_
    refine x_getI 30 fa_X1_44_0 dX1_redeem_30 fun v7 => ?_
    refine x_aload_n 33 0 dX1_redeem_33 rfl ?_
    refine x_getI 34 fa_X1_314_9 dX1_redeem_34 fun v8 => ?_
    refine x_isub 37 dX1_redeem_37 ?_
    refine x_iconst 38 5 (5 : Int32) dX1_redeem_38 rfl ?_
    refine x_icmp_gt 39 52 dX1_redeem_39 rfl (fun c9 => ?_) (fun c9 => ?_)
    · refine x_iconst 52 (-1) (-1 : Int32) dX1_redeem_52 rfl ?_
      exact x_iret 53 hZ rfl dX1_redeem_53
    · refine x_aload_n 42 0 dX1_redeem_42 rfl ?_
      refine x_getR 43 fa_X1_317_9 dX1_redeem_43 fun v10 => ?_
      refine x_isK fun i11 h12 => ?_
      subst h12
      refine x_getI 46 fa_X1_250_8 dX1_redeem_46 fun v13 => ?_
      refine x_if_ne 49 54 dX1_redeem_49 rfl (fun c14 => ?_) (fun c14 => ?_)
      · refine x_iconst 52 (-1) (-1 : Int32) dX1_redeem_52 rfl ?_
        exact x_iret 53 hZ rfl dX1_redeem_53
      · refine x_aload_n 54 1 dX1_redeem_54 rfl ?_
        refine x_getR 55 fa_X1_96_0 dX1_redeem_55 fun v15 => ?_
        refine x_isK fun i16 h17 => ?_
        subst h17
        refine x_cF 58 0 [] [] (by decide) cf_X1_9_13 (im_J2_size hl i16) (by decide) rfl (Nat.le_of_ble_eq_true rfl) dX1_redeem_58 fun v18 => x_stI ?_
        refine x_sipush 63 200 (200 : Int32) dX1_redeem_63 rfl ?_
        refine x_bndj 74 (fun u19 => [(0, .ref (idc 0 i0)), (2, .ref (idc 9 i3))]) (fun u19 => [.int u19]) (fun u19 => ?_) (fun hj45 => ?_)
        · show TX g Γ _ Z _ 74 [(0, .ref (idc 0 i0)), (2, .ref (idc 9 i3))] [.int u19] _
          refine x_cSx 74 6 [.int u19] [] rfl cs_X1_176 (im_X1_can hl u19) (by decide) rfl (Nat.le_of_ble_eq_true rfl) dX1_redeem_74 fun v20 => x_stV ?_
          refine x_aload_n 77 1 dX1_redeem_77 rfl ?_
          refine x_new 78 na_X1_293 dX1_redeem_78 fun i21 => ?_
          refine x_dup 81 dX1_redeem_81 rfl ?_
          refine x_aload_n 82 0 dX1_redeem_82 rfl ?_
          refine x_aload_n 83 0 dX1_redeem_83 rfl ?_
          refine x_getR 84 fa_X1_93_0 dX1_redeem_84 fun v22 => ?_
          refine x_isK fun i23 h24 => ?_
          subst h24
          refine x_cF 87 0 [] [.ref (idc 0 i0), .ref (idc 10 i21), .ref (idc 10 i21), .ref (idc 9 i3)] (by decide) cf_X1_9_13 (im_J2_size hl i23) (by decide) rfl (Nat.le_of_ble_eq_true rfl) dX1_redeem_87 fun v25 => x_stI ?_
          refine x_aload_n 92 1 dX1_redeem_92 rfl ?_
          refine x_cI 93 3 [.ref (idc 0 i0), .int v25, .ref (idc 9 i3)] [.ref (idc 10 i21), .ref (idc 9 i3)] (by decide) cn_X1_318 (im_X11_init hl i21 (idc 0 i0) v25 (idc 9 i3)) (by decide) rfl (Nat.le_of_ble_eq_true rfl) dX1_redeem_93 fun v26 => x_stV ?_
          refine x_putR 96 fa_X1_310_9 rfl (Or.inl rfl) dX1_redeem_96 ?_
          refine x_aload_n 99 0 dX1_redeem_99 rfl ?_
          refine x_getR 100 fa_X1_93_0 dX1_redeem_100 fun v27 => ?_
          refine x_aload_n 103 1 dX1_redeem_103 rfl ?_
          refine x_getR 104 fa_X1_310_9 dX1_redeem_104 fun v28 => ?_
          refine x_isK fun i29 h30 => ?_
          subst h30
          refine x_cF 107 6 [.ref v28] [] (by decide) cf_X1_19_13 (im_J2_add hl i29 v28) (by decide) rfl (Nat.le_of_ble_eq_true rfl) dX1_redeem_107 fun v31 => x_stI ?_
          refine x_pop 112 dX1_redeem_112 rfl ?_
          refine x_aload_n 113 0 dX1_redeem_113 rfl ?_
          refine x_iconst 114 2 (2 : Int32) dX1_redeem_114 rfl ?_
          refine x_aload_n 115 1 dX1_redeem_115 rfl ?_
          refine x_getR 116 fa_X1_310_9 dX1_redeem_116 fun v32 => ?_
          refine x_isK fun i33 h34 => ?_
          subst h34
          refine x_getI 119 fa_X1_321_10 dX1_redeem_119 fun v35 => ?_
          refine x_cV 122 7 [.int (2 : Int32), .int v35] [] ⟨by decide, rfl⟩ cv_X1_27 (im_X1_write hl i0 (2 : Int32) v35) (by decide) rfl (Nat.le_of_ble_eq_true rfl) dX1_redeem_122 fun v36 => x_stV ?_
          refine x_aload_n 125 1 dX1_redeem_125 rfl ?_
          refine x_getR 126 fa_X1_310_9 dX1_redeem_126 fun v37 => ?_
          refine x_isK fun i38 h39 => ?_
          subst h39
          refine x_cV 129 8 [] [] ⟨by decide, rfl⟩ cv_X1_322 (im_X11_make hl i38) (by decide) rfl (Nat.le_of_ble_eq_true rfl) dX1_redeem_129 fun v40 => x_stV ?_
          refine x_aload_n 132 1 dX1_redeem_132 rfl ?_
          refine x_getR 133 fa_X1_310_9 dX1_redeem_133 fun v41 => ?_
          refine x_isK fun i42 h43 => ?_
          subst h43
          refine x_getI 136 fa_X1_321_10 dX1_redeem_136 fun v44 => ?_
          exact x_iret 139 hZ rfl dX1_redeem_139
        · refine x_icmp_ge 66 73 dX1_redeem_66 rfl (fun c46 => ?_) (fun c46 => ?_)
          · refine x_iconst 73 0 (0 : Int32) dX1_redeem_73 rfl ?_
            refine x_sub [1, 0] _ rfl ?_
            exact hj45 (0 : Int32)
          · refine x_iconst 69 1 (1 : Int32) dX1_redeem_69 rfl ?_
            refine x_goto 70 74 dX1_redeem_70 rfl ?_
            refine x_sub [1, 0] _ rfl ?_
            exact hj45 (1 : Int32)
  · refine x_aload_n 19 0 dX1_redeem_19 rfl ?_
    refine x_getR 20 fa_X1_310_9 dX1_redeem_20 fun v47 => ?_
    refine x_isK fun i48 h49 => ?_
    subst h49
    refine x_cV 23 8 [] [] ⟨by decide, rfl⟩ cv_X1_300 (im_X11_end hl i48) (by decide) rfl (Nat.le_of_ble_eq_true rfl) dX1_redeem_23 fun v50 => x_stI ?_
    refine x_pop 26 dX1_redeem_26 rfl ?_
    refine x_iconst 27 (-1) (-1 : Int32) dX1_redeem_27 rfl ?_
    exact x_iret 28 hZ rfl dX1_redeem_28
def f_X11_refresh (i0 : Nat) (a1 : Int32) : PT Int32 := gI 10 i0 5 fun v1 => cnd (v1 = 0) (rt (-1 : Int32)) (gR 10 i0 1 fun v3 => isK 8 v3 fun i4 => gI 8 i4 5 fun v6 => cnd (v6 = 0) (rt (-1 : Int32)) (gI 10 i0 6 fun v8 => cnd (a1 = v8) (gR 10 i0 10 fun v10 => isK 0 v10 fun i11 => gR 0 i11 7 fun v13 => isK 13 v13 fun i14 => bn0 (f_J2_size i14) fun v16 => bnd (ρ := _) (α := Int32) (cnd ((200 : Int32) ≤ v16) (rt (0 : Int32)) (rt (1 : Int32))) (fun u17 => bnd (f_X1_can u17) fun _ => gI 10 i0 6 fun v19 => pI 10 i0 6 (v19 + (1 : Int32)) <| gR 10 i0 10 fun v20 => isK 0 v20 fun i21 => gI 0 i21 16 fun v23 => pI 10 i0 7 v23 <| bn0 (f_X11_make i0) fun _ => gR 10 i0 1 fun v25 => gR 10 i0 10 fun v26 => isK 0 v26 fun i27 => gI 0 i27 16 fun v29 => isK 8 v25 fun i30 => pI 8 i30 4 v29 <| gI 10 i0 6 fun v32 => rt v32)) (gI 10 i0 6 fun v35 => jo (σ := Unit) (fun _ => bn0 (f_X11_end i0) fun v36 => rt (-1 : Int32)) fun j38 => cnd (a1 = (v35 - (1 : Int32))) (gR 10 i0 10 fun v40 => isK 0 v40 fun i41 => gI 0 i41 16 fun v43 => gI 10 i0 7 fun v44 => cnd ((1 : Int32) < (v43 - v44)) (j38 ()) (gI 10 i0 6 fun v46 => rt v46)) (j38 ()))))
theorem im_X11_refresh {g : GP} {l : Launch} (hl : l.stackTraces = false) (i0 : Nat) (a1 : Int32) : Im g l 9 yX11_refresh cX11_refresh 2 (some .int) eI [.ref (idc 10 i0), .int a1] (f_X11_refresh i0 a1) := by
  refine tx_start hl 9 _ _ _ _ (by decide) (Nat.le_of_ble_eq_true rfl) fun Γ Z hΓ hZ => ?_
  subst hΓ
  unfold f_X11_refresh
  show TX g Γ _ Z _ 0 [(0, .ref (idc 10 i0)), (1, .int a1)] [] _
  refine x_aload_n 0 0 dX11_refresh_0 rfl ?_
  refine x_getI 1 fa_X11_15_10 dX11_refresh_1 fun v1 => ?_
  refine x_if_eq 4 17 dX11_refresh_4 rfl (fun c2 => ?_) (fun c2 => ?_)
  · refine x_iconst 17 (-1) (-1 : Int32) dX11_refresh_17 rfl ?_
    exact x_iret 18 hZ rfl dX11_refresh_18
  · refine x_aload_n 7 0 dX11_refresh_7 rfl ?_
    refine x_getR 8 fa_X11_39_10 dX11_refresh_8 fun v3 => ?_
    refine x_isK fun i4 h5 => ?_
    subst h5
    refine x_getI 11 fa_X11_88_8 dX11_refresh_11 fun v6 => ?_
    refine x_if_ne 14 19 dX11_refresh_14 rfl (fun c7 => ?_) (fun c7 => ?_)
    · refine x_iconst 17 (-1) (-1 : Int32) dX11_refresh_17 rfl ?_
      exact x_iret 18 hZ rfl dX11_refresh_18
    · refine x_iload_n 19 1 dX11_refresh_19 rfl ?_
      refine x_aload_n 20 0 dX11_refresh_20 rfl ?_
      refine x_getI 21 fa_X11_93_10 dX11_refresh_21 fun v8 => ?_
      refine x_icmp_ne 24 97 dX11_refresh_24 rfl (fun c9 => ?_) (fun c9 => ?_)
      · refine x_aload_n 27 0 dX11_refresh_27 rfl ?_
        refine x_getR 28 fa_X11_3_10 dX11_refresh_28 fun v10 => ?_
        refine x_isK fun i11 h12 => ?_
        subst h12
        refine x_getR 31 fa_X11_52_0 dX11_refresh_31 fun v13 => ?_
        refine x_isK fun i14 h15 => ?_
        subst h15
        refine x_cF 34 0 [] [] (by decide) cf_X11_74_13 (im_J2_size hl i14) (by decide) rfl (Nat.le_of_ble_eq_true rfl) dX11_refresh_34 fun v16 => x_stI ?_
        refine x_sipush 39 200 (200 : Int32) dX11_refresh_39 rfl ?_
        refine x_bndj 50 (fun u17 => [(0, .ref (idc 10 i0))]) (fun u17 => [.int u17]) (fun u17 => ?_) (fun hj33 => ?_)
        · show TX g Γ _ Z _ 50 [(0, .ref (idc 10 i0))] [.int u17] _
          refine x_cSnx 50 6 [.int u17] [] rfl cs_X11_96 (im_X1_can hl u17) (by decide) rfl (Nat.le_of_ble_eq_true rfl) dX11_refresh_50 fun v18 => x_stV ?_
          refine x_aload_n 53 0 dX11_refresh_53 rfl ?_
          refine x_dup 54 dX11_refresh_54 rfl ?_
          refine x_getI 55 fa_X11_93_10 dX11_refresh_55 fun v19 => ?_
          refine x_iconst 58 1 (1 : Int32) dX11_refresh_58 rfl ?_
          refine x_iadd 59 dX11_refresh_59 ?_
          refine x_putI 60 fa_X11_93_10 rfl (Or.inl rfl) dX11_refresh_60 ?_
          refine x_aload_n 63 0 dX11_refresh_63 rfl ?_
          refine x_aload_n 64 0 dX11_refresh_64 rfl ?_
          refine x_getR 65 fa_X11_3_10 dX11_refresh_65 fun v20 => ?_
          refine x_isK fun i21 h22 => ?_
          subst h22
          refine x_getI 68 fa_X11_81_0 dX11_refresh_68 fun v23 => ?_
          refine x_putI 71 fa_X11_19_10 rfl (Or.inl rfl) dX11_refresh_71 ?_
          refine x_aload_n 74 0 dX11_refresh_74 rfl ?_
          refine x_cV 75 8 [] [] ⟨by decide, rfl⟩ cv_X11_100 (im_X11_make hl i0) (by decide) rfl (Nat.le_of_ble_eq_true rfl) dX11_refresh_75 fun v24 => x_stV ?_
          refine x_aload_n 78 0 dX11_refresh_78 rfl ?_
          refine x_getR 79 fa_X11_39_10 dX11_refresh_79 fun v25 => ?_
          refine x_aload_n 82 0 dX11_refresh_82 rfl ?_
          refine x_getR 83 fa_X11_3_10 dX11_refresh_83 fun v26 => ?_
          refine x_isK fun i27 h28 => ?_
          subst h28
          refine x_getI 86 fa_X11_81_0 dX11_refresh_86 fun v29 => ?_
          refine x_isK fun i30 h31 => ?_
          subst h31
          refine x_putI 89 fa_X11_102_8 rfl (Or.inl rfl) dX11_refresh_89 ?_
          refine x_aload_n 92 0 dX11_refresh_92 rfl ?_
          refine x_getI 93 fa_X11_93_10 dX11_refresh_93 fun v32 => ?_
          exact x_iret 96 hZ rfl dX11_refresh_96
        · refine x_icmp_ge 42 49 dX11_refresh_42 rfl (fun c34 => ?_) (fun c34 => ?_)
          · refine x_iconst 49 0 (0 : Int32) dX11_refresh_49 rfl ?_
            refine x_sub [0] _ rfl ?_
            exact hj33 (0 : Int32)
          · refine x_iconst 45 1 (1 : Int32) dX11_refresh_45 rfl ?_
            refine x_goto 46 50 dX11_refresh_46 rfl ?_
            refine x_sub [0] _ rfl ?_
            exact hj33 (1 : Int32)
      · refine x_iload_n 97 1 dX11_refresh_97 rfl ?_
        refine x_aload_n 98 0 dX11_refresh_98 rfl ?_
        refine x_getI 99 fa_X11_93_10 dX11_refresh_99 fun v35 => ?_
        refine x_iconst 102 1 (1 : Int32) dX11_refresh_102 rfl ?_
        refine x_isub 103 dX11_refresh_103 ?_
        refine x_jo 128 (Lf := fun _ => [(0, .ref (idc 10 i0))]) (sf := fun _ => []) (fun _ => ?_) (fun j38 hj37 => ?_)
        · show TX g Γ _ Z _ 128 [(0, .ref (idc 10 i0))] [] _
          refine x_aload_n 128 0 dX11_refresh_128 rfl ?_
          refine x_cV 129 8 [] [] ⟨by decide, rfl⟩ cv_X11_105 (im_X11_end hl i0) (by decide) rfl (Nat.le_of_ble_eq_true rfl) dX11_refresh_129 fun v36 => x_stI ?_
          refine x_pop 132 dX11_refresh_132 rfl ?_
          refine x_iconst 133 (-1) (-1 : Int32) dX11_refresh_133 rfl ?_
          exact x_iret 134 hZ rfl dX11_refresh_134
        · refine x_icmp_ne 104 128 dX11_refresh_104 rfl (fun c39 => ?_) (fun c39 => ?_)
          · refine x_aload_n 107 0 dX11_refresh_107 rfl ?_
            refine x_getR 108 fa_X11_3_10 dX11_refresh_108 fun v40 => ?_
            refine x_isK fun i41 h42 => ?_
            subst h42
            refine x_getI 111 fa_X11_81_0 dX11_refresh_111 fun v43 => ?_
            refine x_aload_n 114 0 dX11_refresh_114 rfl ?_
            refine x_getI 115 fa_X11_19_10 dX11_refresh_115 fun v44 => ?_
            refine x_isub 118 dX11_refresh_118 ?_
            refine x_iconst 119 1 (1 : Int32) dX11_refresh_119 rfl ?_
            refine x_icmp_gt 120 128 dX11_refresh_120 rfl (fun c45 => ?_) (fun c45 => ?_)
            · refine x_sub [0] _ rfl ?_
              exact hj37 ()
            · refine x_aload_n 123 0 dX11_refresh_123 rfl ?_
              refine x_getI 124 fa_X11_93_10 dX11_refresh_124 fun v46 => ?_
              exact x_iret 127 hZ rfl dX11_refresh_127
          · refine x_sub [0] _ rfl ?_
            exact hj37 ()
def f_X1_refresh (i0 : Nat) (a1 : Int32) (a2 : Int32) : PT Int32 := gR 0 i0 6 fun v1 => bnd (f_X1_at v1 a1) fun v2 => isK 10 v2 fun i3 => gI 10 i3 6 fun v5 => bnd (f_X1_fit a2 (0 : Int32) v5) fun _ => bnd (f_X11_refresh i3 a2) fun v7 => rt v7
theorem im_X1_refresh {g : GP} {l : Launch} (hl : l.stackTraces = false) (i0 : Nat) (a1 : Int32) (a2 : Int32) : Im g l 10 yX1_refresh cX1_refresh 4 (some .int) eI [.ref (idc 0 i0), .int a1, .int a2] (f_X1_refresh i0 a1 a2) := by
  refine tx_start hl 10 _ _ _ _ (by decide) (Nat.le_of_ble_eq_true rfl) fun Γ Z hΓ hZ => ?_
  subst hΓ
  unfold f_X1_refresh
  show TX g Γ _ Z _ 0 [(0, .ref (idc 0 i0)), (1, .int a1), (2, .int a2)] [] _
  refine x_aload_n 0 0 dX1_refresh_0 rfl ?_
  refine x_getR 1 fa_X1_93_0 dX1_refresh_1 fun v1 => ?_
  refine x_iload_n 4 1 dX1_refresh_4 rfl ?_
  refine x_cSx 5 7 [.ref v1, .int a1] [] rfl cs_X1_214 (im_X1_at hl v1 a1) (by decide) rfl (Nat.le_of_ble_eq_true rfl) dX1_refresh_5 fun v2 => x_stR ?_
  refine x_isK fun i3 h4 => ?_
  subst h4
  refine x_castS 8 (by decide) q1840 dX1_refresh_8 ?_
  refine x_astore_n 11 [(3, .ref (idc 10 i3)), (0, .ref (idc 0 i0)), (1, .int a1), (2, .int a2)] dX1_refresh_11 (by decide) rfl ?_
  refine x_iload_n 12 3 dX1_refresh_12 rfl ?_
  refine x_iconst 13 0 (0 : Int32) dX1_refresh_13 rfl ?_
  refine x_aload_n 14 0 dX1_refresh_14 rfl ?_
  refine x_getI 15 fa_X1_325_10 dX1_refresh_15 fun v5 => ?_
  refine x_cSx 18 6 [.int a2, .int (0 : Int32), .int v5] [] rfl cs_X1_149 (im_X1_fit hl a2 (0 : Int32) v5) (by decide) rfl (Nat.le_of_ble_eq_true rfl) dX1_refresh_18 fun v6 => x_stV ?_
  refine x_aload_n 21 0 dX1_refresh_21 rfl ?_
  refine x_iload_n 22 3 dX1_refresh_22 rfl ?_
  refine x_cVx 23 9 [.int a2] [] ⟨by decide, rfl⟩ rfl cv_X1_328 (im_X11_refresh hl i3 a2) (by decide) rfl (Nat.le_of_ble_eq_true rfl) dX1_refresh_23 fun v7 => x_stI ?_
  exact x_iret 26 hZ rfl dX1_refresh_26
def f_X1_isGood (i0 : Nat) (a1 : Int32) : PT Int32 := gR 0 i0 6 fun v1 => bnd (f_X1_at v1 a1) fun v2 => isK 10 v2 fun i3 => gI 10 i3 5 fun v5 => asr (v5 = 0 ∨ v5 = 1) (rt v5)
theorem im_X1_isGood {g : GP} {l : Launch} (hl : l.stackTraces = false) (i0 : Nat) (a1 : Int32) : Im g l 8 yX1_isGood cX1_isGood 2 (some .boolean) eI [.ref (idc 0 i0), .int a1] (f_X1_isGood i0 a1) := by
  refine tx_start hl 8 _ _ _ _ (by decide) (Nat.le_of_ble_eq_true rfl) fun Γ Z hΓ hZ => ?_
  subst hΓ
  unfold f_X1_isGood
  show TX g Γ _ Z _ 0 [(0, .ref (idc 0 i0)), (1, .int a1)] [] _
  refine x_aload_n 0 0 dX1_isGood_0 rfl ?_
  refine x_getR 1 fa_X1_93_0 dX1_isGood_1 fun v1 => ?_
  refine x_iload_n 4 1 dX1_isGood_4 rfl ?_
  refine x_cSx 5 7 [.ref v1, .int a1] [] rfl cs_X1_214 (im_X1_at hl v1 a1) (by decide) rfl (Nat.le_of_ble_eq_true rfl) dX1_isGood_5 fun v2 => x_stR ?_
  refine x_isK fun i3 h4 => ?_
  subst h4
  refine x_castS 8 (by decide) q1840 dX1_isGood_8 ?_
  refine x_getI 11 fa_X1_331_10 dX1_isGood_11 fun v5 => ?_
  exact x_zret 14 hZ rfl dX1_isGood_14
def f_X1_tokenOf (i0 : Nat) (a1 : Int32) : PT Int32 := gR 0 i0 6 fun v1 => bnd (f_X1_at v1 a1) fun v2 => isK 10 v2 fun i3 => gI 10 i3 9 fun v5 => rt v5
theorem im_X1_tokenOf {g : GP} {l : Launch} (hl : l.stackTraces = false) (i0 : Nat) (a1 : Int32) : Im g l 8 yX1_tokenOf cX1_tokenOf 2 (some .int) eI [.ref (idc 0 i0), .int a1] (f_X1_tokenOf i0 a1) := by
  refine tx_start hl 8 _ _ _ _ (by decide) (Nat.le_of_ble_eq_true rfl) fun Γ Z hΓ hZ => ?_
  subst hΓ
  unfold f_X1_tokenOf
  show TX g Γ _ Z _ 0 [(0, .ref (idc 0 i0)), (1, .int a1)] [] _
  refine x_aload_n 0 0 dX1_tokenOf_0 rfl ?_
  refine x_getR 1 fa_X1_93_0 dX1_tokenOf_1 fun v1 => ?_
  refine x_iload_n 4 1 dX1_tokenOf_4 rfl ?_
  refine x_cSx 5 7 [.ref v1, .int a1] [] rfl cs_X1_214 (im_X1_at hl v1 a1) (by decide) rfl (Nat.le_of_ble_eq_true rfl) dX1_tokenOf_5 fun v2 => x_stR ?_
  refine x_isK fun i3 h4 => ?_
  subst h4
  refine x_castS 8 (by decide) q1840 dX1_tokenOf_8 ?_
  refine x_getI 11 fa_X1_334_10 dX1_tokenOf_11 fun v5 => ?_
  exact x_iret 14 hZ rfl dX1_tokenOf_14
def f_X1_fits (a1 : Int32) : PT Unit := bnd (ρ := _) (α := Int32) (cnd (a1 = 0) (rt (1 : Int32)) (rt (0 : Int32))) (fun u1 => bnd (f_X1_fit u1 (0 : Int32) (0 : Int32)) fun _ => rt ())
theorem im_X1_fits {g : GP} {l : Launch} (hl : l.stackTraces = false) (a1 : Int32) : Im g l 7 yX1_fits cX1_fits 1 none eV [.int a1] (f_X1_fits a1) := by
  refine tx_start hl 7 _ _ _ _ (by decide) (Nat.le_of_ble_eq_true rfl) fun Γ Z hΓ hZ => ?_
  subst hΓ
  unfold f_X1_fits
  show TX g Γ _ Z _ 0 [(0, .int a1)] [] _
  refine x_iload_n 0 0 dX1_fits_0 rfl ?_
  refine x_bndj 9 (fun u1 => []) (fun u1 => [.int u1]) (fun u1 => ?_) (fun hj3 => ?_)
  · show TX g Γ _ Z _ 9 [] [.int u1] _
    refine x_iconst 9 0 (0 : Int32) dX1_fits_9 rfl ?_
    refine x_iconst 10 0 (0 : Int32) dX1_fits_10 rfl ?_
    refine x_cSx 11 6 [.int u1, .int (0 : Int32), .int (0 : Int32)] [] rfl cs_X1_149 (im_X1_fit hl u1 (0 : Int32) (0 : Int32)) (by decide) rfl (Nat.le_of_ble_eq_true rfl) dX1_fits_11 fun v2 => x_stV ?_
    exact x_vret 14 hZ rfl dX1_fits_14
  · refine x_if_eq 1 8 dX1_fits_1 rfl (fun c4 => ?_) (fun c4 => ?_)
    · refine x_iconst 8 1 (1 : Int32) dX1_fits_8 rfl ?_
      refine x_sub [] _ rfl ?_
      exact hj3 (1 : Int32)
    · refine x_iconst 4 0 (0 : Int32) dX1_fits_4 rfl ?_
      refine x_goto 5 9 dX1_fits_5 rfl ?_
      refine x_sub [] _ rfl ?_
      exact hj3 (0 : Int32)
def f_X1_exchange (i0 : Nat) (a1 : Int32) (a2 : Int32) (a3 : Int32) : PT Int32 := gR 0 i0 7 fun v1 => bnd (f_X1_at v1 a1) fun v2 => isK 11 v2 fun i3 => bnd (f_X1_serviceAt i0 a2) fun v5 => bnd (f_X1_fit a3 (1 : Int32) (15 : Int32)) fun _ => gI 11 i3 3 fun v7 => bnd (ρ := _) (α := Int32) (cnd ((a3 &&& (v7 ^^^ (-1 : Int32))) = 0) (rt (1 : Int32)) (rt (0 : Int32))) (fun u8 => bnd (f_X1_fits u8) fun _ => gI 0 i0 16 fun v10 => gI 11 i3 6 fun v11 => bnd (ρ := _) (α := Int32) (jo (σ := Unit) (fun _ => rt (0 : Int32)) fun j34 => cnd (v11 < v10) (j34 ()) (gR 11 i3 0 fun v36 => isK 10 v36 fun i37 => gI 10 i37 5 fun v39 => cnd (v39 = 0) (j34 ()) (gI 11 i3 4 fun v41 => cnd ((3 : Int32) ≤ v41) (j34 ()) (gR 0 i0 7 fun v43 => isK 13 v43 fun i44 => bn0 (f_J2_size i44) fun v46 => cnd ((200 : Int32) ≤ v46) (j34 ()) (rt (1 : Int32)))))) (fun u12 => bnd (f_X1_can u12) fun _ => gR 11 i3 0 fun v14 => isK 10 v14 fun i15 => gR 10 i15 1 fun v17 => isK 8 v17 fun i18 => bn0 (f_X9_level i18) fun v20 => isK 3 v5 fun i21 => gI 3 i21 5 fun v23 => cnd (v23 ≤ v20) (gR 11 i3 0 fun v25 => gI 11 i3 2 fun v26 => gI 11 i3 4 fun v27 => gI 11 i3 6 fun v28 => isK 10 v25 fun i29 => bn0 (f_X11_make_2 i29 v26 a2 a3 (v27 + (1 : Int32)) v28) fun v31 => rt v31) (rt (-2 : Int32))))
theorem im_X1_exchange {g : GP} {l : Launch} (hl : l.stackTraces = false) (i0 : Nat) (a1 : Int32) (a2 : Int32) (a3 : Int32) : Im g l 8 yX1_exchange cX1_exchange 6 (some .int) eI [.ref (idc 0 i0), .int a1, .int a2, .int a3] (f_X1_exchange i0 a1 a2 a3) := by
  refine tx_start hl 8 _ _ _ _ (by decide) (Nat.le_of_ble_eq_true rfl) fun Γ Z hΓ hZ => ?_
  subst hΓ
  unfold f_X1_exchange
  show TX g Γ _ Z _ 0 [(0, .ref (idc 0 i0)), (1, .int a1), (2, .int a2), (3, .int a3)] [] _
  refine x_aload_n 0 0 dX1_exchange_0 rfl ?_
  refine x_getR 1 fa_X1_96_0 dX1_exchange_1 fun v1 => ?_
  refine x_iload_n 4 1 dX1_exchange_4 rfl ?_
  refine x_cSx 5 7 [.ref v1, .int a1] [] rfl cs_X1_214 (im_X1_at hl v1 a1) (by decide) rfl (Nat.le_of_ble_eq_true rfl) dX1_exchange_5 fun v2 => x_stR ?_
  refine x_isK fun i3 h4 => ?_
  subst h4
  refine x_castS 8 (by decide) q2029 dX1_exchange_8 ?_
  refine x_astore 11 [(4, .ref (idc 11 i3)), (0, .ref (idc 0 i0)), (1, .int a1), (2, .int a2), (3, .int a3)] dX1_exchange_11 (by decide) rfl ?_
  refine x_aload_n 13 1 dX1_exchange_13 rfl ?_
  refine x_iload_n 14 3 dX1_exchange_14 rfl ?_
  refine x_cVx 15 7 [.int a2] [] ⟨by decide, rfl⟩ rfl cv_X1_286 (im_X1_serviceAt hl i0 a2) (by decide) rfl (Nat.le_of_ble_eq_true rfl) dX1_exchange_15 fun v5 => x_stR ?_
  refine x_astore 18 [(5, .ref v5), (4, .ref (idc 11 i3)), (0, .ref (idc 0 i0)), (1, .int a1), (2, .int a2), (3, .int a3)] dX1_exchange_18 (by decide) rfl ?_
  refine x_iload_n 20 5 dX1_exchange_20 rfl ?_
  refine x_iconst 21 1 (1 : Int32) dX1_exchange_21 rfl ?_
  refine x_bipush 22 15 (15 : Int32) dX1_exchange_22 rfl ?_
  refine x_cSx 24 6 [.int a3, .int (1 : Int32), .int (15 : Int32)] [] rfl cs_X1_149 (im_X1_fit hl a3 (1 : Int32) (15 : Int32)) (by decide) rfl (Nat.le_of_ble_eq_true rfl) dX1_exchange_24 fun v6 => x_stV ?_
  refine x_iload_n 27 5 dX1_exchange_27 rfl ?_
  refine x_aload 28 1 dX1_exchange_28 rfl ?_
  refine x_getI 30 fa_X1_339_11 dX1_exchange_30 fun v7 => ?_
  refine x_iconst 33 (-1) (-1 : Int32) dX1_exchange_33 rfl ?_
  refine x_ixor 34 dX1_exchange_34 ?_
  refine x_iand 35 dX1_exchange_35 ?_
  refine x_bndj 44 (fun u8 => [(0, .ref (idc 0 i0)), (2, .int a2), (3, .int a3), (4, .ref (idc 11 i3)), (5, .ref v5)]) (fun u8 => [.int u8]) (fun u8 => ?_) (fun hj48 => ?_)
  · show TX g Γ _ Z _ 44 [(0, .ref (idc 0 i0)), (2, .int a2), (3, .int a3), (4, .ref (idc 11 i3)), (5, .ref v5)] [.int u8] _
    refine x_cSx 44 7 [.int u8] [] rfl cs_X1_342 (im_X1_fits hl u8) (by decide) rfl (Nat.le_of_ble_eq_true rfl) dX1_exchange_44 fun v9 => x_stV ?_
    refine x_aload_n 47 0 dX1_exchange_47 rfl ?_
    refine x_getI 48 fa_X1_44_0 dX1_exchange_48 fun v10 => ?_
    refine x_aload 51 3 dX1_exchange_51 rfl ?_
    refine x_getI 53 fa_X1_345_11 dX1_exchange_53 fun v11 => ?_
    refine x_bndj 99 (fun u12 => [(2, .int a2), (3, .int a3), (4, .ref (idc 11 i3)), (5, .ref v5)]) (fun u12 => [.int u12]) (fun u12 => ?_) (fun hj32 => ?_)
    · show TX g Γ _ Z _ 99 [(2, .int a2), (3, .int a3), (4, .ref (idc 11 i3)), (5, .ref v5)] [.int u12] _
      refine x_cSx 99 6 [.int u12] [] rfl cs_X1_176 (im_X1_can hl u12) (by decide) rfl (Nat.le_of_ble_eq_true rfl) dX1_exchange_99 fun v13 => x_stV ?_
      refine x_aload 102 2 dX1_exchange_102 rfl ?_
      refine x_getR 104 fa_X1_347_11 dX1_exchange_104 fun v14 => ?_
      refine x_isK fun i15 h16 => ?_
      subst h16
      refine x_getR 107 fa_X1_295_10 dX1_exchange_107 fun v17 => ?_
      refine x_isK fun i18 h19 => ?_
      subst h19
      refine x_cV 110 1 [] [] ⟨by decide, rfl⟩ cv_X1_257 (im_X9_level hl i18) (by decide) rfl (Nat.le_of_ble_eq_true rfl) dX1_exchange_110 fun v20 => x_stI ?_
      refine x_aload 113 3 dX1_exchange_113 rfl ?_
      refine x_isK fun i21 h22 => ?_
      subst h22
      refine x_getI 115 fa_X1_302_3 dX1_exchange_115 fun v23 => ?_
      refine x_icmp_ge 118 124 dX1_exchange_118 rfl (fun c24 => ?_) (fun c24 => ?_)
      · refine x_aload 124 2 dX1_exchange_124 rfl ?_
        refine x_getR 126 fa_X1_347_11 dX1_exchange_126 fun v25 => ?_
        refine x_aload 129 2 dX1_exchange_129 rfl ?_
        refine x_getI 131 fa_X1_351_11 dX1_exchange_131 fun v26 => ?_
        refine x_iload_n 134 0 dX1_exchange_134 rfl ?_
        refine x_iload_n 135 1 dX1_exchange_135 rfl ?_
        refine x_aload 136 2 dX1_exchange_136 rfl ?_
        refine x_getI 138 fa_X1_348_11 dX1_exchange_138 fun v27 => ?_
        refine x_iconst 141 1 (1 : Int32) dX1_exchange_141 rfl ?_
        refine x_iadd 142 dX1_exchange_142 ?_
        refine x_aload 143 2 dX1_exchange_143 rfl ?_
        refine x_getI 145 fa_X1_345_11 dX1_exchange_145 fun v28 => ?_
        refine x_isK fun i29 h30 => ?_
        subst h30
        refine x_cV 148 7 [.int v26, .int a2, .int a3, .int (v27 + (1 : Int32)), .int v28] [] ⟨by decide, rfl⟩ cv_X1_354 (im_X11_make_2 hl i29 v26 a2 a3 (v27 + (1 : Int32)) v28) (by decide) rfl (Nat.le_of_ble_eq_true rfl) dX1_exchange_148 fun v31 => x_stI ?_
        exact x_iret 151 hZ rfl dX1_exchange_151
      · refine x_bipush 121 (-2) (-2 : Int32) dX1_exchange_121 rfl ?_
        exact x_iret 123 hZ rfl dX1_exchange_123
    · refine x_jo 98 (Lf := fun _ => [(2, .int a2), (3, .int a3), (4, .ref (idc 11 i3)), (5, .ref v5)]) (sf := fun _ => []) (fun _ => ?_) (fun j34 hj33 => ?_)
      · show TX g Γ _ Z _ 98 [(2, .int a2), (3, .int a3), (4, .ref (idc 11 i3)), (5, .ref v5)] [] _
        refine x_iconst 98 0 (0 : Int32) dX1_exchange_98 rfl ?_
        exact hj32 (0 : Int32)
      · refine x_icmp_gt 56 98 dX1_exchange_56 rfl (fun c35 => ?_) (fun c35 => ?_)
        · refine x_sub [1, 2, 3, 4] _ rfl ?_
          exact hj33 ()
        · refine x_aload 59 3 dX1_exchange_59 rfl ?_
          refine x_getR 61 fa_X1_347_11 dX1_exchange_61 fun v36 => ?_
          refine x_isK fun i37 h38 => ?_
          subst h38
          refine x_getI 64 fa_X1_331_10 dX1_exchange_64 fun v39 => ?_
          refine x_if_eq 67 98 dX1_exchange_67 rfl (fun c40 => ?_) (fun c40 => ?_)
          · refine x_sub [1, 2, 3, 4] _ rfl ?_
            exact hj33 ()
          · refine x_aload 70 3 dX1_exchange_70 rfl ?_
            refine x_getI 72 fa_X1_348_11 dX1_exchange_72 fun v41 => ?_
            refine x_iconst 75 3 (3 : Int32) dX1_exchange_75 rfl ?_
            refine x_icmp_ge 76 98 dX1_exchange_76 rfl (fun c42 => ?_) (fun c42 => ?_)
            · refine x_sub [1, 2, 3, 4] _ rfl ?_
              exact hj33 ()
            · refine x_aload_n 79 0 dX1_exchange_79 rfl ?_
              refine x_getR 80 fa_X1_96_0 dX1_exchange_80 fun v43 => ?_
              refine x_isK fun i44 h45 => ?_
              subst h45
              refine x_cF 83 0 [] [] (by decide) cf_X1_9_13 (im_J2_size hl i44) (by decide) rfl (Nat.le_of_ble_eq_true rfl) dX1_exchange_83 fun v46 => x_stI ?_
              refine x_sipush 88 200 (200 : Int32) dX1_exchange_88 rfl ?_
              refine x_icmp_ge 91 98 dX1_exchange_91 rfl (fun c47 => ?_) (fun c47 => ?_)
              · refine x_sub [1, 2, 3, 4] _ rfl ?_
                exact hj33 ()
              · refine x_iconst 94 1 (1 : Int32) dX1_exchange_94 rfl ?_
                refine x_goto 95 99 dX1_exchange_95 rfl ?_
                refine x_sub [1, 2, 3, 4] _ rfl ?_
                exact hj32 (1 : Int32)
  · refine x_if_ne 36 43 dX1_exchange_36 rfl (fun c49 => ?_) (fun c49 => ?_)
    · refine x_iconst 39 1 (1 : Int32) dX1_exchange_39 rfl ?_
      refine x_goto 40 44 dX1_exchange_40 rfl ?_
      refine x_sub [2, 4, 5, 1, 0] _ rfl ?_
      exact hj48 (1 : Int32)
    · refine x_iconst 43 0 (0 : Int32) dX1_exchange_43 rfl ?_
      refine x_sub [2, 4, 5, 1, 0] _ rfl ?_
      exact hj48 (0 : Int32)
def f_X1_token (i0 : Nat) (a1 : Int32) : PT Int32 := gR 0 i0 7 fun v1 => bnd (f_X1_at v1 a1) fun v2 => isK 11 v2 fun i3 => gI 11 i3 6 fun v5 => gI 11 i3 1 fun v6 => gI 11 i3 2 fun v7 => gI 11 i3 4 fun v8 => rt (((((1000 : Int32) * v5) + ((100 : Int32) * v6)) + ((10 : Int32) * v7)) + v8)
theorem im_X1_token {g : GP} {l : Launch} (hl : l.stackTraces = false) (i0 : Nat) (a1 : Int32) : Im g l 8 yX1_token cX1_token 3 (some .int) eI [.ref (idc 0 i0), .int a1] (f_X1_token i0 a1) := by
  refine tx_start hl 8 _ _ _ _ (by decide) (Nat.le_of_ble_eq_true rfl) fun Γ Z hΓ hZ => ?_
  subst hΓ
  unfold f_X1_token
  show TX g Γ _ Z _ 0 [(0, .ref (idc 0 i0)), (1, .int a1)] [] _
  refine x_aload_n 0 0 dX1_token_0 rfl ?_
  refine x_getR 1 fa_X1_96_0 dX1_token_1 fun v1 => ?_
  refine x_iload_n 4 1 dX1_token_4 rfl ?_
  refine x_cSx 5 7 [.ref v1, .int a1] [] rfl cs_X1_214 (im_X1_at hl v1 a1) (by decide) rfl (Nat.le_of_ble_eq_true rfl) dX1_token_5 fun v2 => x_stR ?_
  refine x_isK fun i3 h4 => ?_
  subst h4
  refine x_castS 8 (by decide) q2029 dX1_token_8 ?_
  refine x_astore_n 11 [(2, .ref (idc 11 i3)), (0, .ref (idc 0 i0)), (1, .int a1)] dX1_token_11 (by decide) rfl ?_
  refine x_sipush 12 1000 (1000 : Int32) dX1_token_12 rfl ?_
  refine x_aload_n 15 0 dX1_token_15 rfl ?_
  refine x_getI 16 fa_X1_345_11 dX1_token_16 fun v5 => ?_
  refine x_imul 19 dX1_token_19 ?_
  refine x_bipush 20 100 (100 : Int32) dX1_token_20 rfl ?_
  refine x_aload_n 22 0 dX1_token_22 rfl ?_
  refine x_getI 23 fa_X1_357_11 dX1_token_23 fun v6 => ?_
  refine x_imul 26 dX1_token_26 ?_
  refine x_iadd 27 dX1_token_27 ?_
  refine x_bipush 28 10 (10 : Int32) dX1_token_28 rfl ?_
  refine x_aload_n 30 0 dX1_token_30 rfl ?_
  refine x_getI 31 fa_X1_351_11 dX1_token_31 fun v7 => ?_
  refine x_imul 34 dX1_token_34 ?_
  refine x_iadd 35 dX1_token_35 ?_
  refine x_aload_n 36 0 dX1_token_36 rfl ?_
  refine x_getI 37 fa_X1_348_11 dX1_token_37 fun v8 => ?_
  refine x_iadd 40 dX1_token_40 ?_
  exact x_iret 41 hZ rfl dX1_token_41
def f_X1_publishKey (i0 : Nat) : PT Int32 := gR 0 i0 17 fun v1 => gI 0 i0 19 fun v2 => isK 14 v1 fun i3 => bn0 (f_J18_set i3 v2) fun _ => gI 0 i0 19 fun v6 => pI 0 i0 19 (v6 + (1 : Int32)) <| gI 0 i0 19 fun v7 => rt (v7 - (1 : Int32))
theorem im_X1_publishKey {g : GP} {l : Launch} (hl : l.stackTraces = false) (i0 : Nat) : Im g l 5 yX1_publishKey cX1_publishKey 1 (some .int) eI [.ref (idc 0 i0)] (f_X1_publishKey i0) := by
  refine tx_start hl 5 _ _ _ _ (by decide) (Nat.le_of_ble_eq_true rfl) fun Γ Z hΓ hZ => ?_
  subst hΓ
  unfold f_X1_publishKey
  show TX g Γ _ Z _ 0 [(0, .ref (idc 0 i0))] [] _
  refine x_aload_n 0 0 dX1_publishKey_0 rfl ?_
  refine x_getR 1 fa_X1_124_0 dX1_publishKey_1 fun v1 => ?_
  refine x_aload_n 4 0 dX1_publishKey_4 rfl ?_
  refine x_getI 5 fa_X1_131_0 dX1_publishKey_5 fun v2 => ?_
  refine x_isK fun i3 h4 => ?_
  subst h4
  refine x_cV 8 4 [.int v2] [] ⟨by decide, rfl⟩ cv_X1_140 (im_J18_set hl i3 v2) (by decide) rfl (Nat.le_of_ble_eq_true rfl) dX1_publishKey_8 fun v5 => x_stV ?_
  refine x_aload_n 11 0 dX1_publishKey_11 rfl ?_
  refine x_dup 12 dX1_publishKey_12 rfl ?_
  refine x_getI 13 fa_X1_131_0 dX1_publishKey_13 fun v6 => ?_
  refine x_iconst 16 1 (1 : Int32) dX1_publishKey_16 rfl ?_
  refine x_iadd 17 dX1_publishKey_17 ?_
  refine x_putI 18 fa_X1_131_0 rfl (Or.inl rfl) dX1_publishKey_18 ?_
  refine x_aload_n 21 0 dX1_publishKey_21 rfl ?_
  refine x_getI 22 fa_X1_131_0 dX1_publishKey_22 fun v7 => ?_
  refine x_iconst 25 1 (1 : Int32) dX1_publishKey_25 rfl ?_
  refine x_isub 26 dX1_publishKey_26 ?_
  exact x_iret 27 hZ rfl dX1_publishKey_27
def f_X1_turn (i0 : Nat) : PT Int32 := gI 0 i0 21 fun v1 => bnd (ρ := _) (α := Int32) (jo (σ := Unit) (fun _ => rt (0 : Int32)) fun j9 => cnd (v1 = (-1 : Int32)) (gI 0 i0 19 fun v11 => cnd ((20 : Int32) ≤ v11) (j9 ()) (rt (1 : Int32))) (j9 ())) (fun u2 => bnd (f_X1_can u2) fun _ => bn0 (f_X1_publishKey i0) fun v4 => pI 0 i0 21 v4 <| gI 0 i0 16 fun v5 => pI 0 i0 22 (v5 + (5 : Int32)) <| gI 0 i0 21 fun v6 => rt v6)
theorem im_X1_turn {g : GP} {l : Launch} (hl : l.stackTraces = false) (i0 : Nat) : Im g l 7 yX1_turn cX1_turn 1 (some .int) eI [.ref (idc 0 i0)] (f_X1_turn i0) := by
  refine tx_start hl 7 _ _ _ _ (by decide) (Nat.le_of_ble_eq_true rfl) fun Γ Z hΓ hZ => ?_
  subst hΓ
  unfold f_X1_turn
  show TX g Γ _ Z _ 0 [(0, .ref (idc 0 i0))] [] _
  refine x_aload_n 0 0 dX1_turn_0 rfl ?_
  refine x_getI 1 fa_X1_134_0 dX1_turn_1 fun v1 => ?_
  refine x_iconst 4 (-1) (-1 : Int32) dX1_turn_4 rfl ?_
  refine x_bndj 22 (fun u2 => [(0, .ref (idc 0 i0))]) (fun u2 => [.int u2]) (fun u2 => ?_) (fun hj7 => ?_)
  · show TX g Γ _ Z _ 22 [(0, .ref (idc 0 i0))] [.int u2] _
    refine x_cSx 22 6 [.int u2] [] rfl cs_X1_176 (im_X1_can hl u2) (by decide) rfl (Nat.le_of_ble_eq_true rfl) dX1_turn_22 fun v3 => x_stV ?_
    refine x_aload_n 25 0 dX1_turn_25 rfl ?_
    refine x_aload_n 26 0 dX1_turn_26 rfl ?_
    refine x_cV 27 5 [] [.ref (idc 0 i0)] ⟨by decide, rfl⟩ cv_X1_358 (im_X1_publishKey hl i0) (by decide) rfl (Nat.le_of_ble_eq_true rfl) dX1_turn_27 fun v4 => x_stI ?_
    refine x_putI 30 fa_X1_134_0 rfl (Or.inl rfl) dX1_turn_30 ?_
    refine x_aload_n 33 0 dX1_turn_33 rfl ?_
    refine x_aload_n 34 0 dX1_turn_34 rfl ?_
    refine x_getI 35 fa_X1_44_0 dX1_turn_35 fun v5 => ?_
    refine x_iconst 38 5 (5 : Int32) dX1_turn_38 rfl ?_
    refine x_iadd 39 dX1_turn_39 ?_
    refine x_putI 40 fa_X1_164_0 rfl (Or.inl rfl) dX1_turn_40 ?_
    refine x_aload_n 43 0 dX1_turn_43 rfl ?_
    refine x_getI 44 fa_X1_134_0 dX1_turn_44 fun v6 => ?_
    exact x_iret 47 hZ rfl dX1_turn_47
  · refine x_jo 21 (Lf := fun _ => [(0, .ref (idc 0 i0))]) (sf := fun _ => []) (fun _ => ?_) (fun j9 hj8 => ?_)
    · show TX g Γ _ Z _ 21 [(0, .ref (idc 0 i0))] [] _
      refine x_iconst 21 0 (0 : Int32) dX1_turn_21 rfl ?_
      exact hj7 (0 : Int32)
    · refine x_icmp_ne 5 21 dX1_turn_5 rfl (fun c10 => ?_) (fun c10 => ?_)
      · refine x_aload_n 8 0 dX1_turn_8 rfl ?_
        refine x_getI 9 fa_X1_131_0 dX1_turn_9 fun v11 => ?_
        refine x_bipush 12 20 (20 : Int32) dX1_turn_12 rfl ?_
        refine x_icmp_ge 14 21 dX1_turn_14 rfl (fun c12 => ?_) (fun c12 => ?_)
        · exact hj8 ()
        · refine x_iconst 17 1 (1 : Int32) dX1_turn_17 rfl ?_
          refine x_goto 18 22 dX1_turn_18 rfl ?_
          exact hj7 (1 : Int32)
      · exact hj8 ()
def f_X1_emergency (i0 : Nat) : PT Int32 := gI 0 i0 21 fun v1 => bnd (ρ := _) (α := Int32) (jo (σ := Unit) (fun _ => rt (1 : Int32)) fun j19 => cnd (v1 = (-1 : Int32)) (gI 0 i0 19 fun v21 => cnd ((20 : Int32) ≤ v21) (rt (0 : Int32)) (j19 ())) (j19 ())) (fun u2 => bnd (f_X1_can u2) fun _ => gR 0 i0 17 fun v4 => gI 0 i0 20 fun v5 => isK 14 v4 fun i6 => bn0 (f_J18_clear i6 v5) fun _ => gI 0 i0 21 fun v9 => bnd (ρ := _) (α := Int32) (cnd (v9 = (-1 : Int32)) (bn0 (f_X1_publishKey i0) fun v15 => rt v15) (gI 0 i0 21 fun v16 => rt v16)) (fun u10 => bn0 (f_X1_sign i0 u10) fun _ => pI 0 i0 21 (-1 : Int32) <| gI 0 i0 20 fun v12 => rt v12))
theorem im_X1_emergency {g : GP} {l : Launch} (hl : l.stackTraces = false) (i0 : Nat) : Im g l 9 yX1_emergency cX1_emergency 1 (some .int) eI [.ref (idc 0 i0)] (f_X1_emergency i0) := by
  refine tx_start hl 9 _ _ _ _ (by decide) (Nat.le_of_ble_eq_true rfl) fun Γ Z hΓ hZ => ?_
  subst hΓ
  unfold f_X1_emergency
  show TX g Γ _ Z _ 0 [(0, .ref (idc 0 i0))] [] _
  refine x_aload_n 0 0 dX1_emergency_0 rfl ?_
  refine x_getI 1 fa_X1_134_0 dX1_emergency_1 fun v1 => ?_
  refine x_iconst 4 (-1) (-1 : Int32) dX1_emergency_4 rfl ?_
  refine x_bndj 22 (fun u2 => [(0, .ref (idc 0 i0))]) (fun u2 => [.int u2]) (fun u2 => ?_) (fun hj17 => ?_)
  · show TX g Γ _ Z _ 22 [(0, .ref (idc 0 i0))] [.int u2] _
    refine x_cSx 22 6 [.int u2] [] rfl cs_X1_176 (im_X1_can hl u2) (by decide) rfl (Nat.le_of_ble_eq_true rfl) dX1_emergency_22 fun v3 => x_stV ?_
    refine x_aload_n 25 0 dX1_emergency_25 rfl ?_
    refine x_getR 26 fa_X1_124_0 dX1_emergency_26 fun v4 => ?_
    refine x_aload_n 29 0 dX1_emergency_29 rfl ?_
    refine x_getI 30 fa_X1_161_0 dX1_emergency_30 fun v5 => ?_
    refine x_isK fun i6 h7 => ?_
    subst h7
    refine x_cV 33 1 [.int v5] [] ⟨by decide, rfl⟩ cv_X1_361 (im_J18_clear hl i6 v5) (by decide) rfl (Nat.le_of_ble_eq_true rfl) dX1_emergency_33 fun v8 => x_stV ?_
    refine x_aload_n 36 0 dX1_emergency_36 rfl ?_
    refine x_aload_n 37 0 dX1_emergency_37 rfl ?_
    refine x_getI 38 fa_X1_134_0 dX1_emergency_38 fun v9 => ?_
    refine x_iconst 41 (-1) (-1 : Int32) dX1_emergency_41 rfl ?_
    refine x_bndj 56 (fun u10 => [(0, .ref (idc 0 i0))]) (fun u10 => [.int u10, .ref (idc 0 i0)]) (fun u10 => ?_) (fun hj13 => ?_)
    · show TX g Γ _ Z _ 56 [(0, .ref (idc 0 i0))] [.int u10, .ref (idc 0 i0)] _
      refine x_cV 56 8 [.int u10] [] ⟨by decide, rfl⟩ cv_X1_167 (im_X1_sign hl i0 u10) (by decide) rfl (Nat.le_of_ble_eq_true rfl) dX1_emergency_56 fun v11 => x_stV ?_
      refine x_aload_n 59 0 dX1_emergency_59 rfl ?_
      refine x_iconst 60 (-1) (-1 : Int32) dX1_emergency_60 rfl ?_
      refine x_putI 61 fa_X1_134_0 rfl (Or.inl rfl) dX1_emergency_61 ?_
      refine x_aload_n 64 0 dX1_emergency_64 rfl ?_
      refine x_getI 65 fa_X1_161_0 dX1_emergency_65 fun v12 => ?_
      exact x_iret 68 hZ rfl dX1_emergency_68
    · refine x_icmp_ne 42 52 dX1_emergency_42 rfl (fun c14 => ?_) (fun c14 => ?_)
      · refine x_aload_n 45 0 dX1_emergency_45 rfl ?_
        refine x_cV 46 5 [] [.ref (idc 0 i0)] ⟨by decide, rfl⟩ cv_X1_358 (im_X1_publishKey hl i0) (by decide) rfl (Nat.le_of_ble_eq_true rfl) dX1_emergency_46 fun v15 => x_stI ?_
        refine x_goto 49 56 dX1_emergency_49 rfl ?_
        exact hj13 v15
      · refine x_aload_n 52 0 dX1_emergency_52 rfl ?_
        refine x_getI 53 fa_X1_134_0 dX1_emergency_53 fun v16 => ?_
        exact hj13 v16
  · refine x_jo 17 (Lf := fun _ => [(0, .ref (idc 0 i0))]) (sf := fun _ => []) (fun _ => ?_) (fun j19 hj18 => ?_)
    · show TX g Γ _ Z _ 17 [(0, .ref (idc 0 i0))] [] _
      refine x_iconst 17 1 (1 : Int32) dX1_emergency_17 rfl ?_
      refine x_goto 18 22 dX1_emergency_18 rfl ?_
      exact hj17 (1 : Int32)
    · refine x_icmp_ne 5 17 dX1_emergency_5 rfl (fun c20 => ?_) (fun c20 => ?_)
      · refine x_aload_n 8 0 dX1_emergency_8 rfl ?_
        refine x_getI 9 fa_X1_131_0 dX1_emergency_9 fun v21 => ?_
        refine x_bipush 12 20 (20 : Int32) dX1_emergency_12 rfl ?_
        refine x_icmp_ge 14 21 dX1_emergency_14 rfl (fun c22 => ?_) (fun c22 => ?_)
        · refine x_iconst 21 0 (0 : Int32) dX1_emergency_21 rfl ?_
          exact hj17 (0 : Int32)
        · exact hj18 ()
      · exact hj18 ()
def f_X1_isPublished (i0 : Nat) (a1 : Int32) : PT Int32 := gI 0 i0 19 fun v1 => bnd (f_X1_there a1 v1) fun _ => gR 0 i0 17 fun v3 => isK 14 v3 fun i4 => bn0 (f_J18_get i4 a1) fun v6 => asr (v6 = 0 ∨ v6 = 1) (rt v6)
theorem im_X1_isPublished {g : GP} {l : Launch} (hl : l.stackTraces = false) (i0 : Nat) (a1 : Int32) : Im g l 7 yX1_isPublished cX1_isPublished 2 (some .boolean) eI [.ref (idc 0 i0), .int a1] (f_X1_isPublished i0 a1) := by
  refine tx_start hl 7 _ _ _ _ (by decide) (Nat.le_of_ble_eq_true rfl) fun Γ Z hΓ hZ => ?_
  subst hΓ
  unfold f_X1_isPublished
  show TX g Γ _ Z _ 0 [(0, .ref (idc 0 i0)), (1, .int a1)] [] _
  refine x_iload_n 0 1 dX1_isPublished_0 rfl ?_
  refine x_aload_n 1 0 dX1_isPublished_1 rfl ?_
  refine x_getI 2 fa_X1_131_0 dX1_isPublished_2 fun v1 => ?_
  refine x_cSx 5 6 [.int a1, .int v1] [] rfl cs_X1_158 (im_X1_there hl a1 v1) (by decide) rfl (Nat.le_of_ble_eq_true rfl) dX1_isPublished_5 fun v2 => x_stV ?_
  refine x_aload_n 8 0 dX1_isPublished_8 rfl ?_
  refine x_getR 9 fa_X1_124_0 dX1_isPublished_9 fun v3 => ?_
  refine x_iload_n 12 1 dX1_isPublished_12 rfl ?_
  refine x_isK fun i4 h5 => ?_
  subst h5
  refine x_cV 13 1 [.int a1] [] ⟨by decide, rfl⟩ cv_X1_170 (im_J18_get hl i4 a1) (by decide) rfl (Nat.le_of_ble_eq_true rfl) dX1_isPublished_13 fun v6 => x_stI ?_
  exact x_zret 16 hZ rfl dX1_isPublished_16
def f_X4_turnLine (i0 : Nat) : PT Int32 := gI 3 i0 0 fun v1 => bnd (ρ := _) (α := Int32) (cnd (v1 = 0) (rt (1 : Int32)) (rt (0 : Int32))) (fun u2 => pZ 3 i0 0 u2 <| gR 3 i0 4 fun v3 => isK 15 v3 fun i4 => bn0 (f_J19_iterator_15 i4) fun v6 => lp (σ := Int32) (fun r8 => fun u7 => gI 3 i0 0 fun v9 => cnd (v9 = 0) (isK 19 v6 fun i11 => bn0 (f_J29_hasNext i11) fun v13 => cnd (v13 = 0) (rt u7) (gR 3 i0 3 fun v15 => bn0 (f_J29_next i11) fun v16 => isK 10 v16 fun i17 => gI 10 i17 0 fun v19 => isK 14 v15 fun i20 => bn0 (f_J18_set i20 v19) fun _ => bn0 (f_J29_remove i11) fun _ => r8 (u7 + (1 : Int32)))) (rt u7)) (0 : Int32))
theorem im_X4_turnLine {g : GP} {l : Launch} (hl : l.stackTraces = false) (i0 : Nat) : Im g l 5 yX4_turnLine cX4_turnLine 3 (some .int) eI [.ref (idc 3 i0)] (f_X4_turnLine i0) := by
  refine tx_start hl 5 _ _ _ _ (by decide) (Nat.le_of_ble_eq_true rfl) fun Γ Z hΓ hZ => ?_
  subst hΓ
  unfold f_X4_turnLine
  show TX g Γ _ Z _ 0 [(0, .ref (idc 3 i0))] [] _
  refine x_aload_n 0 0 dX4_turnLine_0 rfl ?_
  refine x_aload_n 1 0 dX4_turnLine_1 rfl ?_
  refine x_getI 2 fa_X4_36_3 dX4_turnLine_2 fun v1 => ?_
  refine x_bndj 13 (fun u2 => [(0, .ref (idc 3 i0))]) (fun u2 => [.int u2, .ref (idc 3 i0)]) (fun u2 => ?_) (fun hj24 => ?_)
  · show TX g Γ _ Z _ 13 [(0, .ref (idc 3 i0))] [.int u2, .ref (idc 3 i0)] _
    refine x_putZ 13 fa_X4_36_3 rfl (Or.inl rfl) dX4_turnLine_13 ?_
    refine x_iconst 16 0 (0 : Int32) dX4_turnLine_16 rfl ?_
    refine x_istore_n 17 [(1, .int (0 : Int32)), (0, .ref (idc 3 i0))] dX4_turnLine_17 (by decide) rfl ?_
    refine x_aload_n 18 1 dX4_turnLine_18 rfl ?_
    refine x_getR 19 fa_X4_28_3 dX4_turnLine_19 fun v3 => ?_
    refine x_isK fun i4 h5 => ?_
    subst h5
    refine x_cU 22 4 [] [] (by decide) cu_X4_54_15 (im_J19_iterator_15 hl i4) (by decide) rfl (Nat.le_of_ble_eq_true rfl) dX4_turnLine_22 fun v6 => x_stR ?_
    refine x_astore_n 25 [(2, .ref v6), (1, .int (0 : Int32)), (0, .ref (idc 3 i0))] dX4_turnLine_25 (by decide) rfl ?_
    refine x_sub [2, 1, 0] [(0, .ref (idc 3 i0)), (1, .int (0 : Int32)), (2, .ref v6)] rfl ?_
    refine x_lp (Lf := fun u7 => [(0, .ref (idc 3 i0)), (1, .int u7), (2, .ref v6)]) (sf := fun _ => []) (fun r8 hr8 u7 => ?_) (0 : Int32)
    show TX g Γ _ Z _ 26 [(0, .ref (idc 3 i0)), (1, .int u7), (2, .ref v6)] [] _
    refine x_aload_n 26 0 dX4_turnLine_26 rfl ?_
    refine x_getI 27 fa_X4_36_3 dX4_turnLine_27 fun v9 => ?_
    refine x_if_ne 30 73 dX4_turnLine_30 rfl (fun c10 => ?_) (fun c10 => ?_)
    · refine x_aload_n 33 2 dX4_turnLine_33 rfl ?_
      refine x_isK fun i11 h12 => ?_
      subst h12
      refine x_cF 34 0 [] [] (by decide) cf_X4_58_19 (im_J29_hasNext hl i11) (by decide) rfl (Nat.le_of_ble_eq_true rfl) dX4_turnLine_34 fun v13 => x_stI ?_
      refine x_if_eq 39 73 dX4_turnLine_39 rfl (fun c14 => ?_) (fun c14 => ?_)
      · refine x_iload_n 73 1 dX4_turnLine_73 rfl ?_
        exact x_iret 74 hZ rfl dX4_turnLine_74
      · refine x_aload_n 42 0 dX4_turnLine_42 rfl ?_
        refine x_getR 43 fa_X4_22_3 dX4_turnLine_43 fun v15 => ?_
        refine x_aload_n 46 2 dX4_turnLine_46 rfl ?_
        refine x_cF 47 1 [] [.ref v15] (by decide) cf_X4_64_19 (im_J29_next hl i11) (by decide) rfl (Nat.le_of_ble_eq_true rfl) dX4_turnLine_47 fun v16 => x_stR ?_
        refine x_isK fun i17 h18 => ?_
        subst h18
        refine x_castS 52 (by decide) q2153 dX4_turnLine_52 ?_
        refine x_getI 55 fa_X4_44_10 dX4_turnLine_55 fun v19 => ?_
        refine x_isK fun i20 h21 => ?_
        subst h21
        refine x_cV 58 4 [.int v19] [] ⟨by decide, rfl⟩ cv_X4_32 (im_J18_set hl i20 v19) (by decide) rfl (Nat.le_of_ble_eq_true rfl) dX4_turnLine_58 fun v22 => x_stV ?_
        refine x_aload_n 61 2 dX4_turnLine_61 rfl ?_
        refine x_cF 62 1 [] [] (by decide) cf_X4_68_19 (im_J29_remove hl i11) (by decide) rfl (Nat.le_of_ble_eq_true rfl) dX4_turnLine_62 fun v23 => x_stV ?_
        refine x_iinc 67 1 [(1, .int (u7 + (1 : Int32))), (0, .ref (idc 3 i0)), (2, .ref (idc 19 i11))] dX4_turnLine_67 rfl rfl (by decide) rfl ?_
        refine x_goto 70 26 dX4_turnLine_70 rfl ?_
        refine x_sub [1, 0, 2] _ rfl ?_
        exact hr8 (u7 + (1 : Int32))
    · refine x_iload_n 73 1 dX4_turnLine_73 rfl ?_
      exact x_iret 74 hZ rfl dX4_turnLine_74
  · refine x_if_ne 5 12 dX4_turnLine_5 rfl (fun c25 => ?_) (fun c25 => ?_)
    · refine x_iconst 8 1 (1 : Int32) dX4_turnLine_8 rfl ?_
      refine x_goto 9 13 dX4_turnLine_9 rfl ?_
      exact hj24 (1 : Int32)
    · refine x_iconst 12 0 (0 : Int32) dX4_turnLine_12 rfl ?_
      exact hj24 (0 : Int32)
def f_X1_line (i0 : Nat) (a1 : Int32) : PT Int32 := bnd (f_X1_serviceAt i0 a1) fun v1 => isK 3 v1 fun i2 => bn0 (f_X4_turnLine i2) fun v4 => rt v4
theorem im_X1_line {g : GP} {l : Launch} (hl : l.stackTraces = false) (i0 : Nat) (a1 : Int32) : Im g l 8 yX1_line cX1_line 2 (some .int) eI [.ref (idc 0 i0), .int a1] (f_X1_line i0 a1) := by
  refine tx_start hl 8 _ _ _ _ (by decide) (Nat.le_of_ble_eq_true rfl) fun Γ Z hΓ hZ => ?_
  subst hΓ
  unfold f_X1_line
  show TX g Γ _ Z _ 0 [(0, .ref (idc 0 i0)), (1, .int a1)] [] _
  refine x_aload_n 0 0 dX1_line_0 rfl ?_
  refine x_iload_n 1 1 dX1_line_1 rfl ?_
  refine x_cVx 2 7 [.int a1] [] ⟨by decide, rfl⟩ rfl cv_X1_286 (im_X1_serviceAt hl i0 a1) (by decide) rfl (Nat.le_of_ble_eq_true rfl) dX1_line_2 fun v1 => x_stR ?_
  refine x_isK fun i2 h3 => ?_
  subst h3
  refine x_cV 5 5 [] [] ⟨by decide, rfl⟩ cv_X1_364 (im_X4_turnLine hl i2) (by decide) rfl (Nat.le_of_ble_eq_true rfl) dX1_line_5 fun v4 => x_stI ?_
  exact x_iret 8 hZ rfl dX1_line_8
def f_X4_isTold (i0 : Nat) (a1 : Nat) : PT Int32 := gR 3 i0 3 fun v1 => isK 10 a1 fun i2 => gI 10 i2 0 fun v4 => isK 14 v1 fun i5 => bn0 (f_J18_get i5 v4) fun v7 => asr (v7 = 0 ∨ v7 = 1) (rt v7)
theorem im_X4_isTold {g : GP} {l : Launch} (hl : l.stackTraces = false) (i0 : Nat) (a1 : Nat) : Im g l 2 yX4_isTold cX4_isTold 2 (some .boolean) eI [.ref (idc 3 i0), .ref a1] (f_X4_isTold i0 a1) := by
  refine tx_start hl 2 _ _ _ _ (by decide) (Nat.le_of_ble_eq_true rfl) fun Γ Z hΓ hZ => ?_
  subst hΓ
  unfold f_X4_isTold
  show TX g Γ _ Z _ 0 [(0, .ref (idc 3 i0)), (1, .ref a1)] [] _
  refine x_aload_n 0 0 dX4_isTold_0 rfl ?_
  refine x_getR 1 fa_X4_22_3 dX4_isTold_1 fun v1 => ?_
  refine x_aload_n 4 1 dX4_isTold_4 rfl ?_
  refine x_isK fun i2 h3 => ?_
  subst h3
  refine x_getI 5 fa_X4_44_10 dX4_isTold_5 fun v4 => ?_
  refine x_isK fun i5 h6 => ?_
  subst h6
  refine x_cV 8 1 [.int v4] [] ⟨by decide, rfl⟩ cv_X4_50 (im_J18_get hl i5 v4) (by decide) rfl (Nat.le_of_ble_eq_true rfl) dX4_isTold_8 fun v7 => x_stI ?_
  exact x_zret 11 hZ rfl dX4_isTold_11
def f_X4_check (i0 : Nat) (a1 : Nat) (a2 : Int32) : PT Int32 := gR 3 i0 6 fun v1 => isK 0 v1 fun i2 => gI 0 i2 16 fun v4 => isK 11 a1 fun i5 => gI 11 i5 6 fun v7 => cnd (v4 ≤ v7) (gI 3 i0 0 fun v9 => bnd (ρ := _) (α := Unit) (cnd (v9 = 0) (gR 3 i0 6 fun v23 => isK 0 v23 fun i24 => gI 0 i24 16 fun v26 => gI 3 i0 2 fun v27 => jo (σ := Unit) (fun _ => gR 3 i0 6 fun v28 => isK 0 v28 fun i29 => gR 0 i29 17 fun v31 => isK 14 v31 fun i32 => bn0 (f_J18_clone i32) fun v34 => isK 14 v34 fun i35 => pR 3 i0 1 (idc 14 i35) <| gR 3 i0 6 fun v37 => isK 0 v37 fun i38 => gI 0 i38 16 fun v40 => pI 3 i0 2 v40 <| rt ()) fun j42 => cnd ((15 : Int32) < (v26 - v27)) (j42 ()) (gR 3 i0 1 fun v44 => gI 11 i5 5 fun v45 => isK 14 v44 fun i46 => bn0 (f_J18_get i46 v45) fun v48 => cnd (v48 = 0) (j42 ()) (rt ()))) (rt ())) (fun _ => gR 3 i0 1 fun v10 => gI 11 i5 5 fun v11 => isK 14 v10 fun i12 => bn0 (f_J18_get i12 v11) fun v14 => cnd (v14 = 0) (rt (3 : Int32)) (gR 11 i5 0 fun v16 => bn0 (f_X4_isTold i0 v16) fun v17 => cnd (v17 = 0) (gI 11 i5 3 fun v19 => cnd (((v19 >>> (a2 &&& 31)) &&& (1 : Int32)) = (1 : Int32)) (rt (0 : Int32)) (rt (5 : Int32))) (rt (4 : Int32))))) (rt (2 : Int32))
theorem im_X4_check {g : GP} {l : Launch} (hl : l.stackTraces = false) (i0 : Nat) (a1 : Nat) (a2 : Int32) : Im g l 4 yX4_check cX4_check 3 (some .int) eI [.ref (idc 3 i0), .ref a1, .int a2] (f_X4_check i0 a1 a2) := by
  refine tx_start hl 4 _ _ _ _ (by decide) (Nat.le_of_ble_eq_true rfl) fun Γ Z hΓ hZ => ?_
  subst hΓ
  unfold f_X4_check
  show TX g Γ _ Z _ 0 [(0, .ref (idc 3 i0)), (1, .ref a1), (2, .int a2)] [] _
  refine x_aload_n 0 0 dX4_check_0 rfl ?_
  refine x_getR 1 fa_X4_3_3 dX4_check_1 fun v1 => ?_
  refine x_isK fun i2 h3 => ?_
  subst h3
  refine x_getI 4 fa_X4_71_0 dX4_check_4 fun v4 => ?_
  refine x_aload_n 7 1 dX4_check_7 rfl ?_
  refine x_isK fun i5 h6 => ?_
  subst h6
  refine x_getI 8 fa_X4_74_11 dX4_check_8 fun v7 => ?_
  refine x_icmp_le 11 16 dX4_check_11 rfl (fun c8 => ?_) (fun c8 => ?_)
  · refine x_aload_n 16 0 dX4_check_16 rfl ?_
    refine x_getI 17 fa_X4_36_3 dX4_check_17 fun v9 => ?_
    refine x_bndj 82 (fun _ => [(0, .ref (idc 3 i0)), (1, .ref (idc 11 i5)), (2, .int a2)]) (fun _ => []) (fun _ => ?_) (fun hj21 => ?_)
    · show TX g Γ _ Z _ 82 [(0, .ref (idc 3 i0)), (1, .ref (idc 11 i5)), (2, .int a2)] [] _
      refine x_aload_n 82 0 dX4_check_82 rfl ?_
      refine x_getR 83 fa_X4_18_3 dX4_check_83 fun v10 => ?_
      refine x_aload_n 86 1 dX4_check_86 rfl ?_
      refine x_getI 87 fa_X4_82_11 dX4_check_87 fun v11 => ?_
      refine x_isK fun i12 h13 => ?_
      subst h13
      refine x_cV 90 1 [.int v11] [] ⟨by decide, rfl⟩ cv_X4_50 (im_J18_get hl i12 v11) (by decide) rfl (Nat.le_of_ble_eq_true rfl) dX4_check_90 fun v14 => x_stI ?_
      refine x_if_ne 93 98 dX4_check_93 rfl (fun c15 => ?_) (fun c15 => ?_)
      · refine x_iconst 96 3 (3 : Int32) dX4_check_96 rfl ?_
        exact x_iret 97 hZ rfl dX4_check_97
      · refine x_aload_n 98 0 dX4_check_98 rfl ?_
        refine x_aload_n 99 1 dX4_check_99 rfl ?_
        refine x_getR 100 fa_X4_91_11 dX4_check_100 fun v16 => ?_
        refine x_cV 103 2 [.ref v16] [] ⟨by decide, rfl⟩ cv_X4_95 (im_X4_isTold hl i0 v16) (by decide) rfl (Nat.le_of_ble_eq_true rfl) dX4_check_103 fun v17 => x_stI ?_
        refine x_if_eq 106 111 dX4_check_106 rfl (fun c18 => ?_) (fun c18 => ?_)
        · refine x_aload_n 111 1 dX4_check_111 rfl ?_
          refine x_getI 112 fa_X4_99_11 dX4_check_112 fun v19 => ?_
          refine x_iload_n 115 2 dX4_check_115 rfl ?_
          refine x_ishr 116 dX4_check_116 ?_
          refine x_iconst 117 1 (1 : Int32) dX4_check_117 rfl ?_
          refine x_iand 118 dX4_check_118 ?_
          refine x_iconst 119 1 (1 : Int32) dX4_check_119 rfl ?_
          refine x_icmp_ne 120 127 dX4_check_120 rfl (fun c20 => ?_) (fun c20 => ?_)
          · refine x_iconst 123 0 (0 : Int32) dX4_check_123 rfl ?_
            refine x_goto 124 128 dX4_check_124 rfl ?_
            exact x_iret 128 hZ rfl dX4_check_128
          · refine x_iconst 127 5 (5 : Int32) dX4_check_127 rfl ?_
            exact x_iret 128 hZ rfl dX4_check_128
        · refine x_iconst 109 4 (4 : Int32) dX4_check_109 rfl ?_
          exact x_iret 110 hZ rfl dX4_check_110
    · refine x_if_ne 20 82 dX4_check_20 rfl (fun c22 => ?_) (fun c22 => ?_)
      · refine x_aload_n 23 0 dX4_check_23 rfl ?_
        refine x_getR 24 fa_X4_3_3 dX4_check_24 fun v23 => ?_
        refine x_isK fun i24 h25 => ?_
        subst h25
        refine x_getI 27 fa_X4_71_0 dX4_check_27 fun v26 => ?_
        refine x_aload_n 30 0 dX4_check_30 rfl ?_
        refine x_getI 31 fa_X4_79_3 dX4_check_31 fun v27 => ?_
        refine x_isub 34 dX4_check_34 ?_
        refine x_bipush 35 15 (15 : Int32) dX4_check_35 rfl ?_
        refine x_jo 54 (Lf := fun _ => [(0, .ref (idc 3 i0)), (1, .ref (idc 11 i5)), (2, .int a2)]) (sf := fun _ => []) (fun _ => ?_) (fun j42 hj41 => ?_)
        · show TX g Γ _ Z _ 54 [(0, .ref (idc 3 i0)), (1, .ref (idc 11 i5)), (2, .int a2)] [] _
          refine x_aload_n 54 0 dX4_check_54 rfl ?_
          refine x_aload_n 55 0 dX4_check_55 rfl ?_
          refine x_getR 56 fa_X4_3_3 dX4_check_56 fun v28 => ?_
          refine x_isK fun i29 h30 => ?_
          subst h30
          refine x_getR 59 fa_X4_85_0 dX4_check_59 fun v31 => ?_
          refine x_isK fun i32 h33 => ?_
          subst h33
          refine x_cVW 62 3 [] [.ref (idc 3 i0)] ⟨by decide, rfl⟩ cv_X4_88 (im_J18_clone hl i32) (by decide) rfl (Nat.le_of_ble_eq_true rfl) dX4_check_62 fun v34 => x_stR ?_
          refine x_isK fun i35 h36 => ?_
          subst h36
          refine x_castS 65 (by decide) q652 dX4_check_65 ?_
          refine x_putR 68 fa_X4_18_3 rfl (Or.inl rfl) dX4_check_68 ?_
          refine x_aload_n 71 0 dX4_check_71 rfl ?_
          refine x_aload_n 72 0 dX4_check_72 rfl ?_
          refine x_getR 73 fa_X4_3_3 dX4_check_73 fun v37 => ?_
          refine x_isK fun i38 h39 => ?_
          subst h39
          refine x_getI 76 fa_X4_71_0 dX4_check_76 fun v40 => ?_
          refine x_putI 79 fa_X4_79_3 rfl (Or.inl rfl) dX4_check_79 ?_
          exact hj21 ()
        · refine x_icmp_gt 37 54 dX4_check_37 rfl (fun c43 => ?_) (fun c43 => ?_)
          · exact hj41 ()
          · refine x_aload_n 40 0 dX4_check_40 rfl ?_
            refine x_getR 41 fa_X4_18_3 dX4_check_41 fun v44 => ?_
            refine x_aload_n 44 1 dX4_check_44 rfl ?_
            refine x_getI 45 fa_X4_82_11 dX4_check_45 fun v45 => ?_
            refine x_isK fun i46 h47 => ?_
            subst h47
            refine x_cV 48 1 [.int v45] [] ⟨by decide, rfl⟩ cv_X4_50 (im_J18_get hl i46 v45) (by decide) rfl (Nat.le_of_ble_eq_true rfl) dX4_check_48 fun v48 => x_stI ?_
            refine x_if_ne 51 82 dX4_check_51 rfl (fun c49 => ?_) (fun c49 => ?_)
            · exact hj41 ()
            · exact hj21 ()
      · exact hj21 ()
  · refine x_iconst 14 2 (2 : Int32) dX4_check_14 rfl ?_
    exact x_iret 15 hZ rfl dX4_check_15
def f_X1_check (i0 : Nat) (a1 : Int32) (a2 : Int32) (a3 : Int32) : PT Int32 := bnd (f_X1_serviceAt i0 a1) fun v1 => gR 0 i0 7 fun v2 => bnd (f_X1_at v2 a2) fun v3 => isK 11 v3 fun i4 => bnd (f_X1_fit a3 (0 : Int32) (3 : Int32)) fun _ => gI 11 i4 2 fun v7 => cnd (v7 = a1) (isK 3 v1 fun i9 => bn0 (f_X4_check i9 (idc 11 i4) a3) fun v11 => rt v11) (rt (1 : Int32))
theorem im_X1_check {g : GP} {l : Launch} (hl : l.stackTraces = false) (i0 : Nat) (a1 : Int32) (a2 : Int32) (a3 : Int32) : Im g l 8 yX1_check cX1_check 6 (some .int) eI [.ref (idc 0 i0), .int a1, .int a2, .int a3] (f_X1_check i0 a1 a2 a3) := by
  refine tx_start hl 8 _ _ _ _ (by decide) (Nat.le_of_ble_eq_true rfl) fun Γ Z hΓ hZ => ?_
  subst hΓ
  unfold f_X1_check
  show TX g Γ _ Z _ 0 [(0, .ref (idc 0 i0)), (1, .int a1), (2, .int a2), (3, .int a3)] [] _
  refine x_aload_n 0 0 dX1_check_0 rfl ?_
  refine x_iload_n 1 1 dX1_check_1 rfl ?_
  refine x_cVx 2 7 [.int a1] [] ⟨by decide, rfl⟩ rfl cv_X1_286 (im_X1_serviceAt hl i0 a1) (by decide) rfl (Nat.le_of_ble_eq_true rfl) dX1_check_2 fun v1 => x_stR ?_
  refine x_astore 5 [(4, .ref v1), (0, .ref (idc 0 i0)), (1, .int a1), (2, .int a2), (3, .int a3)] dX1_check_5 (by decide) rfl ?_
  refine x_aload_n 7 1 dX1_check_7 rfl ?_
  refine x_getR 8 fa_X1_96_0 dX1_check_8 fun v2 => ?_
  refine x_iload_n 11 3 dX1_check_11 rfl ?_
  refine x_cSx 12 7 [.ref v2, .int a2] [] rfl cs_X1_214 (im_X1_at hl v2 a2) (by decide) rfl (Nat.le_of_ble_eq_true rfl) dX1_check_12 fun v3 => x_stR ?_
  refine x_isK fun i4 h5 => ?_
  subst h5
  refine x_castS 15 (by decide) q2029 dX1_check_15 ?_
  refine x_astore 18 [(5, .ref (idc 11 i4)), (4, .ref v1), (0, .ref (idc 0 i0)), (1, .int a1), (2, .int a2), (3, .int a3)] dX1_check_18 (by decide) rfl ?_
  refine x_iload_n 20 5 dX1_check_20 rfl ?_
  refine x_iconst 21 0 (0 : Int32) dX1_check_21 rfl ?_
  refine x_iconst 22 3 (3 : Int32) dX1_check_22 rfl ?_
  refine x_cSx 23 6 [.int a3, .int (0 : Int32), .int (3 : Int32)] [] rfl cs_X1_149 (im_X1_fit hl a3 (0 : Int32) (3 : Int32)) (by decide) rfl (Nat.le_of_ble_eq_true rfl) dX1_check_23 fun v6 => x_stV ?_
  refine x_aload 26 0 dX1_check_26 rfl ?_
  refine x_getI 28 fa_X1_351_11 dX1_check_28 fun v7 => ?_
  refine x_iload_n 31 3 dX1_check_31 rfl ?_
  refine x_icmp_ne 32 46 dX1_check_32 rfl (fun c8 => ?_) (fun c8 => ?_)
  · refine x_aload 35 1 dX1_check_35 rfl ?_
    refine x_aload 37 0 dX1_check_37 rfl ?_
    refine x_iload_n 39 5 dX1_check_39 rfl ?_
    refine x_isK fun i9 h10 => ?_
    subst h10
    refine x_cV 40 4 [.ref (idc 11 i4), .int a3] [] ⟨by decide, rfl⟩ cv_X1_367 (im_X4_check hl i9 (idc 11 i4) a3) (by decide) rfl (Nat.le_of_ble_eq_true rfl) dX1_check_40 fun v11 => x_stI ?_
    refine x_goto 43 47 dX1_check_43 rfl ?_
    exact x_iret 47 hZ rfl dX1_check_47
  · refine x_iconst 46 1 (1 : Int32) dX1_check_46 rfl ?_
    exact x_iret 47 hZ rfl dX1_check_47
def f_X1_lag (i0 : Nat) (a1 : Int32) : PT Int32 := gR 0 i0 7 fun v1 => bnd (f_X1_at v1 a1) fun v2 => isK 11 v2 fun i3 => gR 11 i3 0 fun v5 => isK 10 v5 fun i6 => gI 10 i6 5 fun v8 => bnd (ρ := _) (α := Int32) (jo (σ := Unit) (fun _ => rt (1 : Int32)) fun j15 => cnd (v8 = 0) (gR 0 i0 9 fun v17 => gI 11 i3 2 fun v18 => isK 37 v17 fun i19 => aR 37 i19 v18 fun v21 => gR 11 i3 0 fun v22 => isK 3 v21 fun i23 => bn0 (f_X4_isTold i23 v22) fun v25 => cnd (v25 = 0) (rt (0 : Int32)) (j15 ())) (j15 ())) (fun u9 => cnd (u9 = 0) (gI 11 i3 6 fun v11 => gI 0 i0 16 fun v12 => rt (mxI (0 : Int32) ((v11 - v12) + (1 : Int32)))) (rt (0 : Int32)))
theorem im_X1_lag {g : GP} {l : Launch} (hl : l.stackTraces = false) (i0 : Nat) (a1 : Int32) : Im g l 8 yX1_lag cX1_lag 4 (some .int) eI [.ref (idc 0 i0), .int a1] (f_X1_lag i0 a1) := by
  refine tx_start hl 8 _ _ _ _ (by decide) (Nat.le_of_ble_eq_true rfl) fun Γ Z hΓ hZ => ?_
  subst hΓ
  unfold f_X1_lag
  show TX g Γ _ Z _ 0 [(0, .ref (idc 0 i0)), (1, .int a1)] [] _
  refine x_aload_n 0 0 dX1_lag_0 rfl ?_
  refine x_getR 1 fa_X1_96_0 dX1_lag_1 fun v1 => ?_
  refine x_iload_n 4 1 dX1_lag_4 rfl ?_
  refine x_cSx 5 7 [.ref v1, .int a1] [] rfl cs_X1_214 (im_X1_at hl v1 a1) (by decide) rfl (Nat.le_of_ble_eq_true rfl) dX1_lag_5 fun v2 => x_stR ?_
  refine x_isK fun i3 h4 => ?_
  subst h4
  refine x_castS 8 (by decide) q2029 dX1_lag_8 ?_
  refine x_astore_n 11 [(2, .ref (idc 11 i3)), (0, .ref (idc 0 i0)), (1, .int a1)] dX1_lag_11 (by decide) rfl ?_
  refine x_aload_n 12 0 dX1_lag_12 rfl ?_
  refine x_getR 13 fa_X1_347_11 dX1_lag_13 fun v5 => ?_
  refine x_isK fun i6 h7 => ?_
  subst h7
  refine x_getI 16 fa_X1_331_10 dX1_lag_16 fun v8 => ?_
  refine x_bndj 46 (fun u9 => [(0, .ref (idc 0 i0)), (2, .ref (idc 11 i3))]) (fun u9 => [.int u9]) (fun u9 => ?_) (fun hj13 => ?_)
  · show TX g Γ _ Z _ 46 [(0, .ref (idc 0 i0)), (2, .ref (idc 11 i3))] [.int u9] _
    refine x_istore_n 46 [(3, .int u9), (0, .ref (idc 0 i0)), (2, .ref (idc 11 i3))] dX1_lag_46 (by decide) rfl ?_
    refine x_iload_n 47 0 dX1_lag_47 rfl ?_
    refine x_if_eq 48 55 dX1_lag_48 rfl (fun c10 => ?_) (fun c10 => ?_)
    · refine x_iconst 55 0 (0 : Int32) dX1_lag_55 rfl ?_
      refine x_aload_n 56 2 dX1_lag_56 rfl ?_
      refine x_getI 57 fa_X1_345_11 dX1_lag_57 fun v11 => ?_
      refine x_aload_n 60 1 dX1_lag_60 rfl ?_
      refine x_getI 61 fa_X1_44_0 dX1_lag_61 fun v12 => ?_
      refine x_isub 64 dX1_lag_64 ?_
      refine x_iconst 65 1 (1 : Int32) dX1_lag_65 rfl ?_
      refine x_iadd 66 dX1_lag_66 ?_
      refine x_mmax 67 q2260 q254 q85 q255 (by decide) (Nat.le_of_ble_eq_true rfl) dX1_lag_67 ?_
      exact x_iret 70 hZ rfl dX1_lag_70
    · refine x_iconst 51 0 (0 : Int32) dX1_lag_51 rfl ?_
      refine x_goto 52 70 dX1_lag_52 rfl ?_
      exact x_iret 70 hZ rfl dX1_lag_70
  · refine x_jo 41 (Lf := fun _ => [(0, .ref (idc 0 i0)), (2, .ref (idc 11 i3))]) (sf := fun _ => []) (fun _ => ?_) (fun j15 hj14 => ?_)
    · show TX g Γ _ Z _ 41 [(0, .ref (idc 0 i0)), (2, .ref (idc 11 i3))] [] _
      refine x_iconst 41 1 (1 : Int32) dX1_lag_41 rfl ?_
      refine x_goto 42 46 dX1_lag_42 rfl ?_
      exact hj13 (1 : Int32)
    · refine x_if_ne 19 41 dX1_lag_19 rfl (fun c16 => ?_) (fun c16 => ?_)
      · refine x_aload_n 22 1 dX1_lag_22 rfl ?_
        refine x_getR 23 fa_X1_104_0 dX1_lag_23 fun v17 => ?_
        refine x_aload_n 26 0 dX1_lag_26 rfl ?_
        refine x_getI 27 fa_X1_351_11 dX1_lag_27 fun v18 => ?_
        refine x_isK fun i19 h20 => ?_
        subst h20
        refine x_aald 30 (by decide) dX1_lag_30 fun v21 => ?_
        refine x_aload_n 31 0 dX1_lag_31 rfl ?_
        refine x_getR 32 fa_X1_347_11 dX1_lag_32 fun v22 => ?_
        refine x_isK fun i23 h24 => ?_
        subst h24
        refine x_cV 35 2 [.ref v22] [] ⟨by decide, rfl⟩ cv_X1_371 (im_X4_isTold hl i23 v22) (by decide) rfl (Nat.le_of_ble_eq_true rfl) dX1_lag_35 fun v25 => x_stI ?_
        refine x_if_eq 38 45 dX1_lag_38 rfl (fun c26 => ?_) (fun c26 => ?_)
        · refine x_iconst 45 0 (0 : Int32) dX1_lag_45 rfl ?_
          refine x_sub [1, 0] _ rfl ?_
          exact hj13 (0 : Int32)
        · refine x_sub [1, 0] _ rfl ?_
          exact hj14 ()
      · refine x_sub [1, 0] _ rfl ?_
        exact hj14 ()
def f_X13_init (i0 : Nat) (a1 : Nat) (a2 : Nat) : PT Unit := pR 12 i0 5 a1 <| gR 12 i0 5 fun v1 => isK 0 v1 fun i2 => gI 0 i2 16 fun v4 => pI 12 i0 1 v4 <| pZ 12 i0 2 (1 : Int32) <| nw 14 3 fun i5 => bn0 (f_J18_init i5) fun _ => pR 12 i0 3 (idc 14 i5) <| pR 12 i0 0 a2 <| rt ()
theorem im_X13_init {g : GP} {l : Launch} (hl : l.stackTraces = false) (i0 : Nat) (a1 : Nat) (a2 : Nat) : Im g l 3 yX13_init cX13_init 3 none eV [.ref (idc 12 i0), .ref a1, .ref a2] (f_X13_init i0 a1 a2) := by
  refine tx_start hl 3 _ _ _ _ (by decide) (Nat.le_of_ble_eq_true rfl) fun Γ Z hΓ hZ => ?_
  subst hΓ
  unfold f_X13_init
  show TX g Γ _ Z _ 0 [(0, .ref (idc 12 i0)), (1, .ref a1), (2, .ref a2)] [] _
  refine x_aload_n 0 0 dX13_init_0 rfl ?_
  refine x_aload_n 1 1 dX13_init_1 rfl ?_
  refine x_putR 2 fa_X13_3_12 rfl (Or.inr ⟨rfl, rfl, rfl⟩) dX13_init_2 ?_
  refine x_aload_n 5 0 dX13_init_5 rfl ?_
  refine x_objI 6 (by decide) q2277 q128 q129 dX13_init_6 (Nat.le_of_ble_eq_true rfl) (by decide) ?_
  refine x_aload_n 9 0 dX13_init_9 rfl ?_
  refine x_aload_n 10 0 dX13_init_10 rfl ?_
  refine x_getR 11 fa_X13_3_12 dX13_init_11 fun v1 => ?_
  refine x_isK fun i2 h3 => ?_
  subst h3
  refine x_getI 14 fa_X13_15_0 dX13_init_14 fun v4 => ?_
  refine x_putI 17 fa_X13_19_12 rfl (Or.inr ⟨rfl, rfl, rfl⟩) dX13_init_17 ?_
  refine x_aload_n 20 0 dX13_init_20 rfl ?_
  refine x_iconst 21 1 (1 : Int32) dX13_init_21 rfl ?_
  refine x_putZ 22 fa_X13_22_12 rfl (Or.inl rfl) dX13_init_22 ?_
  refine x_aload_n 25 0 dX13_init_25 rfl ?_
  refine x_new 26 na_X13_26 dX13_init_26 fun i5 => ?_
  refine x_dup 29 dX13_init_29 rfl ?_
  refine x_cI 30 2 [] [.ref (idc 14 i5), .ref (idc 12 i0)] (by decide) cn_X13_28 (im_J18_init hl i5) (by decide) rfl (Nat.le_of_ble_eq_true rfl) dX13_init_30 fun v6 => x_stV ?_
  refine x_putR 33 fa_X13_29_12 rfl (Or.inr ⟨rfl, rfl, rfl⟩) dX13_init_33 ?_
  refine x_aload_n 36 0 dX13_init_36 rfl ?_
  refine x_aload_n 37 2 dX13_init_37 rfl ?_
  refine x_putR 38 fa_X13_33_12 rfl (Or.inr ⟨rfl, rfl, rfl⟩) dX13_init_38 ?_
  exact x_vret 41 hZ rfl dX13_init_41
def f_X1_hasOpen (i0 : Nat) (a1 : Nat) : PT Int32 := lp (σ := Int32 × Int32) (fun r3 => un2 fun u1 u2 => gR 0 i0 8 fun v4 => isK 13 v4 fun i5 => bn0 (f_J2_size i5) fun v7 => cnd (v7 ≤ u2) (asr (u1 = 0 ∨ u1 = 1) (rt u1)) (gR 0 i0 8 fun v9 => isK 13 v9 fun i10 => bn0 (f_J2_get i10 u2) fun v12 => isK 12 v12 fun i13 => gI 12 i13 2 fun v15 => jo (σ := Int32) (fun u16 => r3 (u1 ||| (0 : Int32), u16 + (1 : Int32))) fun j18 => cnd (v15 = 0) (j18 u2) (gR 0 i0 8 fun v20 => isK 13 v20 fun i21 => bn0 (f_J2_get i21 u2) fun v23 => isK 12 v23 fun i24 => gR 12 i24 0 fun v26 => asr (cmpN v26 ∧ cmpN a1) <| cnd (v26 = a1) (r3 (u1 ||| (1 : Int32), u2 + (1 : Int32))) (j18 u2)))) ((0 : Int32), (0 : Int32))
theorem im_X1_hasOpen {g : GP} {l : Launch} (hl : l.stackTraces = false) (i0 : Nat) (a1 : Nat) : Im g l 3 yX1_hasOpen cX1_hasOpen 4 (some .boolean) eI [.ref (idc 0 i0), .ref a1] (f_X1_hasOpen i0 a1) := by
  refine tx_start hl 3 _ _ _ _ (by decide) (Nat.le_of_ble_eq_true rfl) fun Γ Z hΓ hZ => ?_
  subst hΓ
  unfold f_X1_hasOpen
  show TX g Γ _ Z _ 0 [(0, .ref (idc 0 i0)), (1, .ref a1)] [] _
  refine x_iconst 0 0 (0 : Int32) dX1_hasOpen_0 rfl ?_
  refine x_istore_n 1 [(2, .int (0 : Int32)), (0, .ref (idc 0 i0)), (1, .ref a1)] dX1_hasOpen_1 (by decide) rfl ?_
  refine x_iconst 2 0 (0 : Int32) dX1_hasOpen_2 rfl ?_
  refine x_istore_n 3 [(3, .int (0 : Int32)), (2, .int (0 : Int32)), (0, .ref (idc 0 i0)), (1, .ref a1)] dX1_hasOpen_3 (by decide) rfl ?_
  refine x_sub [2, 3, 1, 0] [(0, .ref (idc 0 i0)), (1, .ref a1), (2, .int (0 : Int32)), (3, .int (0 : Int32))] rfl ?_
  refine x_lp (Lf := fun u => [(0, .ref (idc 0 i0)), (1, .ref a1), (2, .int u.1), (3, .int u.2)]) (sf := fun _ => []) (fun r3 hr3 u => ?_) ((0 : Int32), (0 : Int32))
  obtain ⟨u1, u2⟩ := u
  show TX g Γ _ Z _ 4 [(0, .ref (idc 0 i0)), (1, .ref a1), (2, .int u1), (3, .int u2)] [] _
  refine x_un2 ?_
  refine x_iload_n 4 3 dX1_hasOpen_4 rfl ?_
  refine x_aload_n 5 0 dX1_hasOpen_5 rfl ?_
  refine x_getR 6 fa_X1_99_0 dX1_hasOpen_6 fun v4 => ?_
  refine x_isK fun i5 h6 => ?_
  subst h6
  refine x_cF 9 0 [] [.int u2] (by decide) cf_X1_9_13 (im_J2_size hl i5) (by decide) rfl (Nat.le_of_ble_eq_true rfl) dX1_hasOpen_9 fun v7 => x_stI ?_
  refine x_icmp_ge 14 70 dX1_hasOpen_14 rfl (fun c8 => ?_) (fun c8 => ?_)
  · refine x_iload_n 70 2 dX1_hasOpen_70 rfl ?_
    exact x_zret 71 hZ rfl dX1_hasOpen_71
  · refine x_iload_n 17 2 dX1_hasOpen_17 rfl ?_
    refine x_aload_n 18 0 dX1_hasOpen_18 rfl ?_
    refine x_getR 19 fa_X1_99_0 dX1_hasOpen_19 fun v9 => ?_
    refine x_iload_n 22 3 dX1_hasOpen_22 rfl ?_
    refine x_isK fun i10 h11 => ?_
    subst h11
    refine x_cF 23 2 [.int u2] [.int u1] (by decide) cf_X1_31_13 (im_J2_get hl i10 u2) (by decide) rfl (Nat.le_of_ble_eq_true rfl) dX1_hasOpen_23 fun v12 => x_stR ?_
    refine x_isK fun i13 h14 => ?_
    subst h14
    refine x_castS 28 (by decide) q2272 dX1_hasOpen_28 ?_
    refine x_getI 31 fa_X1_383_12 dX1_hasOpen_31 fun v15 => ?_
    refine x_jo 61 (Lf := fun u16 => [(0, .ref (idc 0 i0)), (1, .ref a1), (3, .int u16)]) (sf := fun u16 => [.int u1]) (fun u16 => ?_) (fun j18 hj17 => ?_)
    · show TX g Γ _ Z _ 61 [(0, .ref (idc 0 i0)), (1, .ref a1), (3, .int u16)] [.int u1] _
      refine x_iconst 61 0 (0 : Int32) dX1_hasOpen_61 rfl ?_
      refine x_ior 62 dX1_hasOpen_62 ?_
      refine x_istore_n 63 [(2, .int (u1 ||| (0 : Int32))), (0, .ref (idc 0 i0)), (1, .ref a1), (3, .int u16)] dX1_hasOpen_63 (by decide) rfl ?_
      refine x_iinc 64 3 [(3, .int (u16 + (1 : Int32))), (2, .int (u1 ||| (0 : Int32))), (0, .ref (idc 0 i0)), (1, .ref a1)] dX1_hasOpen_64 rfl rfl (by decide) rfl ?_
      refine x_goto 67 4 dX1_hasOpen_67 rfl ?_
      refine x_sub [2, 3, 1, 0] _ rfl ?_
      exact hr3 (u1 ||| (0 : Int32), u16 + (1 : Int32))
    · refine x_if_eq 34 61 dX1_hasOpen_34 rfl (fun c19 => ?_) (fun c19 => ?_)
      · refine x_sub [0, 1, 3] _ rfl ?_
        exact hj17 u2
      · refine x_aload_n 37 0 dX1_hasOpen_37 rfl ?_
        refine x_getR 38 fa_X1_99_0 dX1_hasOpen_38 fun v20 => ?_
        refine x_iload_n 41 3 dX1_hasOpen_41 rfl ?_
        refine x_isK fun i21 h22 => ?_
        subst h22
        refine x_cF 42 2 [.int u2] [.int u1] (by decide) cf_X1_31_13 (im_J2_get hl i21 u2) (by decide) rfl (Nat.le_of_ble_eq_true rfl) dX1_hasOpen_42 fun v23 => x_stR ?_
        refine x_isK fun i24 h25 => ?_
        subst h25
        refine x_castS 47 (by decide) q2272 dX1_hasOpen_47 ?_
        refine x_getR 50 fa_X1_386_12 dX1_hasOpen_50 fun v26 => ?_
        refine x_aload_n 53 1 dX1_hasOpen_53 rfl ?_
        refine x_acmp_ne 54 61 dX1_hasOpen_54 rfl (fun c27 => ?_) (fun c27 => ?_)
        · refine x_iconst 57 1 (1 : Int32) dX1_hasOpen_57 rfl ?_
          refine x_goto 58 62 dX1_hasOpen_58 rfl ?_
          refine x_ior 62 dX1_hasOpen_62 ?_
          refine x_istore_n 63 [(2, .int (u1 ||| (1 : Int32))), (0, .ref (idc 0 i0)), (1, .ref a1), (3, .int u2)] dX1_hasOpen_63 (by decide) rfl ?_
          refine x_iinc 64 3 [(3, .int (u2 + (1 : Int32))), (2, .int (u1 ||| (1 : Int32))), (0, .ref (idc 0 i0)), (1, .ref a1)] dX1_hasOpen_64 rfl rfl (by decide) rfl ?_
          refine x_goto 67 4 dX1_hasOpen_67 rfl ?_
          refine x_sub [2, 3, 1, 0] _ rfl ?_
          exact hr3 (u1 ||| (1 : Int32), u2 + (1 : Int32))
        · refine x_sub [0, 1, 3] _ rfl ?_
          exact hj17 u2
def f_X1_recover (i0 : Nat) (a1 : Int32) : PT Int32 := bnd (f_X1_personAt i0 a1) fun v1 => isK 2 v1 fun i2 => gI 2 i2 4 fun v4 => bnd (ρ := _) (α := Int32) (jo (σ := Unit) (fun _ => rt (0 : Int32)) fun j19 => cnd (v4 = 0) (bn0 (f_X1_hasOpen i0 (idc 2 i2)) fun v21 => cnd (v21 = 0) (gR 0 i0 8 fun v23 => isK 13 v23 fun i24 => bn0 (f_J2_size i24) fun v26 => cnd ((20 : Int32) ≤ v26) (j19 ()) (rt (1 : Int32))) (j19 ())) (j19 ())) (fun u5 => bnd (f_X1_can u5) fun _ => gR 0 i0 8 fun v7 => nw 12 6 fun i8 => bn0 (f_X13_init i8 (idc 0 i0) (idc 2 i2)) fun _ => isK 13 v7 fun i10 => bn0 (f_J2_add i10 (idc 12 i8)) fun v12 => gR 0 i0 8 fun v13 => isK 13 v13 fun i14 => bn0 (f_J2_size i14) fun v16 => rt (v16 - (1 : Int32)))
theorem im_X1_recover {g : GP} {l : Launch} (hl : l.stackTraces = false) (i0 : Nat) (a1 : Int32) : Im g l 8 yX1_recover cX1_recover 3 (some .int) eI [.ref (idc 0 i0), .int a1] (f_X1_recover i0 a1) := by
  refine tx_start hl 8 _ _ _ _ (by decide) (Nat.le_of_ble_eq_true rfl) fun Γ Z hΓ hZ => ?_
  subst hΓ
  unfold f_X1_recover
  show TX g Γ _ Z _ 0 [(0, .ref (idc 0 i0)), (1, .int a1)] [] _
  refine x_aload_n 0 0 dX1_recover_0 rfl ?_
  refine x_iload_n 1 1 dX1_recover_1 rfl ?_
  refine x_cVx 2 7 [.int a1] [] ⟨by decide, rfl⟩ rfl cv_X1_187 (im_X1_personAt hl i0 a1) (by decide) rfl (Nat.le_of_ble_eq_true rfl) dX1_recover_2 fun v1 => x_stR ?_
  refine x_astore_n 5 [(2, .ref v1), (0, .ref (idc 0 i0)), (1, .int a1)] dX1_recover_5 (by decide) rfl ?_
  refine x_aload_n 6 0 dX1_recover_6 rfl ?_
  refine x_isK fun i2 h3 => ?_
  subst h3
  refine x_getI 7 fa_X1_224_2 dX1_recover_7 fun v4 => ?_
  refine x_bndj 40 (fun u5 => [(0, .ref (idc 0 i0)), (2, .ref (idc 2 i2))]) (fun u5 => [.int u5]) (fun u5 => ?_) (fun hj17 => ?_)
  · show TX g Γ _ Z _ 40 [(0, .ref (idc 0 i0)), (2, .ref (idc 2 i2))] [.int u5] _
    refine x_cSx 40 6 [.int u5] [] rfl cs_X1_176 (im_X1_can hl u5) (by decide) rfl (Nat.le_of_ble_eq_true rfl) dX1_recover_40 fun v6 => x_stV ?_
    refine x_aload_n 43 0 dX1_recover_43 rfl ?_
    refine x_getR 44 fa_X1_99_0 dX1_recover_44 fun v7 => ?_
    refine x_new 47 na_X1_381 dX1_recover_47 fun i8 => ?_
    refine x_dup 50 dX1_recover_50 rfl ?_
    refine x_aload_n 51 0 dX1_recover_51 rfl ?_
    refine x_aload_n 52 1 dX1_recover_52 rfl ?_
    refine x_cI 53 3 [.ref (idc 0 i0), .ref (idc 2 i2)] [.ref (idc 12 i8), .ref v7] (by decide) cn_X1_391 (im_X13_init hl i8 (idc 0 i0) (idc 2 i2)) (by decide) rfl (Nat.le_of_ble_eq_true rfl) dX1_recover_53 fun v9 => x_stV ?_
    refine x_isK fun i10 h11 => ?_
    subst h11
    refine x_cF 56 6 [.ref (idc 12 i8)] [] (by decide) cf_X1_19_13 (im_J2_add hl i10 (idc 12 i8)) (by decide) rfl (Nat.le_of_ble_eq_true rfl) dX1_recover_56 fun v12 => x_stI ?_
    refine x_pop 61 dX1_recover_61 rfl ?_
    refine x_aload_n 62 0 dX1_recover_62 rfl ?_
    refine x_getR 63 fa_X1_99_0 dX1_recover_63 fun v13 => ?_
    refine x_isK fun i14 h15 => ?_
    subst h15
    refine x_cF 66 0 [] [] (by decide) cf_X1_9_13 (im_J2_size hl i14) (by decide) rfl (Nat.le_of_ble_eq_true rfl) dX1_recover_66 fun v16 => x_stI ?_
    refine x_iconst 71 1 (1 : Int32) dX1_recover_71 rfl ?_
    refine x_isub 72 dX1_recover_72 ?_
    exact x_iret 73 hZ rfl dX1_recover_73
  · refine x_jo 39 (Lf := fun _ => [(0, .ref (idc 0 i0)), (2, .ref (idc 2 i2))]) (sf := fun _ => []) (fun _ => ?_) (fun j19 hj18 => ?_)
    · show TX g Γ _ Z _ 39 [(0, .ref (idc 0 i0)), (2, .ref (idc 2 i2))] [] _
      refine x_iconst 39 0 (0 : Int32) dX1_recover_39 rfl ?_
      exact hj17 (0 : Int32)
    · refine x_if_ne 10 39 dX1_recover_10 rfl (fun c20 => ?_) (fun c20 => ?_)
      · refine x_aload_n 13 1 dX1_recover_13 rfl ?_
        refine x_aload_n 14 0 dX1_recover_14 rfl ?_
        refine x_cV 15 3 [.ref (idc 2 i2)] [] ⟨by decide, rfl⟩ cv_X1_387 (im_X1_hasOpen hl i0 (idc 2 i2)) (by decide) rfl (Nat.le_of_ble_eq_true rfl) dX1_recover_15 fun v21 => x_stI ?_
        refine x_if_ne 18 39 dX1_recover_18 rfl (fun c22 => ?_) (fun c22 => ?_)
        · refine x_aload_n 21 1 dX1_recover_21 rfl ?_
          refine x_getR 22 fa_X1_99_0 dX1_recover_22 fun v23 => ?_
          refine x_isK fun i24 h25 => ?_
          subst h25
          refine x_cF 25 0 [] [] (by decide) cf_X1_9_13 (im_J2_size hl i24) (by decide) rfl (Nat.le_of_ble_eq_true rfl) dX1_recover_25 fun v26 => x_stI ?_
          refine x_bipush 30 20 (20 : Int32) dX1_recover_30 rfl ?_
          refine x_icmp_ge 32 39 dX1_recover_32 rfl (fun c27 => ?_) (fun c27 => ?_)
          · refine x_sub [1, 0] _ rfl ?_
            exact hj18 ()
          · refine x_iconst 35 1 (1 : Int32) dX1_recover_35 rfl ?_
            refine x_goto 36 40 dX1_recover_36 rfl ?_
            refine x_sub [1, 0] _ rfl ?_
            exact hj17 (1 : Int32)
        · refine x_sub [1, 0] _ rfl ?_
          exact hj18 ()
      · refine x_sub [1, 0] _ rfl ?_
        exact hj18 ()
def f_X13_vouch (i0 : Nat) (a1 : Nat) : PT Int32 := gR 12 i0 3 fun v1 => isK 8 a1 fun i2 => gR 8 i2 1 fun v4 => isK 2 v4 fun i5 => gI 2 i5 0 fun v7 => isK 14 v1 fun i8 => bn0 (f_J18_set i8 v7) fun _ => gI 12 i0 4 fun v11 => bn0 (f_X9_level i2) fun v12 => pI 12 i0 4 (v11 + v12) <| gI 12 i0 4 fun v13 => rt v13
theorem im_X13_vouch {g : GP} {l : Launch} (hl : l.stackTraces = false) (i0 : Nat) (a1 : Nat) : Im g l 5 yX13_vouch cX13_vouch 2 (some .int) eI [.ref (idc 12 i0), .ref a1] (f_X13_vouch i0 a1) := by
  refine tx_start hl 5 _ _ _ _ (by decide) (Nat.le_of_ble_eq_true rfl) fun Γ Z hΓ hZ => ?_
  subst hΓ
  unfold f_X13_vouch
  show TX g Γ _ Z _ 0 [(0, .ref (idc 12 i0)), (1, .ref a1)] [] _
  refine x_aload_n 0 0 dX13_vouch_0 rfl ?_
  refine x_getR 1 fa_X13_29_12 dX13_vouch_1 fun v1 => ?_
  refine x_aload_n 4 1 dX13_vouch_4 rfl ?_
  refine x_isK fun i2 h3 => ?_
  subst h3
  refine x_getR 5 fa_X13_46_8 dX13_vouch_5 fun v4 => ?_
  refine x_isK fun i5 h6 => ?_
  subst h6
  refine x_getI 8 fa_X13_51_2 dX13_vouch_8 fun v7 => ?_
  refine x_isK fun i8 h9 => ?_
  subst h9
  refine x_cV 11 4 [.int v7] [] ⟨by decide, rfl⟩ cv_X13_60 (im_J18_set hl i8 v7) (by decide) rfl (Nat.le_of_ble_eq_true rfl) dX13_vouch_11 fun v10 => x_stV ?_
  refine x_aload_n 14 0 dX13_vouch_14 rfl ?_
  refine x_dup 15 dX13_vouch_15 rfl ?_
  refine x_getI 16 fa_X13_64_12 dX13_vouch_16 fun v11 => ?_
  refine x_aload_n 19 1 dX13_vouch_19 rfl ?_
  refine x_cV 20 1 [] [.int v11, .ref (idc 12 i0)] ⟨by decide, rfl⟩ cv_X13_47 (im_X9_level hl i2) (by decide) rfl (Nat.le_of_ble_eq_true rfl) dX13_vouch_20 fun v12 => x_stI ?_
  refine x_iadd 23 dX13_vouch_23 ?_
  refine x_putI 24 fa_X13_64_12 rfl (Or.inl rfl) dX13_vouch_24 ?_
  refine x_aload_n 27 0 dX13_vouch_27 rfl ?_
  refine x_getI 28 fa_X13_64_12 dX13_vouch_28 fun v13 => ?_
  exact x_iret 31 hZ rfl dX13_vouch_31
def f_X13_isVouchedBy (i0 : Nat) (a1 : Nat) : PT Int32 := isK 8 a1 fun i1 => gI 8 i1 5 fun v3 => bnd (ρ := _) (α := Int32) (jo (σ := Unit) (fun _ => rt (0 : Int32)) fun j17 => cnd (v3 = 0) (j17 ()) (gR 8 i1 2 fun v19 => cnd (v19 = nul) (gR 8 i1 1 fun v21 => gR 12 i0 0 fun v22 => asr (cmpN v21 ∧ cmpN v22) <| cnd (v21 = v22) (j17 ()) (bn0 (f_X9_level i1) fun v24 => cnd (v24 < (3 : Int32)) (j17 ()) (rt (1 : Int32)))) (j17 ()))) (fun u4 => cnd (u4 = 0) (asr ((0 : Int32) = 0 ∨ (0 : Int32) = 1) (rt (0 : Int32))) (gR 12 i0 3 fun v6 => gR 8 i1 1 fun v7 => isK 2 v7 fun i8 => gI 2 i8 0 fun v10 => isK 14 v6 fun i11 => bn0 (f_J18_get i11 v10) fun v13 => cnd (v13 = 0) (asr ((1 : Int32) = 0 ∨ (1 : Int32) = 1) (rt (1 : Int32))) (asr ((0 : Int32) = 0 ∨ (0 : Int32) = 1) (rt (0 : Int32)))))
theorem im_X13_isVouchedBy {g : GP} {l : Launch} (hl : l.stackTraces = false) (i0 : Nat) (a1 : Nat) : Im g l 2 yX13_isVouchedBy cX13_isVouchedBy 3 (some .boolean) eI [.ref (idc 12 i0), .ref a1] (f_X13_isVouchedBy i0 a1) := by
  refine tx_start hl 2 _ _ _ _ (by decide) (Nat.le_of_ble_eq_true rfl) fun Γ Z hΓ hZ => ?_
  subst hΓ
  unfold f_X13_isVouchedBy
  show TX g Γ _ Z _ 0 [(0, .ref (idc 12 i0)), (1, .ref a1)] [] _
  refine x_aload_n 0 1 dX13_isVouchedBy_0 rfl ?_
  refine x_isK fun i1 h2 => ?_
  subst h2
  refine x_getI 1 fa_X13_37_8 dX13_isVouchedBy_1 fun v3 => ?_
  refine x_bndj 38 (fun u4 => [(0, .ref (idc 12 i0)), (1, .ref (idc 8 i1))]) (fun u4 => [.int u4]) (fun u4 => ?_) (fun hj15 => ?_)
  · show TX g Γ _ Z _ 38 [(0, .ref (idc 12 i0)), (1, .ref (idc 8 i1))] [.int u4] _
    refine x_istore_n 38 [(2, .int u4), (0, .ref (idc 12 i0)), (1, .ref (idc 8 i1))] dX13_isVouchedBy_38 (by decide) rfl ?_
    refine x_iload_n 39 0 dX13_isVouchedBy_39 rfl ?_
    refine x_if_eq 40 64 dX13_isVouchedBy_40 rfl (fun c5 => ?_) (fun c5 => ?_)
    · refine x_iconst 64 0 (0 : Int32) dX13_isVouchedBy_64 rfl ?_
      exact x_zret 65 hZ rfl dX13_isVouchedBy_65
    · refine x_aload_n 43 1 dX13_isVouchedBy_43 rfl ?_
      refine x_getR 44 fa_X13_29_12 dX13_isVouchedBy_44 fun v6 => ?_
      refine x_aload_n 47 2 dX13_isVouchedBy_47 rfl ?_
      refine x_getR 48 fa_X13_46_8 dX13_isVouchedBy_48 fun v7 => ?_
      refine x_isK fun i8 h9 => ?_
      subst h9
      refine x_getI 51 fa_X13_51_2 dX13_isVouchedBy_51 fun v10 => ?_
      refine x_isK fun i11 h12 => ?_
      subst h12
      refine x_cV 54 1 [.int v10] [] ⟨by decide, rfl⟩ cv_X13_56 (im_J18_get hl i11 v10) (by decide) rfl (Nat.le_of_ble_eq_true rfl) dX13_isVouchedBy_54 fun v13 => x_stI ?_
      refine x_if_ne 57 64 dX13_isVouchedBy_57 rfl (fun c14 => ?_) (fun c14 => ?_)
      · refine x_iconst 60 1 (1 : Int32) dX13_isVouchedBy_60 rfl ?_
        refine x_goto 61 65 dX13_isVouchedBy_61 rfl ?_
        exact x_zret 65 hZ rfl dX13_isVouchedBy_65
      · refine x_iconst 64 0 (0 : Int32) dX13_isVouchedBy_64 rfl ?_
        exact x_zret 65 hZ rfl dX13_isVouchedBy_65
  · refine x_jo 37 (Lf := fun _ => [(0, .ref (idc 12 i0)), (1, .ref (idc 8 i1))]) (sf := fun _ => []) (fun _ => ?_) (fun j17 hj16 => ?_)
    · show TX g Γ _ Z _ 37 [(0, .ref (idc 12 i0)), (1, .ref (idc 8 i1))] [] _
      refine x_iconst 37 0 (0 : Int32) dX13_isVouchedBy_37 rfl ?_
      exact hj15 (0 : Int32)
    · refine x_if_eq 4 37 dX13_isVouchedBy_4 rfl (fun c18 => ?_) (fun c18 => ?_)
      · exact hj16 ()
      · refine x_aload_n 7 1 dX13_isVouchedBy_7 rfl ?_
        refine x_getR 8 fa_X13_42_8 dX13_isVouchedBy_8 fun v19 => ?_
        refine x_ifnonnull 11 37 dX13_isVouchedBy_11 rfl (fun c20 => ?_) (fun c20 => ?_)
        · refine x_aload_n 14 1 dX13_isVouchedBy_14 rfl ?_
          refine x_getR 15 fa_X13_46_8 dX13_isVouchedBy_15 fun v21 => ?_
          refine x_aload_n 18 0 dX13_isVouchedBy_18 rfl ?_
          refine x_getR 19 fa_X13_33_12 dX13_isVouchedBy_19 fun v22 => ?_
          refine x_acmp_eq 22 37 dX13_isVouchedBy_22 rfl (fun c23 => ?_) (fun c23 => ?_)
          · exact hj16 ()
          · refine x_aload_n 25 1 dX13_isVouchedBy_25 rfl ?_
            refine x_cV 26 1 [] [] ⟨by decide, rfl⟩ cv_X13_47 (im_X9_level hl i1) (by decide) rfl (Nat.le_of_ble_eq_true rfl) dX13_isVouchedBy_26 fun v24 => x_stI ?_
            refine x_iconst 29 3 (3 : Int32) dX13_isVouchedBy_29 rfl ?_
            refine x_icmp_lt 30 37 dX13_isVouchedBy_30 rfl (fun c25 => ?_) (fun c25 => ?_)
            · exact hj16 ()
            · refine x_iconst 33 1 (1 : Int32) dX13_isVouchedBy_33 rfl ?_
              refine x_goto 34 38 dX13_isVouchedBy_34 rfl ?_
              exact hj15 (1 : Int32)
        · exact hj16 ()
def f_X1_vouch (i0 : Nat) (a1 : Int32) (a2 : Int32) : PT Int32 := gR 0 i0 8 fun v1 => bnd (f_X1_at v1 a1) fun v2 => isK 12 v2 fun i3 => gR 0 i0 4 fun v5 => bnd (f_X1_at v5 a2) fun v6 => isK 8 v6 fun i7 => gI 12 i3 2 fun v9 => bnd (ρ := _) (α := Int32) (jo (σ := Unit) (fun _ => rt (0 : Int32)) fun j15 => cnd (v9 = 0) (j15 ()) (bn0 (f_X13_isVouchedBy i3 (idc 8 i7)) fun v17 => cnd (v17 = 0) (j15 ()) (rt (1 : Int32)))) (fun u10 => bnd (f_X1_can u10) fun _ => bn0 (f_X13_vouch i3 (idc 8 i7)) fun v12 => rt v12)
theorem im_X1_vouch {g : GP} {l : Launch} (hl : l.stackTraces = false) (i0 : Nat) (a1 : Int32) (a2 : Int32) : Im g l 8 yX1_vouch cX1_vouch 5 (some .int) eI [.ref (idc 0 i0), .int a1, .int a2] (f_X1_vouch i0 a1 a2) := by
  refine tx_start hl 8 _ _ _ _ (by decide) (Nat.le_of_ble_eq_true rfl) fun Γ Z hΓ hZ => ?_
  subst hΓ
  unfold f_X1_vouch
  show TX g Γ _ Z _ 0 [(0, .ref (idc 0 i0)), (1, .int a1), (2, .int a2)] [] _
  refine x_aload_n 0 0 dX1_vouch_0 rfl ?_
  refine x_getR 1 fa_X1_99_0 dX1_vouch_1 fun v1 => ?_
  refine x_iload_n 4 1 dX1_vouch_4 rfl ?_
  refine x_cSx 5 7 [.ref v1, .int a1] [] rfl cs_X1_214 (im_X1_at hl v1 a1) (by decide) rfl (Nat.le_of_ble_eq_true rfl) dX1_vouch_5 fun v2 => x_stR ?_
  refine x_isK fun i3 h4 => ?_
  subst h4
  refine x_castS 8 (by decide) q2272 dX1_vouch_8 ?_
  refine x_astore_n 11 [(3, .ref (idc 12 i3)), (0, .ref (idc 0 i0)), (1, .int a1), (2, .int a2)] dX1_vouch_11 (by decide) rfl ?_
  refine x_aload_n 12 1 dX1_vouch_12 rfl ?_
  refine x_getR 13 fa_X1_5_0 dX1_vouch_13 fun v5 => ?_
  refine x_iload_n 16 3 dX1_vouch_16 rfl ?_
  refine x_cSx 17 7 [.ref v5, .int a2] [] rfl cs_X1_214 (im_X1_at hl v5 a2) (by decide) rfl (Nat.le_of_ble_eq_true rfl) dX1_vouch_17 fun v6 => x_stR ?_
  refine x_isK fun i7 h8 => ?_
  subst h8
  refine x_castS 20 (by decide) q1040 dX1_vouch_20 ?_
  refine x_astore 23 [(4, .ref (idc 8 i7)), (3, .ref (idc 12 i3)), (0, .ref (idc 0 i0)), (1, .int a1), (2, .int a2)] dX1_vouch_23 (by decide) rfl ?_
  refine x_aload_n 25 1 dX1_vouch_25 rfl ?_
  refine x_getI 26 fa_X1_383_12 dX1_vouch_26 fun v9 => ?_
  refine x_bndj 46 (fun u10 => [(3, .ref (idc 12 i3)), (4, .ref (idc 8 i7))]) (fun u10 => [.int u10]) (fun u10 => ?_) (fun hj13 => ?_)
  · show TX g Γ _ Z _ 46 [(3, .ref (idc 12 i3)), (4, .ref (idc 8 i7))] [.int u10] _
    refine x_cSx 46 6 [.int u10] [] rfl cs_X1_176 (im_X1_can hl u10) (by decide) rfl (Nat.le_of_ble_eq_true rfl) dX1_vouch_46 fun v11 => x_stV ?_
    refine x_aload_n 49 0 dX1_vouch_49 rfl ?_
    refine x_aload 50 1 dX1_vouch_50 rfl ?_
    refine x_cV 52 5 [.ref (idc 8 i7)] [] ⟨by decide, rfl⟩ cv_X1_398 (im_X13_vouch hl i3 (idc 8 i7)) (by decide) rfl (Nat.le_of_ble_eq_true rfl) dX1_vouch_52 fun v12 => x_stI ?_
    exact x_iret 55 hZ rfl dX1_vouch_55
  · refine x_jo 45 (Lf := fun _ => [(3, .ref (idc 12 i3)), (4, .ref (idc 8 i7))]) (sf := fun _ => []) (fun _ => ?_) (fun j15 hj14 => ?_)
    · show TX g Γ _ Z _ 45 [(3, .ref (idc 12 i3)), (4, .ref (idc 8 i7))] [] _
      refine x_iconst 45 0 (0 : Int32) dX1_vouch_45 rfl ?_
      exact hj13 (0 : Int32)
    · refine x_if_eq 29 45 dX1_vouch_29 rfl (fun c16 => ?_) (fun c16 => ?_)
      · refine x_sub [1, 0] _ rfl ?_
        exact hj14 ()
      · refine x_aload_n 32 1 dX1_vouch_32 rfl ?_
        refine x_aload 33 0 dX1_vouch_33 rfl ?_
        refine x_cV 35 2 [.ref (idc 8 i7)] [] ⟨by decide, rfl⟩ cv_X1_394 (im_X13_isVouchedBy hl i3 (idc 8 i7)) (by decide) rfl (Nat.le_of_ble_eq_true rfl) dX1_vouch_35 fun v17 => x_stI ?_
        refine x_if_eq 38 45 dX1_vouch_38 rfl (fun c18 => ?_) (fun c18 => ?_)
        · refine x_sub [1, 0] _ rfl ?_
          exact hj14 ()
        · refine x_iconst 41 1 (1 : Int32) dX1_vouch_41 rfl ?_
          refine x_goto 42 46 dX1_vouch_42 rfl ?_
          refine x_sub [1, 0] _ rfl ?_
          exact hj13 (1 : Int32)
def f_X13_many (i0 : Nat) : PT Int32 := gR 12 i0 3 fun v1 => isK 14 v1 fun i2 => bn0 (f_J18_cardinality i2) fun v4 => rt v4
theorem im_X13_many {g : GP} {l : Launch} (hl : l.stackTraces = false) (i0 : Nat) : Im g l 2 yX13_many cX13_many 1 (some .int) eI [.ref (idc 12 i0)] (f_X13_many i0) := by
  refine tx_start hl 2 _ _ _ _ (by decide) (Nat.le_of_ble_eq_true rfl) fun Γ Z hΓ hZ => ?_
  subst hΓ
  unfold f_X13_many
  show TX g Γ _ Z _ 0 [(0, .ref (idc 12 i0))] [] _
  refine x_aload_n 0 0 dX13_many_0 rfl ?_
  refine x_getR 1 fa_X13_29_12 dX13_many_1 fun v1 => ?_
  refine x_isK fun i2 h3 => ?_
  subst h3
  refine x_cV 4 1 [] [] ⟨by decide, rfl⟩ cv_X13_67 (im_J18_cardinality hl i2) (by decide) rfl (Nat.le_of_ble_eq_true rfl) dX13_many_4 fun v4 => x_stI ?_
  exact x_iret 7 hZ rfl dX13_many_7
def f_X13_isBy (i0 : Nat) (a1 : Nat) : PT Int32 := isK 8 a1 fun i1 => gI 8 i1 5 fun v3 => cnd (v3 = 0) (asr ((0 : Int32) = 0 ∨ (0 : Int32) = 1) (rt (0 : Int32))) (gR 8 i1 2 fun v5 => cnd (v5 = nul) (gR 8 i1 1 fun v7 => gR 12 i0 0 fun v8 => asr (cmpN v7 ∧ cmpN v8) <| cnd (v7 = v8) (asr ((1 : Int32) = 0 ∨ (1 : Int32) = 1) (rt (1 : Int32))) (asr ((0 : Int32) = 0 ∨ (0 : Int32) = 1) (rt (0 : Int32)))) (asr ((0 : Int32) = 0 ∨ (0 : Int32) = 1) (rt (0 : Int32))))
theorem im_X13_isBy {g : GP} {l : Launch} (hl : l.stackTraces = false) (i0 : Nat) (a1 : Nat) : Im g l 0 yX13_isBy cX13_isBy 2 (some .boolean) eI [.ref (idc 12 i0), .ref a1] (f_X13_isBy i0 a1) := by
  refine tx_start hl 0 _ _ _ _ (by decide) (Nat.le_of_ble_eq_true rfl) fun Γ Z hΓ hZ => ?_
  subst hΓ
  unfold f_X13_isBy
  show TX g Γ _ Z _ 0 [(0, .ref (idc 12 i0)), (1, .ref a1)] [] _
  refine x_aload_n 0 1 dX13_isBy_0 rfl ?_
  refine x_isK fun i1 h2 => ?_
  subst h2
  refine x_getI 1 fa_X13_37_8 dX13_isBy_1 fun v3 => ?_
  refine x_if_eq 4 29 dX13_isBy_4 rfl (fun c4 => ?_) (fun c4 => ?_)
  · refine x_iconst 29 0 (0 : Int32) dX13_isBy_29 rfl ?_
    exact x_zret 30 hZ rfl dX13_isBy_30
  · refine x_aload_n 7 1 dX13_isBy_7 rfl ?_
    refine x_getR 8 fa_X13_42_8 dX13_isBy_8 fun v5 => ?_
    refine x_ifnonnull 11 29 dX13_isBy_11 rfl (fun c6 => ?_) (fun c6 => ?_)
    · refine x_aload_n 14 1 dX13_isBy_14 rfl ?_
      refine x_getR 15 fa_X13_46_8 dX13_isBy_15 fun v7 => ?_
      refine x_aload_n 18 0 dX13_isBy_18 rfl ?_
      refine x_getR 19 fa_X13_33_12 dX13_isBy_19 fun v8 => ?_
      refine x_acmp_ne 22 29 dX13_isBy_22 rfl (fun c9 => ?_) (fun c9 => ?_)
      · refine x_iconst 25 1 (1 : Int32) dX13_isBy_25 rfl ?_
        refine x_goto 26 30 dX13_isBy_26 rfl ?_
        exact x_zret 30 hZ rfl dX13_isBy_30
      · refine x_iconst 29 0 (0 : Int32) dX13_isBy_29 rfl ?_
        exact x_zret 30 hZ rfl dX13_isBy_30
    · refine x_iconst 29 0 (0 : Int32) dX13_isBy_29 rfl ?_
      exact x_zret 30 hZ rfl dX13_isBy_30
def f_X1_stop (i0 : Nat) (a1 : Int32) (a2 : Int32) : PT Int32 := gR 0 i0 8 fun v1 => bnd (f_X1_at v1 a1) fun v2 => isK 12 v2 fun i3 => gR 0 i0 4 fun v5 => bnd (f_X1_at v5 a2) fun v6 => isK 8 v6 fun i7 => gI 12 i3 2 fun v9 => bnd (ρ := _) (α := Int32) (jo (σ := Unit) (fun _ => rt (0 : Int32)) fun j15 => cnd (v9 = 0) (j15 ()) (bn0 (f_X13_isBy i3 (idc 8 i7)) fun v17 => cnd (v17 = 0) (j15 ()) (rt (1 : Int32)))) (fun u10 => bnd (f_X1_can u10) fun _ => pZ 12 i3 2 (0 : Int32) <| bn0 (f_X13_many i3) fun v12 => rt v12)
theorem im_X1_stop {g : GP} {l : Launch} (hl : l.stackTraces = false) (i0 : Nat) (a1 : Int32) (a2 : Int32) : Im g l 8 yX1_stop cX1_stop 5 (some .int) eI [.ref (idc 0 i0), .int a1, .int a2] (f_X1_stop i0 a1 a2) := by
  refine tx_start hl 8 _ _ _ _ (by decide) (Nat.le_of_ble_eq_true rfl) fun Γ Z hΓ hZ => ?_
  subst hΓ
  unfold f_X1_stop
  show TX g Γ _ Z _ 0 [(0, .ref (idc 0 i0)), (1, .int a1), (2, .int a2)] [] _
  refine x_aload_n 0 0 dX1_stop_0 rfl ?_
  refine x_getR 1 fa_X1_99_0 dX1_stop_1 fun v1 => ?_
  refine x_iload_n 4 1 dX1_stop_4 rfl ?_
  refine x_cSx 5 7 [.ref v1, .int a1] [] rfl cs_X1_214 (im_X1_at hl v1 a1) (by decide) rfl (Nat.le_of_ble_eq_true rfl) dX1_stop_5 fun v2 => x_stR ?_
  refine x_isK fun i3 h4 => ?_
  subst h4
  refine x_castS 8 (by decide) q2272 dX1_stop_8 ?_
  refine x_astore_n 11 [(3, .ref (idc 12 i3)), (0, .ref (idc 0 i0)), (1, .int a1), (2, .int a2)] dX1_stop_11 (by decide) rfl ?_
  refine x_aload_n 12 1 dX1_stop_12 rfl ?_
  refine x_getR 13 fa_X1_5_0 dX1_stop_13 fun v5 => ?_
  refine x_iload_n 16 3 dX1_stop_16 rfl ?_
  refine x_cSx 17 7 [.ref v5, .int a2] [] rfl cs_X1_214 (im_X1_at hl v5 a2) (by decide) rfl (Nat.le_of_ble_eq_true rfl) dX1_stop_17 fun v6 => x_stR ?_
  refine x_isK fun i7 h8 => ?_
  subst h8
  refine x_castS 20 (by decide) q1040 dX1_stop_20 ?_
  refine x_astore 23 [(4, .ref (idc 8 i7)), (3, .ref (idc 12 i3)), (0, .ref (idc 0 i0)), (1, .int a1), (2, .int a2)] dX1_stop_23 (by decide) rfl ?_
  refine x_aload_n 25 1 dX1_stop_25 rfl ?_
  refine x_getI 26 fa_X1_383_12 dX1_stop_26 fun v9 => ?_
  refine x_bndj 46 (fun u10 => [(3, .ref (idc 12 i3))]) (fun u10 => [.int u10]) (fun u10 => ?_) (fun hj13 => ?_)
  · show TX g Γ _ Z _ 46 [(3, .ref (idc 12 i3))] [.int u10] _
    refine x_cSx 46 6 [.int u10] [] rfl cs_X1_176 (im_X1_can hl u10) (by decide) rfl (Nat.le_of_ble_eq_true rfl) dX1_stop_46 fun v11 => x_stV ?_
    refine x_aload_n 49 0 dX1_stop_49 rfl ?_
    refine x_iconst 50 0 (0 : Int32) dX1_stop_50 rfl ?_
    refine x_putZ 51 fa_X1_383_12 rfl (Or.inl rfl) dX1_stop_51 ?_
    refine x_aload_n 54 0 dX1_stop_54 rfl ?_
    refine x_cV 55 2 [] [] ⟨by decide, rfl⟩ cv_X1_405 (im_X13_many hl i3) (by decide) rfl (Nat.le_of_ble_eq_true rfl) dX1_stop_55 fun v12 => x_stI ?_
    exact x_iret 58 hZ rfl dX1_stop_58
  · refine x_jo 45 (Lf := fun _ => [(3, .ref (idc 12 i3))]) (sf := fun _ => []) (fun _ => ?_) (fun j15 hj14 => ?_)
    · show TX g Γ _ Z _ 45 [(3, .ref (idc 12 i3))] [] _
      refine x_iconst 45 0 (0 : Int32) dX1_stop_45 rfl ?_
      exact hj13 (0 : Int32)
    · refine x_if_eq 29 45 dX1_stop_29 rfl (fun c16 => ?_) (fun c16 => ?_)
      · refine x_sub [1] _ rfl ?_
        exact hj14 ()
      · refine x_aload_n 32 1 dX1_stop_32 rfl ?_
        refine x_aload 33 0 dX1_stop_33 rfl ?_
        refine x_cV 35 0 [.ref (idc 8 i7)] [] ⟨by decide, rfl⟩ cv_X1_402 (im_X13_isBy hl i3 (idc 8 i7)) (by decide) rfl (Nat.le_of_ble_eq_true rfl) dX1_stop_35 fun v17 => x_stI ?_
        refine x_if_eq 38 45 dX1_stop_38 rfl (fun c18 => ?_) (fun c18 => ?_)
        · refine x_sub [1] _ rfl ?_
          exact hj14 ()
        · refine x_iconst 41 1 (1 : Int32) dX1_stop_41 rfl ?_
          refine x_goto 42 46 dX1_stop_42 rfl ?_
          refine x_sub [1] _ rfl ?_
          exact hj13 (1 : Int32)
def f_X3_enrolled (i0 : Nat) : PT Int32 := lp (σ := Int32 × Int32) (fun r3 => un2 fun u1 u2 => cnd ((3 : Int32) ≤ u2) (rt u1) (gR 2 i0 1 fun v5 => isK 32 v5 fun i6 => aI 32 i6 u2 fun v8 => cnd (v8 = 0) (r3 (u1 ||| (0 : Int32), u2 + (1 : Int32))) (r3 (u1 ||| ((1 : Int32) <<< (u2 &&& 31)), u2 + (1 : Int32))))) ((0 : Int32), (0 : Int32))
theorem im_X3_enrolled {g : GP} {l : Launch} (hl : l.stackTraces = false) (i0 : Nat) : Im g l 0 yX3_enrolled cX3_enrolled 3 (some .int) eI [.ref (idc 2 i0)] (f_X3_enrolled i0) := by
  refine tx_start hl 0 _ _ _ _ (by decide) (Nat.le_of_ble_eq_true rfl) fun Γ Z hΓ hZ => ?_
  subst hΓ
  unfold f_X3_enrolled
  show TX g Γ _ Z _ 0 [(0, .ref (idc 2 i0))] [] _
  refine x_iconst 0 0 (0 : Int32) dX3_enrolled_0 rfl ?_
  refine x_istore_n 1 [(1, .int (0 : Int32)), (0, .ref (idc 2 i0))] dX3_enrolled_1 (by decide) rfl ?_
  refine x_iconst 2 0 (0 : Int32) dX3_enrolled_2 rfl ?_
  refine x_istore_n 3 [(2, .int (0 : Int32)), (1, .int (0 : Int32)), (0, .ref (idc 2 i0))] dX3_enrolled_3 (by decide) rfl ?_
  refine x_sub [2, 1, 0] [(0, .ref (idc 2 i0)), (1, .int (0 : Int32)), (2, .int (0 : Int32))] rfl ?_
  refine x_lp (Lf := fun u => [(0, .ref (idc 2 i0)), (1, .int u.1), (2, .int u.2)]) (sf := fun _ => []) (fun r3 hr3 u => ?_) ((0 : Int32), (0 : Int32))
  obtain ⟨u1, u2⟩ := u
  show TX g Γ _ Z _ 4 [(0, .ref (idc 2 i0)), (1, .int u1), (2, .int u2)] [] _
  refine x_un2 ?_
  refine x_iload_n 4 2 dX3_enrolled_4 rfl ?_
  refine x_iconst 5 3 (3 : Int32) dX3_enrolled_5 rfl ?_
  refine x_icmp_ge 6 34 dX3_enrolled_6 rfl (fun c4 => ?_) (fun c4 => ?_)
  · refine x_iload_n 34 1 dX3_enrolled_34 rfl ?_
    exact x_iret 35 hZ rfl dX3_enrolled_35
  · refine x_iload_n 9 1 dX3_enrolled_9 rfl ?_
    refine x_aload_n 10 0 dX3_enrolled_10 rfl ?_
    refine x_getR 11 fa_X3_15_2 dX3_enrolled_11 fun v5 => ?_
    refine x_iload_n 14 2 dX3_enrolled_14 rfl ?_
    refine x_isK fun i6 h7 => ?_
    subst h7
    refine x_iald 15 dX3_enrolled_15 fun v8 => ?_
    refine x_if_ne 16 23 dX3_enrolled_16 rfl (fun c9 => ?_) (fun c9 => ?_)
    · refine x_iconst 19 0 (0 : Int32) dX3_enrolled_19 rfl ?_
      refine x_goto 20 26 dX3_enrolled_20 rfl ?_
      refine x_ior 26 dX3_enrolled_26 ?_
      refine x_istore_n 27 [(1, .int (u1 ||| (0 : Int32))), (0, .ref (idc 2 i0)), (2, .int u2)] dX3_enrolled_27 (by decide) rfl ?_
      refine x_iinc 28 2 [(2, .int (u2 + (1 : Int32))), (1, .int (u1 ||| (0 : Int32))), (0, .ref (idc 2 i0))] dX3_enrolled_28 rfl rfl (by decide) rfl ?_
      refine x_goto 31 4 dX3_enrolled_31 rfl ?_
      refine x_sub [2, 1, 0] _ rfl ?_
      exact hr3 (u1 ||| (0 : Int32), u2 + (1 : Int32))
    · refine x_iconst 23 1 (1 : Int32) dX3_enrolled_23 rfl ?_
      refine x_iload_n 24 2 dX3_enrolled_24 rfl ?_
      refine x_ishl 25 dX3_enrolled_25 ?_
      refine x_ior 26 dX3_enrolled_26 ?_
      refine x_istore_n 27 [(1, .int (u1 ||| ((1 : Int32) <<< (u2 &&& 31)))), (0, .ref (idc 2 i0)), (2, .int u2)] dX3_enrolled_27 (by decide) rfl ?_
      refine x_iinc 28 2 [(2, .int (u2 + (1 : Int32))), (1, .int (u1 ||| ((1 : Int32) <<< (u2 &&& 31)))), (0, .ref (idc 2 i0))] dX3_enrolled_28 rfl rfl (by decide) rfl ?_
      refine x_goto 31 4 dX3_enrolled_31 rfl ?_
      refine x_sub [2, 1, 0] _ rfl ?_
      exact hr3 (u1 ||| ((1 : Int32) <<< (u2 &&& 31)), u2 + (1 : Int32))
def f_X13_isReady (i0 : Nat) : PT Int32 := gI 12 i0 2 fun v1 => cnd (v1 = 0) (asr ((0 : Int32) = 0 ∨ (0 : Int32) = 1) (rt (0 : Int32))) (gR 12 i0 5 fun v3 => isK 0 v3 fun i4 => gI 0 i4 16 fun v6 => gI 12 i0 1 fun v7 => cnd ((v6 - v7) < (60 : Int32)) (asr ((0 : Int32) = 0 ∨ (0 : Int32) = 1) (rt (0 : Int32))) (bn0 (f_X13_many i0) fun v9 => cnd (v9 < (2 : Int32)) (asr ((0 : Int32) = 0 ∨ (0 : Int32) = 1) (rt (0 : Int32))) (gI 12 i0 4 fun v11 => gR 12 i0 0 fun v12 => isK 2 v12 fun i13 => bn0 (f_X3_enrolled i13) fun v15 => bn0 (f_X1_levelOf v15) fun v16 => cnd (v11 < v16) (asr ((0 : Int32) = 0 ∨ (0 : Int32) = 1) (rt (0 : Int32))) (asr ((1 : Int32) = 0 ∨ (1 : Int32) = 1) (rt (1 : Int32))))))
theorem im_X13_isReady {g : GP} {l : Launch} (hl : l.stackTraces = false) (i0 : Nat) : Im g l 3 yX13_isReady cX13_isReady 1 (some .boolean) eI [.ref (idc 12 i0)] (f_X13_isReady i0) := by
  refine tx_start hl 3 _ _ _ _ (by decide) (Nat.le_of_ble_eq_true rfl) fun Γ Z hΓ hZ => ?_
  subst hΓ
  unfold f_X13_isReady
  show TX g Γ _ Z _ 0 [(0, .ref (idc 12 i0))] [] _
  refine x_aload_n 0 0 dX13_isReady_0 rfl ?_
  refine x_getI 1 fa_X13_22_12 dX13_isReady_1 fun v1 => ?_
  refine x_if_eq 4 53 dX13_isReady_4 rfl (fun c2 => ?_) (fun c2 => ?_)
  · refine x_iconst 53 0 (0 : Int32) dX13_isReady_53 rfl ?_
    exact x_zret 54 hZ rfl dX13_isReady_54
  · refine x_aload_n 7 0 dX13_isReady_7 rfl ?_
    refine x_getR 8 fa_X13_3_12 dX13_isReady_8 fun v3 => ?_
    refine x_isK fun i4 h5 => ?_
    subst h5
    refine x_getI 11 fa_X13_15_0 dX13_isReady_11 fun v6 => ?_
    refine x_aload_n 14 0 dX13_isReady_14 rfl ?_
    refine x_getI 15 fa_X13_19_12 dX13_isReady_15 fun v7 => ?_
    refine x_isub 18 dX13_isReady_18 ?_
    refine x_bipush 19 60 (60 : Int32) dX13_isReady_19 rfl ?_
    refine x_icmp_lt 21 53 dX13_isReady_21 rfl (fun c8 => ?_) (fun c8 => ?_)
    · refine x_iconst 53 0 (0 : Int32) dX13_isReady_53 rfl ?_
      exact x_zret 54 hZ rfl dX13_isReady_54
    · refine x_aload_n 24 0 dX13_isReady_24 rfl ?_
      refine x_cV 25 2 [] [] ⟨by decide, rfl⟩ cv_X13_70 (im_X13_many hl i0) (by decide) rfl (Nat.le_of_ble_eq_true rfl) dX13_isReady_25 fun v9 => x_stI ?_
      refine x_iconst 28 2 (2 : Int32) dX13_isReady_28 rfl ?_
      refine x_icmp_lt 29 53 dX13_isReady_29 rfl (fun c10 => ?_) (fun c10 => ?_)
      · refine x_iconst 53 0 (0 : Int32) dX13_isReady_53 rfl ?_
        exact x_zret 54 hZ rfl dX13_isReady_54
      · refine x_aload_n 32 0 dX13_isReady_32 rfl ?_
        refine x_getI 33 fa_X13_64_12 dX13_isReady_33 fun v11 => ?_
        refine x_aload_n 36 0 dX13_isReady_36 rfl ?_
        refine x_getR 37 fa_X13_33_12 dX13_isReady_37 fun v12 => ?_
        refine x_isK fun i13 h14 => ?_
        subst h14
        refine x_cV 40 0 [] [.int v11] ⟨by decide, rfl⟩ cv_X13_73 (im_X3_enrolled hl i13) (by decide) rfl (Nat.le_of_ble_eq_true rfl) dX13_isReady_40 fun v15 => x_stI ?_
        refine x_cSn 43 0 [.int v15] [.int v11] cs_X13_76 (im_X1_levelOf hl v15) (by decide) rfl (Nat.le_of_ble_eq_true rfl) dX13_isReady_43 fun v16 => x_stI ?_
        refine x_icmp_lt 46 53 dX13_isReady_46 rfl (fun c17 => ?_) (fun c17 => ?_)
        · refine x_iconst 53 0 (0 : Int32) dX13_isReady_53 rfl ?_
          exact x_zret 54 hZ rfl dX13_isReady_54
        · refine x_iconst 49 1 (1 : Int32) dX13_isReady_49 rfl ?_
          refine x_goto 50 54 dX13_isReady_50 rfl ?_
          exact x_zret 54 hZ rfl dX13_isReady_54
def f_X1_endAll (i0 : Nat) (a1 : Nat) : PT Int32 := lp (σ := Int32 × Int32) (fun r3 => un2 fun u1 u2 => gR 0 i0 4 fun v4 => isK 13 v4 fun i5 => bn0 (f_J2_size i5) fun v7 => cnd (v7 ≤ u2) (rt u1) (gR 0 i0 4 fun v9 => isK 13 v9 fun i10 => bn0 (f_J2_get i10 u2) fun v12 => isK 8 v12 fun i13 => gR 8 i13 1 fun v15 => asr (cmpN v15 ∧ cmpN a1) <| cnd (v15 = a1) (gR 0 i0 4 fun v17 => isK 13 v17 fun i18 => bn0 (f_J2_get i18 u2) fun v20 => isK 8 v20 fun i21 => bn0 (f_X9_end 30 i21) fun v23 => r3 (u1 + v23, u2 + (1 : Int32))) (r3 (u1 + (0 : Int32), u2 + (1 : Int32))))) ((0 : Int32), (0 : Int32))
theorem im_X1_endAll {g : GP} {l : Launch} (hl : l.stackTraces = false) (i0 : Nat) (a1 : Nat) : Im g l 41 yX1_endAll cX1_endAll 4 (some .int) eI [.ref (idc 0 i0), .ref a1] (f_X1_endAll i0 a1) := by
  refine tx_start hl 41 _ _ _ _ (by decide) (Nat.le_of_ble_eq_true rfl) fun Γ Z hΓ hZ => ?_
  subst hΓ
  unfold f_X1_endAll
  show TX g Γ _ Z _ 0 [(0, .ref (idc 0 i0)), (1, .ref a1)] [] _
  refine x_iconst 0 0 (0 : Int32) dX1_endAll_0 rfl ?_
  refine x_istore_n 1 [(2, .int (0 : Int32)), (0, .ref (idc 0 i0)), (1, .ref a1)] dX1_endAll_1 (by decide) rfl ?_
  refine x_iconst 2 0 (0 : Int32) dX1_endAll_2 rfl ?_
  refine x_istore_n 3 [(3, .int (0 : Int32)), (2, .int (0 : Int32)), (0, .ref (idc 0 i0)), (1, .ref a1)] dX1_endAll_3 (by decide) rfl ?_
  refine x_sub [2, 3, 1, 0] [(0, .ref (idc 0 i0)), (1, .ref a1), (2, .int (0 : Int32)), (3, .int (0 : Int32))] rfl ?_
  refine x_lp (Lf := fun u => [(0, .ref (idc 0 i0)), (1, .ref a1), (2, .int u.1), (3, .int u.2)]) (sf := fun _ => []) (fun r3 hr3 u => ?_) ((0 : Int32), (0 : Int32))
  obtain ⟨u1, u2⟩ := u
  show TX g Γ _ Z _ 4 [(0, .ref (idc 0 i0)), (1, .ref a1), (2, .int u1), (3, .int u2)] [] _
  refine x_un2 ?_
  refine x_iload_n 4 3 dX1_endAll_4 rfl ?_
  refine x_aload_n 5 0 dX1_endAll_5 rfl ?_
  refine x_getR 6 fa_X1_5_0 dX1_endAll_6 fun v4 => ?_
  refine x_isK fun i5 h6 => ?_
  subst h6
  refine x_cF 9 0 [] [.int u2] (by decide) cf_X1_9_13 (im_J2_size hl i5) (by decide) rfl (Nat.le_of_ble_eq_true rfl) dX1_endAll_9 fun v7 => x_stI ?_
  refine x_icmp_ge 14 66 dX1_endAll_14 rfl (fun c8 => ?_) (fun c8 => ?_)
  · refine x_iload_n 66 2 dX1_endAll_66 rfl ?_
    exact x_iret 67 hZ rfl dX1_endAll_67
  · refine x_iload_n 17 2 dX1_endAll_17 rfl ?_
    refine x_aload_n 18 0 dX1_endAll_18 rfl ?_
    refine x_getR 19 fa_X1_5_0 dX1_endAll_19 fun v9 => ?_
    refine x_iload_n 22 3 dX1_endAll_22 rfl ?_
    refine x_isK fun i10 h11 => ?_
    subst h11
    refine x_cF 23 2 [.int u2] [.int u1] (by decide) cf_X1_31_13 (im_J2_get hl i10 u2) (by decide) rfl (Nat.le_of_ble_eq_true rfl) dX1_endAll_23 fun v12 => x_stR ?_
    refine x_isK fun i13 h14 => ?_
    subst h14
    refine x_castS 28 (by decide) q1040 dX1_endAll_28 ?_
    refine x_getR 31 fa_X1_35_8 dX1_endAll_31 fun v15 => ?_
    refine x_aload_n 34 1 dX1_endAll_34 rfl ?_
    refine x_acmp_ne 35 57 dX1_endAll_35 rfl (fun c16 => ?_) (fun c16 => ?_)
    · refine x_aload_n 38 0 dX1_endAll_38 rfl ?_
      refine x_getR 39 fa_X1_5_0 dX1_endAll_39 fun v17 => ?_
      refine x_iload_n 42 3 dX1_endAll_42 rfl ?_
      refine x_isK fun i18 h19 => ?_
      subst h19
      refine x_cF 43 2 [.int u2] [.int u1] (by decide) cf_X1_31_13 (im_J2_get hl i18 u2) (by decide) rfl (Nat.le_of_ble_eq_true rfl) dX1_endAll_43 fun v20 => x_stR ?_
      refine x_isK fun i21 h22 => ?_
      subst h22
      refine x_castS 48 (by decide) q1040 dX1_endAll_48 ?_
      refine x_cV 51 40 [] [.int u1] ⟨by decide, rfl⟩ cv_X1_39 (im_X9_end 30 hl i21) (by decide) rfl (Nat.le_of_ble_eq_true rfl) dX1_endAll_51 fun v23 => x_stI ?_
      refine x_goto 54 58 dX1_endAll_54 rfl ?_
      refine x_iadd 58 dX1_endAll_58 ?_
      refine x_istore_n 59 [(2, .int (u1 + v23)), (0, .ref (idc 0 i0)), (1, .ref a1), (3, .int u2)] dX1_endAll_59 (by decide) rfl ?_
      refine x_iinc 60 3 [(3, .int (u2 + (1 : Int32))), (2, .int (u1 + v23)), (0, .ref (idc 0 i0)), (1, .ref a1)] dX1_endAll_60 rfl rfl (by decide) rfl ?_
      refine x_goto 63 4 dX1_endAll_63 rfl ?_
      refine x_sub [2, 3, 1, 0] _ rfl ?_
      exact hr3 (u1 + v23, u2 + (1 : Int32))
    · refine x_iconst 57 0 (0 : Int32) dX1_endAll_57 rfl ?_
      refine x_iadd 58 dX1_endAll_58 ?_
      refine x_istore_n 59 [(2, .int (u1 + (0 : Int32))), (0, .ref (idc 0 i0)), (1, .ref a1), (3, .int u2)] dX1_endAll_59 (by decide) rfl ?_
      refine x_iinc 60 3 [(3, .int (u2 + (1 : Int32))), (2, .int (u1 + (0 : Int32))), (0, .ref (idc 0 i0)), (1, .ref a1)] dX1_endAll_60 rfl rfl (by decide) rfl ?_
      refine x_goto 63 4 dX1_endAll_63 rfl ?_
      refine x_sub [2, 3, 1, 0] _ rfl ?_
      exact hr3 (u1 + (0 : Int32), u2 + (1 : Int32))
def f_X13_finish (i0 : Nat) : PT Int32 := pZ 12 i0 2 (0 : Int32) <| gR 12 i0 5 fun v1 => gR 12 i0 0 fun v2 => isK 0 v1 fun i3 => bn0 (f_X1_endAll i3 v2) fun v5 => bnd (lp (σ := Int32) (ρ := Unit) (fun r7 => fun u6 => cnd ((3 : Int32) ≤ u6) (rt ()) (gR 12 i0 0 fun v10 => isK 2 v10 fun i11 => gR 2 i11 1 fun v13 => isK 32 v13 fun i14 => bI 32 i14 u6 (0 : Int32) <| r7 (u6 + (1 : Int32)))) (0 : Int32)) (fun _ => gR 12 i0 0 fun v16 => isK 2 v16 fun i17 => bn0 (f_X3_enroll i17 (0 : Int32)) fun v19 => rt v5)
theorem im_X13_finish {g : GP} {l : Launch} (hl : l.stackTraces = false) (i0 : Nat) : Im g l 42 yX13_finish cX13_finish 3 (some .int) eI [.ref (idc 12 i0)] (f_X13_finish i0) := by
  refine tx_start hl 42 _ _ _ _ (by decide) (Nat.le_of_ble_eq_true rfl) fun Γ Z hΓ hZ => ?_
  subst hΓ
  unfold f_X13_finish
  show TX g Γ _ Z _ 0 [(0, .ref (idc 12 i0))] [] _
  refine x_aload_n 0 0 dX13_finish_0 rfl ?_
  refine x_iconst 1 0 (0 : Int32) dX13_finish_1 rfl ?_
  refine x_putZ 2 fa_X13_22_12 rfl (Or.inl rfl) dX13_finish_2 ?_
  refine x_aload_n 5 0 dX13_finish_5 rfl ?_
  refine x_getR 6 fa_X13_3_12 dX13_finish_6 fun v1 => ?_
  refine x_aload_n 9 0 dX13_finish_9 rfl ?_
  refine x_getR 10 fa_X13_33_12 dX13_finish_10 fun v2 => ?_
  refine x_isK fun i3 h4 => ?_
  subst h4
  refine x_cVn 13 41 [.ref v2] [] ⟨by decide, rfl⟩ cv_X13_80 (im_X1_endAll hl i3 v2) (by decide) rfl (Nat.le_of_ble_eq_true rfl) dX13_finish_13 fun v5 => x_stI ?_
  refine x_istore_n 16 [(1, .int v5), (0, .ref (idc 12 i0))] dX13_finish_16 (by decide) rfl ?_
  refine x_iconst 17 0 (0 : Int32) dX13_finish_17 rfl ?_
  refine x_istore_n 18 [(2, .int (0 : Int32)), (1, .int v5), (0, .ref (idc 12 i0))] dX13_finish_18 (by decide) rfl ?_
  refine x_sub [2, 1, 0] [(0, .ref (idc 12 i0)), (1, .int v5), (2, .int (0 : Int32))] rfl ?_
  refine x_bndj 40 (fun _ => [(0, .ref (idc 12 i0)), (1, .int v5)]) (fun _ => []) (fun _ => ?_) (fun hj8 => ?_)
  · show TX g Γ _ Z _ 40 [(0, .ref (idc 12 i0)), (1, .int v5)] [] _
    refine x_aload_n 40 0 dX13_finish_40 rfl ?_
    refine x_getR 41 fa_X13_33_12 dX13_finish_41 fun v16 => ?_
    refine x_iconst 44 0 (0 : Int32) dX13_finish_44 rfl ?_
    refine x_isK fun i17 h18 => ?_
    subst h18
    refine x_cV 45 0 [.int (0 : Int32)] [] ⟨by decide, rfl⟩ cv_X13_88 (im_X3_enroll hl i17 (0 : Int32)) (by decide) rfl (Nat.le_of_ble_eq_true rfl) dX13_finish_45 fun v19 => x_stI ?_
    refine x_pop 48 dX13_finish_48 rfl ?_
    refine x_iload_n 49 1 dX13_finish_49 rfl ?_
    exact x_iret 50 hZ rfl dX13_finish_50
  · refine x_lp (Lf := fun u6 => [(0, .ref (idc 12 i0)), (1, .int v5), (2, .int u6)]) (sf := fun _ => []) (fun r7 hr7 u6 => ?_) (0 : Int32)
    show TX g Γ _ Z _ 19 [(0, .ref (idc 12 i0)), (1, .int v5), (2, .int u6)] [] _
    refine x_iload_n 19 2 dX13_finish_19 rfl ?_
    refine x_iconst 20 3 (3 : Int32) dX13_finish_20 rfl ?_
    refine x_icmp_ge 21 40 dX13_finish_21 rfl (fun c9 => ?_) (fun c9 => ?_)
    · refine x_sub [0, 1] _ rfl ?_
      exact hj8 ()
    · refine x_aload_n 24 0 dX13_finish_24 rfl ?_
      refine x_getR 25 fa_X13_33_12 dX13_finish_25 fun v10 => ?_
      refine x_isK fun i11 h12 => ?_
      subst h12
      refine x_getR 28 fa_X13_84_2 dX13_finish_28 fun v13 => ?_
      refine x_iload_n 31 2 dX13_finish_31 rfl ?_
      refine x_iconst 32 0 (0 : Int32) dX13_finish_32 rfl ?_
      refine x_isK fun i14 h15 => ?_
      subst h15
      refine x_iast 33 dX13_finish_33 ?_
      refine x_iinc 34 2 [(2, .int (u6 + (1 : Int32))), (0, .ref (idc 12 i0)), (1, .int v5)] dX13_finish_34 rfl rfl (by decide) rfl ?_
      refine x_goto 37 19 dX13_finish_37 rfl ?_
      refine x_sub [1, 2, 0] _ rfl ?_
      exact hr7 (u6 + (1 : Int32))
def f_X1_finish (i0 : Nat) (a1 : Int32) : PT Int32 := gR 0 i0 8 fun v1 => bnd (f_X1_at v1 a1) fun v2 => isK 12 v2 fun i3 => bn0 (f_X13_isReady i3) fun v5 => bnd (f_X1_can v5) fun _ => bn0 (f_X13_finish i3) fun v7 => bn0 (f_X1_write i0 (6 : Int32) a1) fun _ => rt v7
theorem im_X1_finish {g : GP} {l : Launch} (hl : l.stackTraces = false) (i0 : Nat) (a1 : Int32) : Im g l 43 yX1_finish cX1_finish 4 (some .int) eI [.ref (idc 0 i0), .int a1] (f_X1_finish i0 a1) := by
  refine tx_start hl 43 _ _ _ _ (by decide) (Nat.le_of_ble_eq_true rfl) fun Γ Z hΓ hZ => ?_
  subst hΓ
  unfold f_X1_finish
  show TX g Γ _ Z _ 0 [(0, .ref (idc 0 i0)), (1, .int a1)] [] _
  refine x_aload_n 0 0 dX1_finish_0 rfl ?_
  refine x_getR 1 fa_X1_99_0 dX1_finish_1 fun v1 => ?_
  refine x_iload_n 4 1 dX1_finish_4 rfl ?_
  refine x_cSx 5 7 [.ref v1, .int a1] [] rfl cs_X1_214 (im_X1_at hl v1 a1) (by decide) rfl (Nat.le_of_ble_eq_true rfl) dX1_finish_5 fun v2 => x_stR ?_
  refine x_isK fun i3 h4 => ?_
  subst h4
  refine x_castS 8 (by decide) q2272 dX1_finish_8 ?_
  refine x_astore_n 11 [(2, .ref (idc 12 i3)), (0, .ref (idc 0 i0)), (1, .int a1)] dX1_finish_11 (by decide) rfl ?_
  refine x_aload_n 12 0 dX1_finish_12 rfl ?_
  refine x_cV 13 3 [] [] ⟨by decide, rfl⟩ cv_X1_408 (im_X13_isReady hl i3) (by decide) rfl (Nat.le_of_ble_eq_true rfl) dX1_finish_13 fun v5 => x_stI ?_
  refine x_cSx 16 6 [.int v5] [] rfl cs_X1_176 (im_X1_can hl v5) (by decide) rfl (Nat.le_of_ble_eq_true rfl) dX1_finish_16 fun v6 => x_stV ?_
  refine x_aload_n 19 0 dX1_finish_19 rfl ?_
  refine x_cV 20 42 [] [] ⟨by decide, rfl⟩ cv_X1_411 (im_X13_finish hl i3) (by decide) rfl (Nat.le_of_ble_eq_true rfl) dX1_finish_20 fun v7 => x_stI ?_
  refine x_istore_n 23 [(3, .int v7), (2, .ref (idc 12 i3)), (0, .ref (idc 0 i0)), (1, .int a1)] dX1_finish_23 (by decide) rfl ?_
  refine x_aload_n 24 2 dX1_finish_24 rfl ?_
  refine x_bipush 25 6 (6 : Int32) dX1_finish_25 rfl ?_
  refine x_iload_n 27 3 dX1_finish_27 rfl ?_
  refine x_cV 28 7 [.int (6 : Int32), .int a1] [] ⟨by decide, rfl⟩ cv_X1_27 (im_X1_write hl i0 (6 : Int32) a1) (by decide) rfl (Nat.le_of_ble_eq_true rfl) dX1_finish_28 fun v8 => x_stV ?_
  refine x_iload_n 31 0 dX1_finish_31 rfl ?_
  exact x_iret 32 hZ rfl dX1_finish_32
def f_X1_link (i0 : Nat) (a1 : Int32) (a2 : Int32) : PT Int32 := bnd (f_X1_there a1 (6 : Int32)) fun _ => bnd (ρ := _) (α := Nat) (cnd (a2 = (-1 : Int32)) (rt nul) (bnd (f_X1_personAt i0 a2) fun v25 => rt v25)) (fun u2 => gR 0 i0 11 fun v3 => isK 36 v3 fun i4 => aR 36 i4 a1 fun v6 => bnd (ρ := _) (α := Int32) (jo (σ := Unit) (fun _ => rt (1 : Int32)) fun j19 => cnd (u2 = nul) (j19 ()) (cnd (v6 = nul) (j19 ()) (asr (cmpN v6 ∧ cmpN u2) <| cnd (v6 = u2) (j19 ()) (rt (0 : Int32))))) (fun u7 => bnd (f_X1_can u7) fun _ => gR 0 i0 11 fun v9 => isK 36 v9 fun i10 => asr (u2 = nul ∨ u2 % 64 = 2) <| bR 36 i10 a1 u2 <| cnd (v6 = nul) (rt (-1 : Int32)) (isK 2 v6 fun i14 => gI 2 i14 0 fun v16 => rt v16)))
theorem im_X1_link {g : GP} {l : Launch} (hl : l.stackTraces = false) (i0 : Nat) (a1 : Int32) (a2 : Int32) : Im g l 8 yX1_link cX1_link 5 (some .int) eI [.ref (idc 0 i0), .int a1, .int a2] (f_X1_link i0 a1 a2) := by
  refine tx_start hl 8 _ _ _ _ (by decide) (Nat.le_of_ble_eq_true rfl) fun Γ Z hΓ hZ => ?_
  subst hΓ
  unfold f_X1_link
  show TX g Γ _ Z _ 0 [(0, .ref (idc 0 i0)), (1, .int a1), (2, .int a2)] [] _
  refine x_iload_n 0 1 dX1_link_0 rfl ?_
  refine x_bipush 1 6 (6 : Int32) dX1_link_1 rfl ?_
  refine x_cSx 3 6 [.int a1, .int (6 : Int32)] [] rfl cs_X1_158 (im_X1_there hl a1 (6 : Int32)) (by decide) rfl (Nat.le_of_ble_eq_true rfl) dX1_link_3 fun v1 => x_stV ?_
  refine x_iload_n 6 2 dX1_link_6 rfl ?_
  refine x_iconst 7 (-1) (-1 : Int32) dX1_link_7 rfl ?_
  refine x_bndj 20 (fun u2 => [(0, .ref (idc 0 i0)), (1, .int a1)]) (fun u2 => [.ref u2]) (fun u2 => ?_) (fun hj23 => ?_)
  · show TX g Γ _ Z _ 20 [(0, .ref (idc 0 i0)), (1, .int a1)] [.ref u2] _
    refine x_astore_n 20 [(3, .ref u2), (0, .ref (idc 0 i0)), (1, .int a1)] dX1_link_20 (by decide) rfl ?_
    refine x_aload_n 21 1 dX1_link_21 rfl ?_
    refine x_getR 22 fa_X1_112_0 dX1_link_22 fun v3 => ?_
    refine x_iload_n 25 2 dX1_link_25 rfl ?_
    refine x_isK fun i4 h5 => ?_
    subst h5
    refine x_aald 26 (by decide) dX1_link_26 fun v6 => ?_
    refine x_astore 27 [(4, .ref v6), (3, .ref u2), (0, .ref (idc 0 i0)), (1, .int a1)] dX1_link_27 (by decide) rfl ?_
    refine x_aload_n 29 1 dX1_link_29 rfl ?_
    refine x_bndj 49 (fun u7 => [(0, .ref (idc 0 i0)), (1, .int a1), (3, .ref u2), (4, .ref v6)]) (fun u7 => [.int u7]) (fun u7 => ?_) (fun hj17 => ?_)
    · show TX g Γ _ Z _ 49 [(0, .ref (idc 0 i0)), (1, .int a1), (3, .ref u2), (4, .ref v6)] [.int u7] _
      refine x_cSx 49 6 [.int u7] [] rfl cs_X1_176 (im_X1_can hl u7) (by decide) rfl (Nat.le_of_ble_eq_true rfl) dX1_link_49 fun v8 => x_stV ?_
      refine x_aload_n 52 0 dX1_link_52 rfl ?_
      refine x_getR 53 fa_X1_112_0 dX1_link_53 fun v9 => ?_
      refine x_iload_n 56 1 dX1_link_56 rfl ?_
      refine x_aload_n 57 2 dX1_link_57 rfl ?_
      refine x_isK fun i10 h11 => ?_
      subst h11
      refine x_asr fun h12 => ?_
      refine x_aast 58 (by decide) dX1_link_58 (h12.elim Or.inl fun h => Or.inr (Or.inr (Or.inl ⟨rfl, h⟩))) ?_
      refine x_aload 59 3 dX1_link_59 rfl ?_
      refine x_ifnonnull 61 68 dX1_link_61 rfl (fun c13 => ?_) (fun c13 => ?_)
      · refine x_iconst 64 (-1) (-1 : Int32) dX1_link_64 rfl ?_
        refine x_goto 65 73 dX1_link_65 rfl ?_
        exact x_iret 73 hZ rfl dX1_link_73
      · refine x_aload 68 3 dX1_link_68 rfl ?_
        refine x_isK fun i14 h15 => ?_
        subst h15
        refine x_getI 70 fa_X1_414_2 dX1_link_70 fun v16 => ?_
        exact x_iret 73 hZ rfl dX1_link_73
    · refine x_jo 44 (Lf := fun _ => [(0, .ref (idc 0 i0)), (1, .int a1), (3, .ref u2), (4, .ref v6)]) (sf := fun _ => []) (fun _ => ?_) (fun j19 hj18 => ?_)
      · show TX g Γ _ Z _ 44 [(0, .ref (idc 0 i0)), (1, .int a1), (3, .ref u2), (4, .ref v6)] [] _
        refine x_iconst 44 1 (1 : Int32) dX1_link_44 rfl ?_
        refine x_goto 45 49 dX1_link_45 rfl ?_
        exact hj17 (1 : Int32)
      · refine x_ifnull 30 44 dX1_link_30 rfl (fun c20 => ?_) (fun c20 => ?_)
        · refine x_sub [2, 3, 1, 0] _ rfl ?_
          exact hj18 ()
        · refine x_aload 33 0 dX1_link_33 rfl ?_
          refine x_ifnull 35 44 dX1_link_35 rfl (fun c21 => ?_) (fun c21 => ?_)
          · refine x_sub [2, 3, 1, 0] _ rfl ?_
            exact hj18 ()
          · refine x_aload 38 0 dX1_link_38 rfl ?_
            refine x_aload_n 40 1 dX1_link_40 rfl ?_
            refine x_acmp_ne 41 48 dX1_link_41 rfl (fun c22 => ?_) (fun c22 => ?_)
            · refine x_sub [2, 3, 1, 0] _ rfl ?_
              exact hj18 ()
            · refine x_iconst 48 0 (0 : Int32) dX1_link_48 rfl ?_
              refine x_sub [2, 3, 1, 0] _ rfl ?_
              exact hj17 (0 : Int32)
  · refine x_icmp_ne 8 15 dX1_link_8 rfl (fun c24 => ?_) (fun c24 => ?_)
    · refine x_null 11 dX1_link_11 ?_
      refine x_goto 12 20 dX1_link_12 rfl ?_
      refine x_sub [0, 1] _ rfl ?_
      exact hj23 nul
    · refine x_aload_n 15 0 dX1_link_15 rfl ?_
      refine x_iload_n 16 2 dX1_link_16 rfl ?_
      refine x_cVx 17 7 [.int a2] [] ⟨by decide, rfl⟩ rfl cv_X1_187 (im_X1_personAt hl i0 a2) (by decide) rfl (Nat.le_of_ble_eq_true rfl) dX1_link_17 fun v25 => x_stR ?_
      refine x_sub [0, 1] _ rfl ?_
      exact hj23 v25
def f_X1_foreign (i0 : Nat) (a1 : Int32) : PT Int32 := bnd (f_X1_there a1 (6 : Int32)) fun _ => gR 0 i0 11 fun v2 => isK 36 v2 fun i3 => aR 36 i3 a1 fun v5 => bnd (ρ := _) (α := Int32) (jo (σ := Unit) (fun _ => rt (0 : Int32)) fun j12 => cnd (v5 = nul) (j12 ()) (isK 2 v5 fun i14 => gI 2 i14 4 fun v16 => cnd (v16 = 0) (gR 0 i0 4 fun v18 => isK 13 v18 fun i19 => bn0 (f_J2_size i19) fun v21 => cnd ((60 : Int32) ≤ v21) (j12 ()) (rt (1 : Int32))) (j12 ()))) (fun u6 => bnd (f_X1_can u6) fun _ => nwA 32 (3 : Int32) fun i8 => bn0 (f_X1_beginSession i0 v5 nul i8 (0 : Int32)) fun v9 => rt v9)
theorem im_X1_foreign {g : GP} {l : Launch} (hl : l.stackTraces = false) (i0 : Nat) (a1 : Int32) : Im g l 9 yX1_foreign cX1_foreign 3 (some .int) eI [.ref (idc 0 i0), .int a1] (f_X1_foreign i0 a1) := by
  refine tx_start hl 9 _ _ _ _ (by decide) (Nat.le_of_ble_eq_true rfl) fun Γ Z hΓ hZ => ?_
  subst hΓ
  unfold f_X1_foreign
  show TX g Γ _ Z _ 0 [(0, .ref (idc 0 i0)), (1, .int a1)] [] _
  refine x_iload_n 0 1 dX1_foreign_0 rfl ?_
  refine x_bipush 1 6 (6 : Int32) dX1_foreign_1 rfl ?_
  refine x_cSx 3 6 [.int a1, .int (6 : Int32)] [] rfl cs_X1_158 (im_X1_there hl a1 (6 : Int32)) (by decide) rfl (Nat.le_of_ble_eq_true rfl) dX1_foreign_3 fun v1 => x_stV ?_
  refine x_aload_n 6 0 dX1_foreign_6 rfl ?_
  refine x_getR 7 fa_X1_112_0 dX1_foreign_7 fun v2 => ?_
  refine x_iload_n 10 1 dX1_foreign_10 rfl ?_
  refine x_isK fun i3 h4 => ?_
  subst h4
  refine x_aald 11 (by decide) dX1_foreign_11 fun v5 => ?_
  refine x_astore_n 12 [(2, .ref v5), (0, .ref (idc 0 i0)), (1, .int a1)] dX1_foreign_12 (by decide) rfl ?_
  refine x_aload_n 13 0 dX1_foreign_13 rfl ?_
  refine x_bndj 43 (fun u6 => [(0, .ref (idc 0 i0)), (2, .ref v5)]) (fun u6 => [.int u6]) (fun u6 => ?_) (fun hj10 => ?_)
  · show TX g Γ _ Z _ 43 [(0, .ref (idc 0 i0)), (2, .ref v5)] [.int u6] _
    refine x_cSx 43 6 [.int u6] [] rfl cs_X1_176 (im_X1_can hl u6) (by decide) rfl (Nat.le_of_ble_eq_true rfl) dX1_foreign_43 fun v7 => x_stV ?_
    refine x_aload_n 46 0 dX1_foreign_46 rfl ?_
    refine x_aload_n 47 1 dX1_foreign_47 rfl ?_
    refine x_null 48 dX1_foreign_48 ?_
    refine x_iconst 49 3 (3 : Int32) dX1_foreign_49 rfl ?_
    refine x_newa 50 (Or.inl rfl) rfl q526 dX1_foreign_50 fun i8 => ?_
    refine x_iconst 52 0 (0 : Int32) dX1_foreign_52 rfl ?_
    refine x_cV 53 8 [.ref v5, .ref nul, .ref (idc 32 i8), .int (0 : Int32)] [] ⟨by decide, rfl⟩ cv_X1_282 (im_X1_beginSession hl i0 v5 nul i8 (0 : Int32)) (by decide) rfl (Nat.le_of_ble_eq_true rfl) dX1_foreign_53 fun v9 => x_stI ?_
    exact x_iret 56 hZ rfl dX1_foreign_56
  · refine x_jo 42 (Lf := fun _ => [(0, .ref (idc 0 i0)), (2, .ref v5)]) (sf := fun _ => []) (fun _ => ?_) (fun j12 hj11 => ?_)
    · show TX g Γ _ Z _ 42 [(0, .ref (idc 0 i0)), (2, .ref v5)] [] _
      refine x_iconst 42 0 (0 : Int32) dX1_foreign_42 rfl ?_
      exact hj10 (0 : Int32)
    · refine x_ifnull 14 42 dX1_foreign_14 rfl (fun c13 => ?_) (fun c13 => ?_)
      · refine x_sub [1, 0] _ rfl ?_
        exact hj11 ()
      · refine x_aload_n 17 0 dX1_foreign_17 rfl ?_
        refine x_isK fun i14 h15 => ?_
        subst h15
        refine x_getI 18 fa_X1_224_2 dX1_foreign_18 fun v16 => ?_
        refine x_if_ne 21 42 dX1_foreign_21 rfl (fun c17 => ?_) (fun c17 => ?_)
        · refine x_aload_n 24 1 dX1_foreign_24 rfl ?_
          refine x_getR 25 fa_X1_5_0 dX1_foreign_25 fun v18 => ?_
          refine x_isK fun i19 h20 => ?_
          subst h20
          refine x_cF 28 0 [] [] (by decide) cf_X1_9_13 (im_J2_size hl i19) (by decide) rfl (Nat.le_of_ble_eq_true rfl) dX1_foreign_28 fun v21 => x_stI ?_
          refine x_bipush 33 60 (60 : Int32) dX1_foreign_33 rfl ?_
          refine x_icmp_ge 35 42 dX1_foreign_35 rfl (fun c22 => ?_) (fun c22 => ?_)
          · refine x_sub [1, 0] _ rfl ?_
            exact hj11 ()
          · refine x_iconst 38 1 (1 : Int32) dX1_foreign_38 rfl ?_
            refine x_goto 39 43 dX1_foreign_39 rfl ?_
            refine x_sub [1, 0] _ rfl ?_
            exact hj10 (1 : Int32)
        · refine x_sub [1, 0] _ rfl ?_
          exact hj11 ()
def f_X8_deny (i0 : Nat) : PT Unit := gI 7 i0 7 fun v1 => bnd (ρ := _) (α := Int32) (cnd (v1 = 0) (rt (2 : Int32)) (gI 7 i0 7 fun v5 => rt v5)) (fun u2 => pI 7 i0 7 u2 <| rt ())
theorem im_X8_deny {g : GP} {l : Launch} (hl : l.stackTraces = false) (i0 : Nat) : Im g l 0 yX8_deny cX8_deny 1 none eV [.ref (idc 7 i0)] (f_X8_deny i0) := by
  refine tx_start hl 0 _ _ _ _ (by decide) (Nat.le_of_ble_eq_true rfl) fun Γ Z hΓ hZ => ?_
  subst hΓ
  unfold f_X8_deny
  show TX g Γ _ Z _ 0 [(0, .ref (idc 7 i0))] [] _
  refine x_aload_n 0 0 dX8_deny_0 rfl ?_
  refine x_aload_n 1 0 dX8_deny_1 rfl ?_
  refine x_getI 2 fa_X8_15_7 dX8_deny_2 fun v1 => ?_
  refine x_bndj 16 (fun u2 => []) (fun u2 => [.int u2, .ref (idc 7 i0)]) (fun u2 => ?_) (fun hj3 => ?_)
  · show TX g Γ _ Z _ 16 [] [.int u2, .ref (idc 7 i0)] _
    refine x_putI 16 fa_X8_15_7 rfl (Or.inl rfl) dX8_deny_16 ?_
    exact x_vret 19 hZ rfl dX8_deny_19
  · refine x_if_ne 5 12 dX8_deny_5 rfl (fun c4 => ?_) (fun c4 => ?_)
    · refine x_iconst 8 2 (2 : Int32) dX8_deny_8 rfl ?_
      refine x_goto 9 16 dX8_deny_9 rfl ?_
      refine x_sub [] _ rfl ?_
      exact hj3 (2 : Int32)
    · refine x_aload_n 12 0 dX8_deny_12 rfl ?_
      refine x_getI 13 fa_X8_15_7 dX8_deny_13 fun v5 => ?_
      refine x_sub [] _ rfl ?_
      exact hj3 v5
def f_X1_leave (i0 : Nat) (a1 : Int32) : PT Int32 := bnd (f_X1_personAt i0 a1) fun v1 => isK 2 v1 fun i2 => gI 2 i2 4 fun v4 => bnd (ρ := _) (α := Int32) (cnd (v4 = 0) (rt (1 : Int32)) (rt (0 : Int32))) (fun u5 => pZ 2 i2 4 u5 <| gI 2 i2 4 fun v6 => cnd (v6 = 0) (rt (-1 : Int32)) (bn0 (f_X1_endAll i0 (idc 2 i2)) fun v8 => bnd (lp (σ := Int32) (ρ := Unit) (fun r10 => fun u9 => gR 0 i0 3 fun v12 => isK 13 v12 fun i13 => bn0 (f_J2_size i13) fun v15 => cnd (v15 ≤ u9) (rt ()) (gR 0 i0 3 fun v17 => isK 13 v17 fun i18 => bn0 (f_J2_get i18 u9) fun v20 => isK 7 v20 fun i21 => gR 7 i21 0 fun v23 => asr (cmpN v23 ∧ cmpN (idc 2 i2)) <| cnd (v23 = (idc 2 i2)) (gR 0 i0 3 fun v25 => isK 13 v25 fun i26 => bn0 (f_J2_get i26 u9) fun v28 => isK 7 v28 fun i29 => bn0 (f_X8_deny i29) fun _ => r10 (u9 + (1 : Int32))) (r10 (u9 + (1 : Int32))))) (0 : Int32)) (fun _ => lp (σ := Int32) (fun r33 => fun u32 => gR 0 i0 8 fun v34 => isK 13 v34 fun i35 => bn0 (f_J2_size i35) fun v37 => cnd (v37 ≤ u32) (rt v8) (gR 0 i0 8 fun v39 => isK 13 v39 fun i40 => bn0 (f_J2_get i40 u32) fun v42 => isK 12 v42 fun i43 => gI 12 i43 2 fun v45 => gR 0 i0 8 fun v46 => isK 13 v46 fun i47 => bn0 (f_J2_get i47 u32) fun v49 => isK 12 v49 fun i50 => gR 12 i50 0 fun v52 => bnd (ρ := _) (α := Int32) (asr (cmpN v52 ∧ cmpN (idc 2 i2)) <| cnd (v52 = (idc 2 i2)) (rt (0 : Int32)) (rt (1 : Int32))) (fun u53 => pZ 12 i43 2 (v45 &&& u53) <| r33 (u32 + (1 : Int32))))) (0 : Int32))))
theorem im_X1_leave {g : GP} {l : Launch} (hl : l.stackTraces = false) (i0 : Nat) (a1 : Int32) : Im g l 42 yX1_leave cX1_leave 5 (some .int) eI [.ref (idc 0 i0), .int a1] (f_X1_leave i0 a1) := by
  refine tx_start hl 42 _ _ _ _ (by decide) (Nat.le_of_ble_eq_true rfl) fun Γ Z hΓ hZ => ?_
  subst hΓ
  unfold f_X1_leave
  show TX g Γ _ Z _ 0 [(0, .ref (idc 0 i0)), (1, .int a1)] [] _
  refine x_aload_n 0 0 dX1_leave_0 rfl ?_
  refine x_iload_n 1 1 dX1_leave_1 rfl ?_
  refine x_cVx 2 7 [.int a1] [] ⟨by decide, rfl⟩ rfl cv_X1_187 (im_X1_personAt hl i0 a1) (by decide) rfl (Nat.le_of_ble_eq_true rfl) dX1_leave_2 fun v1 => x_stR ?_
  refine x_astore_n 5 [(2, .ref v1), (0, .ref (idc 0 i0)), (1, .int a1)] dX1_leave_5 (by decide) rfl ?_
  refine x_aload_n 6 0 dX1_leave_6 rfl ?_
  refine x_aload_n 7 0 dX1_leave_7 rfl ?_
  refine x_isK fun i2 h3 => ?_
  subst h3
  refine x_getI 8 fa_X1_224_2 dX1_leave_8 fun v4 => ?_
  refine x_bndj 19 (fun u5 => [(0, .ref (idc 0 i0)), (2, .ref (idc 2 i2))]) (fun u5 => [.int u5, .ref (idc 2 i2)]) (fun u5 => ?_) (fun hj56 => ?_)
  · show TX g Γ _ Z _ 19 [(0, .ref (idc 0 i0)), (2, .ref (idc 2 i2))] [.int u5, .ref (idc 2 i2)] _
    refine x_putZ 19 fa_X1_224_2 rfl (Or.inl rfl) dX1_leave_19 ?_
    refine x_aload_n 22 1 dX1_leave_22 rfl ?_
    refine x_getI 23 fa_X1_224_2 dX1_leave_23 fun v6 => ?_
    refine x_if_ne 26 31 dX1_leave_26 rfl (fun c7 => ?_) (fun c7 => ?_)
    · refine x_iconst 29 (-1) (-1 : Int32) dX1_leave_29 rfl ?_
      exact x_iret 30 hZ rfl dX1_leave_30
    · refine x_aload_n 31 0 dX1_leave_31 rfl ?_
      refine x_aload_n 32 1 dX1_leave_32 rfl ?_
      refine x_cV 33 41 [.ref (idc 2 i2)] [] ⟨by decide, rfl⟩ cv_X1_415 (im_X1_endAll hl i0 (idc 2 i2)) (by decide) rfl (Nat.le_of_ble_eq_true rfl) dX1_leave_33 fun v8 => x_stI ?_
      refine x_istore_n 36 [(3, .int v8), (0, .ref (idc 0 i0)), (2, .ref (idc 2 i2))] dX1_leave_36 (by decide) rfl ?_
      refine x_iconst 37 0 (0 : Int32) dX1_leave_37 rfl ?_
      refine x_istore 38 [(4, .int (0 : Int32)), (3, .int v8), (0, .ref (idc 0 i0)), (2, .ref (idc 2 i2))] dX1_leave_38 (by decide) rfl ?_
      refine x_sub [2, 3, 1, 0] [(0, .ref (idc 0 i0)), (2, .ref (idc 2 i2)), (3, .int v8), (4, .int (0 : Int32))] rfl ?_
      refine x_bndj 98 (fun _ => [(0, .ref (idc 0 i0)), (2, .ref (idc 2 i2)), (3, .int v8)]) (fun _ => []) (fun _ => ?_) (fun hj11 => ?_)
      · show TX g Γ _ Z _ 98 [(0, .ref (idc 0 i0)), (2, .ref (idc 2 i2)), (3, .int v8)] [] _
        refine x_iconst 98 0 (0 : Int32) dX1_leave_98 rfl ?_
        refine x_istore 99 [(4, .int (0 : Int32)), (0, .ref (idc 0 i0)), (2, .ref (idc 2 i2)), (3, .int v8)] dX1_leave_99 (by decide) rfl ?_
        refine x_sub [1, 2, 3, 0] [(0, .ref (idc 0 i0)), (2, .ref (idc 2 i2)), (3, .int v8), (4, .int (0 : Int32))] rfl ?_
        refine x_lp (Lf := fun u32 => [(0, .ref (idc 0 i0)), (2, .ref (idc 2 i2)), (3, .int v8), (4, .int u32)]) (sf := fun _ => []) (fun r33 hr33 u32 => ?_) (0 : Int32)
        show TX g Γ _ Z _ 101 [(0, .ref (idc 0 i0)), (2, .ref (idc 2 i2)), (3, .int v8), (4, .int u32)] [] _
        refine x_iload 101 3 dX1_leave_101 rfl ?_
        refine x_aload_n 103 0 dX1_leave_103 rfl ?_
        refine x_getR 104 fa_X1_99_0 dX1_leave_104 fun v34 => ?_
        refine x_isK fun i35 h36 => ?_
        subst h36
        refine x_cF 107 0 [] [.int u32] (by decide) cf_X1_9_13 (im_J2_size hl i35) (by decide) rfl (Nat.le_of_ble_eq_true rfl) dX1_leave_107 fun v37 => x_stI ?_
        refine x_icmp_ge 112 169 dX1_leave_112 rfl (fun c38 => ?_) (fun c38 => ?_)
        · refine x_iload_n 169 2 dX1_leave_169 rfl ?_
          exact x_iret 170 hZ rfl dX1_leave_170
        · refine x_aload_n 115 0 dX1_leave_115 rfl ?_
          refine x_getR 116 fa_X1_99_0 dX1_leave_116 fun v39 => ?_
          refine x_iload 119 3 dX1_leave_119 rfl ?_
          refine x_isK fun i40 h41 => ?_
          subst h41
          refine x_cF 121 2 [.int u32] [] (by decide) cf_X1_31_13 (im_J2_get hl i40 u32) (by decide) rfl (Nat.le_of_ble_eq_true rfl) dX1_leave_121 fun v42 => x_stR ?_
          refine x_isK fun i43 h44 => ?_
          subst h44
          refine x_castS 126 (by decide) q2272 dX1_leave_126 ?_
          refine x_dup 129 dX1_leave_129 rfl ?_
          refine x_getI 130 fa_X1_383_12 dX1_leave_130 fun v45 => ?_
          refine x_aload_n 133 0 dX1_leave_133 rfl ?_
          refine x_getR 134 fa_X1_99_0 dX1_leave_134 fun v46 => ?_
          refine x_iload 137 3 dX1_leave_137 rfl ?_
          refine x_isK fun i47 h48 => ?_
          subst h48
          refine x_cF 139 2 [.int u32] [.int v45, .ref (idc 12 i43)] (by decide) cf_X1_31_13 (im_J2_get hl i47 u32) (by decide) rfl (Nat.le_of_ble_eq_true rfl) dX1_leave_139 fun v49 => x_stR ?_
          refine x_isK fun i50 h51 => ?_
          subst h51
          refine x_castS 144 (by decide) q2272 dX1_leave_144 ?_
          refine x_getR 147 fa_X1_386_12 dX1_leave_147 fun v52 => ?_
          refine x_aload_n 150 1 dX1_leave_150 rfl ?_
          refine x_bndj 159 (fun u53 => [(0, .ref (idc 0 i0)), (2, .ref (idc 2 i2)), (3, .int v8), (4, .int u32)]) (fun u53 => [.int u53, .int v45, .ref (idc 12 i43)]) (fun u53 => ?_) (fun hj54 => ?_)
          · show TX g Γ _ Z _ 159 [(0, .ref (idc 0 i0)), (2, .ref (idc 2 i2)), (3, .int v8), (4, .int u32)] [.int u53, .int v45, .ref (idc 12 i43)] _
            refine x_iand 159 dX1_leave_159 ?_
            refine x_putZ 160 fa_X1_383_12 rfl (Or.inl rfl) dX1_leave_160 ?_
            refine x_iinc 163 3 [(4, .int (u32 + (1 : Int32))), (0, .ref (idc 0 i0)), (2, .ref (idc 2 i2)), (3, .int v8)] dX1_leave_163 rfl rfl (by decide) rfl ?_
            refine x_goto 166 101 dX1_leave_166 rfl ?_
            refine x_sub [1, 2, 3, 0] _ rfl ?_
            exact hr33 (u32 + (1 : Int32))
          · refine x_acmp_eq 151 158 dX1_leave_151 rfl (fun c55 => ?_) (fun c55 => ?_)
            · refine x_iconst 158 0 (0 : Int32) dX1_leave_158 rfl ?_
              exact hj54 (0 : Int32)
            · refine x_iconst 154 1 (1 : Int32) dX1_leave_154 rfl ?_
              refine x_goto 155 159 dX1_leave_155 rfl ?_
              exact hj54 (1 : Int32)
      · refine x_lp (Lf := fun u9 => [(0, .ref (idc 0 i0)), (2, .ref (idc 2 i2)), (3, .int v8), (4, .int u9)]) (sf := fun _ => []) (fun r10 hr10 u9 => ?_) (0 : Int32)
        show TX g Γ _ Z _ 40 [(0, .ref (idc 0 i0)), (2, .ref (idc 2 i2)), (3, .int v8), (4, .int u9)] [] _
        refine x_iload 40 3 dX1_leave_40 rfl ?_
        refine x_aload_n 42 0 dX1_leave_42 rfl ?_
        refine x_getR 43 fa_X1_87_0 dX1_leave_43 fun v12 => ?_
        refine x_isK fun i13 h14 => ?_
        subst h14
        refine x_cF 46 0 [] [.int u9] (by decide) cf_X1_9_13 (im_J2_size hl i13) (by decide) rfl (Nat.le_of_ble_eq_true rfl) dX1_leave_46 fun v15 => x_stI ?_
        refine x_icmp_ge 51 98 dX1_leave_51 rfl (fun c16 => ?_) (fun c16 => ?_)
        · refine x_sub [0, 1, 2] _ rfl ?_
          exact hj11 ()
        · refine x_aload_n 54 0 dX1_leave_54 rfl ?_
          refine x_getR 55 fa_X1_87_0 dX1_leave_55 fun v17 => ?_
          refine x_iload 58 3 dX1_leave_58 rfl ?_
          refine x_isK fun i18 h19 => ?_
          subst h19
          refine x_cF 60 2 [.int u9] [] (by decide) cf_X1_31_13 (im_J2_get hl i18 u9) (by decide) rfl (Nat.le_of_ble_eq_true rfl) dX1_leave_60 fun v20 => x_stR ?_
          refine x_isK fun i21 h22 => ?_
          subst h22
          refine x_castS 65 (by decide) q1380 dX1_leave_65 ?_
          refine x_getR 68 fa_X1_419_7 dX1_leave_68 fun v23 => ?_
          refine x_aload_n 71 1 dX1_leave_71 rfl ?_
          refine x_acmp_ne 72 92 dX1_leave_72 rfl (fun c24 => ?_) (fun c24 => ?_)
          · refine x_aload_n 75 0 dX1_leave_75 rfl ?_
            refine x_getR 76 fa_X1_87_0 dX1_leave_76 fun v25 => ?_
            refine x_iload 79 3 dX1_leave_79 rfl ?_
            refine x_isK fun i26 h27 => ?_
            subst h27
            refine x_cF 81 2 [.int u9] [] (by decide) cf_X1_31_13 (im_J2_get hl i26 u9) (by decide) rfl (Nat.le_of_ble_eq_true rfl) dX1_leave_81 fun v28 => x_stR ?_
            refine x_isK fun i29 h30 => ?_
            subst h30
            refine x_castS 86 (by decide) q1380 dX1_leave_86 ?_
            refine x_cV 89 0 [] [] ⟨by decide, rfl⟩ cv_X1_420 (im_X8_deny hl i29) (by decide) rfl (Nat.le_of_ble_eq_true rfl) dX1_leave_89 fun v31 => x_stV ?_
            refine x_iinc 92 3 [(4, .int (u9 + (1 : Int32))), (0, .ref (idc 0 i0)), (2, .ref (idc 2 i2)), (3, .int v8)] dX1_leave_92 rfl rfl (by decide) rfl ?_
            refine x_goto 95 40 dX1_leave_95 rfl ?_
            refine x_sub [1, 2, 3, 0] _ rfl ?_
            exact hr10 (u9 + (1 : Int32))
          · refine x_iinc 92 3 [(4, .int (u9 + (1 : Int32))), (0, .ref (idc 0 i0)), (2, .ref (idc 2 i2)), (3, .int v8)] dX1_leave_92 rfl rfl (by decide) rfl ?_
            refine x_goto 95 40 dX1_leave_95 rfl ?_
            refine x_sub [1, 2, 3, 0] _ rfl ?_
            exact hr10 (u9 + (1 : Int32))
  · refine x_if_ne 11 18 dX1_leave_11 rfl (fun c57 => ?_) (fun c57 => ?_)
    · refine x_iconst 14 1 (1 : Int32) dX1_leave_14 rfl ?_
      refine x_goto 15 19 dX1_leave_15 rfl ?_
      refine x_sub [1, 0] _ rfl ?_
      exact hj56 (1 : Int32)
    · refine x_iconst 18 0 (0 : Int32) dX1_leave_18 rfl ?_
      refine x_sub [1, 0] _ rfl ?_
      exact hj56 (0 : Int32)
def f_X1_audit (i0 : Nat) (a1 : Int32) : PT Int32 := gR 0 i0 14 fun v1 => bnd (f_X1_at v1 a1) fun v2 => isK 5 v2 fun i3 => gI 5 i3 0 fun v5 => gI 5 i3 1 fun v6 => rt (((1000 : Int32) * v5) + v6)
theorem im_X1_audit {g : GP} {l : Launch} (hl : l.stackTraces = false) (i0 : Nat) (a1 : Int32) : Im g l 8 yX1_audit cX1_audit 3 (some .int) eI [.ref (idc 0 i0), .int a1] (f_X1_audit i0 a1) := by
  refine tx_start hl 8 _ _ _ _ (by decide) (Nat.le_of_ble_eq_true rfl) fun Γ Z hΓ hZ => ?_
  subst hΓ
  unfold f_X1_audit
  show TX g Γ _ Z _ 0 [(0, .ref (idc 0 i0)), (1, .int a1)] [] _
  refine x_aload_n 0 0 dX1_audit_0 rfl ?_
  refine x_getR 1 fa_X1_50_0 dX1_audit_1 fun v1 => ?_
  refine x_iload_n 4 1 dX1_audit_4 rfl ?_
  refine x_cSx 5 7 [.ref v1, .int a1] [] rfl cs_X1_214 (im_X1_at hl v1 a1) (by decide) rfl (Nat.le_of_ble_eq_true rfl) dX1_audit_5 fun v2 => x_stR ?_
  refine x_isK fun i3 h4 => ?_
  subst h4
  refine x_castS 8 (by decide) q851 dX1_audit_8 ?_
  refine x_astore_n 11 [(2, .ref (idc 5 i3)), (0, .ref (idc 0 i0)), (1, .int a1)] dX1_audit_11 (by decide) rfl ?_
  refine x_sipush 12 1000 (1000 : Int32) dX1_audit_12 rfl ?_
  refine x_aload_n 15 0 dX1_audit_15 rfl ?_
  refine x_getI 16 fa_X1_253_5 dX1_audit_16 fun v5 => ?_
  refine x_imul 19 dX1_audit_19 ?_
  refine x_aload_n 20 0 dX1_audit_20 rfl ?_
  refine x_getI 21 fa_X1_256_5 dX1_audit_21 fun v6 => ?_
  refine x_iadd 24 dX1_audit_24 ?_
  exact x_iret 25 hZ rfl dX1_audit_25
def f_X1_sumAnew (i0 : Nat) (a1 : Int32) : PT Int32 := gR 0 i0 14 fun v1 => isK 13 v1 fun i2 => bn0 (f_J2_size i2) fun v4 => bnd (f_X1_there a1 (v4 + (1 : Int32))) fun _ => lp (σ := Int32 × Int32) (fun r8 => un2 fun u6 u7 => cnd (a1 ≤ u7) (rt u6) (gR 0 i0 14 fun v10 => isK 13 v10 fun i11 => bn0 (f_J2_get i11 u7) fun v13 => isK 5 v13 fun i14 => bn0 (f_X6_after i14 u6) fun v16 => r8 (v16, u7 + (1 : Int32)))) ((7 : Int32), (0 : Int32))
theorem im_X1_sumAnew {g : GP} {l : Launch} (hl : l.stackTraces = false) (i0 : Nat) (a1 : Int32) : Im g l 7 yX1_sumAnew cX1_sumAnew 4 (some .int) eI [.ref (idc 0 i0), .int a1] (f_X1_sumAnew i0 a1) := by
  refine tx_start hl 7 _ _ _ _ (by decide) (Nat.le_of_ble_eq_true rfl) fun Γ Z hΓ hZ => ?_
  subst hΓ
  unfold f_X1_sumAnew
  show TX g Γ _ Z _ 0 [(0, .ref (idc 0 i0)), (1, .int a1)] [] _
  refine x_iload_n 0 1 dX1_sumAnew_0 rfl ?_
  refine x_aload_n 1 0 dX1_sumAnew_1 rfl ?_
  refine x_getR 2 fa_X1_50_0 dX1_sumAnew_2 fun v1 => ?_
  refine x_isK fun i2 h3 => ?_
  subst h3
  refine x_cF 5 0 [] [.int a1] (by decide) cf_X1_9_13 (im_J2_size hl i2) (by decide) rfl (Nat.le_of_ble_eq_true rfl) dX1_sumAnew_5 fun v4 => x_stI ?_
  refine x_iconst 10 1 (1 : Int32) dX1_sumAnew_10 rfl ?_
  refine x_iadd 11 dX1_sumAnew_11 ?_
  refine x_cSx 12 6 [.int a1, .int (v4 + (1 : Int32))] [] rfl cs_X1_158 (im_X1_there hl a1 (v4 + (1 : Int32))) (by decide) rfl (Nat.le_of_ble_eq_true rfl) dX1_sumAnew_12 fun v5 => x_stV ?_
  refine x_bipush 15 7 (7 : Int32) dX1_sumAnew_15 rfl ?_
  refine x_istore_n 17 [(2, .int (7 : Int32)), (0, .ref (idc 0 i0)), (1, .int a1)] dX1_sumAnew_17 (by decide) rfl ?_
  refine x_iconst 18 0 (0 : Int32) dX1_sumAnew_18 rfl ?_
  refine x_istore_n 19 [(3, .int (0 : Int32)), (2, .int (7 : Int32)), (0, .ref (idc 0 i0)), (1, .int a1)] dX1_sumAnew_19 (by decide) rfl ?_
  refine x_sub [2, 3, 1, 0] [(0, .ref (idc 0 i0)), (1, .int a1), (2, .int (7 : Int32)), (3, .int (0 : Int32))] rfl ?_
  refine x_lp (Lf := fun u => [(0, .ref (idc 0 i0)), (1, .int a1), (2, .int u.1), (3, .int u.2)]) (sf := fun _ => []) (fun r8 hr8 u => ?_) ((7 : Int32), (0 : Int32))
  obtain ⟨u6, u7⟩ := u
  show TX g Γ _ Z _ 20 [(0, .ref (idc 0 i0)), (1, .int a1), (2, .int u6), (3, .int u7)] [] _
  refine x_un2 ?_
  refine x_iload_n 20 3 dX1_sumAnew_20 rfl ?_
  refine x_iload_n 21 1 dX1_sumAnew_21 rfl ?_
  refine x_icmp_ge 22 49 dX1_sumAnew_22 rfl (fun c9 => ?_) (fun c9 => ?_)
  · refine x_iload_n 49 2 dX1_sumAnew_49 rfl ?_
    exact x_iret 50 hZ rfl dX1_sumAnew_50
  · refine x_aload_n 25 0 dX1_sumAnew_25 rfl ?_
    refine x_getR 26 fa_X1_50_0 dX1_sumAnew_26 fun v10 => ?_
    refine x_iload_n 29 3 dX1_sumAnew_29 rfl ?_
    refine x_isK fun i11 h12 => ?_
    subst h12
    refine x_cF 30 2 [.int u7] [] (by decide) cf_X1_31_13 (im_J2_get hl i11 u7) (by decide) rfl (Nat.le_of_ble_eq_true rfl) dX1_sumAnew_30 fun v13 => x_stR ?_
    refine x_isK fun i14 h15 => ?_
    subst h15
    refine x_castS 35 (by decide) q851 dX1_sumAnew_35 ?_
    refine x_iload_n 38 2 dX1_sumAnew_38 rfl ?_
    refine x_cV 39 0 [.int u6] [] ⟨by decide, rfl⟩ cv_X1_56 (im_X6_after hl i14 u6) (by decide) rfl (Nat.le_of_ble_eq_true rfl) dX1_sumAnew_39 fun v16 => x_stI ?_
    refine x_istore_n 42 [(2, .int v16), (0, .ref (idc 0 i0)), (1, .int a1), (3, .int u7)] dX1_sumAnew_42 (by decide) rfl ?_
    refine x_iinc 43 3 [(3, .int (u7 + (1 : Int32))), (2, .int v16), (0, .ref (idc 0 i0)), (1, .int a1)] dX1_sumAnew_43 rfl rfl (by decide) rfl ?_
    refine x_goto 46 20 dX1_sumAnew_46 rfl ?_
    refine x_sub [2, 3, 1, 0] _ rfl ?_
    exact hr8 (v16, u7 + (1 : Int32))
