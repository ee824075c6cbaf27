/-! ===== the court's methods over views (printed by gen/views.py) ===== -/
def h_X2_init (i0 : Nat) : PV Unit := hnL 12 fun i1 => hpR 1 i0 0 (idc 13 i1) <| hrt ()
theorem s_X2_init (i0 : Nat) : Sim (h_X2_init i0) (f_X2_init i0) := by
  unfold h_X2_init f_X2_init
  refine s_nL (by decide +kernel) (by decide) fun i1 => ?_
  refine s_pR rfl ?_
  exact s_rt _
def h_X3_init (i0 : Nat) (a1 : Nat) (a2 : Int32) : PV Unit := hpR 2 i0 10 a1 <| hnwA 32 (3 : Int32) fun i1 => hpR 2 i0 1 (idc 32 i1) <| hnwA 32 (3 : Int32) fun i2 => hpR 2 i0 2 (idc 32 i2) <| hnB fun i3 => hpR 2 i0 6 (idc 14 i3) <| hnB fun i5 => hpR 2 i0 7 (idc 14 i5) <| hnwA 32 (4 : Int32) fun i7 => hpR 2 i0 8 (idc 32 i7) <| hnW fun i8 => hpR 2 i0 9 (idc 15 i8) <| hpI 2 i0 0 a2 <| hrt ()
theorem s_X3_init (i0 : Nat) (a1 : Nat) (a2 : Int32) : Sim (h_X3_init i0 a1 a2) (f_X3_init i0 a1 a2) := by
  unfold h_X3_init f_X3_init
  refine s_pR rfl ?_
  refine s_nwA rfl fun i1 => ?_
  refine s_pR rfl ?_
  refine s_nwA rfl fun i2 => ?_
  refine s_pR rfl ?_
  refine s_nB fun i3 => ?_
  refine s_pR rfl ?_
  refine s_nB fun i5 => ?_
  refine s_pR rfl ?_
  refine s_nwA rfl fun i7 => ?_
  refine s_pR rfl ?_
  refine s_nW fun i8 => ?_
  refine s_pR rfl ?_
  refine s_pI rfl ?_
  exact s_rt _
def h_X4_init (i0 : Nat) (a1 : Nat) : PV Unit := hpR 3 i0 6 a1 <| hnB fun i1 => hpR 3 i0 1 (idc 14 i1) <| hnB fun i3 => hpR 3 i0 3 (idc 14 i3) <| hnW fun i5 => hpR 3 i0 4 (idc 15 i5) <| hgR 3 i0 1 fun v7 => hisK 14 v7 fun i8 => hbn0 (h_J18_set i8 (0 : Int32)) (fun _ => hrt ())
theorem s_X4_init (i0 : Nat) (a1 : Nat) : Sim (h_X4_init i0 a1) (f_X4_init i0 a1) := by
  unfold h_X4_init f_X4_init
  refine s_pR rfl ?_
  refine s_nB fun i1 => ?_
  refine s_pR rfl ?_
  refine s_nB fun i3 => ?_
  refine s_pR rfl ?_
  refine s_nW fun i5 => ?_
  refine s_pR rfl ?_
  refine s_gR rfl fun v7 => ?_
  refine s_isK fun i8 => ?_
  refine s_bn0 (s_J18_set i8 (0 : Int32)) fun _ => ?_
  exact s_rt _
def h_X1_init (i0 : Nat) : PV Unit := hnwA 36 (6 : Int32) fun i1 => hpR 0 i0 0 (idc 36 i1) <| hnw 1 1 fun i2 => hbn0 (h_X2_init i2) (fun _ => hpR 0 i0 1 (idc 1 i2) <| hnL 8 fun i4 => hpR 0 i0 2 (idc 13 i4) <| hnL 0 fun i6 => hpR 0 i0 3 (idc 13 i6) <| hnL 0 fun i8 => hpR 0 i0 4 (idc 13 i8) <| hnL 0 fun i10 => hpR 0 i0 5 (idc 13 i10) <| hnL 0 fun i12 => hpR 0 i0 6 (idc 13 i12) <| hnL 0 fun i14 => hpR 0 i0 7 (idc 13 i14) <| hnL 0 fun i16 => hpR 0 i0 8 (idc 13 i16) <| hnwA 37 (4 : Int32) fun i18 => hpR 0 i0 9 (idc 37 i18) <| hnwA 32 (4 : Int32) fun i19 => hpR 0 i0 10 (idc 32 i19) <| hnwA 36 (6 : Int32) fun i20 => hpR 0 i0 11 (idc 36 i20) <| hnwA 32 (3 : Int32) fun i21 => hbI 32 i21 (0 : Int32) (2 : Int32) <| hbI 32 i21 (1 : Int32) (1 : Int32) <| hbI 32 i21 (2 : Int32) (1 : Int32) <| hpR 0 i0 12 (idc 32 i21) <| hnwA 32 (3 : Int32) fun i22 => hbI 32 i22 (0 : Int32) (-1 : Int32) <| hbI 32 i22 (1 : Int32) (-1 : Int32) <| hbI 32 i22 (2 : Int32) (-1 : Int32) <| hpR 0 i0 13 (idc 32 i22) <| hnL 0 fun i23 => hpR 0 i0 14 (idc 13 i23) <| hpI 0 i0 15 (7 : Int32) <| hnB fun i25 => hpR 0 i0 17 (idc 14 i25) <| hnwA 32 (20 : Int32) fun i27 => hpR 0 i0 18 (idc 32 i27) <| hpI 0 i0 19 (1 : Int32) <| hpI 0 i0 21 (-1 : Int32) <| hbnd (hlp (σ := Int32) (fun r29 => fun u28 => hcnd ((6 : Int32) ≤ u28) (hrt ()) (hgR 0 i0 0 fun v32 => hnw 2 11 fun i33 => hbn0 (h_X3_init i33 (idc 0 i0) u28) (fun _ => hisK 36 v32 fun i35 => hbR 36 i35 u28 (idc 2 i33) <| r29 (u28 + (1 : Int32))))) (0 : Int32)) (fun _ => hgR 0 i0 17 fun v37 => hisK 14 v37 fun i38 => hbn0 (h_J18_set i38 (0 : Int32)) (fun _ => hbnd (hlp (σ := Int32) (fun r42 => fun u41 => hcnd ((4 : Int32) ≤ u41) (hrt ()) (hgR 0 i0 9 fun v45 => hnw 3 7 fun i46 => hbn0 (h_X4_init i46 (idc 0 i0)) (fun _ => hisK 37 v45 fun i48 => hbR 37 i48 u41 (idc 3 i46) <| r42 (u41 + (1 : Int32))))) (0 : Int32)) (fun _ => hlp (σ := Int32) (fun r51 => fun u50 => hcnd ((20 : Int32) ≤ u50) (hrt ()) (hgR 0 i0 18 fun v53 => hisK 32 v53 fun i54 => hbI 32 i54 u50 (-1 : Int32) <| r51 (u50 + (1 : Int32)))) (0 : Int32)))))
theorem s_X1_init (i0 : Nat) : Sim (h_X1_init i0) (f_X1_init i0) := by
  unfold h_X1_init f_X1_init
  refine s_nwA rfl fun i1 => ?_
  refine s_pR rfl ?_
  refine s_nw rfl fun i2 => ?_
  refine s_bn0 (s_X2_init i2) fun _ => ?_
  refine s_pR rfl ?_
  refine s_nL (by decide +kernel) (by decide) fun i4 => ?_
  refine s_pR rfl ?_
  refine s_nL0 fun i6 => ?_
  refine s_pR rfl ?_
  refine s_nL0 fun i8 => ?_
  refine s_pR rfl ?_
  refine s_nL0 fun i10 => ?_
  refine s_pR rfl ?_
  refine s_nL0 fun i12 => ?_
  refine s_pR rfl ?_
  refine s_nL0 fun i14 => ?_
  refine s_pR rfl ?_
  refine s_nL0 fun i16 => ?_
  refine s_pR rfl ?_
  refine s_nwA rfl fun i18 => ?_
  refine s_pR rfl ?_
  refine s_nwA rfl fun i19 => ?_
  refine s_pR rfl ?_
  refine s_nwA rfl fun i20 => ?_
  refine s_pR rfl ?_
  refine s_nwA rfl fun i21 => ?_
  refine s_bI rfl ?_
  refine s_bI rfl ?_
  refine s_bI rfl ?_
  refine s_pR rfl ?_
  refine s_nwA rfl fun i22 => ?_
  refine s_bI rfl ?_
  refine s_bI rfl ?_
  refine s_bI rfl ?_
  refine s_pR rfl ?_
  refine s_nL0 fun i23 => ?_
  refine s_pR rfl ?_
  refine s_pI rfl ?_
  refine s_nB fun i25 => ?_
  refine s_pR rfl ?_
  refine s_nwA rfl fun i27 => ?_
  refine s_pR rfl ?_
  refine s_pI rfl ?_
  refine s_pI rfl ?_
  refine s_bnd ?_ ?_
  · refine s_lp (fun r29 r29q hr29 => ?_) (0 : Int32)
    intro u28
    refine s_cnd ?_ ?_
    · exact s_rt _
    · refine s_gR rfl fun v32 => ?_
      refine s_nw rfl fun i33 => ?_
      refine s_bn0 (s_X3_init i33 (idc 0 i0) u28) fun _ => ?_
      refine s_isK fun i35 => ?_
      refine s_bR rfl ?_
      exact hr29 _
  refine fun _ => ?_
  refine s_gR rfl fun v37 => ?_
  refine s_isK fun i38 => ?_
  refine s_bn0 (s_J18_set i38 (0 : Int32)) fun _ => ?_
  refine s_bnd ?_ ?_
  · refine s_lp (fun r42 r42q hr42 => ?_) (0 : Int32)
    intro u41
    refine s_cnd ?_ ?_
    · exact s_rt _
    · refine s_gR rfl fun v45 => ?_
      refine s_nw rfl fun i46 => ?_
      refine s_bn0 (s_X4_init i46 (idc 0 i0)) fun _ => ?_
      refine s_isK fun i48 => ?_
      refine s_bR rfl ?_
      exact hr42 _
  refine fun _ => ?_
  refine s_lp (fun r51 r51q hr51 => ?_) (0 : Int32)
  intro u50
  refine s_cnd ?_ ?_
  · exact s_rt _
  · refine s_gR rfl fun v53 => ?_
    refine s_isK fun i54 => ?_
    refine s_bI rfl ?_
    exact hr51 _
def h_X1_clear (i0 : Nat) : PV Int32 := hgR 0 i0 1 fun v1 => hisK 1 v1 fun i2 => hgR 1 i2 0 fun v4 => hisK 13 v4 fun i5 => hbn0 (h_J2_size i5) (fun v7 => hnw 1 1 fun i8 => hbn0 (h_X2_init i8) (fun _ => hpR 0 i0 1 (idc 1 i8) <| hrt v7))
theorem s_X1_clear (i0 : Nat) : Sim (h_X1_clear i0) (f_X1_clear i0) := by
  unfold h_X1_clear f_X1_clear
  refine s_gR rfl fun v1 => ?_
  refine s_isK fun i2 => ?_
  refine s_gR rfl fun v4 => ?_
  refine s_isK fun i5 => ?_
  refine s_bn0 (s_J2_size i5) fun v7 => ?_
  refine s_nw rfl fun i8 => ?_
  refine s_bn0 (s_X2_init i8) fun _ => ?_
  refine s_pR rfl ?_
  exact s_rt _
def h_X1_sessions (i0 : Nat) : PV Int32 := hgR 0 i0 4 fun v1 => hisK 13 v1 fun i2 => hbn0 (h_J2_size i2) (fun v4 => hrt v4)
theorem s_X1_sessions (i0 : Nat) : Sim (h_X1_sessions i0) (f_X1_sessions i0) := by
  unfold h_X1_sessions f_X1_sessions
  refine s_gR rfl fun v1 => ?_
  refine s_isK fun i2 => ?_
  refine s_bn0 (s_J2_size i2) fun v4 => ?_
  exact s_rt _
def h_X1_signing (i0 : Nat) : PV Int32 := hgI 0 i0 20 fun v1 => hrt v1
theorem s_X1_signing (i0 : Nat) : Sim (h_X1_signing i0) (f_X1_signing i0) := by
  unfold h_X1_signing f_X1_signing
  refine s_gI rfl fun v1 => ?_
  exact s_rt _
def h_X1_audits (i0 : Nat) : PV Int32 := hgR 0 i0 14 fun v1 => hisK 13 v1 fun i2 => hbn0 (h_J2_size i2) (fun v4 => hrt v4)
theorem s_X1_audits (i0 : Nat) : Sim (h_X1_audits i0) (f_X1_audits i0) := by
  unfold h_X1_audits f_X1_audits
  refine s_gR rfl fun v1 => ?_
  refine s_isK fun i2 => ?_
  refine s_bn0 (s_J2_size i2) fun v4 => ?_
  exact s_rt _
def h_X1_sum (i0 : Nat) : PV Int32 := hgI 0 i0 15 fun v1 => hrt v1
theorem s_X1_sum (i0 : Nat) : Sim (h_X1_sum i0) (f_X1_sum i0) := by
  unfold h_X1_sum f_X1_sum
  refine s_gI rfl fun v1 => ?_
  exact s_rt _
def h_X1_fit (a1 : Int32) (a2 : Int32) (a3 : Int32) : PV Unit := hcnd (a1 < a2) (hthr "java/lang/IllegalArgumentException") (hcnd (a1 ≤ a3) (hrt ()) (hthr "java/lang/IllegalArgumentException"))
theorem s_X1_fit (a1 : Int32) (a2 : Int32) (a3 : Int32) : Sim (h_X1_fit a1 a2 a3) (f_X1_fit a1 a2 a3) := by
  unfold h_X1_fit f_X1_fit
  refine s_cnd ?_ ?_
  · exact s_thr
  · refine s_cnd ?_ ?_
    · exact s_rt _
    · exact s_thr
def h_X1_can (a1 : Int32) : PV Unit := hcnd (a1 = 0) (hthr "java/lang/IllegalStateException") (hrt ())
theorem s_X1_can (a1 : Int32) : Sim (h_X1_can a1) (f_X1_can a1) := by
  unfold h_X1_can f_X1_can
  refine s_cnd ?_ ?_
  · exact s_thr
  · exact s_rt _
def h_X6_init (i0 : Nat) (a1 : Int32) (a2 : Int32) (a3 : Int32) : PV Unit := hpI 5 i0 0 a1 <| hpI 5 i0 1 a2 <| hpI 5 i0 2 a3 <| hrt ()
theorem s_X6_init (i0 : Nat) (a1 : Int32) (a2 : Int32) (a3 : Int32) : Sim (h_X6_init i0 a1 a2 a3) (f_X6_init i0 a1 a2 a3) := by
  unfold h_X6_init f_X6_init
  refine s_pI rfl ?_
  refine s_pI rfl ?_
  refine s_pI rfl ?_
  exact s_rt _
def h_X6_after (i0 : Nat) (a1 : Int32) : PV Int32 := hgI 5 i0 0 fun v1 => hgI 5 i0 1 fun v2 => hgI 5 i0 2 fun v3 => hrt ((((((31 : Int64) * a1.toInt64) + ((100 : Int64) * v1.toInt64)) + v2.toInt64) + v3.toInt64) - (((((((31 : Int64) * a1.toInt64) + ((100 : Int64) * v1.toInt64)) + v2.toInt64) + v3.toInt64) / (65521 : Int64)) * (65521 : Int64))).toInt32
theorem s_X6_after (i0 : Nat) (a1 : Int32) : Sim (h_X6_after i0 a1) (f_X6_after i0 a1) := by
  unfold h_X6_after f_X6_after
  refine s_gI rfl fun v1 => ?_
  refine s_gI rfl fun v2 => ?_
  refine s_gI rfl fun v3 => ?_
  exact s_rt _
def h_X1_write (i0 : Nat) (a1 : Int32) (a2 : Int32) : PV Unit := hnw 5 3 fun i1 => hgI 0 i0 16 fun v2 => hbn0 (h_X6_init i1 a1 a2 v2) (fun _ => hgR 0 i0 14 fun v4 => hisK 13 v4 fun i5 => hbn0 (h_J2_add i5 (idc 5 i1)) (fun v7 => hgI 0 i0 15 fun v8 => hbn0 (h_X6_after i1 v8) (fun v9 => hpI 0 i0 15 v9 <| hrt ())))
theorem s_X1_write (i0 : Nat) (a1 : Int32) (a2 : Int32) : Sim (h_X1_write i0 a1 a2) (f_X1_write i0 a1 a2) := by
  unfold h_X1_write f_X1_write
  refine s_nw rfl fun i1 => ?_
  refine s_gI rfl fun v2 => ?_
  refine s_bn0 (s_X6_init i1 a1 a2 v2) fun _ => ?_
  refine s_gR rfl fun v4 => ?_
  refine s_isK fun i5 => ?_
  refine s_bn0 (s_J2_add i5 (idc 5 i1)) fun v7 => ?_
  refine s_gI rfl fun v8 => ?_
  refine s_bn0 (s_X6_after i1 v8) fun v9 => ?_
  refine s_pI rfl ?_
  exact s_rt _
def h_X1_sign (i0 : Nat) (a1 : Int32) : PV Unit := hpI 0 i0 20 a1 <| hbn0 (h_X1_write i0 (5 : Int32) a1) (fun _ => hrt ())
theorem s_X1_sign (i0 : Nat) (a1 : Int32) : Sim (h_X1_sign i0 a1) (f_X1_sign i0 a1) := by
  unfold h_X1_sign f_X1_sign
  refine s_pI rfl ?_
  refine s_bn0 (s_X1_write i0 (5 : Int32) a1) fun _ => ?_
  exact s_rt _
def h_X1_turnKeys (i0 : Nat) : PV Unit := hgI 0 i0 21 fun v1 => hbnd (ρ := _) (α := Unit) (hcnd (v1 = (-1 : Int32)) (hrt ()) (hgI 0 i0 16 fun v27 => hgI 0 i0 22 fun v28 => hcnd (v27 = v28) (hgR 0 i0 18 fun v30 => hgI 0 i0 20 fun v31 => hgI 0 i0 16 fun v32 => hisK 32 v30 fun i33 => hbI 32 i33 v31 (v32 + (20 : Int32)) <| hgI 0 i0 21 fun v35 => hbn0 (h_X1_sign i0 v35) (fun _ => hpI 0 i0 21 (-1 : Int32) <| hrt ())) (hrt ()))) (fun _ => hlp (σ := Int32) (fun r3 => fun u2 => hgI 0 i0 19 fun v4 => hcnd (v4 ≤ u2) (hrt ()) (hgR 0 i0 17 fun v6 => hgR 0 i0 17 fun v7 => hisK 14 v7 fun i8 => hbn0 (h_J18_get i8 u2) (fun v10 => hbnd (ρ := _) (α := Int32) (hjo (σ := Unit) (fun _ => hrt (0 : Int32)) fun j17 => hcnd (v10 = 0) (j17 ()) (hgR 0 i0 18 fun v19 => hisK 32 v19 fun i20 => haI 32 i20 u2 fun v22 => hgI 0 i0 16 fun v23 => hcnd (v22 = v23) (j17 ()) (hrt (1 : Int32)))) (fun u11 => hisK 14 v6 fun i12 => hbn0 (h_J18_set_2 i12 u2 u11) (fun _ => r3 (u2 + (1 : Int32))))))) (0 : Int32))
theorem s_X1_turnKeys (i0 : Nat) : Sim (h_X1_turnKeys i0) (f_X1_turnKeys i0) := by
  unfold h_X1_turnKeys f_X1_turnKeys
  refine s_gI rfl fun v1 => ?_
  refine s_bnd ?_ ?_
  · refine s_cnd ?_ ?_
    · exact s_rt _
    · refine s_gI rfl fun v27 => ?_
      refine s_gI rfl fun v28 => ?_
      refine s_cnd ?_ ?_
      · refine s_gR rfl fun v30 => ?_
        refine s_gI rfl fun v31 => ?_
        refine s_gI rfl fun v32 => ?_
        refine s_isK fun i33 => ?_
        refine s_bI rfl ?_
        refine s_gI rfl fun v35 => ?_
        refine s_bn0 (s_X1_sign i0 v35) fun _ => ?_
        refine s_pI rfl ?_
        exact s_rt _
      · exact s_rt _
  refine fun _ => ?_
  refine s_lp (fun r3 r3q hr3 => ?_) (0 : Int32)
  intro u2
  refine s_gI rfl fun v4 => ?_
  refine s_cnd ?_ ?_
  · exact s_rt _
  · refine s_gR rfl fun v6 => ?_
    refine s_gR rfl fun v7 => ?_
    refine s_isK fun i8 => ?_
    refine s_bn0 (s_J18_get i8 u2) fun v10 => ?_
    refine s_bnd ?_ ?_
    · refine s_jo (fun _ => ?_) fun j17 j17q hj17 => ?_
      · exact s_rt _
      refine s_cnd ?_ ?_
      · exact hj17 _
      · refine s_gR rfl fun v19 => ?_
        refine s_isK fun i20 => ?_
        refine s_aI rfl fun v22 => ?_
        refine s_gI rfl fun v23 => ?_
        refine s_cnd ?_ ?_
        · exact hj17 _
        · exact s_rt _
    refine fun u11 => ?_
    refine s_isK fun i12 => ?_
    refine s_bn0 (s_J18_set_2 i12 u2 u11) fun _ => ?_
    exact hr3 _
def h_X9_isOut (i0 : Nat) : PV Int32 := hgR 8 i0 8 fun v1 => hisK 0 v1 fun i2 => hgI 0 i2 16 fun v4 => hgI 8 i0 4 fun v5 => hcnd ((30 : Int32) < (v4 - v5)) (hasr (((1 : Int32) = 0) ∨ ((1 : Int32) = 1)) (hrt (1 : Int32))) (hgR 8 i0 8 fun v7 => hisK 0 v7 fun i8 => hgI 0 i8 16 fun v10 => hgI 8 i0 3 fun v11 => hcnd ((v10 - v11) ≤ (480 : Int32)) (hasr (((0 : Int32) = 0) ∨ ((0 : Int32) = 1)) (hrt (0 : Int32))) (hasr (((1 : Int32) = 0) ∨ ((1 : Int32) = 1)) (hrt (1 : Int32))))
theorem s_X9_isOut (i0 : Nat) : Sim (h_X9_isOut i0) (f_X9_isOut i0) := by
  unfold h_X9_isOut f_X9_isOut
  refine s_gR rfl fun v1 => ?_
  refine s_isK fun i2 => ?_
  refine s_gI rfl fun v4 => ?_
  refine s_gI rfl fun v5 => ?_
  refine s_cnd ?_ ?_
  · refine s_asr ?_
    exact s_rt _
  · refine s_gR rfl fun v7 => ?_
    refine s_isK fun i8 => ?_
    refine s_gI rfl fun v10 => ?_
    refine s_gI rfl fun v11 => ?_
    refine s_cnd ?_ ?_
    · refine s_asr ?_
      exact s_rt _
    · refine s_asr ?_
      exact s_rt _
def h_X4_tell (i0 : Nat) (a1 : Nat) : PV Unit := hgI 3 i0 0 fun v1 => hcnd (v1 = 0) (hgR 3 i0 3 fun v3 => hisK 10 a1 fun i4 => hgI 10 i4 0 fun v6 => hisK 14 v3 fun i7 => hbn0 (h_J18_set i7 v6) (fun _ => hrt ())) (hgR 3 i0 4 fun v10 => hisK 15 v10 fun i11 => hbn0 (h_J20_add i11 a1) (fun v13 => hrt ()))
theorem s_X4_tell (i0 : Nat) (a1 : Nat) : Sim (h_X4_tell i0 a1) (f_X4_tell i0 a1) := by
  unfold h_X4_tell f_X4_tell
  refine s_gI rfl fun v1 => ?_
  refine s_cnd ?_ ?_
  · refine s_gR rfl fun v3 => ?_
    refine s_isK fun i4 => ?_
    refine s_gI rfl fun v6 => ?_
    refine s_isK fun i7 => ?_
    refine s_bn0 (s_J18_set i7 v6) fun _ => ?_
    exact s_rt _
  · refine s_gR rfl fun v10 => ?_
    refine s_isK fun i11 => ?_
    refine s_bn0 (s_J20_add i11 a1) fun v13 => ?_
    exact s_rt _
def h_X11_end (i0 : Nat) : PV Int32 := hgI 10 i0 5 fun v1 => hcnd (v1 = 0) (hasr (((0 : Int32) = 0) ∨ ((0 : Int32) = 1)) (hrt (0 : Int32))) (hpZ 10 i0 5 (0 : Int32) <| hgR 10 i0 10 fun v3 => hgI 10 i0 0 fun v4 => hisK 0 v3 fun i5 => hbn0 (h_X1_write i5 (3 : Int32) v4) (fun _ => hgR 10 i0 8 fun v8 => hisK 14 v8 fun i9 => hbn0 (h_J18_nextSetBit i9 (0 : Int32)) (fun v11 => hlp (σ := Int32) (fun r13 => fun u12 => hcnd (u12 < 0) (hasr (((1 : Int32) = 0) ∨ ((1 : Int32) = 1)) (hrt (1 : Int32))) (hgR 10 i0 10 fun v15 => hisK 0 v15 fun i16 => hgR 0 i16 9 fun v18 => hisK 37 v18 fun i19 => haR 37 i19 u12 fun v21 => hisK 3 v21 fun i22 => hbn0 (h_X4_tell i22 (idc 10 i0)) (fun _ => hgR 10 i0 8 fun v25 => hisK 14 v25 fun i26 => hbn0 (h_J18_nextSetBit i26 (u12 + (1 : Int32))) (fun v28 => r13 v28)))) v11)))
theorem s_X11_end (i0 : Nat) : Sim (h_X11_end i0) (f_X11_end i0) := by
  unfold h_X11_end f_X11_end
  refine s_gI rfl fun v1 => ?_
  refine s_cnd ?_ ?_
  · refine s_asr ?_
    exact s_rt _
  · refine s_pZ rfl ?_
    refine s_gR rfl fun v3 => ?_
    refine s_gI rfl fun v4 => ?_
    refine s_isK fun i5 => ?_
    refine s_bn0 (s_X1_write i5 (3 : Int32) v4) fun _ => ?_
    refine s_gR rfl fun v8 => ?_
    refine s_isK fun i9 => ?_
    refine s_bn0 (s_J18_nextSetBit i9 (0 : Int32)) fun v11 => ?_
    refine s_lp (fun r13 r13q hr13 => ?_) v11
    intro u12
    refine s_cnd ?_ ?_
    · refine s_asr ?_
      exact s_rt _
    · refine s_gR rfl fun v15 => ?_
      refine s_isK fun i16 => ?_
      refine s_gR rfl fun v18 => ?_
      refine s_isK fun i19 => ?_
      refine s_aR rfl fun v21 => ?_
      refine s_isK fun i22 => ?_
      refine s_bn0 (s_X4_tell i22 (idc 10 i0)) fun _ => ?_
      refine s_gR rfl fun v25 => ?_
      refine s_isK fun i26 => ?_
      refine s_bn0 (s_J18_nextSetBit i26 (u12 + (1 : Int32))) fun v28 => ?_
      exact hr13 _
def h_X9_end : Nat → Nat → PV Int32
  | 0 => fun i0 => hstk
  | n + 1 => fun i0 => hgI 8 i0 5 fun v1 => hcnd (v1 = 0) (hrt (0 : Int32)) (hpZ 8 i0 5 (0 : Int32) <| hgR 8 i0 8 fun v3 => hgI 8 i0 0 fun v4 => hisK 0 v3 fun i5 => hbn0 (h_X1_write i5 (1 : Int32) v4) (fun _ => hgI 8 i0 0 fun v8 => hbnd (hlp (σ := Int32 × Int32) (fun r11 => un2 fun u9 u10 => hgR 8 i0 8 fun v14 => hisK 0 v14 fun i15 => hgR 0 i15 4 fun v17 => hisK 13 v17 fun i18 => hbn0 (h_J2_size i18) (fun v20 => hcnd (v20 ≤ u10) (hrt u9) (hgR 8 i0 8 fun v22 => hisK 0 v22 fun i23 => hgR 0 i23 4 fun v25 => hisK 13 v25 fun i26 => hbn0 (h_J2_get i26 u10) (fun v28 => hisK 8 v28 fun i29 => hgR 8 i29 2 fun v31 => hasr ((cmpN v31) ∧ (cmpN (idc 8 i0))) (hcnd (v31 = (idc 8 i0)) (hgR 8 i0 8 fun v33 => hisK 0 v33 fun i34 => hgR 0 i34 4 fun v36 => hisK 13 v36 fun i37 => hbn0 (h_J2_get i37 u10) (fun v39 => hisK 8 v39 fun i40 => hbn0 (h_X9_end n i40) (fun v42 => r11 ((u9 + v42), (u10 + (1 : Int32)))))) (r11 ((u9 + (0 : Int32)), (u10 + (1 : Int32))))))))) ((1 : Int32), (v8 + (1 : Int32)))) (fun u12 => hlp (σ := Int32) (fun r44 => fun u43 => hgR 8 i0 8 fun v45 => hisK 0 v45 fun i46 => hgR 0 i46 6 fun v48 => hisK 13 v48 fun i49 => hbn0 (h_J2_size i49) (fun v51 => hcnd (v51 ≤ u43) (hrt u12) (hgR 8 i0 8 fun v53 => hisK 0 v53 fun i54 => hgR 0 i54 6 fun v56 => hisK 13 v56 fun i57 => hbn0 (h_J2_get i57 u43) (fun v59 => hisK 10 v59 fun i60 => hgR 10 i60 1 fun v62 => hasr ((cmpN v62) ∧ (cmpN (idc 8 i0))) (hcnd (v62 = (idc 8 i0)) (hgR 8 i0 8 fun v64 => hisK 0 v64 fun i65 => hgR 0 i65 6 fun v67 => hisK 13 v67 fun i68 => hbn0 (h_J2_get i68 u43) (fun v70 => hisK 10 v70 fun i71 => hbn0 (h_X11_end i71) (fun v73 => r44 (u43 + (1 : Int32))))) (r44 (u43 + (1 : Int32)))))))) (0 : Int32))))
theorem s_X9_end : ∀ (n i0 : Nat), Sim (h_X9_end n i0) (f_X9_end n i0) := by
  intro n
  induction n with
  | zero => exact fun _ => s_stk
  | succ n ih =>
    intro i0
    show Sim (hgI 8 i0 5 fun v1 => hcnd (v1 = 0) (hrt (0 : Int32)) (hpZ 8 i0 5 (0 : Int32) <| hgR 8 i0 8 fun v3 => hgI 8 i0 0 fun v4 => hisK 0 v3 fun i5 => hbn0 (h_X1_write i5 (1 : Int32) v4) (fun _ => hgI 8 i0 0 fun v8 => hbnd (hlp (σ := Int32 × Int32) (fun r11 => un2 fun u9 u10 => hgR 8 i0 8 fun v14 => hisK 0 v14 fun i15 => hgR 0 i15 4 fun v17 => hisK 13 v17 fun i18 => hbn0 (h_J2_size i18) (fun v20 => hcnd (v20 ≤ u10) (hrt u9) (hgR 8 i0 8 fun v22 => hisK 0 v22 fun i23 => hgR 0 i23 4 fun v25 => hisK 13 v25 fun i26 => hbn0 (h_J2_get i26 u10) (fun v28 => hisK 8 v28 fun i29 => hgR 8 i29 2 fun v31 => hasr ((cmpN v31) ∧ (cmpN (idc 8 i0))) (hcnd (v31 = (idc 8 i0)) (hgR 8 i0 8 fun v33 => hisK 0 v33 fun i34 => hgR 0 i34 4 fun v36 => hisK 13 v36 fun i37 => hbn0 (h_J2_get i37 u10) (fun v39 => hisK 8 v39 fun i40 => hbn0 (h_X9_end n i40) (fun v42 => r11 ((u9 + v42), (u10 + (1 : Int32)))))) (r11 ((u9 + (0 : Int32)), (u10 + (1 : Int32))))))))) ((1 : Int32), (v8 + (1 : Int32)))) (fun u12 => hlp (σ := Int32) (fun r44 => fun u43 => hgR 8 i0 8 fun v45 => hisK 0 v45 fun i46 => hgR 0 i46 6 fun v48 => hisK 13 v48 fun i49 => hbn0 (h_J2_size i49) (fun v51 => hcnd (v51 ≤ u43) (hrt u12) (hgR 8 i0 8 fun v53 => hisK 0 v53 fun i54 => hgR 0 i54 6 fun v56 => hisK 13 v56 fun i57 => hbn0 (h_J2_get i57 u43) (fun v59 => hisK 10 v59 fun i60 => hgR 10 i60 1 fun v62 => hasr ((cmpN v62) ∧ (cmpN (idc 8 i0))) (hcnd (v62 = (idc 8 i0)) (hgR 8 i0 8 fun v64 => hisK 0 v64 fun i65 => hgR 0 i65 6 fun v67 => hisK 13 v67 fun i68 => hbn0 (h_J2_get i68 u43) (fun v70 => hisK 10 v70 fun i71 => hbn0 (h_X11_end i71) (fun v73 => r44 (u43 + (1 : Int32))))) (r44 (u43 + (1 : Int32)))))))) (0 : Int32))))) (f_X9_end (n + 1) i0)
    unfold f_X9_end
    refine s_gI rfl fun v1 => ?_
    refine s_cnd ?_ ?_
    · exact s_rt _
    · refine s_pZ rfl ?_
      refine s_gR rfl fun v3 => ?_
      refine s_gI rfl fun v4 => ?_
      refine s_isK fun i5 => ?_
      refine s_bn0 (s_X1_write i5 (1 : Int32) v4) fun _ => ?_
      refine s_gI rfl fun v8 => ?_
      refine s_bnd ?_ ?_
      · refine s_lp (fun r11 r11q hr11 => ?_) ((1 : Int32), (v8 + (1 : Int32)))
        refine s_un2 fun u9 u10 => ?_
        refine s_gR rfl fun v14 => ?_
        refine s_isK fun i15 => ?_
        refine s_gR rfl fun v17 => ?_
        refine s_isK fun i18 => ?_
        refine s_bn0 (s_J2_size i18) fun v20 => ?_
        refine s_cnd ?_ ?_
        · exact s_rt _
        · refine s_gR rfl fun v22 => ?_
          refine s_isK fun i23 => ?_
          refine s_gR rfl fun v25 => ?_
          refine s_isK fun i26 => ?_
          refine s_bn0 (s_J2_get i26 u10) fun v28 => ?_
          refine s_isK fun i29 => ?_
          refine s_gR rfl fun v31 => ?_
          refine s_asr ?_
          refine s_cnd ?_ ?_
          · refine s_gR rfl fun v33 => ?_
            refine s_isK fun i34 => ?_
            refine s_gR rfl fun v36 => ?_
            refine s_isK fun i37 => ?_
            refine s_bn0 (s_J2_get i37 u10) fun v39 => ?_
            refine s_isK fun i40 => ?_
            refine s_bn0 (ih i40) fun v42 => ?_
            exact hr11 _
          · exact hr11 _
      refine fun u12 => ?_
      refine s_lp (fun r44 r44q hr44 => ?_) (0 : Int32)
      intro u43
      refine s_gR rfl fun v45 => ?_
      refine s_isK fun i46 => ?_
      refine s_gR rfl fun v48 => ?_
      refine s_isK fun i49 => ?_
      refine s_bn0 (s_J2_size i49) fun v51 => ?_
      refine s_cnd ?_ ?_
      · exact s_rt _
      · refine s_gR rfl fun v53 => ?_
        refine s_isK fun i54 => ?_
        refine s_gR rfl fun v56 => ?_
        refine s_isK fun i57 => ?_
        refine s_bn0 (s_J2_get i57 u43) fun v59 => ?_
        refine s_isK fun i60 => ?_
        refine s_gR rfl fun v62 => ?_
        refine s_asr ?_
        refine s_cnd ?_ ?_
        · refine s_gR rfl fun v64 => ?_
          refine s_isK fun i65 => ?_
          refine s_gR rfl fun v67 => ?_
          refine s_isK fun i68 => ?_
          refine s_bn0 (s_J2_get i68 u43) fun v70 => ?_
          refine s_isK fun i71 => ?_
          refine s_bn0 (s_X11_end i71) fun v73 => ?_
          exact hr44 _
        · exact hr44 _
def h_X1_pass (i0 : Nat) (a1 : Int32) : PV Int32 := hbnd (h_X1_fit a1 (1 : Int32) (600 : Int32)) (fun _ => hgI 0 i0 16 fun v2 => hbnd (ρ := _) (α := Int32) (hcnd ((30000 : Int32) < (v2 + a1)) (hrt (0 : Int32)) (hrt (1 : Int32))) (fun u3 => hbnd (h_X1_can u3) (fun _ => hlp (σ := Int32 × Int32) (fun r7 => un2 fun u5 u6 => hcnd (a1 ≤ u6) (hrt u5) (hgI 0 i0 16 fun v9 => hpI 0 i0 16 (v9 + (1 : Int32)) <| hbn0 (h_X1_turnKeys i0) (fun _ => hlp (σ := Int32 × Int32) (fun r13 => un2 fun u11 u12 => hgR 0 i0 4 fun v14 => hisK 13 v14 fun i15 => hbn0 (h_J2_size i15) (fun v17 => hcnd (v17 ≤ u12) (r7 (u11, (u6 + (1 : Int32)))) (hgR 0 i0 4 fun v19 => hisK 13 v19 fun i20 => hbn0 (h_J2_get i20 u12) (fun v22 => hisK 8 v22 fun i23 => hbn0 (h_X9_isOut i23) (fun v25 => hcnd (v25 = 0) (r13 ((u11 + (0 : Int32)), (u12 + (1 : Int32)))) (hgR 0 i0 4 fun v27 => hisK 13 v27 fun i28 => hbn0 (h_J2_get i28 u12) (fun v30 => hisK 8 v30 fun i31 => hbn0 (h_X9_end 30 i31) (fun v33 => r13 ((u11 + v33), (u12 + (1 : Int32))))))))))) (u5, (0 : Int32))))) ((0 : Int32), (0 : Int32)))))
theorem s_X1_pass (i0 : Nat) (a1 : Int32) : Sim (h_X1_pass i0 a1) (f_X1_pass i0 a1) := by
  unfold h_X1_pass f_X1_pass
  refine s_bnd (s_X1_fit a1 (1 : Int32) (600 : Int32)) fun _ => ?_
  refine s_gI rfl fun v2 => ?_
  refine s_bnd ?_ ?_
  · refine s_cnd ?_ ?_
    · exact s_rt _
    · exact s_rt _
  refine fun u3 => ?_
  refine s_bnd (s_X1_can u3) fun _ => ?_
  refine s_lp (fun r7 r7q hr7 => ?_) ((0 : Int32), (0 : Int32))
  refine s_un2 fun u5 u6 => ?_
  refine s_cnd ?_ ?_
  · exact s_rt _
  · refine s_gI rfl fun v9 => ?_
    refine s_pI rfl ?_
    refine s_bn0 (s_X1_turnKeys i0) fun _ => ?_
    refine s_lp (fun r13 r13q hr13 => ?_) (u5, (0 : Int32))
    refine s_un2 fun u11 u12 => ?_
    refine s_gR rfl fun v14 => ?_
    refine s_isK fun i15 => ?_
    refine s_bn0 (s_J2_size i15) fun v17 => ?_
    refine s_cnd ?_ ?_
    · exact hr7 _
    · refine s_gR rfl fun v19 => ?_
      refine s_isK fun i20 => ?_
      refine s_bn0 (s_J2_get i20 u12) fun v22 => ?_
      refine s_isK fun i23 => ?_
      refine s_bn0 (s_X9_isOut i23) fun v25 => ?_
      refine s_cnd ?_ ?_
      · exact hr13 _
      · refine s_gR rfl fun v27 => ?_
        refine s_isK fun i28 => ?_
        refine s_bn0 (s_J2_get i28 u12) fun v30 => ?_
        refine s_isK fun i31 => ?_
        refine s_bn0 (s_X9_end 30 i31) fun v33 => ?_
        exact hr13 _
def h_X1_there (a1 : Int32) (a2 : Int32) : PV Unit := hcnd (a1 < 0) (hthr "java/lang/IndexOutOfBoundsException") (hcnd (a1 < a2) (hrt ()) (hthr "java/lang/IndexOutOfBoundsException"))
theorem s_X1_there (a1 : Int32) (a2 : Int32) : Sim (h_X1_there a1 a2) (f_X1_there a1 a2) := by
  unfold h_X1_there f_X1_there
  refine s_cnd ?_ ?_
  · exact s_thr
  · refine s_cnd ?_ ?_
    · exact s_rt _
    · exact s_thr
def h_X1_personAt (i0 : Nat) (a1 : Int32) : PV Nat := hbnd (h_X1_there a1 (6 : Int32)) (fun _ => hgR 0 i0 0 fun v2 => hisK 36 v2 fun i3 => haR 36 i3 a1 fun v5 => hrt v5)
theorem s_X1_personAt (i0 : Nat) (a1 : Int32) : Sim (h_X1_personAt i0 a1) (f_X1_personAt i0 a1) := by
  unfold h_X1_personAt f_X1_personAt
  refine s_bnd (s_X1_there a1 (6 : Int32)) fun _ => ?_
  refine s_gR rfl fun v2 => ?_
  refine s_isK fun i3 => ?_
  refine s_aR rfl fun v5 => ?_
  exact s_rt _
def h_X1_fitFactor (a1 : Int32) : PV Unit := hbnd (h_X1_fit a1 (0 : Int32) (2 : Int32)) (fun _ => hrt ())
theorem s_X1_fitFactor (a1 : Int32) : Sim (h_X1_fitFactor a1) (f_X1_fitFactor a1) := by
  unfold h_X1_fitFactor f_X1_fitFactor
  refine s_bnd (s_X1_fit a1 (0 : Int32) (2 : Int32)) fun _ => ?_
  exact s_rt _
def h_X3_enroll (i0 : Nat) (a1 : Int32) : PV Int32 := hgR 2 i0 1 fun v1 => hisK 32 v1 fun i2 => haI 32 i2 a1 fun v4 => hgR 2 i0 1 fun v5 => hisK 32 v5 fun i6 => hbI 32 i6 a1 (1 : Int32) <| hgR 2 i0 2 fun v8 => hisK 32 v8 fun i9 => hbI 32 i9 a1 (0 : Int32) <| hbnd (ρ := _) (α := Int32) (hcnd (a1 = (2 : Int32)) (hrt (0 : Int32)) (hgI 2 i0 3 fun v14 => hrt v14)) (fun u11 => hpI 2 i0 3 u11 <| hrt v4)
theorem s_X3_enroll (i0 : Nat) (a1 : Int32) : Sim (h_X3_enroll i0 a1) (f_X3_enroll i0 a1) := by
  unfold h_X3_enroll f_X3_enroll
  refine s_gR rfl fun v1 => ?_
  refine s_isK fun i2 => ?_
  refine s_aI rfl fun v4 => ?_
  refine s_gR rfl fun v5 => ?_
  refine s_isK fun i6 => ?_
  refine s_bI rfl ?_
  refine s_gR rfl fun v8 => ?_
  refine s_isK fun i9 => ?_
  refine s_bI rfl ?_
  refine s_bnd ?_ ?_
  · refine s_cnd ?_ ?_
    · exact s_rt _
    · refine s_gI rfl fun v14 => ?_
      exact s_rt _
  refine fun u11 => ?_
  refine s_pI rfl ?_
  exact s_rt _
def h_X1_enroll (i0 : Nat) (a1 : Int32) (a2 : Int32) : PV Int32 := hbnd (h_X1_personAt i0 a1) (fun v1 => hbnd (h_X1_fitFactor a2) (fun _ => hisK 2 v1 fun i3 => hbn0 (h_X3_enroll i3 a2) (fun v5 => hrt v5)))
theorem s_X1_enroll (i0 : Nat) (a1 : Int32) (a2 : Int32) : Sim (h_X1_enroll i0 a1 a2) (f_X1_enroll i0 a1 a2) := by
  unfold h_X1_enroll f_X1_enroll
  refine s_bnd (s_X1_personAt i0 a1) fun v1 => ?_
  refine s_bnd (s_X1_fitFactor a2) fun _ => ?_
  refine s_isK fun i3 => ?_
  refine s_bn0 (s_X3_enroll i3 a2) fun v5 => ?_
  exact s_rt _
def h_X1_factor (i0 : Nat) (a1 : Int32) (a2 : Int32) : PV Int32 := hbnd (h_X1_personAt i0 a1) (fun v1 => hbnd (h_X1_fitFactor a2) (fun _ => hisK 2 v1 fun i3 => hgR 2 i3 1 fun v5 => hisK 32 v5 fun i6 => haI 32 i6 a2 fun v8 => hrt v8))
theorem s_X1_factor (i0 : Nat) (a1 : Int32) (a2 : Int32) : Sim (h_X1_factor i0 a1 a2) (f_X1_factor i0 a1 a2) := by
  unfold h_X1_factor f_X1_factor
  refine s_bnd (s_X1_personAt i0 a1) fun v1 => ?_
  refine s_bnd (s_X1_fitFactor a2) fun _ => ?_
  refine s_isK fun i3 => ?_
  refine s_gR rfl fun v5 => ?_
  refine s_isK fun i6 => ?_
  refine s_aI rfl fun v8 => ?_
  exact s_rt _
def h_X1_mostFor (a1 : Int32) : PV Int32 := hcnd (a1 = (0 : Int32)) (hrt (2 : Int32)) (hcnd (a1 = (1 : Int32)) (hrt (0 : Int32)) (hcnd (a1 = (2 : Int32)) (hrt (20 : Int32)) (hcnd (a1 = (3 : Int32)) (hrt (2 : Int32)) (hcnd (a1 = (4 : Int32)) (hrt (6 : Int32)) (hrt (0 : Int32))))))
theorem s_X1_mostFor (a1 : Int32) : Sim (h_X1_mostFor a1) (f_X1_mostFor a1) := by
  unfold h_X1_mostFor f_X1_mostFor
  refine s_cnd ?_ ?_
  · exact s_rt _
  · refine s_cnd ?_ ?_
    · exact s_rt _
    · refine s_cnd ?_ ?_
      · exact s_rt _
      · refine s_cnd ?_ ?_
        · exact s_rt _
        · refine s_cnd ?_ ?_
          · exact s_rt _
          · exact s_rt _
def h_X7_init (i0 : Nat) (a1 : Int32) (a2 : Int32) (a3 : Int32) (a4 : Int32) (a5 : Int32) : PV Unit := hpI 6 i0 0 a1 <| hpI 6 i0 1 a2 <| hpI 6 i0 2 a3 <| hpI 6 i0 3 a4 <| hpI 6 i0 4 a5 <| hrt ()
theorem s_X7_init (i0 : Nat) (a1 : Int32) (a2 : Int32) (a3 : Int32) (a4 : Int32) (a5 : Int32) : Sim (h_X7_init i0 a1 a2 a3 a4 a5) (f_X7_init i0 a1 a2 a3 a4 a5) := by
  unfold h_X7_init f_X7_init
  refine s_pI rfl ?_
  refine s_pI rfl ?_
  refine s_pI rfl ?_
  refine s_pI rfl ?_
  refine s_pI rfl ?_
  exact s_rt _
def h_X1_step (i0 : Nat) (a1 : Int32) (a2 : Int32) (a3 : Int32) (a4 : Int32) (a5 : Int32) : PV Int32 := hbnd (h_X1_fit a1 (0 : Int32) (6 : Int32)) (fun _ => hbn0 (h_X1_mostFor a1) (fun v2 => hbnd (h_X1_fit a2 (0 : Int32) v2) (fun _ => hbnd (ρ := _) (α := Int32) (hcnd (a1 = 0) (hrt (1 : Int32)) (hrt (0 : Int32))) (fun u4 => hbnd (ρ := _) (α := Int32) (hcnd (a1 = 0) (hrt (3 : Int32)) (hrt (0 : Int32))) (fun u5 => hbnd (h_X1_fit a3 u4 u5) (fun _ => hbnd (ρ := _) (α := Unit) (hcnd ((5 : Int32) ≤ a1) (hrt ()) (hbnd (h_X1_fit a4 (-1 : Int32) (11 : Int32)) (fun _ => hbnd (h_X1_fit a5 (-1 : Int32) (11 : Int32)) (fun _ => hrt ())))) (fun _ => hgR 0 i0 1 fun v7 => hisK 1 v7 fun i8 => hgR 1 i8 0 fun v10 => hisK 13 v10 fun i11 => hbn0 (h_J2_size i11) (fun v13 => hbnd (ρ := _) (α := Int32) (hcnd ((12 : Int32) ≤ v13) (hrt (0 : Int32)) (hrt (1 : Int32))) (fun u14 => hbnd (h_X1_can u14) (fun _ => hgR 0 i0 1 fun v16 => hisK 1 v16 fun i17 => hgR 1 i17 0 fun v19 => hnw 6 5 fun i20 => hbn0 (h_X7_init i20 a1 a2 a3 a4 a5) (fun _ => hisK 13 v19 fun i22 => hbn0 (h_J2_add i22 (idc 6 i20)) (fun v24 => hgR 0 i0 1 fun v25 => hisK 1 v25 fun i26 => hgR 1 i26 0 fun v28 => hisK 13 v28 fun i29 => hbn0 (h_J2_size i29) (fun v31 => hrt (v31 - (1 : Int32)))))))))))))))
theorem s_X1_step (i0 : Nat) (a1 : Int32) (a2 : Int32) (a3 : Int32) (a4 : Int32) (a5 : Int32) : Sim (h_X1_step i0 a1 a2 a3 a4 a5) (f_X1_step i0 a1 a2 a3 a4 a5) := by
  unfold h_X1_step f_X1_step
  refine s_bnd (s_X1_fit a1 (0 : Int32) (6 : Int32)) fun _ => ?_
  refine s_bn0 (s_X1_mostFor a1) fun v2 => ?_
  refine s_bnd (s_X1_fit a2 (0 : Int32) v2) fun _ => ?_
  refine s_bnd ?_ ?_
  · refine s_cnd ?_ ?_
    · exact s_rt _
    · exact s_rt _
  refine fun u4 => ?_
  refine s_bnd ?_ ?_
  · refine s_cnd ?_ ?_
    · exact s_rt _
    · exact s_rt _
  refine fun u5 => ?_
  refine s_bnd (s_X1_fit a3 u4 u5) fun _ => ?_
  refine s_bnd ?_ ?_
  · refine s_cnd ?_ ?_
    · exact s_rt _
    · refine s_bnd (s_X1_fit a4 (-1 : Int32) (11 : Int32)) fun _ => ?_
      refine s_bnd (s_X1_fit a5 (-1 : Int32) (11 : Int32)) fun _ => ?_
      exact s_rt _
  refine fun _ => ?_
  refine s_gR rfl fun v7 => ?_
  refine s_isK fun i8 => ?_
  refine s_gR rfl fun v10 => ?_
  refine s_isK fun i11 => ?_
  refine s_bn0 (s_J2_size i11) fun v13 => ?_
  refine s_bnd ?_ ?_
  · refine s_cnd ?_ ?_
    · exact s_rt _
    · exact s_rt _
  refine fun u14 => ?_
  refine s_bnd (s_X1_can u14) fun _ => ?_
  refine s_gR rfl fun v16 => ?_
  refine s_isK fun i17 => ?_
  refine s_gR rfl fun v19 => ?_
  refine s_nw rfl fun i20 => ?_
  refine s_bn0 (s_X7_init i20 a1 a2 a3 a4 a5) fun _ => ?_
  refine s_isK fun i22 => ?_
  refine s_bn0 (s_J2_add i22 (idc 6 i20)) fun v24 => ?_
  refine s_gR rfl fun v25 => ?_
  refine s_isK fun i26 => ?_
  refine s_gR rfl fun v28 => ?_
  refine s_isK fun i29 => ?_
  refine s_bn0 (s_J2_size i29) fun v31 => ?_
  exact s_rt _
def h_X7_isEnd (i0 : Nat) : PV Int32 := hgI 6 i0 0 fun v1 => hcnd (v1 < (5 : Int32)) (hasr (((0 : Int32) = 0) ∨ ((0 : Int32) = 1)) (hrt (0 : Int32))) (hasr (((1 : Int32) = 0) ∨ ((1 : Int32) = 1)) (hrt (1 : Int32)))
theorem s_X7_isEnd (i0 : Nat) : Sim (h_X7_isEnd i0) (f_X7_isEnd i0) := by
  unfold h_X7_isEnd f_X7_isEnd
  refine s_gI rfl fun v1 => ?_
  refine s_cnd ?_ ?_
  · refine s_asr ?_
    exact s_rt _
  · refine s_asr ?_
    exact s_rt _
def h_X2_isThere (i0 : Nat) (a1 : Int32) : PV Int32 := hgR 1 i0 0 fun v1 => hisK 13 v1 fun i2 => hbn0 (h_J2_size i2) (fun v4 => hcnd (v4 ≤ a1) (hasr (((0 : Int32) = 0) ∨ ((0 : Int32) = 1)) (hrt (0 : Int32))) (hasr (((1 : Int32) = 0) ∨ ((1 : Int32) = 1)) (hrt (1 : Int32))))
theorem s_X2_isThere (i0 : Nat) (a1 : Int32) : Sim (h_X2_isThere i0 a1) (f_X2_isThere i0 a1) := by
  unfold h_X2_isThere f_X2_isThere
  refine s_gR rfl fun v1 => ?_
  refine s_isK fun i2 => ?_
  refine s_bn0 (s_J2_size i2) fun v4 => ?_
  refine s_cnd ?_ ?_
  · refine s_asr ?_
    exact s_rt _
  · refine s_asr ?_
    exact s_rt _
def h_X7_isTest (i0 : Nat) : PV Int32 := hgI 6 i0 0 fun v1 => hcnd (v1 ≤ 0) (hasr (((0 : Int32) = 0) ∨ ((0 : Int32) = 1)) (hrt (0 : Int32))) (hgI 6 i0 0 fun v3 => hcnd ((5 : Int32) ≤ v3) (hasr (((0 : Int32) = 0) ∨ ((0 : Int32) = 1)) (hrt (0 : Int32))) (hasr (((1 : Int32) = 0) ∨ ((1 : Int32) = 1)) (hrt (1 : Int32))))
theorem s_X7_isTest (i0 : Nat) : Sim (h_X7_isTest i0) (f_X7_isTest i0) := by
  unfold h_X7_isTest f_X7_isTest
  refine s_gI rfl fun v1 => ?_
  refine s_cnd ?_ ?_
  · refine s_asr ?_
    exact s_rt _
  · refine s_gI rfl fun v3 => ?_
    refine s_cnd ?_ ?_
    · refine s_asr ?_
      exact s_rt _
    · refine s_asr ?_
      exact s_rt _
def h_X2_isCircle (i0 : Nat) (a1 : Int32) : PV Int32 := hnB fun i1 => hnQ fun i3 => hbn0 (h_J17_valueOf a1) (fun v5 => hbn0 (h_J27_add i3 v5) (fun v6 => hlp (σ := Unit) (fun r7 => fun _ => hbn0 (h_J27_isEmpty i3) (fun v8 => hcnd (v8 = 0) (hgR 1 i0 0 fun v10 => hbn0 (h_J27_poll i3) (fun v11 => hasr (isB v11) (hasr (isB v11) (hbn0 (h_J17_intValue v11) (fun v13 => hisK 13 v10 fun i14 => hbn0 (h_J2_get i14 v13) (fun v16 => hisK 6 v16 fun i17 => hlp (σ := Int32) (fun r20 => fun u19 => hbn0 (h_X7_isTest i17) (fun v21 => hcnd (v21 = 0) (r7 ()) (hcnd ((2 : Int32) ≤ u19) (r7 ()) (hbnd (ρ := _) (α := Int32) (hcnd (u19 = 0) (hgI 6 i17 3 fun v34 => hrt v34) (hgI 6 i17 4 fun v35 => hrt v35)) (fun u24 => hcnd (u24 = a1) (hasr (((1 : Int32) = 0) ∨ ((1 : Int32) = 1)) (hrt (1 : Int32))) (hcnd (u24 = (-1 : Int32)) (r20 (u19 + (1 : Int32))) (hbn0 (h_J18_get i1 u24) (fun v27 => hcnd (v27 = 0) (hbn0 (h_J18_set i1 u24) (fun _ => hbn0 (h_J17_valueOf u24) (fun v30 => hbn0 (h_J27_add i3 v30) (fun v31 => r20 (u19 + (1 : Int32)))))) (r20 (u19 + (1 : Int32))))))))))) (0 : Int32))))))) (hasr (((0 : Int32) = 0) ∨ ((0 : Int32) = 1)) (hrt (0 : Int32))))) ()))
theorem s_X2_isCircle (i0 : Nat) (a1 : Int32) : Sim (h_X2_isCircle i0 a1) (f_X2_isCircle i0 a1) := by
  unfold h_X2_isCircle f_X2_isCircle
  refine s_nB fun i1 => ?_
  refine s_nQ fun i3 => ?_
  refine s_bn0 (s_J17_valueOf a1) fun v5 => ?_
  refine s_bn0 (s_J27_add i3 v5) fun v6 => ?_
  refine s_lp (fun r7 r7q hr7 => ?_) ()
  intro _
  refine s_bn0 (s_J27_isEmpty i3) fun v8 => ?_
  refine s_cnd ?_ ?_
  · refine s_gR rfl fun v10 => ?_
    refine s_bn0 (s_J27_poll i3) fun v11 => ?_
    refine s_asr ?_
    refine s_asr ?_
    refine s_bn0 (s_J17_intValue v11) fun v13 => ?_
    refine s_isK fun i14 => ?_
    refine s_bn0 (s_J2_get i14 v13) fun v16 => ?_
    refine s_isK fun i17 => ?_
    refine s_lp (fun r20 r20q hr20 => ?_) (0 : Int32)
    intro u19
    refine s_bn0 (s_X7_isTest i17) fun v21 => ?_
    refine s_cnd ?_ ?_
    · exact hr7 _
    · refine s_cnd ?_ ?_
      · exact hr7 _
      · refine s_bnd ?_ ?_
        · refine s_cnd ?_ ?_
          · refine s_gI rfl fun v34 => ?_
            exact s_rt _
          · refine s_gI rfl fun v35 => ?_
            exact s_rt _
        refine fun u24 => ?_
        refine s_cnd ?_ ?_
        · refine s_asr ?_
          exact s_rt _
        · refine s_cnd ?_ ?_
          · exact hr20 _
          · refine s_bn0 (s_J18_get i1 u24) fun v27 => ?_
            refine s_cnd ?_ ?_
            · refine s_bn0 (s_J18_set i1 u24) fun _ => ?_
              refine s_bn0 (s_J17_valueOf u24) fun v30 => ?_
              refine s_bn0 (s_J27_add i3 v30) fun v31 => ?_
              exact hr20 _
            · exact hr20 _
  · refine s_asr ?_
    exact s_rt _
def h_X2_isSound (i0 : Nat) : PV Int32 := hgR 1 i0 0 fun v1 => hisK 13 v1 fun i2 => hbn0 (h_J2_isEmpty i2) (fun v4 => hbnd (ρ := _) (α := Int32) (hcnd (v4 = 0) (hrt (1 : Int32)) (hrt (0 : Int32))) (fun u5 => hbnd (hlp (σ := Int32 × Int32) (fun r8 => un2 fun u6 u7 => hgR 1 i0 0 fun v11 => hisK 13 v11 fun i12 => hbn0 (h_J2_size i12) (fun v14 => hcnd (v14 ≤ u7) (hrt u6) (hgR 1 i0 0 fun v16 => hisK 13 v16 fun i17 => hbn0 (h_J2_get i17 u7) (fun v19 => hisK 6 v19 fun i20 => hbn0 (h_X7_isEnd i20) (fun v22 => hjo (σ := Int32) (fun u23 => r8 ((u6 &&& (1 : Int32)), (u23 + (1 : Int32)))) fun j25 => hcnd (v22 = 0) (hgI 6 i20 3 fun v27 => hbn0 (h_X2_isThere i0 v27) (fun v28 => hjo (σ := Unit) (fun _ => r8 ((u6 &&& (0 : Int32)), (u7 + (1 : Int32)))) fun j30 => hcnd (v28 = 0) (j30 ()) (hgI 6 i20 4 fun v32 => hbn0 (h_X2_isThere i0 v32) (fun v33 => hcnd (v33 = 0) (j30 ()) (j25 u7))))) (j25 u7)))))) (u5, (0 : Int32))) (fun u9 => hlp (σ := Int32 × Int32) (fun r37 => un2 fun u35 u36 => hcnd (u35 = 0) (hasr ((u35 = 0) ∨ (u35 = 1)) (hrt u35)) (hgR 1 i0 0 fun v39 => hisK 13 v39 fun i40 => hbn0 (h_J2_size i40) (fun v42 => hcnd (v42 ≤ u36) (hasr ((u35 = 0) ∨ (u35 = 1)) (hrt u35)) (hbn0 (h_X2_isCircle i0 u36) (fun v44 => hcnd (v44 = 0) (r37 ((1 : Int32), (u36 + (1 : Int32)))) (r37 ((0 : Int32), (u36 + (1 : Int32))))))))) (u9, (0 : Int32)))))
theorem s_X2_isSound (i0 : Nat) : Sim (h_X2_isSound i0) (f_X2_isSound i0) := by
  unfold h_X2_isSound f_X2_isSound
  refine s_gR rfl fun v1 => ?_
  refine s_isK fun i2 => ?_
  refine s_bn0 (s_J2_isEmpty i2) fun v4 => ?_
  refine s_bnd ?_ ?_
  · refine s_cnd ?_ ?_
    · exact s_rt _
    · exact s_rt _
  refine fun u5 => ?_
  refine s_bnd ?_ ?_
  · refine s_lp (fun r8 r8q hr8 => ?_) (u5, (0 : Int32))
    refine s_un2 fun u6 u7 => ?_
    refine s_gR rfl fun v11 => ?_
    refine s_isK fun i12 => ?_
    refine s_bn0 (s_J2_size i12) fun v14 => ?_
    refine s_cnd ?_ ?_
    · exact s_rt _
    · refine s_gR rfl fun v16 => ?_
      refine s_isK fun i17 => ?_
      refine s_bn0 (s_J2_get i17 u7) fun v19 => ?_
      refine s_isK fun i20 => ?_
      refine s_bn0 (s_X7_isEnd i20) fun v22 => ?_
      refine s_jo (fun u23 => ?_) fun j25 j25q hj25 => ?_
      · exact hr8 _
      refine s_cnd ?_ ?_
      · refine s_gI rfl fun v27 => ?_
        refine s_bn0 (s_X2_isThere i0 v27) fun v28 => ?_
        refine s_jo (fun _ => ?_) fun j30 j30q hj30 => ?_
        · exact hr8 _
        refine s_cnd ?_ ?_
        · exact hj30 _
        · refine s_gI rfl fun v32 => ?_
          refine s_bn0 (s_X2_isThere i0 v32) fun v33 => ?_
          refine s_cnd ?_ ?_
          · exact hj30 _
          · exact hj25 _
      · exact hj25 _
  refine fun u9 => ?_
  refine s_lp (fun r37 r37q hr37 => ?_) (u9, (0 : Int32))
  refine s_un2 fun u35 u36 => ?_
  refine s_cnd ?_ ?_
  · refine s_asr ?_
    exact s_rt _
  · refine s_gR rfl fun v39 => ?_
    refine s_isK fun i40 => ?_
    refine s_bn0 (s_J2_size i40) fun v42 => ?_
    refine s_cnd ?_ ?_
    · refine s_asr ?_
      exact s_rt _
    · refine s_bn0 (s_X2_isCircle i0 u36) fun v44 => ?_
      refine s_cnd ?_ ?_
      · exact hr37 _
      · exact hr37 _
def h_X1_publish (i0 : Nat) : PV Int32 := hgR 0 i0 1 fun v1 => hisK 1 v1 fun i2 => hbn0 (h_X2_isSound i2) (fun v4 => hbnd (ρ := _) (α := Int32) (hjo (σ := Unit) (fun _ => hrt (0 : Int32)) fun j20 => hcnd (v4 = 0) (j20 ()) (hgR 0 i0 2 fun v22 => hisK 13 v22 fun i23 => hbn0 (h_J2_size i23) (fun v25 => hcnd ((8 : Int32) ≤ v25) (j20 ()) (hrt (1 : Int32))))) (fun u5 => hbnd (h_X1_can u5) (fun _ => hgR 0 i0 2 fun v7 => hgR 0 i0 1 fun v8 => hisK 13 v7 fun i9 => hbn0 (h_J2_add i9 v8) (fun v11 => hnw 1 1 fun i12 => hbn0 (h_X2_init i12) (fun _ => hpR 0 i0 1 (idc 1 i12) <| hgR 0 i0 2 fun v14 => hisK 13 v14 fun i15 => hbn0 (h_J2_size i15) (fun v17 => hrt (v17 - (1 : Int32))))))))
theorem s_X1_publish (i0 : Nat) : Sim (h_X1_publish i0) (f_X1_publish i0) := by
  unfold h_X1_publish f_X1_publish
  refine s_gR rfl fun v1 => ?_
  refine s_isK fun i2 => ?_
  refine s_bn0 (s_X2_isSound i2) fun v4 => ?_
  refine s_bnd ?_ ?_
  · refine s_jo (fun _ => ?_) fun j20 j20q hj20 => ?_
    · exact s_rt _
    refine s_cnd ?_ ?_
    · exact hj20 _
    · refine s_gR rfl fun v22 => ?_
      refine s_isK fun i23 => ?_
      refine s_bn0 (s_J2_size i23) fun v25 => ?_
      refine s_cnd ?_ ?_
      · exact hj20 _
      · exact s_rt _
  refine fun u5 => ?_
  refine s_bnd (s_X1_can u5) fun _ => ?_
  refine s_gR rfl fun v7 => ?_
  refine s_gR rfl fun v8 => ?_
  refine s_isK fun i9 => ?_
  refine s_bn0 (s_J2_add i9 v8) fun v11 => ?_
  refine s_nw rfl fun i12 => ?_
  refine s_bn0 (s_X2_init i12) fun _ => ?_
  refine s_pR rfl ?_
  refine s_gR rfl fun v14 => ?_
  refine s_isK fun i15 => ?_
  refine s_bn0 (s_J2_size i15) fun v17 => ?_
  exact s_rt _
def h_X1_at (a1 : Nat) (a2 : Int32) : PV Nat := hisK 13 a1 fun i1 => hbn0 (h_J2_size i1) (fun v3 => hbnd (h_X1_there a2 v3) (fun _ => hbn0 (h_J2_get i1 a2) (fun v5 => hrt v5)))
theorem s_X1_at (a1 : Nat) (a2 : Int32) : Sim (h_X1_at a1 a2) (f_X1_at a1 a2) := by
  unfold h_X1_at f_X1_at
  refine s_isK fun i1 => ?_
  refine s_bn0 (s_J2_size i1) fun v3 => ?_
  refine s_bnd (s_X1_there a2 v3) fun _ => ?_
  refine s_bn0 (s_J2_get i1 a2) fun v5 => ?_
  exact s_rt _
def h_X2_go (i0 : Nat) (a1 : Int32) (a2 : Int32) (a3 : Nat) (a4 : Nat) : PV Unit := hbnd (ρ := _) (α := Int32) (hcnd (a1 = (-1 : Int32)) (hrt (-1 : Int32)) (hrt (((8 : Int32) * a1) + a2))) (fun u1 => hcnd (u1 = (-1 : Int32)) (hrt ()) (hisK 14 a3 fun i3 => hbn0 (h_J18_get i3 u1) (fun v5 => hcnd (v5 = 0) (hbn0 (h_J18_set i3 u1) (fun _ => hbn0 (h_J17_valueOf u1) (fun v8 => hisK 17 a4 fun i9 => hbn0 (h_J27_add i9 v8) (fun v11 => hrt ())))) (hrt ()))))
theorem s_X2_go (i0 : Nat) (a1 : Int32) (a2 : Int32) (a3 : Nat) (a4 : Nat) : Sim (h_X2_go i0 a1 a2 a3 a4) (f_X2_go i0 a1 a2 a3 a4) := by
  unfold h_X2_go f_X2_go
  refine s_bnd ?_ ?_
  · refine s_cnd ?_ ?_
    · exact s_rt _
    · exact s_rt _
  refine fun u1 => ?_
  refine s_cnd ?_ ?_
  · exact s_rt _
  · refine s_isK fun i3 => ?_
    refine s_bn0 (s_J18_get i3 u1) fun v5 => ?_
    refine s_cnd ?_ ?_
    · refine s_bn0 (s_J18_set i3 u1) fun _ => ?_
      refine s_bn0 (s_J17_valueOf u1) fun v8 => ?_
      refine s_isK fun i9 => ?_
      refine s_bn0 (s_J27_add i9 v8) fun v11 => ?_
      exact s_rt _
    · exact s_rt _
def h_X1_levelOf (a1 : Int32) : PV Int32 := hlp (σ := Int32 × Int32) (fun r3 => un2 fun u1 u2 => hcnd ((3 : Int32) ≤ u2) (hrt u1) (hcnd (((a1 >>> (u2 &&& 31)) &&& (1 : Int32)) = (1 : Int32)) (r3 ((u1 + (u2 + (1 : Int32))), (u2 + (1 : Int32)))) (r3 ((u1 + (0 : Int32)), (u2 + (1 : Int32)))))) ((0 : Int32), (0 : Int32))
theorem s_X1_levelOf (a1 : Int32) : Sim (h_X1_levelOf a1) (f_X1_levelOf a1) := by
  unfold h_X1_levelOf f_X1_levelOf
  refine s_lp (fun r3 r3q hr3 => ?_) ((0 : Int32), (0 : Int32))
  refine s_un2 fun u1 u2 => ?_
  refine s_cnd ?_ ?_
  · exact s_rt _
  · refine s_cnd ?_ ?_
    · exact hr3 _
    · exact hr3 _
def h_X2_weakest (i0 : Nat) : PV Int32 := hnB fun i1 => hnQ fun i3 => hbn0 (h_X2_go i0 (0 : Int32) (0 : Int32) (idc 14 i1) (idc 17 i3)) (fun _ => hlp (σ := Int32) (fun r7 => fun u6 => hbn0 (h_J27_isEmpty i3) (fun v8 => hcnd (v8 = 0) (hbn0 (h_J27_poll i3) (fun v10 => hasr (isB v10) (hasr (isB v10) (hbn0 (h_J17_intValue v10) (fun v12 => hgR 1 i0 0 fun v13 => hisK 13 v13 fun i14 => hbn0 (h_J2_get i14 (v12 / (8 : Int32))) (fun v16 => hisK 6 v16 fun i17 => hbn0 (h_X1_levelOf (v12 - ((v12 / (8 : Int32)) * (8 : Int32)))) (fun v19 => hgI 6 i17 0 fun v20 => hcnd (v20 = (5 : Int32)) (hjo (σ := Unit) (fun _ => r7 v19) fun j23 => hcnd (u6 = (-1 : Int32)) (j23 ()) (hcnd (u6 ≤ v19) (r7 u6) (j23 ()))) (hgI 6 i17 0 fun v26 => hcnd (v26 = 0) (hgI 6 i17 3 fun v28 => hgI 6 i17 1 fun v29 => hbn0 (h_X2_go i0 v28 ((v12 - ((v12 / (8 : Int32)) * (8 : Int32))) ||| ((1 : Int32) <<< (v29 &&& 31))) (idc 14 i1) (idc 17 i3)) (fun _ => hgI 6 i17 4 fun v31 => hbn0 (h_X2_go i0 v31 (v12 - ((v12 / (8 : Int32)) * (8 : Int32))) (idc 14 i1) (idc 17 i3)) (fun _ => r7 u6))) (hgI 6 i17 0 fun v33 => hcnd (v33 = (4 : Int32)) (hgI 6 i17 1 fun v35 => hbnd (ρ := _) (α := Int32) (hcnd (v19 < v35) (hgI 6 i17 4 fun v40 => hrt v40) (hgI 6 i17 3 fun v41 => hrt v41)) (fun u36 => hbn0 (h_X2_go i0 u36 (v12 - ((v12 / (8 : Int32)) * (8 : Int32))) (idc 14 i1) (idc 17 i3)) (fun _ => r7 u6))) (hgI 6 i17 0 fun v42 => hcnd (v42 = (6 : Int32)) (r7 u6) (hgI 6 i17 3 fun v44 => hbn0 (h_X2_go i0 v44 (v12 - ((v12 / (8 : Int32)) * (8 : Int32))) (idc 14 i1) (idc 17 i3)) (fun _ => hgI 6 i17 4 fun v46 => hbn0 (h_X2_go i0 v46 (v12 - ((v12 / (8 : Int32)) * (8 : Int32))) (idc 14 i1) (idc 17 i3)) (fun _ => r7 u6))))))))))))) (hrt u6))) (-1 : Int32))
theorem s_X2_weakest (i0 : Nat) : Sim (h_X2_weakest i0) (f_X2_weakest i0) := by
  unfold h_X2_weakest f_X2_weakest
  refine s_nB fun i1 => ?_
  refine s_nQ fun i3 => ?_
  refine s_bn0 (s_X2_go i0 (0 : Int32) (0 : Int32) (idc 14 i1) (idc 17 i3)) fun _ => ?_
  refine s_lp (fun r7 r7q hr7 => ?_) (-1 : Int32)
  intro u6
  refine s_bn0 (s_J27_isEmpty i3) fun v8 => ?_
  refine s_cnd ?_ ?_
  · refine s_bn0 (s_J27_poll i3) fun v10 => ?_
    refine s_asr ?_
    refine s_asr ?_
    refine s_bn0 (s_J17_intValue v10) fun v12 => ?_
    refine s_gR rfl fun v13 => ?_
    refine s_isK fun i14 => ?_
    refine s_bn0 (s_J2_get i14 (v12 / (8 : Int32))) fun v16 => ?_
    refine s_isK fun i17 => ?_
    refine s_bn0 (s_X1_levelOf (v12 - ((v12 / (8 : Int32)) * (8 : Int32)))) fun v19 => ?_
    refine s_gI rfl fun v20 => ?_
    refine s_cnd ?_ ?_
    · refine s_jo (fun _ => ?_) fun j23 j23q hj23 => ?_
      · exact hr7 _
      refine s_cnd ?_ ?_
      · exact hj23 _
      · refine s_cnd ?_ ?_
        · exact hr7 _
        · exact hj23 _
    · refine s_gI rfl fun v26 => ?_
      refine s_cnd ?_ ?_
      · refine s_gI rfl fun v28 => ?_
        refine s_gI rfl fun v29 => ?_
        refine s_bn0 (s_X2_go i0 v28 ((v12 - ((v12 / (8 : Int32)) * (8 : Int32))) ||| ((1 : Int32) <<< (v29 &&& 31))) (idc 14 i1) (idc 17 i3)) fun _ => ?_
        refine s_gI rfl fun v31 => ?_
        refine s_bn0 (s_X2_go i0 v31 (v12 - ((v12 / (8 : Int32)) * (8 : Int32))) (idc 14 i1) (idc 17 i3)) fun _ => ?_
        exact hr7 _
      · refine s_gI rfl fun v33 => ?_
        refine s_cnd ?_ ?_
        · refine s_gI rfl fun v35 => ?_
          refine s_bnd ?_ ?_
          · refine s_cnd ?_ ?_
            · refine s_gI rfl fun v40 => ?_
              exact s_rt _
            · refine s_gI rfl fun v41 => ?_
              exact s_rt _
          refine fun u36 => ?_
          refine s_bn0 (s_X2_go i0 u36 (v12 - ((v12 / (8 : Int32)) * (8 : Int32))) (idc 14 i1) (idc 17 i3)) fun _ => ?_
          exact hr7 _
        · refine s_gI rfl fun v42 => ?_
          refine s_cnd ?_ ?_
          · exact hr7 _
          · refine s_gI rfl fun v44 => ?_
            refine s_bn0 (s_X2_go i0 v44 (v12 - ((v12 / (8 : Int32)) * (8 : Int32))) (idc 14 i1) (idc 17 i3)) fun _ => ?_
            refine s_gI rfl fun v46 => ?_
            refine s_bn0 (s_X2_go i0 v46 (v12 - ((v12 / (8 : Int32)) * (8 : Int32))) (idc 14 i1) (idc 17 i3)) fun _ => ?_
            exact hr7 _
  · exact s_rt _
def h_X1_weakest (i0 : Nat) (a1 : Int32) : PV Int32 := hgR 0 i0 2 fun v1 => hbnd (h_X1_at v1 a1) (fun v2 => hisK 1 v2 fun i3 => hbn0 (h_X2_weakest i3) (fun v5 => hrt v5))
theorem s_X1_weakest (i0 : Nat) (a1 : Int32) : Sim (h_X1_weakest i0 a1) (f_X1_weakest i0 a1) := by
  unfold h_X1_weakest f_X1_weakest
  refine s_gR rfl fun v1 => ?_
  refine s_bnd (s_X1_at v1 a1) fun v2 => ?_
  refine s_isK fun i3 => ?_
  refine s_bn0 (s_X2_weakest i3) fun v5 => ?_
  exact s_rt _
def h_X1_points (i0 : Nat) (a1 : Int32) (a2 : Int32) (a3 : Int32) : PV Int32 := hbnd (h_X1_fit a1 (0 : Int32) (2 : Int32)) (fun _ => hbnd (ρ := _) (α := Int32) (hcnd (a3 = 0) (hrt (0 : Int32)) (hrt (-1 : Int32))) (fun u2 => hbnd (h_X1_fit a2 u2 (5 : Int32)) (fun _ => hbnd (ρ := _) (α := Nat) (hcnd (a3 = 0) (hgR 0 i0 12 fun v10 => hrt v10) (hgR 0 i0 13 fun v11 => hrt v11)) (fun u4 => hisK 32 u4 fun i5 => haI 32 i5 a1 fun v7 => hbI 32 i5 a1 a2 <| hrt v7))))
theorem s_X1_points (i0 : Nat) (a1 : Int32) (a2 : Int32) (a3 : Int32) : Sim (h_X1_points i0 a1 a2 a3) (f_X1_points i0 a1 a2 a3) := by
  unfold h_X1_points f_X1_points
  refine s_bnd (s_X1_fit a1 (0 : Int32) (2 : Int32)) fun _ => ?_
  refine s_bnd ?_ ?_
  · refine s_cnd ?_ ?_
    · exact s_rt _
    · exact s_rt _
  refine fun u2 => ?_
  refine s_bnd (s_X1_fit a2 u2 (5 : Int32)) fun _ => ?_
  refine s_bnd ?_ ?_
  · refine s_cnd ?_ ?_
    · refine s_gR rfl fun v10 => ?_
      exact s_rt _
    · refine s_gR rfl fun v11 => ?_
      exact s_rt _
  refine fun u4 => ?_
  refine s_isK fun i5 => ?_
  refine s_aI rfl fun v7 => ?_
  refine s_bI rfl ?_
  exact s_rt _
def h_X1_pointsOf (i0 : Nat) (a1 : Int32) (a2 : Int32) : PV Int32 := hcnd (a2 = 0) (hgR 0 i0 12 fun v2 => hisK 32 v2 fun i3 => haI 32 i3 a1 fun v5 => hrt v5) (hgR 0 i0 13 fun v6 => hisK 32 v6 fun i7 => haI 32 i7 a1 fun v9 => hcnd (v9 = (-1 : Int32)) (hgR 0 i0 12 fun v11 => hisK 32 v11 fun i12 => haI 32 i12 a1 fun v14 => hrt v14) (hgR 0 i0 13 fun v15 => hisK 32 v15 fun i16 => haI 32 i16 a1 fun v18 => hrt v18))
theorem s_X1_pointsOf (i0 : Nat) (a1 : Int32) (a2 : Int32) : Sim (h_X1_pointsOf i0 a1 a2) (f_X1_pointsOf i0 a1 a2) := by
  unfold h_X1_pointsOf f_X1_pointsOf
  refine s_cnd ?_ ?_
  · refine s_gR rfl fun v2 => ?_
    refine s_isK fun i3 => ?_
    refine s_aI rfl fun v5 => ?_
    exact s_rt _
  · refine s_gR rfl fun v6 => ?_
    refine s_isK fun i7 => ?_
    refine s_aI rfl fun v9 => ?_
    refine s_cnd ?_ ?_
    · refine s_gR rfl fun v11 => ?_
      refine s_isK fun i12 => ?_
      refine s_aI rfl fun v14 => ?_
      exact s_rt _
    · refine s_gR rfl fun v15 => ?_
      refine s_isK fun i16 => ?_
      refine s_aI rfl fun v18 => ?_
      exact s_rt _
def h_X8_risk (i0 : Nat) (a1 : Int32) : PV Int32 := hgR 7 i0 0 fun v1 => hisK 2 v1 fun i2 => hgR 2 i2 6 fun v4 => hgI 7 i0 1 fun v5 => hisK 14 v4 fun i6 => hbn0 (h_J18_get i6 v5) (fun v8 => hbnd (ρ := _) (α := Int32) (hcnd (v8 = 0) (hgR 7 i0 11 fun v35 => hisK 0 v35 fun i36 => hbn0 (h_X1_pointsOf i36 (0 : Int32) a1) (fun v38 => hrt v38)) (hrt (0 : Int32))) (fun u9 => hgR 7 i0 0 fun v10 => hisK 2 v10 fun i11 => hgR 2 i11 7 fun v13 => hgI 7 i0 2 fun v14 => hisK 14 v13 fun i15 => hbn0 (h_J18_get i15 v14) (fun v17 => hbnd (ρ := _) (α := Int32) (hcnd (v17 = 0) (hgR 7 i0 11 fun v29 => hisK 0 v29 fun i30 => hbn0 (h_X1_pointsOf i30 (1 : Int32) a1) (fun v32 => hrt v32)) (hrt (0 : Int32))) (fun u18 => hgR 7 i0 0 fun v19 => hisK 2 v19 fun i20 => hbn0 (h_X3_wrongsOfHour i20) (fun v22 => hgR 7 i0 11 fun v23 => hisK 0 v23 fun i24 => hbn0 (h_X1_pointsOf i24 (2 : Int32) a1) (fun v26 => hrt ((u9 + u18) + (v22 * v26))))))))
theorem s_X8_risk (i0 : Nat) (a1 : Int32) : Sim (h_X8_risk i0 a1) (f_X8_risk i0 a1) := by
  unfold h_X8_risk f_X8_risk
  refine s_gR rfl fun v1 => ?_
  refine s_isK fun i2 => ?_
  refine s_gR rfl fun v4 => ?_
  refine s_gI rfl fun v5 => ?_
  refine s_isK fun i6 => ?_
  refine s_bn0 (s_J18_get i6 v5) fun v8 => ?_
  refine s_bnd ?_ ?_
  · refine s_cnd ?_ ?_
    · refine s_gR rfl fun v35 => ?_
      refine s_isK fun i36 => ?_
      refine s_bn0 (s_X1_pointsOf i36 (0 : Int32) a1) fun v38 => ?_
      exact s_rt _
    · exact s_rt _
  refine fun u9 => ?_
  refine s_gR rfl fun v10 => ?_
  refine s_isK fun i11 => ?_
  refine s_gR rfl fun v13 => ?_
  refine s_gI rfl fun v14 => ?_
  refine s_isK fun i15 => ?_
  refine s_bn0 (s_J18_get i15 v14) fun v17 => ?_
  refine s_bnd ?_ ?_
  · refine s_cnd ?_ ?_
    · refine s_gR rfl fun v29 => ?_
      refine s_isK fun i30 => ?_
      refine s_bn0 (s_X1_pointsOf i30 (1 : Int32) a1) fun v32 => ?_
      exact s_rt _
    · exact s_rt _
  refine fun u18 => ?_
  refine s_gR rfl fun v19 => ?_
  refine s_isK fun i20 => ?_
  refine s_bn0 (s_X3_wrongsOfHour i20) fun v22 => ?_
  refine s_gR rfl fun v23 => ?_
  refine s_isK fun i24 => ?_
  refine s_bn0 (s_X1_pointsOf i24 (2 : Int32) a1) fun v26 => ?_
  exact s_rt _
def h_X8_holds (i0 : Nat) (a1 : Nat) : PV Int32 := hisK 6 a1 fun i1 => hgI 6 i1 0 fun v3 => hcnd (v3 = (1 : Int32)) (hgR 7 i0 0 fun v5 => hisK 2 v5 fun i6 => hgR 2 i6 6 fun v8 => hgI 7 i0 1 fun v9 => hisK 14 v8 fun i10 => hbn0 (h_J18_get i10 v9) (fun v12 => hasr ((v12 = 0) ∨ (v12 = 1)) (hrt v12))) (hcnd (v3 = (2 : Int32)) (hbn0 (h_X8_risk i0 (0 : Int32)) (fun v14 => hgI 6 i1 1 fun v15 => hcnd (v14 < v15) (hasr (((0 : Int32) = 0) ∨ ((0 : Int32) = 1)) (hrt (0 : Int32))) (hasr (((1 : Int32) = 0) ∨ ((1 : Int32) = 1)) (hrt (1 : Int32))))) (hcnd (v3 = (3 : Int32)) (hgR 7 i0 0 fun v18 => hisK 2 v18 fun i19 => hgR 2 i19 1 fun v21 => hgI 6 i1 1 fun v22 => hisK 32 v21 fun i23 => haI 32 i23 v22 fun v25 => hcnd (v25 = (1 : Int32)) (hasr (((1 : Int32) = 0) ∨ ((1 : Int32) = 1)) (hrt (1 : Int32))) (hasr (((0 : Int32) = 0) ∨ ((0 : Int32) = 1)) (hrt (0 : Int32)))) (hgI 7 i0 9 fun v27 => hbn0 (h_X1_levelOf v27) (fun v28 => hgI 6 i1 1 fun v29 => hcnd (v28 < v29) (hasr (((0 : Int32) = 0) ∨ ((0 : Int32) = 1)) (hrt (0 : Int32))) (hasr (((1 : Int32) = 0) ∨ ((1 : Int32) = 1)) (hrt (1 : Int32)))))))
theorem s_X8_holds (i0 : Nat) (a1 : Nat) : Sim (h_X8_holds i0 a1) (f_X8_holds i0 a1) := by
  unfold h_X8_holds f_X8_holds
  refine s_isK fun i1 => ?_
  refine s_gI rfl fun v3 => ?_
  refine s_cnd ?_ ?_
  · refine s_gR rfl fun v5 => ?_
    refine s_isK fun i6 => ?_
    refine s_gR rfl fun v8 => ?_
    refine s_gI rfl fun v9 => ?_
    refine s_isK fun i10 => ?_
    refine s_bn0 (s_J18_get i10 v9) fun v12 => ?_
    refine s_asr ?_
    exact s_rt _
  · refine s_cnd ?_ ?_
    · refine s_bn0 (s_X8_risk i0 (0 : Int32)) fun v14 => ?_
      refine s_gI rfl fun v15 => ?_
      refine s_cnd ?_ ?_
      · refine s_asr ?_
        exact s_rt _
      · refine s_asr ?_
        exact s_rt _
    · refine s_cnd ?_ ?_
      · refine s_gR rfl fun v18 => ?_
        refine s_isK fun i19 => ?_
        refine s_gR rfl fun v21 => ?_
        refine s_gI rfl fun v22 => ?_
        refine s_isK fun i23 => ?_
        refine s_aI rfl fun v25 => ?_
        refine s_cnd ?_ ?_
        · refine s_asr ?_
          exact s_rt _
        · refine s_asr ?_
          exact s_rt _
      · refine s_gI rfl fun v27 => ?_
        refine s_bn0 (s_X1_levelOf v27) fun v28 => ?_
        refine s_gI rfl fun v29 => ?_
        refine s_cnd ?_ ?_
        · refine s_asr ?_
          exact s_rt _
        · refine s_asr ?_
          exact s_rt _
def h_X9_init (i0 : Nat) (a1 : Nat) (a2 : Int32) (a3 : Nat) (a4 : Nat) (a5 : Nat) (a6 : Int32) : PV Unit := hpR 8 i0 8 a1 <| hgR 8 i0 8 fun v1 => hisK 0 v1 fun i2 => hgI 0 i2 16 fun v4 => hpI 8 i0 3 v4 <| hgR 8 i0 8 fun v5 => hisK 0 v5 fun i6 => hgI 0 i6 16 fun v8 => hpI 8 i0 4 v8 <| hpZ 8 i0 5 (1 : Int32) <| hpI 8 i0 0 a2 <| hpR 8 i0 1 a3 <| hpR 8 i0 2 a4 <| hcl a5 fun i9 => hpR 8 i0 6 (idc 32 i9) <| hpI 8 i0 7 a6 <| hrt ()
theorem s_X9_init (i0 : Nat) (a1 : Nat) (a2 : Int32) (a3 : Nat) (a4 : Nat) (a5 : Nat) (a6 : Int32) : Sim (h_X9_init i0 a1 a2 a3 a4 a5 a6) (f_X9_init i0 a1 a2 a3 a4 a5 a6) := by
  unfold h_X9_init f_X9_init
  refine s_pR rfl ?_
  refine s_gR rfl fun v1 => ?_
  refine s_isK fun i2 => ?_
  refine s_gI rfl fun v4 => ?_
  refine s_pI rfl ?_
  refine s_gR rfl fun v5 => ?_
  refine s_isK fun i6 => ?_
  refine s_gI rfl fun v8 => ?_
  refine s_pI rfl ?_
  refine s_pZ rfl ?_
  refine s_pI rfl ?_
  refine s_pR rfl ?_
  refine s_pR rfl ?_
  refine s_cl fun i9 => ?_
  refine s_pR rfl ?_
  refine s_pI rfl ?_
  exact s_rt _
def h_X1_beginSession (i0 : Nat) (a1 : Nat) (a2 : Nat) (a3 : Nat) (a4 : Int32) : PV Int32 := hnw 8 9 fun i1 => hgR 0 i0 4 fun v2 => hisK 13 v2 fun i3 => hbn0 (h_J2_size i3) (fun v5 => hbn0 (h_X9_init i1 (idc 0 i0) v5 a1 a2 a3 a4) (fun _ => hgR 0 i0 4 fun v7 => hisK 13 v7 fun i8 => hbn0 (h_J2_add i8 (idc 8 i1)) (fun v10 => hgI 8 i1 0 fun v11 => hbn0 (h_X1_write i0 (0 : Int32) v11) (fun _ => hgI 8 i1 0 fun v13 => hrt v13))))
theorem s_X1_beginSession (i0 : Nat) (a1 : Nat) (a2 : Nat) (a3 : Nat) (a4 : Int32) : Sim (h_X1_beginSession i0 a1 a2 a3 a4) (f_X1_beginSession i0 a1 a2 a3 a4) := by
  unfold h_X1_beginSession f_X1_beginSession
  refine s_nw rfl fun i1 => ?_
  refine s_gR rfl fun v2 => ?_
  refine s_isK fun i3 => ?_
  refine s_bn0 (s_J2_size i3) fun v5 => ?_
  refine s_bn0 (s_X9_init i1 (idc 0 i0) v5 a1 a2 a3 a4) fun _ => ?_
  refine s_gR rfl fun v7 => ?_
  refine s_isK fun i8 => ?_
  refine s_bn0 (s_J2_add i8 (idc 8 i1)) fun v10 => ?_
  refine s_gI rfl fun v11 => ?_
  refine s_bn0 (s_X1_write i0 (0 : Int32) v11) fun _ => ?_
  refine s_gI rfl fun v13 => ?_
  exact s_rt _
def h_X8_go (i0 : Nat) (a1 : Int32) : PV Unit := hbnd (hlp (σ := Int32) (fun r2 => fun u1 => hcnd (u1 = (-1 : Int32)) (hrt u1) (hgR 7 i0 3 fun v6 => hisK 1 v6 fun i7 => hgR 1 i7 0 fun v9 => hisK 13 v9 fun i10 => hbn0 (h_J2_get i10 u1) (fun v12 => hisK 6 v12 fun i13 => hbn0 (h_X7_isTest i13) (fun v15 => hcnd (v15 = 0) (hrt u1) (hgR 7 i0 3 fun v17 => hisK 1 v17 fun i18 => hgR 1 i18 0 fun v20 => hisK 13 v20 fun i21 => hbn0 (h_J2_get i21 u1) (fun v23 => hisK 6 v23 fun i24 => hbn0 (h_X8_holds i0 (idc 6 i24)) (fun v26 => hcnd (v26 = 0) (hgI 6 i24 4 fun v28 => r2 v28) (hgI 6 i24 3 fun v29 => r2 v29)))))))) a1) (fun u3 => hbnd (ρ := _) (α := Nat) (hcnd (u3 = (-1 : Int32)) (hrt nul) (hgR 7 i0 3 fun v87 => hisK 1 v87 fun i88 => hgR 1 i88 0 fun v90 => hisK 13 v90 fun i91 => hbn0 (h_J2_get i91 u3) (fun v93 => hisK 6 v93 fun i94 => hrt (idc 6 i94)))) (fun u30 => hpR 7 i0 4 u30 <| hpI 7 i0 5 (0 : Int32) <| hgR 7 i0 4 fun v31 => hjo (σ := Unit) (fun _ => hpI 7 i0 7 (2 : Int32) <| hrt ()) fun j33 => hcnd (v31 = nul) (j33 ()) (hgR 7 i0 4 fun v35 => hisK 6 v35 fun i36 => hgI 6 i36 0 fun v38 => hcnd (v38 = (6 : Int32)) (j33 ()) (hgR 7 i0 4 fun v40 => hisK 6 v40 fun i41 => hgI 6 i41 0 fun v43 => hjo (σ := Unit) (fun _ => hgR 7 i0 4 fun v44 => hisK 6 v44 fun i45 => hgI 6 i45 0 fun v47 => hcnd (v47 = (5 : Int32)) (hpI 7 i0 7 (1 : Int32) <| hgR 7 i0 11 fun v49 => hgR 7 i0 0 fun v50 => hgR 7 i0 8 fun v51 => hgI 7 i0 9 fun v52 => hisK 0 v49 fun i53 => hisK 32 v51 fun i55 => hbn0 (h_X1_beginSession i53 v50 nul i55 v52) (fun v57 => hpI 7 i0 10 v57 <| hgR 7 i0 0 fun v58 => hisK 2 v58 fun i59 => hgR 2 i59 6 fun v61 => hgI 7 i0 1 fun v62 => hisK 14 v61 fun i63 => hbn0 (h_J18_set i63 v62) (fun _ => hgR 7 i0 0 fun v66 => hisK 2 v66 fun i67 => hgR 2 i67 7 fun v69 => hgI 7 i0 2 fun v70 => hisK 14 v69 fun i71 => hbn0 (h_J18_set i71 v70) (fun _ => hrt ())))) (hrt ())) fun j75 => hcnd (v43 = (5 : Int32)) (hgR 7 i0 11 fun v77 => hisK 0 v77 fun i78 => hgR 0 i78 4 fun v80 => hisK 13 v80 fun i81 => hbn0 (h_J2_size i81) (fun v83 => hcnd (v83 = (60 : Int32)) (j33 ()) (j75 ()))) (j75 ())))))
theorem s_X8_go (i0 : Nat) (a1 : Int32) : Sim (h_X8_go i0 a1) (f_X8_go i0 a1) := by
  unfold h_X8_go f_X8_go
  refine s_bnd ?_ ?_
  · refine s_lp (fun r2 r2q hr2 => ?_) a1
    intro u1
    refine s_cnd ?_ ?_
    · exact s_rt _
    · refine s_gR rfl fun v6 => ?_
      refine s_isK fun i7 => ?_
      refine s_gR rfl fun v9 => ?_
      refine s_isK fun i10 => ?_
      refine s_bn0 (s_J2_get i10 u1) fun v12 => ?_
      refine s_isK fun i13 => ?_
      refine s_bn0 (s_X7_isTest i13) fun v15 => ?_
      refine s_cnd ?_ ?_
      · exact s_rt _
      · refine s_gR rfl fun v17 => ?_
        refine s_isK fun i18 => ?_
        refine s_gR rfl fun v20 => ?_
        refine s_isK fun i21 => ?_
        refine s_bn0 (s_J2_get i21 u1) fun v23 => ?_
        refine s_isK fun i24 => ?_
        refine s_bn0 (s_X8_holds i0 (idc 6 i24)) fun v26 => ?_
        refine s_cnd ?_ ?_
        · refine s_gI rfl fun v28 => ?_
          exact hr2 _
        · refine s_gI rfl fun v29 => ?_
          exact hr2 _
  refine fun u3 => ?_
  refine s_bnd ?_ ?_
  · refine s_cnd ?_ ?_
    · exact s_rt _
    · refine s_gR rfl fun v87 => ?_
      refine s_isK fun i88 => ?_
      refine s_gR rfl fun v90 => ?_
      refine s_isK fun i91 => ?_
      refine s_bn0 (s_J2_get i91 u3) fun v93 => ?_
      refine s_isK fun i94 => ?_
      exact s_rt _
  refine fun u30 => ?_
  refine s_pR rfl ?_
  refine s_pI rfl ?_
  refine s_gR rfl fun v31 => ?_
  refine s_jo (fun _ => ?_) fun j33 j33q hj33 => ?_
  · refine s_pI rfl ?_
    exact s_rt _
  refine s_cnd ?_ ?_
  · exact hj33 _
  · refine s_gR rfl fun v35 => ?_
    refine s_isK fun i36 => ?_
    refine s_gI rfl fun v38 => ?_
    refine s_cnd ?_ ?_
    · exact hj33 _
    · refine s_gR rfl fun v40 => ?_
      refine s_isK fun i41 => ?_
      refine s_gI rfl fun v43 => ?_
      refine s_jo (fun _ => ?_) fun j75 j75q hj75 => ?_
      · refine s_gR rfl fun v44 => ?_
        refine s_isK fun i45 => ?_
        refine s_gI rfl fun v47 => ?_
        refine s_cnd ?_ ?_
        · refine s_pI rfl ?_
          refine s_gR rfl fun v49 => ?_
          refine s_gR rfl fun v50 => ?_
          refine s_gR rfl fun v51 => ?_
          refine s_gI rfl fun v52 => ?_
          refine s_isK fun i53 => ?_
          refine s_isK fun i55 => ?_
          refine s_bn0 (s_X1_beginSession i53 v50 nul i55 v52) fun v57 => ?_
          refine s_pI rfl ?_
          refine s_gR rfl fun v58 => ?_
          refine s_isK fun i59 => ?_
          refine s_gR rfl fun v61 => ?_
          refine s_gI rfl fun v62 => ?_
          refine s_isK fun i63 => ?_
          refine s_bn0 (s_J18_set i63 v62) fun _ => ?_
          refine s_gR rfl fun v66 => ?_
          refine s_isK fun i67 => ?_
          refine s_gR rfl fun v69 => ?_
          refine s_gI rfl fun v70 => ?_
          refine s_isK fun i71 => ?_
          refine s_bn0 (s_J18_set i71 v70) fun _ => ?_
          exact s_rt _
        · exact s_rt _
      refine s_cnd ?_ ?_
      · refine s_gR rfl fun v77 => ?_
        refine s_isK fun i78 => ?_
        refine s_gR rfl fun v80 => ?_
        refine s_isK fun i81 => ?_
        refine s_bn0 (s_J2_size i81) fun v83 => ?_
        refine s_cnd ?_ ?_
        · exact hj33 _
        · exact hj75 _
      · exact hj75 _
def h_X8_init (i0 : Nat) (a1 : Nat) (a2 : Nat) (a3 : Int32) (a4 : Int32) (a5 : Nat) : PV Unit := hpR 7 i0 11 a1 <| hpI 7 i0 7 (0 : Int32) <| hnwA 32 (3 : Int32) fun i1 => hpR 7 i0 8 (idc 32 i1) <| hpI 7 i0 10 (-1 : Int32) <| hpR 7 i0 0 a2 <| hpI 7 i0 1 a3 <| hpI 7 i0 2 a4 <| hpR 7 i0 3 a5 <| hbn0 (h_X8_go i0 (0 : Int32)) (fun _ => hrt ())
theorem s_X8_init (i0 : Nat) (a1 : Nat) (a2 : Nat) (a3 : Int32) (a4 : Int32) (a5 : Nat) : Sim (h_X8_init i0 a1 a2 a3 a4 a5) (f_X8_init i0 a1 a2 a3 a4 a5) := by
  unfold h_X8_init f_X8_init
  refine s_pR rfl ?_
  refine s_pI rfl ?_
  refine s_nwA rfl fun i1 => ?_
  refine s_pR rfl ?_
  refine s_pI rfl ?_
  refine s_pR rfl ?_
  refine s_pI rfl ?_
  refine s_pI rfl ?_
  refine s_pR rfl ?_
  refine s_bn0 (s_X8_go i0 (0 : Int32)) fun _ => ?_
  exact s_rt _
def h_X1_begin (i0 : Nat) (a1 : Int32) (a2 : Int32) (a3 : Int32) : PV Int32 := hbnd (h_X1_personAt i0 a1) (fun v1 => hbnd (h_X1_there a2 (6 : Int32)) (fun _ => hbnd (h_X1_there a3 (6 : Int32)) (fun _ => hgR 0 i0 2 fun v4 => hisK 13 v4 fun i5 => hbn0 (h_J2_isEmpty i5) (fun v7 => hbnd (ρ := _) (α := Int32) (hjo (σ := Unit) (fun _ => hrt (0 : Int32)) fun j32 => hcnd (v7 = 0) (hisK 2 v1 fun i34 => hgI 2 i34 4 fun v36 => hcnd (v36 = 0) (hgR 0 i0 3 fun v38 => hisK 13 v38 fun i39 => hbn0 (h_J2_size i39) (fun v41 => hcnd ((60 : Int32) ≤ v41) (j32 ()) (hrt (1 : Int32)))) (j32 ())) (j32 ())) (fun u8 => hbnd (h_X1_can u8) (fun _ => hgR 0 i0 3 fun v10 => hnw 7 12 fun i11 => hgR 0 i0 2 fun v12 => hgR 0 i0 2 fun v13 => hisK 13 v13 fun i14 => hbn0 (h_J2_size i14) (fun v16 => hisK 13 v12 fun i17 => hbn0 (h_J2_get i17 (v16 - (1 : Int32))) (fun v19 => hisK 1 v19 fun i20 => hbn0 (h_X8_init i11 (idc 0 i0) v1 a2 a3 (idc 1 i20)) (fun _ => hisK 13 v10 fun i23 => hbn0 (h_J2_add i23 (idc 7 i11)) (fun v25 => hgR 0 i0 3 fun v26 => hisK 13 v26 fun i27 => hbn0 (h_J2_size i27) (fun v29 => hrt (v29 - (1 : Int32)))))))))))))
theorem s_X1_begin (i0 : Nat) (a1 : Int32) (a2 : Int32) (a3 : Int32) : Sim (h_X1_begin i0 a1 a2 a3) (f_X1_begin i0 a1 a2 a3) := by
  unfold h_X1_begin f_X1_begin
  refine s_bnd (s_X1_personAt i0 a1) fun v1 => ?_
  refine s_bnd (s_X1_there a2 (6 : Int32)) fun _ => ?_
  refine s_bnd (s_X1_there a3 (6 : Int32)) fun _ => ?_
  refine s_gR rfl fun v4 => ?_
  refine s_isK fun i5 => ?_
  refine s_bn0 (s_J2_isEmpty i5) fun v7 => ?_
  refine s_bnd ?_ ?_
  · refine s_jo (fun _ => ?_) fun j32 j32q hj32 => ?_
    · exact s_rt _
    refine s_cnd ?_ ?_
    · refine s_isK fun i34 => ?_
      refine s_gI rfl fun v36 => ?_
      refine s_cnd ?_ ?_
      · refine s_gR rfl fun v38 => ?_
        refine s_isK fun i39 => ?_
        refine s_bn0 (s_J2_size i39) fun v41 => ?_
        refine s_cnd ?_ ?_
        · exact hj32 _
        · exact s_rt _
      · exact hj32 _
    · exact hj32 _
  refine fun u8 => ?_
  refine s_bnd (s_X1_can u8) fun _ => ?_
  refine s_gR rfl fun v10 => ?_
  refine s_nw rfl fun i11 => ?_
  refine s_gR rfl fun v12 => ?_
  refine s_gR rfl fun v13 => ?_
  refine s_isK fun i14 => ?_
  refine s_bn0 (s_J2_size i14) fun v16 => ?_
  refine s_isK fun i17 => ?_
  refine s_bn0 (s_J2_get i17 (v16 - (1 : Int32))) fun v19 => ?_
  refine s_isK fun i20 => ?_
  refine s_bn0 (s_X8_init i11 (idc 0 i0) v1 a2 a3 (idc 1 i20)) fun _ => ?_
  refine s_isK fun i23 => ?_
  refine s_bn0 (s_J2_add i23 (idc 7 i11)) fun v25 => ?_
  refine s_gR rfl fun v26 => ?_
  refine s_isK fun i27 => ?_
  refine s_bn0 (s_J2_size i27) fun v29 => ?_
  exact s_rt _
def h_X3_suspend (i0 : Nat) (a1 : Int32) : PV Unit := hgR 2 i0 1 fun v1 => hisK 32 v1 fun i2 => hbI 32 i2 a1 (2 : Int32) <| hgR 2 i0 10 fun v4 => hgI 2 i0 0 fun v5 => hisK 0 v4 fun i6 => hbn0 (h_X1_write i6 (4 : Int32) (((3 : Int32) * v5) + a1)) (fun _ => hrt ())
theorem s_X3_suspend (i0 : Nat) (a1 : Int32) : Sim (h_X3_suspend i0 a1) (f_X3_suspend i0 a1) := by
  unfold h_X3_suspend f_X3_suspend
  refine s_gR rfl fun v1 => ?_
  refine s_isK fun i2 => ?_
  refine s_bI rfl ?_
  refine s_gR rfl fun v4 => ?_
  refine s_gI rfl fun v5 => ?_
  refine s_isK fun i6 => ?_
  refine s_bn0 (s_X1_write i6 (4 : Int32) (((3 : Int32) * v5) + a1)) fun _ => ?_
  exact s_rt _
def h_X3_isTaken (i0 : Nat) (a1 : Int32) (a2 : Int32) (a3 : Int32) : PV Int32 := hgR 2 i0 1 fun v1 => hisK 32 v1 fun i2 => haI 32 i2 a1 fun v4 => hcnd (v4 = (1 : Int32)) (hjo (σ := Unit) (fun _ => hgR 2 i0 2 fun v6 => hbnd (ρ := _) (α := Int32) (hcnd (a2 = 0) (hgR 2 i0 2 fun v26 => hisK 32 v26 fun i27 => haI 32 i27 a1 fun v29 => hrt (v29 + (1 : Int32))) (hrt (0 : Int32))) (fun u7 => hisK 32 v6 fun i8 => hbI 32 i8 a1 u7 <| hgR 2 i0 2 fun v10 => hisK 32 v10 fun i11 => haI 32 i11 a1 fun v13 => hbnd (ρ := _) (α := Unit) (hcnd (v13 = (5 : Int32)) (hbn0 (h_X3_suspend i0 a1) (fun _ => hrt ())) (hrt ())) (fun _ => hbnd (ρ := _) (α := Int32) (hjo (σ := Unit) (fun _ => hgI 2 i0 3 fun v16 => hrt v16) fun j18 => hcnd (a2 = 0) (j18 ()) (hcnd (a1 = (2 : Int32)) (hrt a3) (j18 ()))) (fun u14 => hpI 2 i0 3 u14 <| hasr ((a2 = 0) ∨ (a2 = 1)) (hrt a2))))) fun j31 => hcnd (a2 = 0) (j31 ()) (hcnd (a1 = (2 : Int32)) (hgI 2 i0 3 fun v34 => hcnd (v34 < a3) (j31 ()) (hbn0 (h_X3_suspend i0 (2 : Int32)) (fun _ => hasr (((0 : Int32) = 0) ∨ ((0 : Int32) = 1)) (hrt (0 : Int32))))) (j31 ()))) (hasr (((0 : Int32) = 0) ∨ ((0 : Int32) = 1)) (hrt (0 : Int32)))
theorem s_X3_isTaken (i0 : Nat) (a1 : Int32) (a2 : Int32) (a3 : Int32) : Sim (h_X3_isTaken i0 a1 a2 a3) (f_X3_isTaken i0 a1 a2 a3) := by
  unfold h_X3_isTaken f_X3_isTaken
  refine s_gR rfl fun v1 => ?_
  refine s_isK fun i2 => ?_
  refine s_aI rfl fun v4 => ?_
  refine s_cnd ?_ ?_
  · refine s_jo (fun _ => ?_) fun j31 j31q hj31 => ?_
    · refine s_gR rfl fun v6 => ?_
      refine s_bnd ?_ ?_
      · refine s_cnd ?_ ?_
        · refine s_gR rfl fun v26 => ?_
          refine s_isK fun i27 => ?_
          refine s_aI rfl fun v29 => ?_
          exact s_rt _
        · exact s_rt _
      refine fun u7 => ?_
      refine s_isK fun i8 => ?_
      refine s_bI rfl ?_
      refine s_gR rfl fun v10 => ?_
      refine s_isK fun i11 => ?_
      refine s_aI rfl fun v13 => ?_
      refine s_bnd ?_ ?_
      · refine s_cnd ?_ ?_
        · refine s_bn0 (s_X3_suspend i0 a1) fun _ => ?_
          exact s_rt _
        · exact s_rt _
      refine fun _ => ?_
      refine s_bnd ?_ ?_
      · refine s_jo (fun _ => ?_) fun j18 j18q hj18 => ?_
        · refine s_gI rfl fun v16 => ?_
          exact s_rt _
        refine s_cnd ?_ ?_
        · exact hj18 _
        · refine s_cnd ?_ ?_
          · exact s_rt _
          · exact hj18 _
      refine fun u14 => ?_
      refine s_pI rfl ?_
      refine s_asr ?_
      exact s_rt _
    refine s_cnd ?_ ?_
    · exact hj31 _
    · refine s_cnd ?_ ?_
      · refine s_gI rfl fun v34 => ?_
        refine s_cnd ?_ ?_
        · exact hj31 _
        · refine s_bn0 (s_X3_suspend i0 (2 : Int32)) fun _ => ?_
          refine s_asr ?_
          exact s_rt _
      · exact hj31 _
  · refine s_asr ?_
    exact s_rt _
def h_X3_answers (i0 : Nat) (a1 : Int32) (a2 : Int32) (a3 : Int32) : PV Int32 := hbn0 (h_X3_isTaken i0 a1 a2 a3) (fun v1 => hcnd (v1 = 0) (hgR 2 i0 9 fun v3 => hgR 2 i0 10 fun v4 => hisK 0 v4 fun i5 => hgI 0 i5 16 fun v7 => hbn0 (h_J17_valueOf v7) (fun v8 => hisK 15 v3 fun i9 => hbn0 (h_J20_add i9 v8) (fun v11 => hasr ((v1 = 0) ∨ (v1 = 1)) (hrt v1)))) (hasr ((v1 = 0) ∨ (v1 = 1)) (hrt v1)))
theorem s_X3_answers (i0 : Nat) (a1 : Int32) (a2 : Int32) (a3 : Int32) : Sim (h_X3_answers i0 a1 a2 a3) (f_X3_answers i0 a1 a2 a3) := by
  unfold h_X3_answers f_X3_answers
  refine s_bn0 (s_X3_isTaken i0 a1 a2 a3) fun v1 => ?_
  refine s_cnd ?_ ?_
  · refine s_gR rfl fun v3 => ?_
    refine s_gR rfl fun v4 => ?_
    refine s_isK fun i5 => ?_
    refine s_gI rfl fun v7 => ?_
    refine s_bn0 (s_J17_valueOf v7) fun v8 => ?_
    refine s_isK fun i9 => ?_
    refine s_bn0 (s_J20_add i9 v8) fun v11 => ?_
    refine s_asr ?_
    exact s_rt _
  · refine s_asr ?_
    exact s_rt _
def h_X8_answer (i0 : Nat) (a1 : Int32) (a2 : Int32) : PV Int32 := hgR 7 i0 4 fun v1 => hisK 6 v1 fun i2 => hgI 6 i2 1 fun v4 => hgI 7 i0 6 fun v5 => hpI 7 i0 6 (v5 + (1 : Int32)) <| hgR 7 i0 0 fun v6 => hisK 2 v6 fun i7 => hbn0 (h_X3_answers i7 v4 a1 a2) (fun v9 => hbnd (ρ := _) (α := Unit) (hcnd (v9 = 0) (hgI 7 i0 5 fun v22 => hpI 7 i0 5 (v22 + (1 : Int32)) <| hgI 7 i0 5 fun v23 => hgR 7 i0 4 fun v24 => hisK 6 v24 fun i25 => hgI 6 i25 2 fun v27 => hcnd (v23 = v27) (hgR 7 i0 4 fun v29 => hisK 6 v29 fun i30 => hgI 6 i30 4 fun v32 => hbn0 (h_X8_go i0 v32) (fun _ => hrt ())) (hrt ())) (hgI 7 i0 9 fun v34 => hpI 7 i0 9 (v34 ||| ((1 : Int32) <<< (v4 &&& 31))) <| hgR 7 i0 8 fun v35 => hgR 7 i0 11 fun v36 => hisK 0 v36 fun i37 => hgI 0 i37 16 fun v39 => hisK 32 v35 fun i40 => hbI 32 i40 v4 v39 <| hgR 7 i0 4 fun v42 => hisK 6 v42 fun i43 => hgI 6 i43 3 fun v45 => hbn0 (h_X8_go i0 v45) (fun _ => hrt ()))) (fun _ => hgI 7 i0 7 fun v10 => hbnd (ρ := _) (α := Int32) (hjo (σ := Unit) (fun _ => hgI 7 i0 7 fun v14 => hrt v14) fun j16 => hcnd (v10 = 0) (hgI 7 i0 6 fun v18 => hcnd (v18 = (12 : Int32)) (hrt (2 : Int32)) (j16 ())) (j16 ())) (fun u11 => hpI 7 i0 7 u11 <| hgI 7 i0 7 fun v12 => hrt v12)))
theorem s_X8_answer (i0 : Nat) (a1 : Int32) (a2 : Int32) : Sim (h_X8_answer i0 a1 a2) (f_X8_answer i0 a1 a2) := by
  unfold h_X8_answer f_X8_answer
  refine s_gR rfl fun v1 => ?_
  refine s_isK fun i2 => ?_
  refine s_gI rfl fun v4 => ?_
  refine s_gI rfl fun v5 => ?_
  refine s_pI rfl ?_
  refine s_gR rfl fun v6 => ?_
  refine s_isK fun i7 => ?_
  refine s_bn0 (s_X3_answers i7 v4 a1 a2) fun v9 => ?_
  refine s_bnd ?_ ?_
  · refine s_cnd ?_ ?_
    · refine s_gI rfl fun v22 => ?_
      refine s_pI rfl ?_
      refine s_gI rfl fun v23 => ?_
      refine s_gR rfl fun v24 => ?_
      refine s_isK fun i25 => ?_
      refine s_gI rfl fun v27 => ?_
      refine s_cnd ?_ ?_
      · refine s_gR rfl fun v29 => ?_
        refine s_isK fun i30 => ?_
        refine s_gI rfl fun v32 => ?_
        refine s_bn0 (s_X8_go i0 v32) fun _ => ?_
        exact s_rt _
      · exact s_rt _
    · refine s_gI rfl fun v34 => ?_
      refine s_pI rfl ?_
      refine s_gR rfl fun v35 => ?_
      refine s_gR rfl fun v36 => ?_
      refine s_isK fun i37 => ?_
      refine s_gI rfl fun v39 => ?_
      refine s_isK fun i40 => ?_
      refine s_bI rfl ?_
      refine s_gR rfl fun v42 => ?_
      refine s_isK fun i43 => ?_
      refine s_gI rfl fun v45 => ?_
      refine s_bn0 (s_X8_go i0 v45) fun _ => ?_
      exact s_rt _
  refine fun _ => ?_
  refine s_gI rfl fun v10 => ?_
  refine s_bnd ?_ ?_
  · refine s_jo (fun _ => ?_) fun j16 j16q hj16 => ?_
    · refine s_gI rfl fun v14 => ?_
      exact s_rt _
    refine s_cnd ?_ ?_
    · refine s_gI rfl fun v18 => ?_
      refine s_cnd ?_ ?_
      · exact s_rt _
      · exact hj16 _
    · exact hj16 _
  refine fun u11 => ?_
  refine s_pI rfl ?_
  refine s_gI rfl fun v12 => ?_
  exact s_rt _
def h_X1_answer (i0 : Nat) (a1 : Int32) (a2 : Int32) (a3 : Int32) : PV Int32 := hgR 0 i0 3 fun v1 => hbnd (h_X1_at v1 a1) (fun v2 => hisK 7 v2 fun i3 => hbnd (h_X1_fit a3 (0 : Int32) (9999 : Int32)) (fun _ => hgI 7 i3 7 fun v6 => hbnd (ρ := _) (α := Int32) (hcnd (v6 = 0) (hrt (1 : Int32)) (hrt (0 : Int32))) (fun u7 => hbnd (h_X1_can u7) (fun _ => hbn0 (h_X8_answer i3 a2 a3) (fun v9 => hrt v9)))))
theorem s_X1_answer (i0 : Nat) (a1 : Int32) (a2 : Int32) (a3 : Int32) : Sim (h_X1_answer i0 a1 a2 a3) (f_X1_answer i0 a1 a2 a3) := by
  unfold h_X1_answer f_X1_answer
  refine s_gR rfl fun v1 => ?_
  refine s_bnd (s_X1_at v1 a1) fun v2 => ?_
  refine s_isK fun i3 => ?_
  refine s_bnd (s_X1_fit a3 (0 : Int32) (9999 : Int32)) fun _ => ?_
  refine s_gI rfl fun v6 => ?_
  refine s_bnd ?_ ?_
  · refine s_cnd ?_ ?_
    · exact s_rt _
    · exact s_rt _
  refine fun u7 => ?_
  refine s_bnd (s_X1_can u7) fun _ => ?_
  refine s_bn0 (s_X8_answer i3 a2 a3) fun v9 => ?_
  exact s_rt _
def h_X1_state (i0 : Nat) (a1 : Int32) : PV Int32 := hgR 0 i0 3 fun v1 => hbnd (h_X1_at v1 a1) (fun v2 => hisK 7 v2 fun i3 => hgI 7 i3 7 fun v5 => hrt v5)
theorem s_X1_state (i0 : Nat) (a1 : Int32) : Sim (h_X1_state i0 a1) (f_X1_state i0 a1) := by
  unfold h_X1_state f_X1_state
  refine s_gR rfl fun v1 => ?_
  refine s_bnd (s_X1_at v1 a1) fun v2 => ?_
  refine s_isK fun i3 => ?_
  refine s_gI rfl fun v5 => ?_
  exact s_rt _
def h_X8_asked (i0 : Nat) : PV Int32 := hgI 7 i0 7 fun v1 => hcnd (v1 = 0) (hgR 7 i0 4 fun v3 => hisK 6 v3 fun i4 => hgI 6 i4 1 fun v6 => hrt v6) (hrt (-1 : Int32))
theorem s_X8_asked (i0 : Nat) : Sim (h_X8_asked i0) (f_X8_asked i0) := by
  unfold h_X8_asked f_X8_asked
  refine s_gI rfl fun v1 => ?_
  refine s_cnd ?_ ?_
  · refine s_gR rfl fun v3 => ?_
    refine s_isK fun i4 => ?_
    refine s_gI rfl fun v6 => ?_
    exact s_rt _
  · exact s_rt _
def h_X1_asked (i0 : Nat) (a1 : Int32) : PV Int32 := hgR 0 i0 3 fun v1 => hbnd (h_X1_at v1 a1) (fun v2 => hisK 7 v2 fun i3 => hbn0 (h_X8_asked i3) (fun v5 => hrt v5))
theorem s_X1_asked (i0 : Nat) (a1 : Int32) : Sim (h_X1_asked i0 a1) (f_X1_asked i0 a1) := by
  unfold h_X1_asked f_X1_asked
  refine s_gR rfl fun v1 => ?_
  refine s_bnd (s_X1_at v1 a1) fun v2 => ?_
  refine s_isK fun i3 => ?_
  refine s_bn0 (s_X8_asked i3) fun v5 => ?_
  exact s_rt _
def h_X1_sessionOf (i0 : Nat) (a1 : Int32) : PV Int32 := hgR 0 i0 3 fun v1 => hbnd (h_X1_at v1 a1) (fun v2 => hisK 7 v2 fun i3 => hgI 7 i3 10 fun v5 => hrt v5)
theorem s_X1_sessionOf (i0 : Nat) (a1 : Int32) : Sim (h_X1_sessionOf i0 a1) (f_X1_sessionOf i0 a1) := by
  unfold h_X1_sessionOf f_X1_sessionOf
  refine s_gR rfl fun v1 => ?_
  refine s_bnd (s_X1_at v1 a1) fun v2 => ?_
  refine s_isK fun i3 => ?_
  refine s_gI rfl fun v5 => ?_
  exact s_rt _
def h_X1_risk (i0 : Nat) (a1 : Int32) : PV Int32 := hgR 0 i0 3 fun v1 => hbnd (h_X1_at v1 a1) (fun v2 => hisK 7 v2 fun i3 => hbn0 (h_X8_risk i3 (0 : Int32)) (fun v5 => hrt v5))
theorem s_X1_risk (i0 : Nat) (a1 : Int32) : Sim (h_X1_risk i0 a1) (f_X1_risk i0 a1) := by
  unfold h_X1_risk f_X1_risk
  refine s_gR rfl fun v1 => ?_
  refine s_bnd (s_X1_at v1 a1) fun v2 => ?_
  refine s_isK fun i3 => ?_
  refine s_bn0 (s_X8_risk i3 (0 : Int32)) fun v5 => ?_
  exact s_rt _
def h_X1_trialRisk (i0 : Nat) (a1 : Int32) : PV Int32 := hgR 0 i0 3 fun v1 => hbnd (h_X1_at v1 a1) (fun v2 => hisK 7 v2 fun i3 => hbn0 (h_X8_risk i3 (1 : Int32)) (fun v5 => hrt v5))
theorem s_X1_trialRisk (i0 : Nat) (a1 : Int32) : Sim (h_X1_trialRisk i0 a1) (f_X1_trialRisk i0 a1) := by
  unfold h_X1_trialRisk f_X1_trialRisk
  refine s_gR rfl fun v1 => ?_
  refine s_bnd (s_X1_at v1 a1) fun v2 => ?_
  refine s_isK fun i3 => ?_
  refine s_bn0 (s_X8_risk i3 (1 : Int32)) fun v5 => ?_
  exact s_rt _
def h_X1_isLive (i0 : Nat) (a1 : Int32) : PV Int32 := hgR 0 i0 4 fun v1 => hbnd (h_X1_at v1 a1) (fun v2 => hisK 8 v2 fun i3 => hgI 8 i3 5 fun v5 => hasr ((v5 = 0) ∨ (v5 = 1)) (hrt v5))
theorem s_X1_isLive (i0 : Nat) (a1 : Int32) : Sim (h_X1_isLive i0 a1) (f_X1_isLive i0 a1) := by
  unfold h_X1_isLive f_X1_isLive
  refine s_gR rfl fun v1 => ?_
  refine s_bnd (s_X1_at v1 a1) fun v2 => ?_
  refine s_isK fun i3 => ?_
  refine s_gI rfl fun v5 => ?_
  refine s_asr ?_
  exact s_rt _
def h_X1_isLiveByAudit (i0 : Nat) (a1 : Int32) : PV Int32 := hgR 0 i0 4 fun v1 => hbnd (h_X1_at v1 a1) (fun v2 => hlp (σ := Int32 × Int32) (fun r5 => un2 fun u3 u4 => hgR 0 i0 14 fun v6 => hisK 13 v6 fun i7 => hbn0 (h_J2_size i7) (fun v9 => hcnd (v9 ≤ u4) (hasr ((u3 = 0) ∨ (u3 = 1)) (hrt u3)) (hgR 0 i0 14 fun v11 => hisK 13 v11 fun i12 => hbn0 (h_J2_get i12 u4) (fun v14 => hisK 5 v14 fun i15 => hgI 5 i15 0 fun v17 => hcnd ((1 : Int32) < v17) (r5 (u3, (u4 + (1 : Int32)))) (hgI 5 i15 1 fun v19 => hcnd (v19 = a1) (hgI 5 i15 0 fun v21 => hcnd (v21 = 0) (r5 ((1 : Int32), (u4 + (1 : Int32)))) (r5 ((0 : Int32), (u4 + (1 : Int32))))) (r5 (u3, (u4 + (1 : Int32))))))))) ((0 : Int32), (0 : Int32)))
theorem s_X1_isLiveByAudit (i0 : Nat) (a1 : Int32) : Sim (h_X1_isLiveByAudit i0 a1) (f_X1_isLiveByAudit i0 a1) := by
  unfold h_X1_isLiveByAudit f_X1_isLiveByAudit
  refine s_gR rfl fun v1 => ?_
  refine s_bnd (s_X1_at v1 a1) fun v2 => ?_
  refine s_lp (fun r5 r5q hr5 => ?_) ((0 : Int32), (0 : Int32))
  refine s_un2 fun u3 u4 => ?_
  refine s_gR rfl fun v6 => ?_
  refine s_isK fun i7 => ?_
  refine s_bn0 (s_J2_size i7) fun v9 => ?_
  refine s_cnd ?_ ?_
  · refine s_asr ?_
    exact s_rt _
  · refine s_gR rfl fun v11 => ?_
    refine s_isK fun i12 => ?_
    refine s_bn0 (s_J2_get i12 u4) fun v14 => ?_
    refine s_isK fun i15 => ?_
    refine s_gI rfl fun v17 => ?_
    refine s_cnd ?_ ?_
    · exact hr5 _
    · refine s_gI rfl fun v19 => ?_
      refine s_cnd ?_ ?_
      · refine s_gI rfl fun v21 => ?_
        refine s_cnd ?_ ?_
        · exact hr5 _
        · exact hr5 _
      · exact hr5 _
def h_X9_level (i0 : Nat) : PV Int32 := hbnd (hlp (σ := Int32 × Int32) (fun r3 => un2 fun u1 u2 => hcnd ((3 : Int32) ≤ u2) (hrt u1) (hgI 8 i0 7 fun v7 => hjo (σ := Int32) (fun u8 => r3 ((u1 ||| (0 : Int32)), (u8 + (1 : Int32)))) fun j10 => hcnd (((v7 >>> (u2 &&& 31)) &&& (1 : Int32)) = (1 : Int32)) (hgR 8 i0 8 fun v12 => hisK 0 v12 fun i13 => hgI 0 i13 16 fun v15 => hgR 8 i0 6 fun v16 => hisK 32 v16 fun i17 => haI 32 i17 u2 fun v19 => hcnd ((120 : Int32) < (v15 - v19)) (j10 u2) (r3 ((u1 ||| ((1 : Int32) <<< (u2 &&& 31))), (u2 + (1 : Int32))))) (j10 u2))) ((0 : Int32), (0 : Int32))) (fun u4 => hbn0 (h_X1_levelOf u4) (fun v21 => hrt v21))
theorem s_X9_level (i0 : Nat) : Sim (h_X9_level i0) (f_X9_level i0) := by
  unfold h_X9_level f_X9_level
  refine s_bnd ?_ ?_
  · refine s_lp (fun r3 r3q hr3 => ?_) ((0 : Int32), (0 : Int32))
    refine s_un2 fun u1 u2 => ?_
    refine s_cnd ?_ ?_
    · exact s_rt _
    · refine s_gI rfl fun v7 => ?_
      refine s_jo (fun u8 => ?_) fun j10 j10q hj10 => ?_
      · exact hr3 _
      refine s_cnd ?_ ?_
      · refine s_gR rfl fun v12 => ?_
        refine s_isK fun i13 => ?_
        refine s_gI rfl fun v15 => ?_
        refine s_gR rfl fun v16 => ?_
        refine s_isK fun i17 => ?_
        refine s_aI rfl fun v19 => ?_
        refine s_cnd ?_ ?_
        · exact hj10 _
        · exact hr3 _
      · exact hj10 _
  refine fun u4 => ?_
  refine s_bn0 (s_X1_levelOf u4) fun v21 => ?_
  exact s_rt _
def h_X1_level (i0 : Nat) (a1 : Int32) : PV Int32 := hgR 0 i0 4 fun v1 => hbnd (h_X1_at v1 a1) (fun v2 => hisK 8 v2 fun i3 => hbn0 (h_X9_level i3) (fun v5 => hrt v5))
theorem s_X1_level (i0 : Nat) (a1 : Int32) : Sim (h_X1_level i0 a1) (f_X1_level i0 a1) := by
  unfold h_X1_level f_X1_level
  refine s_gR rfl fun v1 => ?_
  refine s_bnd (s_X1_at v1 a1) fun v2 => ?_
  refine s_isK fun i3 => ?_
  refine s_bn0 (s_X9_level i3) fun v5 => ?_
  exact s_rt _
def h_X9_show (i0 : Nat) (a1 : Int32) : PV Unit := hgI 8 i0 7 fun v1 => hpI 8 i0 7 (v1 ||| ((1 : Int32) <<< (a1 &&& 31))) <| hgR 8 i0 6 fun v2 => hgR 8 i0 8 fun v3 => hisK 0 v3 fun i4 => hgI 0 i4 16 fun v6 => hisK 32 v2 fun i7 => hbI 32 i7 a1 v6 <| hrt ()
theorem s_X9_show (i0 : Nat) (a1 : Int32) : Sim (h_X9_show i0 a1) (f_X9_show i0 a1) := by
  unfold h_X9_show f_X9_show
  refine s_gI rfl fun v1 => ?_
  refine s_pI rfl ?_
  refine s_gR rfl fun v2 => ?_
  refine s_gR rfl fun v3 => ?_
  refine s_isK fun i4 => ?_
  refine s_gI rfl fun v6 => ?_
  refine s_isK fun i7 => ?_
  refine s_bI rfl ?_
  exact s_rt _
def h_X1_stepUp (i0 : Nat) (a1 : Int32) (a2 : Int32) (a3 : Int32) (a4 : Int32) : PV Int32 := hgR 0 i0 4 fun v1 => hbnd (h_X1_at v1 a1) (fun v2 => hisK 8 v2 fun i3 => hbnd (h_X1_fitFactor a2) (fun _ => hbnd (h_X1_fit a4 (0 : Int32) (9999 : Int32)) (fun _ => hgI 8 i3 5 fun v7 => hbnd (ρ := _) (α := Int32) (hjo (σ := Unit) (fun _ => hrt (0 : Int32)) fun j21 => hcnd (v7 = 0) (j21 ()) (hgR 8 i3 2 fun v23 => hcnd (v23 = nul) (hrt (1 : Int32)) (j21 ()))) (fun u8 => hbnd (h_X1_can u8) (fun _ => hgI 0 i0 16 fun v10 => hpI 8 i3 4 v10 <| hgR 8 i3 1 fun v11 => hisK 2 v11 fun i12 => hbn0 (h_X3_answers i12 a2 a3 a4) (fun v14 => hbnd (ρ := _) (α := Unit) (hcnd (v14 = 0) (hrt ()) (hbn0 (h_X9_show i3 a2) (fun _ => hrt ()))) (fun _ => hbn0 (h_X9_level i3) (fun v15 => hrt v15))))))))
theorem s_X1_stepUp (i0 : Nat) (a1 : Int32) (a2 : Int32) (a3 : Int32) (a4 : Int32) : Sim (h_X1_stepUp i0 a1 a2 a3 a4) (f_X1_stepUp i0 a1 a2 a3 a4) := by
  unfold h_X1_stepUp f_X1_stepUp
  refine s_gR rfl fun v1 => ?_
  refine s_bnd (s_X1_at v1 a1) fun v2 => ?_
  refine s_isK fun i3 => ?_
  refine s_bnd (s_X1_fitFactor a2) fun _ => ?_
  refine s_bnd (s_X1_fit a4 (0 : Int32) (9999 : Int32)) fun _ => ?_
  refine s_gI rfl fun v7 => ?_
  refine s_bnd ?_ ?_
  · refine s_jo (fun _ => ?_) fun j21 j21q hj21 => ?_
    · exact s_rt _
    refine s_cnd ?_ ?_
    · exact hj21 _
    · refine s_gR rfl fun v23 => ?_
      refine s_cnd ?_ ?_
      · exact s_rt _
      · exact hj21 _
  refine fun u8 => ?_
  refine s_bnd (s_X1_can u8) fun _ => ?_
  refine s_gI rfl fun v10 => ?_
  refine s_pI rfl ?_
  refine s_gR rfl fun v11 => ?_
  refine s_isK fun i12 => ?_
  refine s_bn0 (s_X3_answers i12 a2 a3 a4) fun v14 => ?_
  refine s_bnd ?_ ?_
  · refine s_cnd ?_ ?_
    · exact s_rt _
    · refine s_bn0 (s_X9_show i3 a2) fun _ => ?_
      exact s_rt _
  refine fun _ => ?_
  refine s_bn0 (s_X9_level i3) fun v15 => ?_
  exact s_rt _
def h_X1_signOut (i0 : Nat) (a1 : Int32) : PV Int32 := hgR 0 i0 4 fun v1 => hbnd (h_X1_at v1 a1) (fun v2 => hisK 8 v2 fun i3 => hgI 8 i3 5 fun v5 => hbnd (h_X1_can v5) (fun _ => hbn0 (h_X9_end 30 i3) (fun v7 => hrt v7)))
theorem s_X1_signOut (i0 : Nat) (a1 : Int32) : Sim (h_X1_signOut i0 a1) (f_X1_signOut i0 a1) := by
  unfold h_X1_signOut f_X1_signOut
  refine s_gR rfl fun v1 => ?_
  refine s_bnd (s_X1_at v1 a1) fun v2 => ?_
  refine s_isK fun i3 => ?_
  refine s_gI rfl fun v5 => ?_
  refine s_bnd (s_X1_can v5) fun _ => ?_
  refine s_bn0 (s_X9_end 30 i3) fun v7 => ?_
  exact s_rt _
def h_X1_helper (i0 : Nat) (a1 : Int32) : PV Int32 := hbnd (h_X1_personAt i0 a1) (fun v1 => hisK 2 v1 fun i2 => hgI 2 i2 5 fun v4 => hbnd (ρ := _) (α := Int32) (hcnd (v4 = 0) (hrt (1 : Int32)) (hrt (0 : Int32))) (fun u5 => hpZ 2 i2 5 u5 <| hgI 2 i2 5 fun v6 => hasr ((v6 = 0) ∨ (v6 = 1)) (hrt v6)))
theorem s_X1_helper (i0 : Nat) (a1 : Int32) : Sim (h_X1_helper i0 a1) (f_X1_helper i0 a1) := by
  unfold h_X1_helper f_X1_helper
  refine s_bnd (s_X1_personAt i0 a1) fun v1 => ?_
  refine s_isK fun i2 => ?_
  refine s_gI rfl fun v4 => ?_
  refine s_bnd ?_ ?_
  · refine s_cnd ?_ ?_
    · exact s_rt _
    · exact s_rt _
  refine fun u5 => ?_
  refine s_pZ rfl ?_
  refine s_gI rfl fun v6 => ?_
  refine s_asr ?_
  exact s_rt _
def h_X1_act (i0 : Nat) (a1 : Int32) (a2 : Int32) : PV Int32 := hgR 0 i0 4 fun v1 => hbnd (h_X1_at v1 a1) (fun v2 => hisK 8 v2 fun i3 => hbnd (h_X1_personAt i0 a2) (fun v5 => hgI 8 i3 5 fun v6 => hbnd (ρ := _) (α := Int32) (hjo (σ := Unit) (fun _ => hrt (0 : Int32)) fun j32 => hcnd (v6 = 0) (j32 ()) (hgR 8 i3 2 fun v34 => hcnd (v34 = nul) (hbn0 (h_X9_level i3) (fun v36 => hcnd (v36 < (3 : Int32)) (j32 ()) (hgR 8 i3 1 fun v38 => hisK 2 v38 fun i39 => hgI 2 i39 5 fun v41 => hcnd (v41 = 0) (j32 ()) (hrt (1 : Int32))))) (j32 ()))) (fun u7 => hbnd (h_X1_can u7) (fun _ => hgR 8 i3 1 fun v9 => hbnd (ρ := _) (α := Int32) (hjo (σ := Unit) (fun _ => hrt (0 : Int32)) fun j19 => hasr ((cmpN v5) ∧ (cmpN v9)) (hcnd (v5 = v9) (j19 ()) (hisK 2 v5 fun i21 => hgI 2 i21 4 fun v23 => hcnd (v23 = 0) (hgR 0 i0 4 fun v25 => hisK 13 v25 fun i26 => hbn0 (h_J2_size i26) (fun v28 => hcnd ((60 : Int32) ≤ v28) (j19 ()) (hrt (1 : Int32)))) (j19 ())))) (fun u10 => hbnd (h_X1_can u10) (fun _ => hgR 8 i3 6 fun v12 => hgI 8 i3 7 fun v13 => hisK 32 v12 fun i14 => hbn0 (h_X1_beginSession i0 v5 (idc 8 i3) i14 v13) (fun v16 => hrt v16)))))))
theorem s_X1_act (i0 : Nat) (a1 : Int32) (a2 : Int32) : Sim (h_X1_act i0 a1 a2) (f_X1_act i0 a1 a2) := by
  unfold h_X1_act f_X1_act
  refine s_gR rfl fun v1 => ?_
  refine s_bnd (s_X1_at v1 a1) fun v2 => ?_
  refine s_isK fun i3 => ?_
  refine s_bnd (s_X1_personAt i0 a2) fun v5 => ?_
  refine s_gI rfl fun v6 => ?_
  refine s_bnd ?_ ?_
  · refine s_jo (fun _ => ?_) fun j32 j32q hj32 => ?_
    · exact s_rt _
    refine s_cnd ?_ ?_
    · exact hj32 _
    · refine s_gR rfl fun v34 => ?_
      refine s_cnd ?_ ?_
      · refine s_bn0 (s_X9_level i3) fun v36 => ?_
        refine s_cnd ?_ ?_
        · exact hj32 _
        · refine s_gR rfl fun v38 => ?_
          refine s_isK fun i39 => ?_
          refine s_gI rfl fun v41 => ?_
          refine s_cnd ?_ ?_
          · exact hj32 _
          · exact s_rt _
      · exact hj32 _
  refine fun u7 => ?_
  refine s_bnd (s_X1_can u7) fun _ => ?_
  refine s_gR rfl fun v9 => ?_
  refine s_bnd ?_ ?_
  · refine s_jo (fun _ => ?_) fun j19 j19q hj19 => ?_
    · exact s_rt _
    refine s_asr ?_
    refine s_cnd ?_ ?_
    · exact hj19 _
    · refine s_isK fun i21 => ?_
      refine s_gI rfl fun v23 => ?_
      refine s_cnd ?_ ?_
      · refine s_gR rfl fun v25 => ?_
        refine s_isK fun i26 => ?_
        refine s_bn0 (s_J2_size i26) fun v28 => ?_
        refine s_cnd ?_ ?_
        · exact hj19 _
        · exact s_rt _
      · exact hj19 _
  refine fun u10 => ?_
  refine s_bnd (s_X1_can u10) fun _ => ?_
  refine s_gR rfl fun v12 => ?_
  refine s_gI rfl fun v13 => ?_
  refine s_isK fun i14 => ?_
  refine s_bn0 (s_X1_beginSession i0 v5 (idc 8 i3) i14 v13) fun v16 => ?_
  exact s_rt _
def h_X1_serviceAt (i0 : Nat) (a1 : Int32) : PV Nat := hbnd (h_X1_there a1 (4 : Int32)) (fun _ => hgR 0 i0 9 fun v2 => hisK 37 v2 fun i3 => haR 37 i3 a1 fun v5 => hrt v5)
theorem s_X1_serviceAt (i0 : Nat) (a1 : Int32) : Sim (h_X1_serviceAt i0 a1) (f_X1_serviceAt i0 a1) := by
  unfold h_X1_serviceAt f_X1_serviceAt
  refine s_bnd (s_X1_there a1 (4 : Int32)) fun _ => ?_
  refine s_gR rfl fun v2 => ?_
  refine s_isK fun i3 => ?_
  refine s_aR rfl fun v5 => ?_
  exact s_rt _
def h_X1_consent (i0 : Nat) (a1 : Int32) (a2 : Int32) (a3 : Int32) : PV Int32 := hbnd (ρ := _) (α := Int32) (hcnd (a1 = (-1 : Int32)) (hrt (0 : Int32)) (hrt a1)) (fun u1 => hbnd (h_X1_there u1 (6 : Int32)) (fun _ => hbnd (h_X1_serviceAt i0 a2) (fun v3 => hbnd (h_X1_fit a3 (0 : Int32) (15 : Int32)) (fun _ => hbnd (ρ := _) (α := Nat) (hcnd (a1 = (-1 : Int32)) (hgR 0 i0 10 fun v12 => hrt v12) (hgR 0 i0 0 fun v13 => hisK 36 v13 fun i14 => haR 36 i14 a1 fun v16 => hisK 2 v16 fun i17 => hgR 2 i17 8 fun v19 => hrt v19)) (fun u5 => hisK 32 u5 fun i6 => haI 32 i6 a2 fun v8 => hbI 32 i6 a2 (v8 ||| a3) <| haI 32 i6 a2 fun v9 => hrt v9)))))
theorem s_X1_consent (i0 : Nat) (a1 : Int32) (a2 : Int32) (a3 : Int32) : Sim (h_X1_consent i0 a1 a2 a3) (f_X1_consent i0 a1 a2 a3) := by
  unfold h_X1_consent f_X1_consent
  refine s_bnd ?_ ?_
  · refine s_cnd ?_ ?_
    · exact s_rt _
    · exact s_rt _
  refine fun u1 => ?_
  refine s_bnd (s_X1_there u1 (6 : Int32)) fun _ => ?_
  refine s_bnd (s_X1_serviceAt i0 a2) fun v3 => ?_
  refine s_bnd (s_X1_fit a3 (0 : Int32) (15 : Int32)) fun _ => ?_
  refine s_bnd ?_ ?_
  · refine s_cnd ?_ ?_
    · refine s_gR rfl fun v12 => ?_
      exact s_rt _
    · refine s_gR rfl fun v13 => ?_
      refine s_isK fun i14 => ?_
      refine s_aR rfl fun v16 => ?_
      refine s_isK fun i17 => ?_
      refine s_gR rfl fun v19 => ?_
      exact s_rt _
  refine fun u5 => ?_
  refine s_isK fun i6 => ?_
  refine s_aI rfl fun v8 => ?_
  refine s_bI rfl ?_
  refine s_aI rfl fun v9 => ?_
  exact s_rt _
def h_X1_withdraw (i0 : Nat) (a1 : Int32) (a2 : Int32) : PV Int32 := hbnd (h_X1_personAt i0 a1) (fun v1 => hbnd (h_X1_serviceAt i0 a2) (fun v2 => hisK 2 v1 fun i3 => hgR 2 i3 8 fun v5 => hisK 32 v5 fun i6 => hbI 32 i6 a2 (0 : Int32) <| hlp (σ := Int32 × Int32) (fun r10 => un2 fun u8 u9 => hgR 0 i0 6 fun v11 => hisK 13 v11 fun i12 => hbn0 (h_J2_size i12) (fun v14 => hcnd (v14 ≤ u9) (hrt u8) (hgR 0 i0 6 fun v16 => hisK 13 v16 fun i17 => hbn0 (h_J2_get i17 u9) (fun v19 => hisK 10 v19 fun i20 => hgR 10 i20 1 fun v22 => hisK 8 v22 fun i23 => hgR 8 i23 1 fun v25 => hjo (σ := Int32) (fun u26 => r10 ((u8 + (0 : Int32)), (u26 + (1 : Int32)))) fun j28 => hasr ((cmpN v25) ∧ (cmpN (idc 2 i3))) (hcnd (v25 = (idc 2 i3)) (hgI 10 i20 2 fun v30 => hcnd (v30 = a2) (hbn0 (h_X11_end i20) (fun v32 => hcnd (v32 = 0) (j28 u9) (r10 ((u8 + (1 : Int32)), (u9 + (1 : Int32)))))) (j28 u9)) (j28 u9)))))) ((0 : Int32), (0 : Int32))))
theorem s_X1_withdraw (i0 : Nat) (a1 : Int32) (a2 : Int32) : Sim (h_X1_withdraw i0 a1 a2) (f_X1_withdraw i0 a1 a2) := by
  unfold h_X1_withdraw f_X1_withdraw
  refine s_bnd (s_X1_personAt i0 a1) fun v1 => ?_
  refine s_bnd (s_X1_serviceAt i0 a2) fun v2 => ?_
  refine s_isK fun i3 => ?_
  refine s_gR rfl fun v5 => ?_
  refine s_isK fun i6 => ?_
  refine s_bI rfl ?_
  refine s_lp (fun r10 r10q hr10 => ?_) ((0 : Int32), (0 : Int32))
  refine s_un2 fun u8 u9 => ?_
  refine s_gR rfl fun v11 => ?_
  refine s_isK fun i12 => ?_
  refine s_bn0 (s_J2_size i12) fun v14 => ?_
  refine s_cnd ?_ ?_
  · exact s_rt _
  · refine s_gR rfl fun v16 => ?_
    refine s_isK fun i17 => ?_
    refine s_bn0 (s_J2_get i17 u9) fun v19 => ?_
    refine s_isK fun i20 => ?_
    refine s_gR rfl fun v22 => ?_
    refine s_isK fun i23 => ?_
    refine s_gR rfl fun v25 => ?_
    refine s_jo (fun u26 => ?_) fun j28 j28q hj28 => ?_
    · exact hr10 _
    refine s_asr ?_
    refine s_cnd ?_ ?_
    · refine s_gI rfl fun v30 => ?_
      refine s_cnd ?_ ?_
      · refine s_bn0 (s_X11_end i20) fun v32 => ?_
        refine s_cnd ?_ ?_
        · exact hj28 _
        · exact hr10 _
      · exact hj28 _
    · exact hj28 _
def h_X1_need (i0 : Nat) (a1 : Int32) (a2 : Int32) : PV Int32 := hbnd (h_X1_serviceAt i0 a1) (fun v1 => hbnd (h_X1_fit a2 (0 : Int32) (6 : Int32)) (fun _ => hisK 3 v1 fun i3 => hgI 3 i3 5 fun v5 => hpI 3 i3 5 a2 <| hrt v5))
theorem s_X1_need (i0 : Nat) (a1 : Int32) (a2 : Int32) : Sim (h_X1_need i0 a1 a2) (f_X1_need i0 a1 a2) := by
  unfold h_X1_need f_X1_need
  refine s_bnd (s_X1_serviceAt i0 a1) fun v1 => ?_
  refine s_bnd (s_X1_fit a2 (0 : Int32) (6 : Int32)) fun _ => ?_
  refine s_isK fun i3 => ?_
  refine s_gI rfl fun v5 => ?_
  refine s_pI rfl ?_
  exact s_rt _
def h_X10_init (i0 : Nat) (a1 : Nat) (a2 : Int32) (a3 : Int32) (a4 : Int32) (a5 : Int32) : PV Unit := hpR 9 i0 0 a1 <| hpI 9 i0 1 a2 <| hpI 9 i0 2 a3 <| hpI 9 i0 3 a4 <| hpI 9 i0 4 a5 <| hrt ()
theorem s_X10_init (i0 : Nat) (a1 : Nat) (a2 : Int32) (a3 : Int32) (a4 : Int32) (a5 : Int32) : Sim (h_X10_init i0 a1 a2 a3 a4 a5) (f_X10_init i0 a1 a2 a3 a4 a5) := by
  unfold h_X10_init f_X10_init
  refine s_pR rfl ?_
  refine s_pI rfl ?_
  refine s_pI rfl ?_
  refine s_pI rfl ?_
  refine s_pI rfl ?_
  exact s_rt _
def h_X1_authorize (i0 : Nat) (a1 : Int32) (a2 : Int32) (a3 : Int32) (a4 : Int32) : PV Int32 := hgR 0 i0 4 fun v1 => hbnd (h_X1_at v1 a1) (fun v2 => hisK 8 v2 fun i3 => hbnd (h_X1_serviceAt i0 a2) (fun v5 => hbnd (h_X1_serviceAt i0 a3) (fun v6 => hbnd (h_X1_fit a4 (1 : Int32) (15 : Int32)) (fun _ => hgI 8 i3 5 fun v8 => hbnd (ρ := _) (α := Int32) (hjo (σ := Unit) (fun _ => hrt (0 : Int32)) fun j42 => hcnd (v8 = 0) (j42 ()) (hgR 0 i0 5 fun v44 => hisK 13 v44 fun i45 => hbn0 (h_J2_size i45) (fun v47 => hcnd ((60 : Int32) ≤ v47) (j42 ()) (hrt (1 : Int32))))) (fun u9 => hbnd (h_X1_can u9) (fun _ => hgI 0 i0 16 fun v11 => hpI 8 i3 4 v11 <| hgR 8 i3 1 fun v12 => hisK 2 v12 fun i13 => hgR 2 i13 8 fun v15 => hisK 32 v15 fun i16 => haI 32 i16 a2 fun v18 => hgR 0 i0 10 fun v19 => hisK 32 v19 fun i20 => haI 32 i20 a2 fun v22 => hcnd ((a4 &&& ((v18 ||| v22) ^^^ (-1 : Int32))) = 0) (hbn0 (h_X9_level i3) (fun v24 => hisK 3 v6 fun i25 => hgI 3 i25 5 fun v27 => hcnd (v27 ≤ v24) (hgR 0 i0 5 fun v29 => hnw 9 6 fun i30 => hgI 0 i0 16 fun v31 => hbn0 (h_X10_init i30 (idc 8 i3) a2 a3 a4 v31) (fun _ => hisK 13 v29 fun i33 => hbn0 (h_J2_add i33 (idc 9 i30)) (fun v35 => hgR 0 i0 5 fun v36 => hisK 13 v36 fun i37 => hbn0 (h_J2_size i37) (fun v39 => hrt (v39 - (1 : Int32)))))) (hrt (-2 : Int32)))) (hrt (-3 : Int32))))))))
theorem s_X1_authorize (i0 : Nat) (a1 : Int32) (a2 : Int32) (a3 : Int32) (a4 : Int32) : Sim (h_X1_authorize i0 a1 a2 a3 a4) (f_X1_authorize i0 a1 a2 a3 a4) := by
  unfold h_X1_authorize f_X1_authorize
  refine s_gR rfl fun v1 => ?_
  refine s_bnd (s_X1_at v1 a1) fun v2 => ?_
  refine s_isK fun i3 => ?_
  refine s_bnd (s_X1_serviceAt i0 a2) fun v5 => ?_
  refine s_bnd (s_X1_serviceAt i0 a3) fun v6 => ?_
  refine s_bnd (s_X1_fit a4 (1 : Int32) (15 : Int32)) fun _ => ?_
  refine s_gI rfl fun v8 => ?_
  refine s_bnd ?_ ?_
  · refine s_jo (fun _ => ?_) fun j42 j42q hj42 => ?_
    · exact s_rt _
    refine s_cnd ?_ ?_
    · exact hj42 _
    · refine s_gR rfl fun v44 => ?_
      refine s_isK fun i45 => ?_
      refine s_bn0 (s_J2_size i45) fun v47 => ?_
      refine s_cnd ?_ ?_
      · exact hj42 _
      · exact s_rt _
  refine fun u9 => ?_
  refine s_bnd (s_X1_can u9) fun _ => ?_
  refine s_gI rfl fun v11 => ?_
  refine s_pI rfl ?_
  refine s_gR rfl fun v12 => ?_
  refine s_isK fun i13 => ?_
  refine s_gR rfl fun v15 => ?_
  refine s_isK fun i16 => ?_
  refine s_aI rfl fun v18 => ?_
  refine s_gR rfl fun v19 => ?_
  refine s_isK fun i20 => ?_
  refine s_aI rfl fun v22 => ?_
  refine s_cnd ?_ ?_
  · refine s_bn0 (s_X9_level i3) fun v24 => ?_
    refine s_isK fun i25 => ?_
    refine s_gI rfl fun v27 => ?_
    refine s_cnd ?_ ?_
    · refine s_gR rfl fun v29 => ?_
      refine s_nw rfl fun i30 => ?_
      refine s_gI rfl fun v31 => ?_
      refine s_bn0 (s_X10_init i30 (idc 8 i3) a2 a3 a4 v31) fun _ => ?_
      refine s_isK fun i33 => ?_
      refine s_bn0 (s_J2_add i33 (idc 9 i30)) fun v35 => ?_
      refine s_gR rfl fun v36 => ?_
      refine s_isK fun i37 => ?_
      refine s_bn0 (s_J2_size i37) fun v39 => ?_
      exact s_rt _
    · exact s_rt _
  · exact s_rt _
def h_X11_init (i0 : Nat) (a1 : Nat) (a2 : Int32) (a3 : Nat) : PV Unit := hpR 10 i0 10 a1 <| hpZ 10 i0 5 (1 : Int32) <| hpI 10 i0 7 (-1 : Int32) <| hnB fun i1 => hpR 10 i0 8 (idc 14 i1) <| hpI 10 i0 0 a2 <| hisK 9 a3 fun i3 => hgR 9 i3 0 fun v5 => hpR 10 i0 1 v5 <| hgI 9 i3 1 fun v6 => hpI 10 i0 2 v6 <| hgI 9 i3 2 fun v7 => hpI 10 i0 3 v7 <| hgI 9 i3 3 fun v8 => hpI 10 i0 4 v8 <| hrt ()
theorem s_X11_init (i0 : Nat) (a1 : Nat) (a2 : Int32) (a3 : Nat) : Sim (h_X11_init i0 a1 a2 a3) (f_X11_init i0 a1 a2 a3) := by
  unfold h_X11_init f_X11_init
  refine s_pR rfl ?_
  refine s_pZ rfl ?_
  refine s_pI rfl ?_
  refine s_nB fun i1 => ?_
  refine s_pR rfl ?_
  refine s_pI rfl ?_
  refine s_isK fun i3 => ?_
  refine s_gR rfl fun v5 => ?_
  refine s_pR rfl ?_
  refine s_gI rfl fun v6 => ?_
  refine s_pI rfl ?_
  refine s_gI rfl fun v7 => ?_
  refine s_pI rfl ?_
  refine s_gI rfl fun v8 => ?_
  refine s_pI rfl ?_
  exact s_rt _
def h_X12_init (i0 : Nat) (a1 : Nat) (a2 : Int32) (a3 : Int32) (a4 : Int32) (a5 : Int32) (a6 : Int32) (a7 : Int32) : PV Unit := hpR 11 i0 0 a1 <| hpI 11 i0 1 a2 <| hpI 11 i0 2 a3 <| hpI 11 i0 3 a4 <| hpI 11 i0 4 a5 <| hpI 11 i0 5 a6 <| hpI 11 i0 6 a7 <| hrt ()
theorem s_X12_init (i0 : Nat) (a1 : Nat) (a2 : Int32) (a3 : Int32) (a4 : Int32) (a5 : Int32) (a6 : Int32) (a7 : Int32) : Sim (h_X12_init i0 a1 a2 a3 a4 a5 a6 a7) (f_X12_init i0 a1 a2 a3 a4 a5 a6 a7) := by
  unfold h_X12_init f_X12_init
  refine s_pR rfl ?_
  refine s_pI rfl ?_
  refine s_pI rfl ?_
  refine s_pI rfl ?_
  refine s_pI rfl ?_
  refine s_pI rfl ?_
  refine s_pI rfl ?_
  exact s_rt _
def h_X11_make_2 (i0 : Nat) (a1 : Int32) (a2 : Int32) (a3 : Int32) (a4 : Int32) (a5 : Int32) : PV Int32 := hgR 10 i0 10 fun v1 => hisK 0 v1 fun i2 => hgR 0 i2 7 fun v4 => hnw 11 7 fun i5 => hgR 10 i0 10 fun v6 => hisK 0 v6 fun i7 => hgI 0 i7 20 fun v9 => hbn0 (h_X12_init i5 (idc 10 i0) a1 a2 a3 a4 v9 a5) (fun _ => hisK 13 v4 fun i11 => hbn0 (h_J2_add i11 (idc 11 i5)) (fun v13 => hgR 10 i0 8 fun v14 => hisK 14 v14 fun i15 => hbn0 (h_J18_set i15 a2) (fun _ => hgR 10 i0 10 fun v18 => hisK 0 v18 fun i19 => hgR 0 i19 7 fun v21 => hisK 13 v21 fun i22 => hbn0 (h_J2_size i22) (fun v24 => hpI 10 i0 9 (v24 - (1 : Int32)) <| hgI 10 i0 9 fun v25 => hrt v25))))
theorem s_X11_make_2 (i0 : Nat) (a1 : Int32) (a2 : Int32) (a3 : Int32) (a4 : Int32) (a5 : Int32) : Sim (h_X11_make_2 i0 a1 a2 a3 a4 a5) (f_X11_make_2 i0 a1 a2 a3 a4 a5) := by
  unfold h_X11_make_2 f_X11_make_2
  refine s_gR rfl fun v1 => ?_
  refine s_isK fun i2 => ?_
  refine s_gR rfl fun v4 => ?_
  refine s_nw rfl fun i5 => ?_
  refine s_gR rfl fun v6 => ?_
  refine s_isK fun i7 => ?_
  refine s_gI rfl fun v9 => ?_
  refine s_bn0 (s_X12_init i5 (idc 10 i0) a1 a2 a3 a4 v9 a5) fun _ => ?_
  refine s_isK fun i11 => ?_
  refine s_bn0 (s_J2_add i11 (idc 11 i5)) fun v13 => ?_
  refine s_gR rfl fun v14 => ?_
  refine s_isK fun i15 => ?_
  refine s_bn0 (s_J18_set i15 a2) fun _ => ?_
  refine s_gR rfl fun v18 => ?_
  refine s_isK fun i19 => ?_
  refine s_gR rfl fun v21 => ?_
  refine s_isK fun i22 => ?_
  refine s_bn0 (s_J2_size i22) fun v24 => ?_
  refine s_pI rfl ?_
  refine s_gI rfl fun v25 => ?_
  exact s_rt _
def h_X11_make (i0 : Nat) : PV Unit := hgI 10 i0 2 fun v1 => hgI 10 i0 3 fun v2 => hgI 10 i0 4 fun v3 => hgR 10 i0 10 fun v4 => hisK 0 v4 fun i5 => hgI 0 i5 16 fun v7 => hbn0 (h_X11_make_2 i0 v1 v2 v3 (0 : Int32) (v7 + (10 : Int32))) (fun v8 => hrt ())
theorem s_X11_make (i0 : Nat) : Sim (h_X11_make i0) (f_X11_make i0) := by
  unfold h_X11_make f_X11_make
  refine s_gI rfl fun v1 => ?_
  refine s_gI rfl fun v2 => ?_
  refine s_gI rfl fun v3 => ?_
  refine s_gR rfl fun v4 => ?_
  refine s_isK fun i5 => ?_
  refine s_gI rfl fun v7 => ?_
  refine s_bn0 (s_X11_make_2 i0 v1 v2 v3 (0 : Int32) (v7 + (10 : Int32))) fun v8 => ?_
  exact s_rt _
def h_X1_redeem (i0 : Nat) (a1 : Int32) : PV Int32 := hgR 0 i0 5 fun v1 => hbnd (h_X1_at v1 a1) (fun v2 => hisK 9 v2 fun i3 => hgR 9 i3 5 fun v5 => hcnd (v5 = nul) (hgI 0 i0 16 fun v7 => hgI 9 i3 4 fun v8 => hcnd ((5 : Int32) < (v7 - v8)) (hrt (-1 : Int32)) (hgR 9 i3 0 fun v10 => hisK 8 v10 fun i11 => hgI 8 i11 5 fun v13 => hcnd (v13 = 0) (hrt (-1 : Int32)) (hgR 0 i0 7 fun v15 => hisK 13 v15 fun i16 => hbn0 (h_J2_size i16) (fun v18 => hbnd (ρ := _) (α := Int32) (hcnd ((200 : Int32) ≤ v18) (hrt (0 : Int32)) (hrt (1 : Int32))) (fun u19 => hbnd (h_X1_can u19) (fun _ => hnw 10 11 fun i21 => hgR 0 i0 6 fun v22 => hisK 13 v22 fun i23 => hbn0 (h_J2_size i23) (fun v25 => hbn0 (h_X11_init i21 (idc 0 i0) v25 (idc 9 i3)) (fun _ => hpR 9 i3 5 (idc 10 i21) <| hgR 0 i0 6 fun v27 => hgR 9 i3 5 fun v28 => hisK 13 v27 fun i29 => hbn0 (h_J2_add i29 v28) (fun v31 => hgR 9 i3 5 fun v32 => hisK 10 v32 fun i33 => hgI 10 i33 0 fun v35 => hbn0 (h_X1_write i0 (2 : Int32) v35) (fun _ => hgR 9 i3 5 fun v37 => hisK 10 v37 fun i38 => hbn0 (h_X11_make i38) (fun _ => hgR 9 i3 5 fun v41 => hisK 10 v41 fun i42 => hgI 10 i42 0 fun v44 => hrt v44))))))))))) (hgR 9 i3 5 fun v47 => hisK 10 v47 fun i48 => hbn0 (h_X11_end i48) (fun v50 => hrt (-1 : Int32))))
theorem s_X1_redeem (i0 : Nat) (a1 : Int32) : Sim (h_X1_redeem i0 a1) (f_X1_redeem i0 a1) := by
  unfold h_X1_redeem f_X1_redeem
  refine s_gR rfl fun v1 => ?_
  refine s_bnd (s_X1_at v1 a1) fun v2 => ?_
  refine s_isK fun i3 => ?_
  refine s_gR rfl fun v5 => ?_
  refine s_cnd ?_ ?_
  · refine s_gI rfl fun v7 => ?_
    refine s_gI rfl fun v8 => ?_
    refine s_cnd ?_ ?_
    · exact s_rt _
    · refine s_gR rfl fun v10 => ?_
      refine s_isK fun i11 => ?_
      refine s_gI rfl fun v13 => ?_
      refine s_cnd ?_ ?_
      · exact s_rt _
      · refine s_gR rfl fun v15 => ?_
        refine s_isK fun i16 => ?_
        refine s_bn0 (s_J2_size i16) fun v18 => ?_
        refine s_bnd ?_ ?_
        · refine s_cnd ?_ ?_
          · exact s_rt _
          · exact s_rt _
        refine fun u19 => ?_
        refine s_bnd (s_X1_can u19) fun _ => ?_
        refine s_nw rfl fun i21 => ?_
        refine s_gR rfl fun v22 => ?_
        refine s_isK fun i23 => ?_
        refine s_bn0 (s_J2_size i23) fun v25 => ?_
        refine s_bn0 (s_X11_init i21 (idc 0 i0) v25 (idc 9 i3)) fun _ => ?_
        refine s_pR rfl ?_
        refine s_gR rfl fun v27 => ?_
        refine s_gR rfl fun v28 => ?_
        refine s_isK fun i29 => ?_
        refine s_bn0 (s_J2_add i29 v28) fun v31 => ?_
        refine s_gR rfl fun v32 => ?_
        refine s_isK fun i33 => ?_
        refine s_gI rfl fun v35 => ?_
        refine s_bn0 (s_X1_write i0 (2 : Int32) v35) fun _ => ?_
        refine s_gR rfl fun v37 => ?_
        refine s_isK fun i38 => ?_
        refine s_bn0 (s_X11_make i38) fun _ => ?_
        refine s_gR rfl fun v41 => ?_
        refine s_isK fun i42 => ?_
        refine s_gI rfl fun v44 => ?_
        exact s_rt _
  · refine s_gR rfl fun v47 => ?_
    refine s_isK fun i48 => ?_
    refine s_bn0 (s_X11_end i48) fun v50 => ?_
    exact s_rt _
def h_X11_refresh (i0 : Nat) (a1 : Int32) : PV Int32 := hgI 10 i0 5 fun v1 => hcnd (v1 = 0) (hrt (-1 : Int32)) (hgR 10 i0 1 fun v3 => hisK 8 v3 fun i4 => hgI 8 i4 5 fun v6 => hcnd (v6 = 0) (hrt (-1 : Int32)) (hgI 10 i0 6 fun v8 => hcnd (a1 = v8) (hgR 10 i0 10 fun v10 => hisK 0 v10 fun i11 => hgR 0 i11 7 fun v13 => hisK 13 v13 fun i14 => hbn0 (h_J2_size i14) (fun v16 => hbnd (ρ := _) (α := Int32) (hcnd ((200 : Int32) ≤ v16) (hrt (0 : Int32)) (hrt (1 : Int32))) (fun u17 => hbnd (h_X1_can u17) (fun _ => hgI 10 i0 6 fun v19 => hpI 10 i0 6 (v19 + (1 : Int32)) <| hgR 10 i0 10 fun v20 => hisK 0 v20 fun i21 => hgI 0 i21 16 fun v23 => hpI 10 i0 7 v23 <| hbn0 (h_X11_make i0) (fun _ => hgR 10 i0 1 fun v25 => hgR 10 i0 10 fun v26 => hisK 0 v26 fun i27 => hgI 0 i27 16 fun v29 => hisK 8 v25 fun i30 => hpI 8 i30 4 v29 <| hgI 10 i0 6 fun v32 => hrt v32))))) (hgI 10 i0 6 fun v35 => hjo (σ := Unit) (fun _ => hbn0 (h_X11_end i0) (fun v36 => hrt (-1 : Int32))) fun j38 => hcnd (a1 = (v35 - (1 : Int32))) (hgR 10 i0 10 fun v40 => hisK 0 v40 fun i41 => hgI 0 i41 16 fun v43 => hgI 10 i0 7 fun v44 => hcnd ((1 : Int32) < (v43 - v44)) (j38 ()) (hgI 10 i0 6 fun v46 => hrt v46)) (j38 ()))))
theorem s_X11_refresh (i0 : Nat) (a1 : Int32) : Sim (h_X11_refresh i0 a1) (f_X11_refresh i0 a1) := by
  unfold h_X11_refresh f_X11_refresh
  refine s_gI rfl fun v1 => ?_
  refine s_cnd ?_ ?_
  · exact s_rt _
  · refine s_gR rfl fun v3 => ?_
    refine s_isK fun i4 => ?_
    refine s_gI rfl fun v6 => ?_
    refine s_cnd ?_ ?_
    · exact s_rt _
    · refine s_gI rfl fun v8 => ?_
      refine s_cnd ?_ ?_
      · refine s_gR rfl fun v10 => ?_
        refine s_isK fun i11 => ?_
        refine s_gR rfl fun v13 => ?_
        refine s_isK fun i14 => ?_
        refine s_bn0 (s_J2_size i14) fun v16 => ?_
        refine s_bnd ?_ ?_
        · refine s_cnd ?_ ?_
          · exact s_rt _
          · exact s_rt _
        refine fun u17 => ?_
        refine s_bnd (s_X1_can u17) fun _ => ?_
        refine s_gI rfl fun v19 => ?_
        refine s_pI rfl ?_
        refine s_gR rfl fun v20 => ?_
        refine s_isK fun i21 => ?_
        refine s_gI rfl fun v23 => ?_
        refine s_pI rfl ?_
        refine s_bn0 (s_X11_make i0) fun _ => ?_
        refine s_gR rfl fun v25 => ?_
        refine s_gR rfl fun v26 => ?_
        refine s_isK fun i27 => ?_
        refine s_gI rfl fun v29 => ?_
        refine s_isK fun i30 => ?_
        refine s_pI rfl ?_
        refine s_gI rfl fun v32 => ?_
        exact s_rt _
      · refine s_gI rfl fun v35 => ?_
        refine s_jo (fun _ => ?_) fun j38 j38q hj38 => ?_
        · refine s_bn0 (s_X11_end i0) fun v36 => ?_
          exact s_rt _
        refine s_cnd ?_ ?_
        · refine s_gR rfl fun v40 => ?_
          refine s_isK fun i41 => ?_
          refine s_gI rfl fun v43 => ?_
          refine s_gI rfl fun v44 => ?_
          refine s_cnd ?_ ?_
          · exact hj38 _
          · refine s_gI rfl fun v46 => ?_
            exact s_rt _
        · exact hj38 _
def h_X1_refresh (i0 : Nat) (a1 : Int32) (a2 : Int32) : PV Int32 := hgR 0 i0 6 fun v1 => hbnd (h_X1_at v1 a1) (fun v2 => hisK 10 v2 fun i3 => hgI 10 i3 6 fun v5 => hbnd (h_X1_fit a2 (0 : Int32) v5) (fun _ => hbnd (h_X11_refresh i3 a2) (fun v7 => hrt v7)))
theorem s_X1_refresh (i0 : Nat) (a1 : Int32) (a2 : Int32) : Sim (h_X1_refresh i0 a1 a2) (f_X1_refresh i0 a1 a2) := by
  unfold h_X1_refresh f_X1_refresh
  refine s_gR rfl fun v1 => ?_
  refine s_bnd (s_X1_at v1 a1) fun v2 => ?_
  refine s_isK fun i3 => ?_
  refine s_gI rfl fun v5 => ?_
  refine s_bnd (s_X1_fit a2 (0 : Int32) v5) fun _ => ?_
  refine s_bnd (s_X11_refresh i3 a2) fun v7 => ?_
  exact s_rt _
def h_X1_isGood (i0 : Nat) (a1 : Int32) : PV Int32 := hgR 0 i0 6 fun v1 => hbnd (h_X1_at v1 a1) (fun v2 => hisK 10 v2 fun i3 => hgI 10 i3 5 fun v5 => hasr ((v5 = 0) ∨ (v5 = 1)) (hrt v5))
theorem s_X1_isGood (i0 : Nat) (a1 : Int32) : Sim (h_X1_isGood i0 a1) (f_X1_isGood i0 a1) := by
  unfold h_X1_isGood f_X1_isGood
  refine s_gR rfl fun v1 => ?_
  refine s_bnd (s_X1_at v1 a1) fun v2 => ?_
  refine s_isK fun i3 => ?_
  refine s_gI rfl fun v5 => ?_
  refine s_asr ?_
  exact s_rt _
def h_X1_tokenOf (i0 : Nat) (a1 : Int32) : PV Int32 := hgR 0 i0 6 fun v1 => hbnd (h_X1_at v1 a1) (fun v2 => hisK 10 v2 fun i3 => hgI 10 i3 9 fun v5 => hrt v5)
theorem s_X1_tokenOf (i0 : Nat) (a1 : Int32) : Sim (h_X1_tokenOf i0 a1) (f_X1_tokenOf i0 a1) := by
  unfold h_X1_tokenOf f_X1_tokenOf
  refine s_gR rfl fun v1 => ?_
  refine s_bnd (s_X1_at v1 a1) fun v2 => ?_
  refine s_isK fun i3 => ?_
  refine s_gI rfl fun v5 => ?_
  exact s_rt _
def h_X1_fits (a1 : Int32) : PV Unit := hbnd (ρ := _) (α := Int32) (hcnd (a1 = 0) (hrt (1 : Int32)) (hrt (0 : Int32))) (fun u1 => hbnd (h_X1_fit u1 (0 : Int32) (0 : Int32)) (fun _ => hrt ()))
theorem s_X1_fits (a1 : Int32) : Sim (h_X1_fits a1) (f_X1_fits a1) := by
  unfold h_X1_fits f_X1_fits
  refine s_bnd ?_ ?_
  · refine s_cnd ?_ ?_
    · exact s_rt _
    · exact s_rt _
  refine fun u1 => ?_
  refine s_bnd (s_X1_fit u1 (0 : Int32) (0 : Int32)) fun _ => ?_
  exact s_rt _
def h_X1_exchange (i0 : Nat) (a1 : Int32) (a2 : Int32) (a3 : Int32) : PV Int32 := hgR 0 i0 7 fun v1 => hbnd (h_X1_at v1 a1) (fun v2 => hisK 11 v2 fun i3 => hbnd (h_X1_serviceAt i0 a2) (fun v5 => hbnd (h_X1_fit a3 (1 : Int32) (15 : Int32)) (fun _ => hgI 11 i3 3 fun v7 => hbnd (ρ := _) (α := Int32) (hcnd ((a3 &&& (v7 ^^^ (-1 : Int32))) = 0) (hrt (1 : Int32)) (hrt (0 : Int32))) (fun u8 => hbnd (h_X1_fits u8) (fun _ => hgI 0 i0 16 fun v10 => hgI 11 i3 6 fun v11 => hbnd (ρ := _) (α := Int32) (hjo (σ := Unit) (fun _ => hrt (0 : Int32)) fun j34 => hcnd (v11 < v10) (j34 ()) (hgR 11 i3 0 fun v36 => hisK 10 v36 fun i37 => hgI 10 i37 5 fun v39 => hcnd (v39 = 0) (j34 ()) (hgI 11 i3 4 fun v41 => hcnd ((3 : Int32) ≤ v41) (j34 ()) (hgR 0 i0 7 fun v43 => hisK 13 v43 fun i44 => hbn0 (h_J2_size i44) (fun v46 => hcnd ((200 : Int32) ≤ v46) (j34 ()) (hrt (1 : Int32))))))) (fun u12 => hbnd (h_X1_can u12) (fun _ => hgR 11 i3 0 fun v14 => hisK 10 v14 fun i15 => hgR 10 i15 1 fun v17 => hisK 8 v17 fun i18 => hbn0 (h_X9_level i18) (fun v20 => hisK 3 v5 fun i21 => hgI 3 i21 5 fun v23 => hcnd (v23 ≤ v20) (hgR 11 i3 0 fun v25 => hgI 11 i3 2 fun v26 => hgI 11 i3 4 fun v27 => hgI 11 i3 6 fun v28 => hisK 10 v25 fun i29 => hbn0 (h_X11_make_2 i29 v26 a2 a3 (v27 + (1 : Int32)) v28) (fun v31 => hrt v31)) (hrt (-2 : Int32))))))))))
theorem s_X1_exchange (i0 : Nat) (a1 : Int32) (a2 : Int32) (a3 : Int32) : Sim (h_X1_exchange i0 a1 a2 a3) (f_X1_exchange i0 a1 a2 a3) := by
  unfold h_X1_exchange f_X1_exchange
  refine s_gR rfl fun v1 => ?_
  refine s_bnd (s_X1_at v1 a1) fun v2 => ?_
  refine s_isK fun i3 => ?_
  refine s_bnd (s_X1_serviceAt i0 a2) fun v5 => ?_
  refine s_bnd (s_X1_fit a3 (1 : Int32) (15 : Int32)) fun _ => ?_
  refine s_gI rfl fun v7 => ?_
  refine s_bnd ?_ ?_
  · refine s_cnd ?_ ?_
    · exact s_rt _
    · exact s_rt _
  refine fun u8 => ?_
  refine s_bnd (s_X1_fits u8) fun _ => ?_
  refine s_gI rfl fun v10 => ?_
  refine s_gI rfl fun v11 => ?_
  refine s_bnd ?_ ?_
  · refine s_jo (fun _ => ?_) fun j34 j34q hj34 => ?_
    · exact s_rt _
    refine s_cnd ?_ ?_
    · exact hj34 _
    · refine s_gR rfl fun v36 => ?_
      refine s_isK fun i37 => ?_
      refine s_gI rfl fun v39 => ?_
      refine s_cnd ?_ ?_
      · exact hj34 _
      · refine s_gI rfl fun v41 => ?_
        refine s_cnd ?_ ?_
        · exact hj34 _
        · refine s_gR rfl fun v43 => ?_
          refine s_isK fun i44 => ?_
          refine s_bn0 (s_J2_size i44) fun v46 => ?_
          refine s_cnd ?_ ?_
          · exact hj34 _
          · exact s_rt _
  refine fun u12 => ?_
  refine s_bnd (s_X1_can u12) fun _ => ?_
  refine s_gR rfl fun v14 => ?_
  refine s_isK fun i15 => ?_
  refine s_gR rfl fun v17 => ?_
  refine s_isK fun i18 => ?_
  refine s_bn0 (s_X9_level i18) fun v20 => ?_
  refine s_isK fun i21 => ?_
  refine s_gI rfl fun v23 => ?_
  refine s_cnd ?_ ?_
  · refine s_gR rfl fun v25 => ?_
    refine s_gI rfl fun v26 => ?_
    refine s_gI rfl fun v27 => ?_
    refine s_gI rfl fun v28 => ?_
    refine s_isK fun i29 => ?_
    refine s_bn0 (s_X11_make_2 i29 v26 a2 a3 (v27 + (1 : Int32)) v28) fun v31 => ?_
    exact s_rt _
  · exact s_rt _
def h_X1_token (i0 : Nat) (a1 : Int32) : PV Int32 := hgR 0 i0 7 fun v1 => hbnd (h_X1_at v1 a1) (fun v2 => hisK 11 v2 fun i3 => hgI 11 i3 6 fun v5 => hgI 11 i3 1 fun v6 => hgI 11 i3 2 fun v7 => hgI 11 i3 4 fun v8 => hrt (((((1000 : Int32) * v5) + ((100 : Int32) * v6)) + ((10 : Int32) * v7)) + v8))
theorem s_X1_token (i0 : Nat) (a1 : Int32) : Sim (h_X1_token i0 a1) (f_X1_token i0 a1) := by
  unfold h_X1_token f_X1_token
  refine s_gR rfl fun v1 => ?_
  refine s_bnd (s_X1_at v1 a1) fun v2 => ?_
  refine s_isK fun i3 => ?_
  refine s_gI rfl fun v5 => ?_
  refine s_gI rfl fun v6 => ?_
  refine s_gI rfl fun v7 => ?_
  refine s_gI rfl fun v8 => ?_
  exact s_rt _
def h_X1_publishKey (i0 : Nat) : PV Int32 := hgR 0 i0 17 fun v1 => hgI 0 i0 19 fun v2 => hisK 14 v1 fun i3 => hbn0 (h_J18_set i3 v2) (fun _ => hgI 0 i0 19 fun v6 => hpI 0 i0 19 (v6 + (1 : Int32)) <| hgI 0 i0 19 fun v7 => hrt (v7 - (1 : Int32)))
theorem s_X1_publishKey (i0 : Nat) : Sim (h_X1_publishKey i0) (f_X1_publishKey i0) := by
  unfold h_X1_publishKey f_X1_publishKey
  refine s_gR rfl fun v1 => ?_
  refine s_gI rfl fun v2 => ?_
  refine s_isK fun i3 => ?_
  refine s_bn0 (s_J18_set i3 v2) fun _ => ?_
  refine s_gI rfl fun v6 => ?_
  refine s_pI rfl ?_
  refine s_gI rfl fun v7 => ?_
  exact s_rt _
def h_X1_turn (i0 : Nat) : PV Int32 := hgI 0 i0 21 fun v1 => hbnd (ρ := _) (α := Int32) (hjo (σ := Unit) (fun _ => hrt (0 : Int32)) fun j9 => hcnd (v1 = (-1 : Int32)) (hgI 0 i0 19 fun v11 => hcnd ((20 : Int32) ≤ v11) (j9 ()) (hrt (1 : Int32))) (j9 ())) (fun u2 => hbnd (h_X1_can u2) (fun _ => hbn0 (h_X1_publishKey i0) (fun v4 => hpI 0 i0 21 v4 <| hgI 0 i0 16 fun v5 => hpI 0 i0 22 (v5 + (5 : Int32)) <| hgI 0 i0 21 fun v6 => hrt v6)))
theorem s_X1_turn (i0 : Nat) : Sim (h_X1_turn i0) (f_X1_turn i0) := by
  unfold h_X1_turn f_X1_turn
  refine s_gI rfl fun v1 => ?_
  refine s_bnd ?_ ?_
  · refine s_jo (fun _ => ?_) fun j9 j9q hj9 => ?_
    · exact s_rt _
    refine s_cnd ?_ ?_
    · refine s_gI rfl fun v11 => ?_
      refine s_cnd ?_ ?_
      · exact hj9 _
      · exact s_rt _
    · exact hj9 _
  refine fun u2 => ?_
  refine s_bnd (s_X1_can u2) fun _ => ?_
  refine s_bn0 (s_X1_publishKey i0) fun v4 => ?_
  refine s_pI rfl ?_
  refine s_gI rfl fun v5 => ?_
  refine s_pI rfl ?_
  refine s_gI rfl fun v6 => ?_
  exact s_rt _
def h_X1_emergency (i0 : Nat) : PV Int32 := hgI 0 i0 21 fun v1 => hbnd (ρ := _) (α := Int32) (hjo (σ := Unit) (fun _ => hrt (1 : Int32)) fun j19 => hcnd (v1 = (-1 : Int32)) (hgI 0 i0 19 fun v21 => hcnd ((20 : Int32) ≤ v21) (hrt (0 : Int32)) (j19 ())) (j19 ())) (fun u2 => hbnd (h_X1_can u2) (fun _ => hgR 0 i0 17 fun v4 => hgI 0 i0 20 fun v5 => hisK 14 v4 fun i6 => hbn0 (h_J18_clear i6 v5) (fun _ => hgI 0 i0 21 fun v9 => hbnd (ρ := _) (α := Int32) (hcnd (v9 = (-1 : Int32)) (hbn0 (h_X1_publishKey i0) (fun v15 => hrt v15)) (hgI 0 i0 21 fun v16 => hrt v16)) (fun u10 => hbn0 (h_X1_sign i0 u10) (fun _ => hpI 0 i0 21 (-1 : Int32) <| hgI 0 i0 20 fun v12 => hrt v12)))))
theorem s_X1_emergency (i0 : Nat) : Sim (h_X1_emergency i0) (f_X1_emergency i0) := by
  unfold h_X1_emergency f_X1_emergency
  refine s_gI rfl fun v1 => ?_
  refine s_bnd ?_ ?_
  · refine s_jo (fun _ => ?_) fun j19 j19q hj19 => ?_
    · exact s_rt _
    refine s_cnd ?_ ?_
    · refine s_gI rfl fun v21 => ?_
      refine s_cnd ?_ ?_
      · exact s_rt _
      · exact hj19 _
    · exact hj19 _
  refine fun u2 => ?_
  refine s_bnd (s_X1_can u2) fun _ => ?_
  refine s_gR rfl fun v4 => ?_
  refine s_gI rfl fun v5 => ?_
  refine s_isK fun i6 => ?_
  refine s_bn0 (s_J18_clear i6 v5) fun _ => ?_
  refine s_gI rfl fun v9 => ?_
  refine s_bnd ?_ ?_
  · refine s_cnd ?_ ?_
    · refine s_bn0 (s_X1_publishKey i0) fun v15 => ?_
      exact s_rt _
    · refine s_gI rfl fun v16 => ?_
      exact s_rt _
  refine fun u10 => ?_
  refine s_bn0 (s_X1_sign i0 u10) fun _ => ?_
  refine s_pI rfl ?_
  refine s_gI rfl fun v12 => ?_
  exact s_rt _
def h_X1_isPublished (i0 : Nat) (a1 : Int32) : PV Int32 := hgI 0 i0 19 fun v1 => hbnd (h_X1_there a1 v1) (fun _ => hgR 0 i0 17 fun v3 => hisK 14 v3 fun i4 => hbn0 (h_J18_get i4 a1) (fun v6 => hasr ((v6 = 0) ∨ (v6 = 1)) (hrt v6)))
theorem s_X1_isPublished (i0 : Nat) (a1 : Int32) : Sim (h_X1_isPublished i0 a1) (f_X1_isPublished i0 a1) := by
  unfold h_X1_isPublished f_X1_isPublished
  refine s_gI rfl fun v1 => ?_
  refine s_bnd (s_X1_there a1 v1) fun _ => ?_
  refine s_gR rfl fun v3 => ?_
  refine s_isK fun i4 => ?_
  refine s_bn0 (s_J18_get i4 a1) fun v6 => ?_
  refine s_asr ?_
  exact s_rt _
def h_X1_line (i0 : Nat) (a1 : Int32) : PV Int32 := hbnd (h_X1_serviceAt i0 a1) (fun v1 => hisK 3 v1 fun i2 => hbn0 (h_X4_turnLine i2) (fun v4 => hrt v4))
theorem s_X1_line (i0 : Nat) (a1 : Int32) : Sim (h_X1_line i0 a1) (f_X1_line i0 a1) := by
  unfold h_X1_line f_X1_line
  refine s_bnd (s_X1_serviceAt i0 a1) fun v1 => ?_
  refine s_isK fun i2 => ?_
  refine s_bn0 (s_X4_turnLine i2) fun v4 => ?_
  exact s_rt _
def h_X4_isTold (i0 : Nat) (a1 : Nat) : PV Int32 := hgR 3 i0 3 fun v1 => hisK 10 a1 fun i2 => hgI 10 i2 0 fun v4 => hisK 14 v1 fun i5 => hbn0 (h_J18_get i5 v4) (fun v7 => hasr ((v7 = 0) ∨ (v7 = 1)) (hrt v7))
theorem s_X4_isTold (i0 : Nat) (a1 : Nat) : Sim (h_X4_isTold i0 a1) (f_X4_isTold i0 a1) := by
  unfold h_X4_isTold f_X4_isTold
  refine s_gR rfl fun v1 => ?_
  refine s_isK fun i2 => ?_
  refine s_gI rfl fun v4 => ?_
  refine s_isK fun i5 => ?_
  refine s_bn0 (s_J18_get i5 v4) fun v7 => ?_
  refine s_asr ?_
  exact s_rt _
def h_X4_check (i0 : Nat) (a1 : Nat) (a2 : Int32) : PV Int32 := hgR 3 i0 6 fun v1 => hisK 0 v1 fun i2 => hgI 0 i2 16 fun v4 => hisK 11 a1 fun i5 => hgI 11 i5 6 fun v7 => hcnd (v4 ≤ v7) (hgI 3 i0 0 fun v9 => hbnd (ρ := _) (α := Unit) (hcnd (v9 = 0) (hgR 3 i0 6 fun v23 => hisK 0 v23 fun i24 => hgI 0 i24 16 fun v26 => hgI 3 i0 2 fun v27 => hjo (σ := Unit) (fun _ => hgR 3 i0 6 fun v28 => hisK 0 v28 fun i29 => hgR 0 i29 17 fun v31 => hisK 14 v31 fun i32 => hbn0 (h_J18_clone i32) (fun v34 => hisK 14 v34 fun i35 => hpR 3 i0 1 (idc 14 i35) <| hgR 3 i0 6 fun v37 => hisK 0 v37 fun i38 => hgI 0 i38 16 fun v40 => hpI 3 i0 2 v40 <| hrt ())) fun j42 => hcnd ((15 : Int32) < (v26 - v27)) (j42 ()) (hgR 3 i0 1 fun v44 => hgI 11 i5 5 fun v45 => hisK 14 v44 fun i46 => hbn0 (h_J18_get i46 v45) (fun v48 => hcnd (v48 = 0) (j42 ()) (hrt ())))) (hrt ())) (fun _ => hgR 3 i0 1 fun v10 => hgI 11 i5 5 fun v11 => hisK 14 v10 fun i12 => hbn0 (h_J18_get i12 v11) (fun v14 => hcnd (v14 = 0) (hrt (3 : Int32)) (hgR 11 i5 0 fun v16 => hbn0 (h_X4_isTold i0 v16) (fun v17 => hcnd (v17 = 0) (hgI 11 i5 3 fun v19 => hcnd (((v19 >>> (a2 &&& 31)) &&& (1 : Int32)) = (1 : Int32)) (hrt (0 : Int32)) (hrt (5 : Int32))) (hrt (4 : Int32))))))) (hrt (2 : Int32))
theorem s_X4_check (i0 : Nat) (a1 : Nat) (a2 : Int32) : Sim (h_X4_check i0 a1 a2) (f_X4_check i0 a1 a2) := by
  unfold h_X4_check f_X4_check
  refine s_gR rfl fun v1 => ?_
  refine s_isK fun i2 => ?_
  refine s_gI rfl fun v4 => ?_
  refine s_isK fun i5 => ?_
  refine s_gI rfl fun v7 => ?_
  refine s_cnd ?_ ?_
  · refine s_gI rfl fun v9 => ?_
    refine s_bnd ?_ ?_
    · refine s_cnd ?_ ?_
      · refine s_gR rfl fun v23 => ?_
        refine s_isK fun i24 => ?_
        refine s_gI rfl fun v26 => ?_
        refine s_gI rfl fun v27 => ?_
        refine s_jo (fun _ => ?_) fun j42 j42q hj42 => ?_
        · refine s_gR rfl fun v28 => ?_
          refine s_isK fun i29 => ?_
          refine s_gR rfl fun v31 => ?_
          refine s_isK fun i32 => ?_
          refine s_bn0 (s_J18_clone i32) fun v34 => ?_
          refine s_isK fun i35 => ?_
          refine s_pR rfl ?_
          refine s_gR rfl fun v37 => ?_
          refine s_isK fun i38 => ?_
          refine s_gI rfl fun v40 => ?_
          refine s_pI rfl ?_
          exact s_rt _
        refine s_cnd ?_ ?_
        · exact hj42 _
        · refine s_gR rfl fun v44 => ?_
          refine s_gI rfl fun v45 => ?_
          refine s_isK fun i46 => ?_
          refine s_bn0 (s_J18_get i46 v45) fun v48 => ?_
          refine s_cnd ?_ ?_
          · exact hj42 _
          · exact s_rt _
      · exact s_rt _
    refine fun _ => ?_
    refine s_gR rfl fun v10 => ?_
    refine s_gI rfl fun v11 => ?_
    refine s_isK fun i12 => ?_
    refine s_bn0 (s_J18_get i12 v11) fun v14 => ?_
    refine s_cnd ?_ ?_
    · exact s_rt _
    · refine s_gR rfl fun v16 => ?_
      refine s_bn0 (s_X4_isTold i0 v16) fun v17 => ?_
      refine s_cnd ?_ ?_
      · refine s_gI rfl fun v19 => ?_
        refine s_cnd ?_ ?_
        · exact s_rt _
        · exact s_rt _
      · exact s_rt _
  · exact s_rt _
def h_X1_check (i0 : Nat) (a1 : Int32) (a2 : Int32) (a3 : Int32) : PV Int32 := hbnd (h_X1_serviceAt i0 a1) (fun v1 => hgR 0 i0 7 fun v2 => hbnd (h_X1_at v2 a2) (fun v3 => hisK 11 v3 fun i4 => hbnd (h_X1_fit a3 (0 : Int32) (3 : Int32)) (fun _ => hgI 11 i4 2 fun v7 => hcnd (v7 = a1) (hisK 3 v1 fun i9 => hbn0 (h_X4_check i9 (idc 11 i4) a3) (fun v11 => hrt v11)) (hrt (1 : Int32)))))
theorem s_X1_check (i0 : Nat) (a1 : Int32) (a2 : Int32) (a3 : Int32) : Sim (h_X1_check i0 a1 a2 a3) (f_X1_check i0 a1 a2 a3) := by
  unfold h_X1_check f_X1_check
  refine s_bnd (s_X1_serviceAt i0 a1) fun v1 => ?_
  refine s_gR rfl fun v2 => ?_
  refine s_bnd (s_X1_at v2 a2) fun v3 => ?_
  refine s_isK fun i4 => ?_
  refine s_bnd (s_X1_fit a3 (0 : Int32) (3 : Int32)) fun _ => ?_
  refine s_gI rfl fun v7 => ?_
  refine s_cnd ?_ ?_
  · refine s_isK fun i9 => ?_
    refine s_bn0 (s_X4_check i9 (idc 11 i4) a3) fun v11 => ?_
    exact s_rt _
  · exact s_rt _
def h_X1_lag (i0 : Nat) (a1 : Int32) : PV Int32 := hgR 0 i0 7 fun v1 => hbnd (h_X1_at v1 a1) (fun v2 => hisK 11 v2 fun i3 => hgR 11 i3 0 fun v5 => hisK 10 v5 fun i6 => hgI 10 i6 5 fun v8 => hbnd (ρ := _) (α := Int32) (hjo (σ := Unit) (fun _ => hrt (1 : Int32)) fun j15 => hcnd (v8 = 0) (hgR 0 i0 9 fun v17 => hgI 11 i3 2 fun v18 => hisK 37 v17 fun i19 => haR 37 i19 v18 fun v21 => hgR 11 i3 0 fun v22 => hisK 3 v21 fun i23 => hbn0 (h_X4_isTold i23 v22) (fun v25 => hcnd (v25 = 0) (hrt (0 : Int32)) (j15 ()))) (j15 ())) (fun u9 => hcnd (u9 = 0) (hgI 11 i3 6 fun v11 => hgI 0 i0 16 fun v12 => hrt (mxI (0 : Int32) ((v11 - v12) + (1 : Int32)))) (hrt (0 : Int32))))
theorem s_X1_lag (i0 : Nat) (a1 : Int32) : Sim (h_X1_lag i0 a1) (f_X1_lag i0 a1) := by
  unfold h_X1_lag f_X1_lag
  refine s_gR rfl fun v1 => ?_
  refine s_bnd (s_X1_at v1 a1) fun v2 => ?_
  refine s_isK fun i3 => ?_
  refine s_gR rfl fun v5 => ?_
  refine s_isK fun i6 => ?_
  refine s_gI rfl fun v8 => ?_
  refine s_bnd ?_ ?_
  · refine s_jo (fun _ => ?_) fun j15 j15q hj15 => ?_
    · exact s_rt _
    refine s_cnd ?_ ?_
    · refine s_gR rfl fun v17 => ?_
      refine s_gI rfl fun v18 => ?_
      refine s_isK fun i19 => ?_
      refine s_aR rfl fun v21 => ?_
      refine s_gR rfl fun v22 => ?_
      refine s_isK fun i23 => ?_
      refine s_bn0 (s_X4_isTold i23 v22) fun v25 => ?_
      refine s_cnd ?_ ?_
      · exact s_rt _
      · exact hj15 _
    · exact hj15 _
  refine fun u9 => ?_
  refine s_cnd ?_ ?_
  · refine s_gI rfl fun v11 => ?_
    refine s_gI rfl fun v12 => ?_
    exact s_rt _
  · exact s_rt _
def h_X13_init (i0 : Nat) (a1 : Nat) (a2 : Nat) : PV Unit := hpR 12 i0 5 a1 <| hgR 12 i0 5 fun v1 => hisK 0 v1 fun i2 => hgI 0 i2 16 fun v4 => hpI 12 i0 1 v4 <| hpZ 12 i0 2 (1 : Int32) <| hnB fun i5 => hpR 12 i0 3 (idc 14 i5) <| hpR 12 i0 0 a2 <| hrt ()
theorem s_X13_init (i0 : Nat) (a1 : Nat) (a2 : Nat) : Sim (h_X13_init i0 a1 a2) (f_X13_init i0 a1 a2) := by
  unfold h_X13_init f_X13_init
  refine s_pR rfl ?_
  refine s_gR rfl fun v1 => ?_
  refine s_isK fun i2 => ?_
  refine s_gI rfl fun v4 => ?_
  refine s_pI rfl ?_
  refine s_pZ rfl ?_
  refine s_nB fun i5 => ?_
  refine s_pR rfl ?_
  refine s_pR rfl ?_
  exact s_rt _
def h_X1_hasOpen (i0 : Nat) (a1 : Nat) : PV Int32 := hlp (σ := Int32 × Int32) (fun r3 => un2 fun u1 u2 => hgR 0 i0 8 fun v4 => hisK 13 v4 fun i5 => hbn0 (h_J2_size i5) (fun v7 => hcnd (v7 ≤ u2) (hasr ((u1 = 0) ∨ (u1 = 1)) (hrt u1)) (hgR 0 i0 8 fun v9 => hisK 13 v9 fun i10 => hbn0 (h_J2_get i10 u2) (fun v12 => hisK 12 v12 fun i13 => hgI 12 i13 2 fun v15 => hjo (σ := Int32) (fun u16 => r3 ((u1 ||| (0 : Int32)), (u16 + (1 : Int32)))) fun j18 => hcnd (v15 = 0) (j18 u2) (hgR 0 i0 8 fun v20 => hisK 13 v20 fun i21 => hbn0 (h_J2_get i21 u2) (fun v23 => hisK 12 v23 fun i24 => hgR 12 i24 0 fun v26 => hasr ((cmpN v26) ∧ (cmpN a1)) (hcnd (v26 = a1) (r3 ((u1 ||| (1 : Int32)), (u2 + (1 : Int32)))) (j18 u2)))))))) ((0 : Int32), (0 : Int32))
theorem s_X1_hasOpen (i0 : Nat) (a1 : Nat) : Sim (h_X1_hasOpen i0 a1) (f_X1_hasOpen i0 a1) := by
  unfold h_X1_hasOpen f_X1_hasOpen
  refine s_lp (fun r3 r3q hr3 => ?_) ((0 : Int32), (0 : Int32))
  refine s_un2 fun u1 u2 => ?_
  refine s_gR rfl fun v4 => ?_
  refine s_isK fun i5 => ?_
  refine s_bn0 (s_J2_size i5) fun v7 => ?_
  refine s_cnd ?_ ?_
  · refine s_asr ?_
    exact s_rt _
  · refine s_gR rfl fun v9 => ?_
    refine s_isK fun i10 => ?_
    refine s_bn0 (s_J2_get i10 u2) fun v12 => ?_
    refine s_isK fun i13 => ?_
    refine s_gI rfl fun v15 => ?_
    refine s_jo (fun u16 => ?_) fun j18 j18q hj18 => ?_
    · exact hr3 _
    refine s_cnd ?_ ?_
    · exact hj18 _
    · refine s_gR rfl fun v20 => ?_
      refine s_isK fun i21 => ?_
      refine s_bn0 (s_J2_get i21 u2) fun v23 => ?_
      refine s_isK fun i24 => ?_
      refine s_gR rfl fun v26 => ?_
      refine s_asr ?_
      refine s_cnd ?_ ?_
      · exact hr3 _
      · exact hj18 _
def h_X1_recover (i0 : Nat) (a1 : Int32) : PV Int32 := hbnd (h_X1_personAt i0 a1) (fun v1 => hisK 2 v1 fun i2 => hgI 2 i2 4 fun v4 => hbnd (ρ := _) (α := Int32) (hjo (σ := Unit) (fun _ => hrt (0 : Int32)) fun j19 => hcnd (v4 = 0) (hbn0 (h_X1_hasOpen i0 (idc 2 i2)) (fun v21 => hcnd (v21 = 0) (hgR 0 i0 8 fun v23 => hisK 13 v23 fun i24 => hbn0 (h_J2_size i24) (fun v26 => hcnd ((20 : Int32) ≤ v26) (j19 ()) (hrt (1 : Int32)))) (j19 ()))) (j19 ())) (fun u5 => hbnd (h_X1_can u5) (fun _ => hgR 0 i0 8 fun v7 => hnw 12 6 fun i8 => hbn0 (h_X13_init i8 (idc 0 i0) (idc 2 i2)) (fun _ => hisK 13 v7 fun i10 => hbn0 (h_J2_add i10 (idc 12 i8)) (fun v12 => hgR 0 i0 8 fun v13 => hisK 13 v13 fun i14 => hbn0 (h_J2_size i14) (fun v16 => hrt (v16 - (1 : Int32))))))))
theorem s_X1_recover (i0 : Nat) (a1 : Int32) : Sim (h_X1_recover i0 a1) (f_X1_recover i0 a1) := by
  unfold h_X1_recover f_X1_recover
  refine s_bnd (s_X1_personAt i0 a1) fun v1 => ?_
  refine s_isK fun i2 => ?_
  refine s_gI rfl fun v4 => ?_
  refine s_bnd ?_ ?_
  · refine s_jo (fun _ => ?_) fun j19 j19q hj19 => ?_
    · exact s_rt _
    refine s_cnd ?_ ?_
    · refine s_bn0 (s_X1_hasOpen i0 (idc 2 i2)) fun v21 => ?_
      refine s_cnd ?_ ?_
      · refine s_gR rfl fun v23 => ?_
        refine s_isK fun i24 => ?_
        refine s_bn0 (s_J2_size i24) fun v26 => ?_
        refine s_cnd ?_ ?_
        · exact hj19 _
        · exact s_rt _
      · exact hj19 _
    · exact hj19 _
  refine fun u5 => ?_
  refine s_bnd (s_X1_can u5) fun _ => ?_
  refine s_gR rfl fun v7 => ?_
  refine s_nw rfl fun i8 => ?_
  refine s_bn0 (s_X13_init i8 (idc 0 i0) (idc 2 i2)) fun _ => ?_
  refine s_isK fun i10 => ?_
  refine s_bn0 (s_J2_add i10 (idc 12 i8)) fun v12 => ?_
  refine s_gR rfl fun v13 => ?_
  refine s_isK fun i14 => ?_
  refine s_bn0 (s_J2_size i14) fun v16 => ?_
  exact s_rt _
def h_X13_vouch (i0 : Nat) (a1 : Nat) : PV Int32 := hgR 12 i0 3 fun v1 => hisK 8 a1 fun i2 => hgR 8 i2 1 fun v4 => hisK 2 v4 fun i5 => hgI 2 i5 0 fun v7 => hisK 14 v1 fun i8 => hbn0 (h_J18_set i8 v7) (fun _ => hgI 12 i0 4 fun v11 => hbn0 (h_X9_level i2) (fun v12 => hpI 12 i0 4 (v11 + v12) <| hgI 12 i0 4 fun v13 => hrt v13))
theorem s_X13_vouch (i0 : Nat) (a1 : Nat) : Sim (h_X13_vouch i0 a1) (f_X13_vouch i0 a1) := by
  unfold h_X13_vouch f_X13_vouch
  refine s_gR rfl fun v1 => ?_
  refine s_isK fun i2 => ?_
  refine s_gR rfl fun v4 => ?_
  refine s_isK fun i5 => ?_
  refine s_gI rfl fun v7 => ?_
  refine s_isK fun i8 => ?_
  refine s_bn0 (s_J18_set i8 v7) fun _ => ?_
  refine s_gI rfl fun v11 => ?_
  refine s_bn0 (s_X9_level i2) fun v12 => ?_
  refine s_pI rfl ?_
  refine s_gI rfl fun v13 => ?_
  exact s_rt _
def h_X13_isVouchedBy (i0 : Nat) (a1 : Nat) : PV Int32 := hisK 8 a1 fun i1 => hgI 8 i1 5 fun v3 => hbnd (ρ := _) (α := Int32) (hjo (σ := Unit) (fun _ => hrt (0 : Int32)) fun j17 => hcnd (v3 = 0) (j17 ()) (hgR 8 i1 2 fun v19 => hcnd (v19 = nul) (hgR 8 i1 1 fun v21 => hgR 12 i0 0 fun v22 => hasr ((cmpN v21) ∧ (cmpN v22)) (hcnd (v21 = v22) (j17 ()) (hbn0 (h_X9_level i1) (fun v24 => hcnd (v24 < (3 : Int32)) (j17 ()) (hrt (1 : Int32)))))) (j17 ()))) (fun u4 => hcnd (u4 = 0) (hasr (((0 : Int32) = 0) ∨ ((0 : Int32) = 1)) (hrt (0 : Int32))) (hgR 12 i0 3 fun v6 => hgR 8 i1 1 fun v7 => hisK 2 v7 fun i8 => hgI 2 i8 0 fun v10 => hisK 14 v6 fun i11 => hbn0 (h_J18_get i11 v10) (fun v13 => hcnd (v13 = 0) (hasr (((1 : Int32) = 0) ∨ ((1 : Int32) = 1)) (hrt (1 : Int32))) (hasr (((0 : Int32) = 0) ∨ ((0 : Int32) = 1)) (hrt (0 : Int32))))))
theorem s_X13_isVouchedBy (i0 : Nat) (a1 : Nat) : Sim (h_X13_isVouchedBy i0 a1) (f_X13_isVouchedBy i0 a1) := by
  unfold h_X13_isVouchedBy f_X13_isVouchedBy
  refine s_isK fun i1 => ?_
  refine s_gI rfl fun v3 => ?_
  refine s_bnd ?_ ?_
  · refine s_jo (fun _ => ?_) fun j17 j17q hj17 => ?_
    · exact s_rt _
    refine s_cnd ?_ ?_
    · exact hj17 _
    · refine s_gR rfl fun v19 => ?_
      refine s_cnd ?_ ?_
      · refine s_gR rfl fun v21 => ?_
        refine s_gR rfl fun v22 => ?_
        refine s_asr ?_
        refine s_cnd ?_ ?_
        · exact hj17 _
        · refine s_bn0 (s_X9_level i1) fun v24 => ?_
          refine s_cnd ?_ ?_
          · exact hj17 _
          · exact s_rt _
      · exact hj17 _
  refine fun u4 => ?_
  refine s_cnd ?_ ?_
  · refine s_asr ?_
    exact s_rt _
  · refine s_gR rfl fun v6 => ?_
    refine s_gR rfl fun v7 => ?_
    refine s_isK fun i8 => ?_
    refine s_gI rfl fun v10 => ?_
    refine s_isK fun i11 => ?_
    refine s_bn0 (s_J18_get i11 v10) fun v13 => ?_
    refine s_cnd ?_ ?_
    · refine s_asr ?_
      exact s_rt _
    · refine s_asr ?_
      exact s_rt _
def h_X1_vouch (i0 : Nat) (a1 : Int32) (a2 : Int32) : PV Int32 := hgR 0 i0 8 fun v1 => hbnd (h_X1_at v1 a1) (fun v2 => hisK 12 v2 fun i3 => hgR 0 i0 4 fun v5 => hbnd (h_X1_at v5 a2) (fun v6 => hisK 8 v6 fun i7 => hgI 12 i3 2 fun v9 => hbnd (ρ := _) (α := Int32) (hjo (σ := Unit) (fun _ => hrt (0 : Int32)) fun j15 => hcnd (v9 = 0) (j15 ()) (hbn0 (h_X13_isVouchedBy i3 (idc 8 i7)) (fun v17 => hcnd (v17 = 0) (j15 ()) (hrt (1 : Int32))))) (fun u10 => hbnd (h_X1_can u10) (fun _ => hbn0 (h_X13_vouch i3 (idc 8 i7)) (fun v12 => hrt v12)))))
theorem s_X1_vouch (i0 : Nat) (a1 : Int32) (a2 : Int32) : Sim (h_X1_vouch i0 a1 a2) (f_X1_vouch i0 a1 a2) := by
  unfold h_X1_vouch f_X1_vouch
  refine s_gR rfl fun v1 => ?_
  refine s_bnd (s_X1_at v1 a1) fun v2 => ?_
  refine s_isK fun i3 => ?_
  refine s_gR rfl fun v5 => ?_
  refine s_bnd (s_X1_at v5 a2) fun v6 => ?_
  refine s_isK fun i7 => ?_
  refine s_gI rfl fun v9 => ?_
  refine s_bnd ?_ ?_
  · refine s_jo (fun _ => ?_) fun j15 j15q hj15 => ?_
    · exact s_rt _
    refine s_cnd ?_ ?_
    · exact hj15 _
    · refine s_bn0 (s_X13_isVouchedBy i3 (idc 8 i7)) fun v17 => ?_
      refine s_cnd ?_ ?_
      · exact hj15 _
      · exact s_rt _
  refine fun u10 => ?_
  refine s_bnd (s_X1_can u10) fun _ => ?_
  refine s_bn0 (s_X13_vouch i3 (idc 8 i7)) fun v12 => ?_
  exact s_rt _
def h_X13_many (i0 : Nat) : PV Int32 := hgR 12 i0 3 fun v1 => hisK 14 v1 fun i2 => hbn0 (h_J18_cardinality i2) (fun v4 => hrt v4)
theorem s_X13_many (i0 : Nat) : Sim (h_X13_many i0) (f_X13_many i0) := by
  unfold h_X13_many f_X13_many
  refine s_gR rfl fun v1 => ?_
  refine s_isK fun i2 => ?_
  refine s_bn0 (s_J18_cardinality i2) fun v4 => ?_
  exact s_rt _
def h_X13_isBy (i0 : Nat) (a1 : Nat) : PV Int32 := hisK 8 a1 fun i1 => hgI 8 i1 5 fun v3 => hcnd (v3 = 0) (hasr (((0 : Int32) = 0) ∨ ((0 : Int32) = 1)) (hrt (0 : Int32))) (hgR 8 i1 2 fun v5 => hcnd (v5 = nul) (hgR 8 i1 1 fun v7 => hgR 12 i0 0 fun v8 => hasr ((cmpN v7) ∧ (cmpN v8)) (hcnd (v7 = v8) (hasr (((1 : Int32) = 0) ∨ ((1 : Int32) = 1)) (hrt (1 : Int32))) (hasr (((0 : Int32) = 0) ∨ ((0 : Int32) = 1)) (hrt (0 : Int32))))) (hasr (((0 : Int32) = 0) ∨ ((0 : Int32) = 1)) (hrt (0 : Int32))))
theorem s_X13_isBy (i0 : Nat) (a1 : Nat) : Sim (h_X13_isBy i0 a1) (f_X13_isBy i0 a1) := by
  unfold h_X13_isBy f_X13_isBy
  refine s_isK fun i1 => ?_
  refine s_gI rfl fun v3 => ?_
  refine s_cnd ?_ ?_
  · refine s_asr ?_
    exact s_rt _
  · refine s_gR rfl fun v5 => ?_
    refine s_cnd ?_ ?_
    · refine s_gR rfl fun v7 => ?_
      refine s_gR rfl fun v8 => ?_
      refine s_asr ?_
      refine s_cnd ?_ ?_
      · refine s_asr ?_
        exact s_rt _
      · refine s_asr ?_
        exact s_rt _
    · refine s_asr ?_
      exact s_rt _
def h_X1_stop (i0 : Nat) (a1 : Int32) (a2 : Int32) : PV Int32 := hgR 0 i0 8 fun v1 => hbnd (h_X1_at v1 a1) (fun v2 => hisK 12 v2 fun i3 => hgR 0 i0 4 fun v5 => hbnd (h_X1_at v5 a2) (fun v6 => hisK 8 v6 fun i7 => hgI 12 i3 2 fun v9 => hbnd (ρ := _) (α := Int32) (hjo (σ := Unit) (fun _ => hrt (0 : Int32)) fun j15 => hcnd (v9 = 0) (j15 ()) (hbn0 (h_X13_isBy i3 (idc 8 i7)) (fun v17 => hcnd (v17 = 0) (j15 ()) (hrt (1 : Int32))))) (fun u10 => hbnd (h_X1_can u10) (fun _ => hpZ 12 i3 2 (0 : Int32) <| hbn0 (h_X13_many i3) (fun v12 => hrt v12)))))
theorem s_X1_stop (i0 : Nat) (a1 : Int32) (a2 : Int32) : Sim (h_X1_stop i0 a1 a2) (f_X1_stop i0 a1 a2) := by
  unfold h_X1_stop f_X1_stop
  refine s_gR rfl fun v1 => ?_
  refine s_bnd (s_X1_at v1 a1) fun v2 => ?_
  refine s_isK fun i3 => ?_
  refine s_gR rfl fun v5 => ?_
  refine s_bnd (s_X1_at v5 a2) fun v6 => ?_
  refine s_isK fun i7 => ?_
  refine s_gI rfl fun v9 => ?_
  refine s_bnd ?_ ?_
  · refine s_jo (fun _ => ?_) fun j15 j15q hj15 => ?_
    · exact s_rt _
    refine s_cnd ?_ ?_
    · exact hj15 _
    · refine s_bn0 (s_X13_isBy i3 (idc 8 i7)) fun v17 => ?_
      refine s_cnd ?_ ?_
      · exact hj15 _
      · exact s_rt _
  refine fun u10 => ?_
  refine s_bnd (s_X1_can u10) fun _ => ?_
  refine s_pZ rfl ?_
  refine s_bn0 (s_X13_many i3) fun v12 => ?_
  exact s_rt _
def h_X3_enrolled (i0 : Nat) : PV Int32 := hlp (σ := Int32 × Int32) (fun r3 => un2 fun u1 u2 => hcnd ((3 : Int32) ≤ u2) (hrt u1) (hgR 2 i0 1 fun v5 => hisK 32 v5 fun i6 => haI 32 i6 u2 fun v8 => hcnd (v8 = 0) (r3 ((u1 ||| (0 : Int32)), (u2 + (1 : Int32)))) (r3 ((u1 ||| ((1 : Int32) <<< (u2 &&& 31))), (u2 + (1 : Int32)))))) ((0 : Int32), (0 : Int32))
theorem s_X3_enrolled (i0 : Nat) : Sim (h_X3_enrolled i0) (f_X3_enrolled i0) := by
  unfold h_X3_enrolled f_X3_enrolled
  refine s_lp (fun r3 r3q hr3 => ?_) ((0 : Int32), (0 : Int32))
  refine s_un2 fun u1 u2 => ?_
  refine s_cnd ?_ ?_
  · exact s_rt _
  · refine s_gR rfl fun v5 => ?_
    refine s_isK fun i6 => ?_
    refine s_aI rfl fun v8 => ?_
    refine s_cnd ?_ ?_
    · exact hr3 _
    · exact hr3 _
def h_X13_isReady (i0 : Nat) : PV Int32 := hgI 12 i0 2 fun v1 => hcnd (v1 = 0) (hasr (((0 : Int32) = 0) ∨ ((0 : Int32) = 1)) (hrt (0 : Int32))) (hgR 12 i0 5 fun v3 => hisK 0 v3 fun i4 => hgI 0 i4 16 fun v6 => hgI 12 i0 1 fun v7 => hcnd ((v6 - v7) < (60 : Int32)) (hasr (((0 : Int32) = 0) ∨ ((0 : Int32) = 1)) (hrt (0 : Int32))) (hbn0 (h_X13_many i0) (fun v9 => hcnd (v9 < (2 : Int32)) (hasr (((0 : Int32) = 0) ∨ ((0 : Int32) = 1)) (hrt (0 : Int32))) (hgI 12 i0 4 fun v11 => hgR 12 i0 0 fun v12 => hisK 2 v12 fun i13 => hbn0 (h_X3_enrolled i13) (fun v15 => hbn0 (h_X1_levelOf v15) (fun v16 => hcnd (v11 < v16) (hasr (((0 : Int32) = 0) ∨ ((0 : Int32) = 1)) (hrt (0 : Int32))) (hasr (((1 : Int32) = 0) ∨ ((1 : Int32) = 1)) (hrt (1 : Int32)))))))))
theorem s_X13_isReady (i0 : Nat) : Sim (h_X13_isReady i0) (f_X13_isReady i0) := by
  unfold h_X13_isReady f_X13_isReady
  refine s_gI rfl fun v1 => ?_
  refine s_cnd ?_ ?_
  · refine s_asr ?_
    exact s_rt _
  · refine s_gR rfl fun v3 => ?_
    refine s_isK fun i4 => ?_
    refine s_gI rfl fun v6 => ?_
    refine s_gI rfl fun v7 => ?_
    refine s_cnd ?_ ?_
    · refine s_asr ?_
      exact s_rt _
    · refine s_bn0 (s_X13_many i0) fun v9 => ?_
      refine s_cnd ?_ ?_
      · refine s_asr ?_
        exact s_rt _
      · refine s_gI rfl fun v11 => ?_
        refine s_gR rfl fun v12 => ?_
        refine s_isK fun i13 => ?_
        refine s_bn0 (s_X3_enrolled i13) fun v15 => ?_
        refine s_bn0 (s_X1_levelOf v15) fun v16 => ?_
        refine s_cnd ?_ ?_
        · refine s_asr ?_
          exact s_rt _
        · refine s_asr ?_
          exact s_rt _
def h_X1_endAll (i0 : Nat) (a1 : Nat) : PV Int32 := hlp (σ := Int32 × Int32) (fun r3 => un2 fun u1 u2 => hgR 0 i0 4 fun v4 => hisK 13 v4 fun i5 => hbn0 (h_J2_size i5) (fun v7 => hcnd (v7 ≤ u2) (hrt u1) (hgR 0 i0 4 fun v9 => hisK 13 v9 fun i10 => hbn0 (h_J2_get i10 u2) (fun v12 => hisK 8 v12 fun i13 => hgR 8 i13 1 fun v15 => hasr ((cmpN v15) ∧ (cmpN a1)) (hcnd (v15 = a1) (hgR 0 i0 4 fun v17 => hisK 13 v17 fun i18 => hbn0 (h_J2_get i18 u2) (fun v20 => hisK 8 v20 fun i21 => hbn0 (h_X9_end 30 i21) (fun v23 => r3 ((u1 + v23), (u2 + (1 : Int32)))))) (r3 ((u1 + (0 : Int32)), (u2 + (1 : Int32))))))))) ((0 : Int32), (0 : Int32))
theorem s_X1_endAll (i0 : Nat) (a1 : Nat) : Sim (h_X1_endAll i0 a1) (f_X1_endAll i0 a1) := by
  unfold h_X1_endAll f_X1_endAll
  refine s_lp (fun r3 r3q hr3 => ?_) ((0 : Int32), (0 : Int32))
  refine s_un2 fun u1 u2 => ?_
  refine s_gR rfl fun v4 => ?_
  refine s_isK fun i5 => ?_
  refine s_bn0 (s_J2_size i5) fun v7 => ?_
  refine s_cnd ?_ ?_
  · exact s_rt _
  · refine s_gR rfl fun v9 => ?_
    refine s_isK fun i10 => ?_
    refine s_bn0 (s_J2_get i10 u2) fun v12 => ?_
    refine s_isK fun i13 => ?_
    refine s_gR rfl fun v15 => ?_
    refine s_asr ?_
    refine s_cnd ?_ ?_
    · refine s_gR rfl fun v17 => ?_
      refine s_isK fun i18 => ?_
      refine s_bn0 (s_J2_get i18 u2) fun v20 => ?_
      refine s_isK fun i21 => ?_
      refine s_bn0 (s_X9_end 30 i21) fun v23 => ?_
      exact hr3 _
    · exact hr3 _
def h_X13_finish (i0 : Nat) : PV Int32 := hpZ 12 i0 2 (0 : Int32) <| hgR 12 i0 5 fun v1 => hgR 12 i0 0 fun v2 => hisK 0 v1 fun i3 => hbn0 (h_X1_endAll i3 v2) (fun v5 => hbnd (hlp (σ := Int32) (fun r7 => fun u6 => hcnd ((3 : Int32) ≤ u6) (hrt ()) (hgR 12 i0 0 fun v10 => hisK 2 v10 fun i11 => hgR 2 i11 1 fun v13 => hisK 32 v13 fun i14 => hbI 32 i14 u6 (0 : Int32) <| r7 (u6 + (1 : Int32)))) (0 : Int32)) (fun _ => hgR 12 i0 0 fun v16 => hisK 2 v16 fun i17 => hbn0 (h_X3_enroll i17 (0 : Int32)) (fun v19 => hrt v5)))
theorem s_X13_finish (i0 : Nat) : Sim (h_X13_finish i0) (f_X13_finish i0) := by
  unfold h_X13_finish f_X13_finish
  refine s_pZ rfl ?_
  refine s_gR rfl fun v1 => ?_
  refine s_gR rfl fun v2 => ?_
  refine s_isK fun i3 => ?_
  refine s_bn0 (s_X1_endAll i3 v2) fun v5 => ?_
  refine s_bnd ?_ ?_
  · refine s_lp (fun r7 r7q hr7 => ?_) (0 : Int32)
    intro u6
    refine s_cnd ?_ ?_
    · exact s_rt _
    · refine s_gR rfl fun v10 => ?_
      refine s_isK fun i11 => ?_
      refine s_gR rfl fun v13 => ?_
      refine s_isK fun i14 => ?_
      refine s_bI rfl ?_
      exact hr7 _
  refine fun _ => ?_
  refine s_gR rfl fun v16 => ?_
  refine s_isK fun i17 => ?_
  refine s_bn0 (s_X3_enroll i17 (0 : Int32)) fun v19 => ?_
  exact s_rt _
def h_X1_finish (i0 : Nat) (a1 : Int32) : PV Int32 := hgR 0 i0 8 fun v1 => hbnd (h_X1_at v1 a1) (fun v2 => hisK 12 v2 fun i3 => hbn0 (h_X13_isReady i3) (fun v5 => hbnd (h_X1_can v5) (fun _ => hbn0 (h_X13_finish i3) (fun v7 => hbn0 (h_X1_write i0 (6 : Int32) a1) (fun _ => hrt v7)))))
theorem s_X1_finish (i0 : Nat) (a1 : Int32) : Sim (h_X1_finish i0 a1) (f_X1_finish i0 a1) := by
  unfold h_X1_finish f_X1_finish
  refine s_gR rfl fun v1 => ?_
  refine s_bnd (s_X1_at v1 a1) fun v2 => ?_
  refine s_isK fun i3 => ?_
  refine s_bn0 (s_X13_isReady i3) fun v5 => ?_
  refine s_bnd (s_X1_can v5) fun _ => ?_
  refine s_bn0 (s_X13_finish i3) fun v7 => ?_
  refine s_bn0 (s_X1_write i0 (6 : Int32) a1) fun _ => ?_
  exact s_rt _
def h_X1_link (i0 : Nat) (a1 : Int32) (a2 : Int32) : PV Int32 := hbnd (h_X1_there a1 (6 : Int32)) (fun _ => hbnd (ρ := _) (α := Nat) (hcnd (a2 = (-1 : Int32)) (hrt nul) (hbnd (h_X1_personAt i0 a2) (fun v25 => hrt v25))) (fun u2 => hgR 0 i0 11 fun v3 => hisK 36 v3 fun i4 => haR 36 i4 a1 fun v6 => hbnd (ρ := _) (α := Int32) (hjo (σ := Unit) (fun _ => hrt (1 : Int32)) fun j19 => hcnd (u2 = nul) (j19 ()) (hcnd (v6 = nul) (j19 ()) (hasr ((cmpN v6) ∧ (cmpN u2)) (hcnd (v6 = u2) (j19 ()) (hrt (0 : Int32)))))) (fun u7 => hbnd (h_X1_can u7) (fun _ => hgR 0 i0 11 fun v9 => hisK 36 v9 fun i10 => hasr ((u2 = nul) ∨ ((u2 % 64) = 2)) (hbR 36 i10 a1 u2 <| hcnd (v6 = nul) (hrt (-1 : Int32)) (hisK 2 v6 fun i14 => hgI 2 i14 0 fun v16 => hrt v16))))))
theorem s_X1_link (i0 : Nat) (a1 : Int32) (a2 : Int32) : Sim (h_X1_link i0 a1 a2) (f_X1_link i0 a1 a2) := by
  unfold h_X1_link f_X1_link
  refine s_bnd (s_X1_there a1 (6 : Int32)) fun _ => ?_
  refine s_bnd ?_ ?_
  · refine s_cnd ?_ ?_
    · exact s_rt _
    · refine s_bnd (s_X1_personAt i0 a2) fun v25 => ?_
      exact s_rt _
  refine fun u2 => ?_
  refine s_gR rfl fun v3 => ?_
  refine s_isK fun i4 => ?_
  refine s_aR rfl fun v6 => ?_
  refine s_bnd ?_ ?_
  · refine s_jo (fun _ => ?_) fun j19 j19q hj19 => ?_
    · exact s_rt _
    refine s_cnd ?_ ?_
    · exact hj19 _
    · refine s_cnd ?_ ?_
      · exact hj19 _
      · refine s_asr ?_
        refine s_cnd ?_ ?_
        · exact hj19 _
        · exact s_rt _
  refine fun u7 => ?_
  refine s_bnd (s_X1_can u7) fun _ => ?_
  refine s_gR rfl fun v9 => ?_
  refine s_isK fun i10 => ?_
  refine s_asr ?_
  refine s_bR rfl ?_
  refine s_cnd ?_ ?_
  · exact s_rt _
  · refine s_isK fun i14 => ?_
    refine s_gI rfl fun v16 => ?_
    exact s_rt _
def h_X1_foreign (i0 : Nat) (a1 : Int32) : PV Int32 := hbnd (h_X1_there a1 (6 : Int32)) (fun _ => hgR 0 i0 11 fun v2 => hisK 36 v2 fun i3 => haR 36 i3 a1 fun v5 => hbnd (ρ := _) (α := Int32) (hjo (σ := Unit) (fun _ => hrt (0 : Int32)) fun j12 => hcnd (v5 = nul) (j12 ()) (hisK 2 v5 fun i14 => hgI 2 i14 4 fun v16 => hcnd (v16 = 0) (hgR 0 i0 4 fun v18 => hisK 13 v18 fun i19 => hbn0 (h_J2_size i19) (fun v21 => hcnd ((60 : Int32) ≤ v21) (j12 ()) (hrt (1 : Int32)))) (j12 ()))) (fun u6 => hbnd (h_X1_can u6) (fun _ => hnwA 32 (3 : Int32) fun i8 => hbn0 (h_X1_beginSession i0 v5 nul i8 (0 : Int32)) (fun v9 => hrt v9))))
theorem s_X1_foreign (i0 : Nat) (a1 : Int32) : Sim (h_X1_foreign i0 a1) (f_X1_foreign i0 a1) := by
  unfold h_X1_foreign f_X1_foreign
  refine s_bnd (s_X1_there a1 (6 : Int32)) fun _ => ?_
  refine s_gR rfl fun v2 => ?_
  refine s_isK fun i3 => ?_
  refine s_aR rfl fun v5 => ?_
  refine s_bnd ?_ ?_
  · refine s_jo (fun _ => ?_) fun j12 j12q hj12 => ?_
    · exact s_rt _
    refine s_cnd ?_ ?_
    · exact hj12 _
    · refine s_isK fun i14 => ?_
      refine s_gI rfl fun v16 => ?_
      refine s_cnd ?_ ?_
      · refine s_gR rfl fun v18 => ?_
        refine s_isK fun i19 => ?_
        refine s_bn0 (s_J2_size i19) fun v21 => ?_
        refine s_cnd ?_ ?_
        · exact hj12 _
        · exact s_rt _
      · exact hj12 _
  refine fun u6 => ?_
  refine s_bnd (s_X1_can u6) fun _ => ?_
  refine s_nwA rfl fun i8 => ?_
  refine s_bn0 (s_X1_beginSession i0 v5 nul i8 (0 : Int32)) fun v9 => ?_
  exact s_rt _
def h_X8_deny (i0 : Nat) : PV Unit := hgI 7 i0 7 fun v1 => hbnd (ρ := _) (α := Int32) (hcnd (v1 = 0) (hrt (2 : Int32)) (hgI 7 i0 7 fun v5 => hrt v5)) (fun u2 => hpI 7 i0 7 u2 <| hrt ())
theorem s_X8_deny (i0 : Nat) : Sim (h_X8_deny i0) (f_X8_deny i0) := by
  unfold h_X8_deny f_X8_deny
  refine s_gI rfl fun v1 => ?_
  refine s_bnd ?_ ?_
  · refine s_cnd ?_ ?_
    · exact s_rt _
    · refine s_gI rfl fun v5 => ?_
      exact s_rt _
  refine fun u2 => ?_
  refine s_pI rfl ?_
  exact s_rt _
def h_X1_leave (i0 : Nat) (a1 : Int32) : PV Int32 := hbnd (h_X1_personAt i0 a1) (fun v1 => hisK 2 v1 fun i2 => hgI 2 i2 4 fun v4 => hbnd (ρ := _) (α := Int32) (hcnd (v4 = 0) (hrt (1 : Int32)) (hrt (0 : Int32))) (fun u5 => hpZ 2 i2 4 u5 <| hgI 2 i2 4 fun v6 => hcnd (v6 = 0) (hrt (-1 : Int32)) (hbn0 (h_X1_endAll i0 (idc 2 i2)) (fun v8 => hbnd (hlp (σ := Int32) (fun r10 => fun u9 => hgR 0 i0 3 fun v12 => hisK 13 v12 fun i13 => hbn0 (h_J2_size i13) (fun v15 => hcnd (v15 ≤ u9) (hrt ()) (hgR 0 i0 3 fun v17 => hisK 13 v17 fun i18 => hbn0 (h_J2_get i18 u9) (fun v20 => hisK 7 v20 fun i21 => hgR 7 i21 0 fun v23 => hasr ((cmpN v23) ∧ (cmpN (idc 2 i2))) (hcnd (v23 = (idc 2 i2)) (hgR 0 i0 3 fun v25 => hisK 13 v25 fun i26 => hbn0 (h_J2_get i26 u9) (fun v28 => hisK 7 v28 fun i29 => hbn0 (h_X8_deny i29) (fun _ => r10 (u9 + (1 : Int32))))) (r10 (u9 + (1 : Int32)))))))) (0 : Int32)) (fun _ => hlp (σ := Int32) (fun r33 => fun u32 => hgR 0 i0 8 fun v34 => hisK 13 v34 fun i35 => hbn0 (h_J2_size i35) (fun v37 => hcnd (v37 ≤ u32) (hrt v8) (hgR 0 i0 8 fun v39 => hisK 13 v39 fun i40 => hbn0 (h_J2_get i40 u32) (fun v42 => hisK 12 v42 fun i43 => hgI 12 i43 2 fun v45 => hgR 0 i0 8 fun v46 => hisK 13 v46 fun i47 => hbn0 (h_J2_get i47 u32) (fun v49 => hisK 12 v49 fun i50 => hgR 12 i50 0 fun v52 => hbnd (ρ := _) (α := Int32) (hasr ((cmpN v52) ∧ (cmpN (idc 2 i2))) (hcnd (v52 = (idc 2 i2)) (hrt (0 : Int32)) (hrt (1 : Int32)))) (fun u53 => hpZ 12 i43 2 (v45 &&& u53) <| r33 (u32 + (1 : Int32)))))))) (0 : Int32))))))
theorem s_X1_leave (i0 : Nat) (a1 : Int32) : Sim (h_X1_leave i0 a1) (f_X1_leave i0 a1) := by
  unfold h_X1_leave f_X1_leave
  refine s_bnd (s_X1_personAt i0 a1) fun v1 => ?_
  refine s_isK fun i2 => ?_
  refine s_gI rfl fun v4 => ?_
  refine s_bnd ?_ ?_
  · refine s_cnd ?_ ?_
    · exact s_rt _
    · exact s_rt _
  refine fun u5 => ?_
  refine s_pZ rfl ?_
  refine s_gI rfl fun v6 => ?_
  refine s_cnd ?_ ?_
  · exact s_rt _
  · refine s_bn0 (s_X1_endAll i0 (idc 2 i2)) fun v8 => ?_
    refine s_bnd ?_ ?_
    · refine s_lp (fun r10 r10q hr10 => ?_) (0 : Int32)
      intro u9
      refine s_gR rfl fun v12 => ?_
      refine s_isK fun i13 => ?_
      refine s_bn0 (s_J2_size i13) fun v15 => ?_
      refine s_cnd ?_ ?_
      · exact s_rt _
      · refine s_gR rfl fun v17 => ?_
        refine s_isK fun i18 => ?_
        refine s_bn0 (s_J2_get i18 u9) fun v20 => ?_
        refine s_isK fun i21 => ?_
        refine s_gR rfl fun v23 => ?_
        refine s_asr ?_
        refine s_cnd ?_ ?_
        · refine s_gR rfl fun v25 => ?_
          refine s_isK fun i26 => ?_
          refine s_bn0 (s_J2_get i26 u9) fun v28 => ?_
          refine s_isK fun i29 => ?_
          refine s_bn0 (s_X8_deny i29) fun _ => ?_
          exact hr10 _
        · exact hr10 _
    refine fun _ => ?_
    refine s_lp (fun r33 r33q hr33 => ?_) (0 : Int32)
    intro u32
    refine s_gR rfl fun v34 => ?_
    refine s_isK fun i35 => ?_
    refine s_bn0 (s_J2_size i35) fun v37 => ?_
    refine s_cnd ?_ ?_
    · exact s_rt _
    · refine s_gR rfl fun v39 => ?_
      refine s_isK fun i40 => ?_
      refine s_bn0 (s_J2_get i40 u32) fun v42 => ?_
      refine s_isK fun i43 => ?_
      refine s_gI rfl fun v45 => ?_
      refine s_gR rfl fun v46 => ?_
      refine s_isK fun i47 => ?_
      refine s_bn0 (s_J2_get i47 u32) fun v49 => ?_
      refine s_isK fun i50 => ?_
      refine s_gR rfl fun v52 => ?_
      refine s_bnd ?_ ?_
      · refine s_asr ?_
        refine s_cnd ?_ ?_
        · exact s_rt _
        · exact s_rt _
      refine fun u53 => ?_
      refine s_pZ rfl ?_
      exact hr33 _
def h_X1_audit (i0 : Nat) (a1 : Int32) : PV Int32 := hgR 0 i0 14 fun v1 => hbnd (h_X1_at v1 a1) (fun v2 => hisK 5 v2 fun i3 => hgI 5 i3 0 fun v5 => hgI 5 i3 1 fun v6 => hrt (((1000 : Int32) * v5) + v6))
theorem s_X1_audit (i0 : Nat) (a1 : Int32) : Sim (h_X1_audit i0 a1) (f_X1_audit i0 a1) := by
  unfold h_X1_audit f_X1_audit
  refine s_gR rfl fun v1 => ?_
  refine s_bnd (s_X1_at v1 a1) fun v2 => ?_
  refine s_isK fun i3 => ?_
  refine s_gI rfl fun v5 => ?_
  refine s_gI rfl fun v6 => ?_
  exact s_rt _
def h_X1_sumAnew (i0 : Nat) (a1 : Int32) : PV Int32 := hgR 0 i0 14 fun v1 => hisK 13 v1 fun i2 => hbn0 (h_J2_size i2) (fun v4 => hbnd (h_X1_there a1 (v4 + (1 : Int32))) (fun _ => hlp (σ := Int32 × Int32) (fun r8 => un2 fun u6 u7 => hcnd (a1 ≤ u7) (hrt u6) (hgR 0 i0 14 fun v10 => hisK 13 v10 fun i11 => hbn0 (h_J2_get i11 u7) (fun v13 => hisK 5 v13 fun i14 => hbn0 (h_X6_after i14 u6) (fun v16 => r8 (v16, (u7 + (1 : Int32))))))) ((7 : Int32), (0 : Int32))))
theorem s_X1_sumAnew (i0 : Nat) (a1 : Int32) : Sim (h_X1_sumAnew i0 a1) (f_X1_sumAnew i0 a1) := by
  unfold h_X1_sumAnew f_X1_sumAnew
  refine s_gR rfl fun v1 => ?_
  refine s_isK fun i2 => ?_
  refine s_bn0 (s_J2_size i2) fun v4 => ?_
  refine s_bnd (s_X1_there a1 (v4 + (1 : Int32))) fun _ => ?_
  refine s_lp (fun r8 r8q hr8 => ?_) ((7 : Int32), (0 : Int32))
  refine s_un2 fun u6 u7 => ?_
  refine s_cnd ?_ ?_
  · exact s_rt _
  · refine s_gR rfl fun v10 => ?_
    refine s_isK fun i11 => ?_
    refine s_bn0 (s_J2_get i11 u7) fun v13 => ?_
    refine s_isK fun i14 => ?_
    refine s_bn0 (s_X6_after i14 u6) fun v16 => ?_
    exact hr8 _
