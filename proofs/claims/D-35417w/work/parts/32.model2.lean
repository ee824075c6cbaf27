/-! ===== the model's methods as functions over its own cells (printed by gen/views.py) ===== -/
def q_thrown : PM Int32 := qI 82 fun v1 => qrt v1
theorem sm_X5_thrown : SimM (q_thrown) (f_X5_thrown 0) := by
  unfold q_thrown f_X5_thrown
  refine sm_gI 82 rfl fun v1 => ?_
  exact sm_rt _
def q_audits : PM Int32 := qW 82 (0 : Int32) <| qI 77 fun v1 => qrt v1
theorem sm_X5_audits : SimM (q_audits) (f_X5_audits 0) := by
  unfold q_audits f_X5_audits
  refine sm_pI 82 rfl ?_
  refine sm_gI 77 rfl fun v1 => ?_
  exact sm_rt _
def q_isIn (a1 : Int32) (a2 : Int32) (a3 : Int32) : PM Int32 := qc (a1 < a2) (qas (((0 : Int32) = 0) ∨ ((0 : Int32) = 1)) (qrt (0 : Int32))) (qc (a3 < a1) (qas (((0 : Int32) = 0) ∨ ((0 : Int32) = 1)) (qrt (0 : Int32))) (qas (((1 : Int32) = 0) ∨ ((1 : Int32) = 1)) (qrt (1 : Int32))))
theorem sm_X5_isIn (a1 : Int32) (a2 : Int32) (a3 : Int32) : SimM (q_isIn a1 a2 a3) (f_X5_isIn a1 a2 a3) := by
  unfold q_isIn f_X5_isIn
  refine sm_cnd ?_ ?_
  · refine sm_asr ?_
    exact sm_rt _
  · refine sm_cnd ?_ ?_
    · refine sm_asr ?_
      exact sm_rt _
    · refine sm_asr ?_
      exact sm_rt _
def q_may (a1 : Int32) : PM Int32 := qbd (α := Int32) (qc (a1 = 0) (qrt (1 : Int32)) (qrt (0 : Int32))) (fun u1 => qW 82 u1 <| qas ((a1 = 0) ∨ (a1 = 1)) (qrt a1))
theorem sm_X5_may (a1 : Int32) : SimM (q_may a1) (f_X5_may 0 a1) := by
  unfold q_may f_X5_may
  refine sm_bnd ?_ ?_
  · refine sm_cnd ?_ ?_
    · exact sm_rt _
    · exact sm_rt _
  refine fun u1 => ?_
  refine sm_pI 82 rfl ?_
  refine sm_asr ?_
  exact sm_rt _
def q_audit (a1 : Int32) : PM Int32 := qI 77 fun v1 => qbd (q_isIn a1 (0 : Int32) (v1 - (1 : Int32))) (fun v2 => qbd (q_may v2) (fun v3 => qc (v3 = 0) (qrt (0 : Int32)) (qa 78 1200 a1 fun v8 => qa 79 1200 a1 fun v12 => qrt (((1000 : Int32) * v8) + v12))))
theorem sm_X5_audit (a1 : Int32) : SimM (q_audit a1) (f_X5_audit 0 a1) := by
  unfold q_audit f_X5_audit
  refine sm_gI 77 rfl fun v1 => ?_
  refine sm_bn0 (sm_X5_isIn a1 (0 : Int32) (v1 - (1 : Int32))) fun v2 => ?_
  refine sm_bn0 (sm_X5_may v2) fun v3 => ?_
  refine sm_cnd ?_ ?_
  · exact sm_rt _
  · refine sm_gR 78 31 76 1200 rfl ?_
    refine sm_isK ?_
    refine sm_aI 78 31 76 1200 rfl fun v8 => ?_
    refine sm_gR 79 31 77 1200 rfl ?_
    refine sm_isK ?_
    refine sm_aI 79 31 77 1200 rfl fun v12 => ?_
    exact sm_rt _
def q_sum : PM Int32 := qW 82 (0 : Int32) <| qI 81 fun v1 => qrt v1
theorem sm_X5_sum : SimM (q_sum) (f_X5_sum 0) := by
  unfold q_sum f_X5_sum
  refine sm_pI 82 rfl ?_
  refine sm_gI 81 rfl fun v1 => ?_
  exact sm_rt _
def q_sumAnew (a1 : Int32) : PM Int32 := qI 77 fun v1 => qbd (q_isIn a1 (0 : Int32) v1) (fun v2 => qbd (q_may v2) (fun v3 => qc (v3 = 0) (qrt (0 : Int32)) (qlp (σ := Int32 × Int32) (fun r7 => un2 fun u5 u6 => qc (a1 ≤ u6) (qrt u5) (qa 78 1200 u6 fun v12 => qa 79 1200 u6 fun v16 => qa 80 1200 u6 fun v20 => qbd (qrt ((((((31 : Int32) * u5) + ((100 : Int32) * v12)) + v16) + v20) - (((((((31 : Int32) * u5) + ((100 : Int32) * v12)) + v16) + v20) / (65521 : Int32)) * (65521 : Int32)))) (fun v21 => r7 (v21, (u6 + (1 : Int32)))))) ((7 : Int32), (0 : Int32)))))
theorem sm_X5_sumAnew (a1 : Int32) : SimM (q_sumAnew a1) (f_X5_sumAnew 0 a1) := by
  unfold q_sumAnew f_X5_sumAnew
  refine sm_gI 77 rfl fun v1 => ?_
  refine sm_bn0 (sm_X5_isIn a1 (0 : Int32) v1) fun v2 => ?_
  refine sm_bn0 (sm_X5_may v2) fun v3 => ?_
  refine sm_cnd ?_ ?_
  · exact sm_rt _
  · refine sm_lp (fun r7 r7q hr7 => ?_) ((7 : Int32), (0 : Int32))
    refine sm_un2 fun u5 u6 => ?_
    refine sm_cnd ?_ ?_
    · exact sm_rt _
    · refine sm_gR 78 31 76 1200 rfl ?_
      refine sm_isK ?_
      refine sm_aI 78 31 76 1200 rfl fun v12 => ?_
      refine sm_gR 79 31 77 1200 rfl ?_
      refine sm_isK ?_
      refine sm_aI 79 31 77 1200 rfl fun v16 => ?_
      refine sm_gR 80 31 78 1200 rfl ?_
      refine sm_isK ?_
      refine sm_aI 80 31 78 1200 rfl fun v20 => ?_
      refine sm_bnd ?_ ?_
      · exact sm_rt _
      refine fun v21 => ?_
      exact hr7 _
def q_mayBoth (a1 : Int32) (a2 : Int32) : PM Int32 := qbd (α := Int32) (qc (a1 = 0) (qrt (1 : Int32)) (qc (a2 = 0) (qrt (2 : Int32)) (qrt (0 : Int32)))) (fun u1 => qW 82 u1 <| qI 82 fun v2 => qc (v2 = 0) (qas (((1 : Int32) = 0) ∨ ((1 : Int32) = 1)) (qrt (1 : Int32))) (qas (((0 : Int32) = 0) ∨ ((0 : Int32) = 1)) (qrt (0 : Int32))))
theorem sm_X5_mayBoth (a1 : Int32) (a2 : Int32) : SimM (q_mayBoth a1 a2) (f_X5_mayBoth 0 a1 a2) := by
  unfold q_mayBoth f_X5_mayBoth
  refine sm_bnd ?_ ?_
  · refine sm_cnd ?_ ?_
    · exact sm_rt _
    · refine sm_cnd ?_ ?_
      · exact sm_rt _
      · exact sm_rt _
  refine fun u1 => ?_
  refine sm_pI 82 rfl ?_
  refine sm_gI 82 rfl fun v2 => ?_
  refine sm_cnd ?_ ?_
  · refine sm_asr ?_
    exact sm_rt _
  · refine sm_asr ?_
    exact sm_rt _
def q_write (a1 : Int32) (a2 : Int32) : PM Unit := qI 77 fun v2 => qw 78 1200 v2 a1 <| qI 77 fun v6 => qw 79 1200 v6 a2 <| qI 77 fun v10 => qI 0 fun v11 => qw 80 1200 v10 v11 <| qI 77 fun v14 => qW 77 (v14 + (1 : Int32)) <| qI 81 fun v15 => qI 0 fun v16 => qW 81 ((((((31 : Int32) * v15) + ((100 : Int32) * a1)) + a2) + v16) - (((((((31 : Int32) * v15) + ((100 : Int32) * a1)) + a2) + v16) / (65521 : Int32)) * (65521 : Int32))) <| qrt ()
theorem sm_X5_write (a1 : Int32) (a2 : Int32) : SimM (q_write a1 a2) (f_X5_write 0 a1 a2) := by
  unfold q_write f_X5_write
  refine sm_gR 78 31 76 1200 rfl ?_
  refine sm_gI 77 rfl fun v2 => ?_
  refine sm_isK ?_
  refine sm_bI 78 31 76 1200 rfl ?_
  refine sm_gR 79 31 77 1200 rfl ?_
  refine sm_gI 77 rfl fun v6 => ?_
  refine sm_isK ?_
  refine sm_bI 79 31 77 1200 rfl ?_
  refine sm_gR 80 31 78 1200 rfl ?_
  refine sm_gI 77 rfl fun v10 => ?_
  refine sm_gI 0 rfl fun v11 => ?_
  refine sm_isK ?_
  refine sm_bI 80 31 78 1200 rfl ?_
  refine sm_gI 77 rfl fun v14 => ?_
  refine sm_pI 77 rfl ?_
  refine sm_gI 81 rfl fun v15 => ?_
  refine sm_gI 0 rfl fun v16 => ?_
  refine sm_pI 81 rfl ?_
  exact sm_rt _
def q_hears (a1 : Int32) (a2 : Int32) : PM Int32 := qlp (σ := Int32 × Int32) (fun r3 => un2 fun u1 u2 => qI 52 fun v4 => qc (v4 ≤ u2) (qas ((u1 = 0) ∨ (u1 = 1)) (qrt u1)) (qjo (σ := Int32) (fun u6 => r3 ((1 : Int32), (u6 + (1 : Int32)))) fun j8 => qc (u1 = 0) (qa 57 200 u2 fun v13 => qc (v13 = a2) (qa 54 200 u2 fun v18 => qc (v18 = a1) (j8 u2) (r3 ((0 : Int32), (u2 + (1 : Int32))))) (r3 ((0 : Int32), (u2 + (1 : Int32))))) (j8 u2))) ((0 : Int32), (0 : Int32))
theorem sm_X5_hears (a1 : Int32) (a2 : Int32) : SimM (q_hears a1 a2) (f_X5_hears 0 a1 a2) := by
  unfold q_hears f_X5_hears
  refine sm_lp (fun r3 r3q hr3 => ?_) ((0 : Int32), (0 : Int32))
  refine sm_un2 fun u1 u2 => ?_
  refine sm_gI 52 rfl fun v4 => ?_
  refine sm_cnd ?_ ?_
  · refine sm_asr ?_
    exact sm_rt _
  · refine sm_jo (fun u6 => ?_) fun j8 j8q hj8 => ?_
    · exact hr3 _
    refine sm_cnd ?_ ?_
    · refine sm_gR 57 31 65 200 rfl ?_
      refine sm_isK ?_
      refine sm_aI 57 31 65 200 rfl fun v13 => ?_
      refine sm_cnd ?_ ?_
      · refine sm_gR 54 31 62 200 rfl ?_
        refine sm_isK ?_
        refine sm_aI 54 31 62 200 rfl fun v18 => ?_
        refine sm_cnd ?_ ?_
        · exact hj8 _
        · exact hr3 _
      · exact hr3 _
    · exact hj8 _
def q_endFamily (a1 : Int32) : PM Unit := qa 51 60 a1 fun v4 => qc (v4 = 0) (qrt ()) (qz 51 60 a1 (0 : Int32) <| qbd (q_write (3 : Int32) a1) (fun _ => qlp (σ := Int32) (fun r11 => fun u10 => qc ((4 : Int32) ≤ u10) (qrt ()) (qa 66 4 u10 fun v17 => qbd (α := Int32) (qjo (σ := Unit) (fun _ => qrt (0 : Int32)) fun j23 => qc (v17 = 0) (qbd (q_hears u10 a1) (fun v25 => qc (v25 = 0) (j23 ()) (qrt (1 : Int32)))) (j23 ())) (fun u18 => qz 69 240 (((60 : Int32) * u10) + a1) u18 <| r11 (u10 + (1 : Int32))))) (0 : Int32)))
theorem sm_X5_endFamily (a1 : Int32) : SimM (q_endFamily a1) (f_X5_endFamily 0 a1) := by
  unfold q_endFamily f_X5_endFamily
  refine sm_gR 51 32 6 60 rfl ?_
  refine sm_isK ?_
  refine sm_aI 51 32 6 60 rfl fun v4 => ?_
  refine sm_cnd ?_ ?_
  · exact sm_rt _
  · refine sm_gR 51 32 6 60 rfl ?_
    refine sm_isK ?_
    refine sm_bZ 51 32 6 60 rfl ?_
    refine sm_bn0 (sm_X5_write (3 : Int32) a1) fun _ => ?_
    refine sm_lp (fun r11 r11q hr11 => ?_) (0 : Int32)
    intro u10
    refine sm_cnd ?_ ?_
    · exact sm_rt _
    · refine sm_gR 69 32 9 240 rfl ?_
      refine sm_gR 66 32 8 4 rfl ?_
      refine sm_isK ?_
      refine sm_aI 66 32 8 4 rfl fun v17 => ?_
      refine sm_bnd ?_ ?_
      · refine sm_jo (fun _ => ?_) fun j23 j23q hj23 => ?_
        · exact sm_rt _
        refine sm_cnd ?_ ?_
        · refine sm_bn0 (sm_X5_hears u10 a1) fun v25 => ?_
          refine sm_cnd ?_ ?_
          · exact hj23 _
          · exact sm_rt _
        · exact hj23 _
      refine fun u18 => ?_
      refine sm_isK ?_
      refine sm_bZ 69 32 9 240 rfl ?_
      exact hr11 _
def q_endFamiliesOf (a1 : Int32) : PM Unit := qlp (σ := Int32) (fun r2 => fun u1 => qI 46 fun v3 => qc (v3 ≤ u1) (qrt ()) (qa 47 60 u1 fun v9 => qa 40 60 v9 fun v12 => qc (v12 = a1) (qbd (q_endFamily u1) (fun _ => r2 (u1 + (1 : Int32)))) (r2 (u1 + (1 : Int32))))) (0 : Int32)
theorem sm_X5_endFamiliesOf (a1 : Int32) : SimM (q_endFamiliesOf a1) (f_X5_endFamiliesOf 0 a1) := by
  unfold q_endFamiliesOf f_X5_endFamiliesOf
  refine sm_lp (fun r2 r2q hr2 => ?_) (0 : Int32)
  intro u1
  refine sm_gI 46 rfl fun v3 => ?_
  refine sm_cnd ?_ ?_
  · exact sm_rt _
  · refine sm_gR 40 31 51 60 rfl ?_
    refine sm_gR 47 31 57 60 rfl ?_
    refine sm_isK ?_
    refine sm_aI 47 31 57 60 rfl fun v9 => ?_
    refine sm_isK ?_
    refine sm_aI 40 31 51 60 rfl fun v12 => ?_
    refine sm_cnd ?_ ?_
    · refine sm_bn0 (sm_X5_endFamily u1) fun _ => ?_
      exact hr2 _
    · exact hr2 _
def q_endSession (a1 : Int32) : PM Int32 := qz 35 60 a1 (0 : Int32) <| qbd (q_write (1 : Int32) a1) (fun _ => qbd (qlp (σ := Int32 × Int32) (fun r7 => un2 fun u5 u6 => qI 30 fun v10 => qc (v10 ≤ u6) (qrt u5) (qa 35 60 u6 fun v15 => qc (v15 = 0) (r7 (u5, (u6 + (1 : Int32)))) (qa 34 60 u6 fun v20 => qc (v20 = a1) (qz 35 60 u6 (0 : Int32) <| qbd (q_write (1 : Int32) u6) (fun _ => qbd (q_endFamiliesOf u6) (fun _ => r7 ((u5 + (1 : Int32)), (u6 + (1 : Int32)))))) (r7 (u5, (u6 + (1 : Int32))))))) ((1 : Int32), (0 : Int32))) (fun u8 => qbd (q_endFamiliesOf a1) (fun _ => qrt u8)))
theorem sm_X5_endSession (a1 : Int32) : SimM (q_endSession a1) (f_X5_endSession 0 a1) := by
  unfold q_endSession f_X5_endSession
  refine sm_gR 35 32 5 60 rfl ?_
  refine sm_isK ?_
  refine sm_bZ 35 32 5 60 rfl ?_
  refine sm_bn0 (sm_X5_write (1 : Int32) a1) fun _ => ?_
  refine sm_bnd ?_ ?_
  · refine sm_lp (fun r7 r7q hr7 => ?_) ((1 : Int32), (0 : Int32))
    refine sm_un2 fun u5 u6 => ?_
    refine sm_gI 30 rfl fun v10 => ?_
    refine sm_cnd ?_ ?_
    · exact sm_rt _
    · refine sm_gR 35 32 5 60 rfl ?_
      refine sm_isK ?_
      refine sm_aI 35 32 5 60 rfl fun v15 => ?_
      refine sm_cnd ?_ ?_
      · exact hr7 _
      · refine sm_gR 34 31 47 60 rfl ?_
        refine sm_isK ?_
        refine sm_aI 34 31 47 60 rfl fun v20 => ?_
        refine sm_cnd ?_ ?_
        · refine sm_gR 35 32 5 60 rfl ?_
          refine sm_isK ?_
          refine sm_bZ 35 32 5 60 rfl ?_
          refine sm_bn0 (sm_X5_write (1 : Int32) u6) fun _ => ?_
          refine sm_bn0 (sm_X5_endFamiliesOf u6) fun _ => ?_
          exact hr7 _
        · exact hr7 _
  refine fun u8 => ?_
  refine sm_bn0 (sm_X5_endFamiliesOf a1) fun _ => ?_
  exact sm_rt _
def q_pass (a1 : Int32) : PM Int32 := qbd (q_isIn a1 (1 : Int32) (600 : Int32)) (fun v1 => qbd (α := Int32) (qjo (σ := Unit) (fun _ => qrt (0 : Int32)) fun j54 => qc (v1 = 0) (j54 ()) (qI 0 fun v56 => qc ((30000 : Int32) < (v56 + a1)) (j54 ()) (qrt (1 : Int32)))) (fun u2 => qbd (q_mayBoth v1 u2) (fun v3 => qc (v3 = 0) (qrt (0 : Int32)) (qlp (σ := Int32 × Int32) (fun r7 => un2 fun u5 u6 => qc (a1 ≤ u6) (qrt u5) (qI 0 fun v9 => qW 0 (v9 + (1 : Int32)) <| qI 62 fun v10 => qbd (α := Unit) (qc (v10 = (-1 : Int32)) (qrt ()) (qI 0 fun v41 => qI 63 fun v42 => qc (v41 < v42) (qrt ()) (qI 61 fun v45 => qI 0 fun v46 => qw 65 20 v45 (v46 + (20 : Int32)) <| qI 62 fun v49 => qW 61 v49 <| qW 62 (-1 : Int32) <| qI 61 fun v50 => qbd (q_write (5 : Int32) v50) (fun _ => qrt ())))) (fun _ => qlp (σ := Int32 × Int32) (fun r13 => un2 fun u11 u12 => qI 30 fun v14 => qc (v14 ≤ u12) (r7 (u11, (u6 + (1 : Int32)))) (qa 35 60 u12 fun v19 => qbd (α := Int32) (qjo (σ := Unit) (fun _ => qrt (0 : Int32)) fun j25 => qc (v19 = 0) (j25 ()) (qI 0 fun v27 => qa 33 60 u12 fun v31 => qc ((30 : Int32) < (v27 - v31)) (qrt (1 : Int32)) (qI 0 fun v33 => qa 32 60 u12 fun v37 => qc ((v33 - v37) ≤ (480 : Int32)) (j25 ()) (qrt (1 : Int32))))) (fun u20 => qc (u20 = 0) (r13 ((u11 + (0 : Int32)), (u12 + (1 : Int32)))) (qbd (q_endSession u12) (fun v22 => r13 ((u11 + v22), (u12 + (1 : Int32)))))))) (u5, (0 : Int32))))) ((0 : Int32), (0 : Int32))))))
theorem sm_X5_pass (a1 : Int32) : SimM (q_pass a1) (f_X5_pass 0 a1) := by
  unfold q_pass f_X5_pass
  refine sm_bn0 (sm_X5_isIn a1 (1 : Int32) (600 : Int32)) fun v1 => ?_
  refine sm_bnd ?_ ?_
  · refine sm_jo (fun _ => ?_) fun j54 j54q hj54 => ?_
    · exact sm_rt _
    refine sm_cnd ?_ ?_
    · exact hj54 _
    · refine sm_gI 0 rfl fun v56 => ?_
      refine sm_cnd ?_ ?_
      · exact hj54 _
      · exact sm_rt _
  refine fun u2 => ?_
  refine sm_bn0 (sm_X5_mayBoth v1 u2) fun v3 => ?_
  refine sm_cnd ?_ ?_
  · exact sm_rt _
  · refine sm_lp (fun r7 r7q hr7 => ?_) ((0 : Int32), (0 : Int32))
    refine sm_un2 fun u5 u6 => ?_
    refine sm_cnd ?_ ?_
    · exact sm_rt _
    · refine sm_gI 0 rfl fun v9 => ?_
      refine sm_pI 0 rfl ?_
      refine sm_gI 62 rfl fun v10 => ?_
      refine sm_bnd ?_ ?_
      · refine sm_cnd ?_ ?_
        · exact sm_rt _
        · refine sm_gI 0 rfl fun v41 => ?_
          refine sm_gI 63 rfl fun v42 => ?_
          refine sm_cnd ?_ ?_
          · exact sm_rt _
          · refine sm_gR 65 31 68 20 rfl ?_
            refine sm_gI 61 rfl fun v45 => ?_
            refine sm_gI 0 rfl fun v46 => ?_
            refine sm_isK ?_
            refine sm_bI 65 31 68 20 rfl ?_
            refine sm_gI 62 rfl fun v49 => ?_
            refine sm_pI 61 rfl ?_
            refine sm_pI 62 rfl ?_
            refine sm_gI 61 rfl fun v50 => ?_
            refine sm_bn0 (sm_X5_write (5 : Int32) v50) fun _ => ?_
            exact sm_rt _
      refine fun _ => ?_
      refine sm_lp (fun r13 r13q hr13 => ?_) (u5, (0 : Int32))
      refine sm_un2 fun u11 u12 => ?_
      refine sm_gI 30 rfl fun v14 => ?_
      refine sm_cnd ?_ ?_
      · exact hr7 _
      · refine sm_gR 35 32 5 60 rfl ?_
        refine sm_isK ?_
        refine sm_aI 35 32 5 60 rfl fun v19 => ?_
        refine sm_bnd ?_ ?_
        · refine sm_jo (fun _ => ?_) fun j25 j25q hj25 => ?_
          · exact sm_rt _
          refine sm_cnd ?_ ?_
          · exact hj25 _
          · refine sm_gI 0 rfl fun v27 => ?_
            refine sm_gR 33 31 46 60 rfl ?_
            refine sm_isK ?_
            refine sm_aI 33 31 46 60 rfl fun v31 => ?_
            refine sm_cnd ?_ ?_
            · exact sm_rt _
            · refine sm_gI 0 rfl fun v33 => ?_
              refine sm_gR 32 31 45 60 rfl ?_
              refine sm_isK ?_
              refine sm_aI 32 31 45 60 rfl fun v37 => ?_
              refine sm_cnd ?_ ?_
              · exact hj25 _
              · exact sm_rt _
        refine fun u20 => ?_
        refine sm_cnd ?_ ?_
        · exact hr13 _
        · refine sm_bn0 (sm_X5_endSession u12) fun v22 => ?_
          exact hr13 _
def q_isSix (a1 : Int32) : PM Int32 := qbd (q_isIn a1 (0 : Int32) (5 : Int32)) (fun v1 => qas ((v1 = 0) ∨ (v1 = 1)) (qrt v1))
theorem sm_X5_isSix (a1 : Int32) : SimM (q_isSix a1) (f_X5_isSix a1) := by
  unfold q_isSix f_X5_isSix
  refine sm_bn0 (sm_X5_isIn a1 (0 : Int32) (5 : Int32)) fun v1 => ?_
  refine sm_asr ?_
  exact sm_rt _
def q_isFactor (a1 : Int32) : PM Int32 := qbd (q_isIn a1 (0 : Int32) (2 : Int32)) (fun v1 => qas ((v1 = 0) ∨ (v1 = 1)) (qrt v1))
theorem sm_X5_isFactor (a1 : Int32) : SimM (q_isFactor a1) (f_X5_isFactor a1) := by
  unfold q_isFactor f_X5_isFactor
  refine sm_bn0 (sm_X5_isIn a1 (0 : Int32) (2 : Int32)) fun v1 => ?_
  refine sm_asr ?_
  exact sm_rt _
def q_ready (a1 : Int32) (a2 : Int32) : PM Unit := qw 1 18 (((3 : Int32) * a1) + a2) (1 : Int32) <| qw 2 18 (((3 : Int32) * a1) + a2) (0 : Int32) <| qc (a2 = (2 : Int32)) (qw 3 6 a1 (0 : Int32) <| qrt ()) (qrt ())
theorem sm_X5_ready (a1 : Int32) (a2 : Int32) : SimM (q_ready a1 a2) (f_X5_ready 0 a1 a2) := by
  unfold q_ready f_X5_ready
  refine sm_gR 1 31 22 18 rfl ?_
  refine sm_isK ?_
  refine sm_bI 1 31 22 18 rfl ?_
  refine sm_gR 2 31 23 18 rfl ?_
  refine sm_isK ?_
  refine sm_bI 2 31 23 18 rfl ?_
  refine sm_cnd ?_ ?_
  · refine sm_gR 3 31 24 6 rfl ?_
    refine sm_isK ?_
    refine sm_bI 3 31 24 6 rfl ?_
    exact sm_rt _
  · exact sm_rt _
def q_enroll (a1 : Int32) (a2 : Int32) : PM Int32 := qbd (q_isSix a1) (fun v1 => qbd (q_isFactor a2) (fun v2 => qbd (q_mayBoth v1 v2) (fun v3 => qc (v3 = 0) (qrt (0 : Int32)) (qa 1 18 (((3 : Int32) * a1) + a2) fun v8 => qbd (q_ready a1 a2) (fun _ => qrt v8)))))
theorem sm_X5_enroll (a1 : Int32) (a2 : Int32) : SimM (q_enroll a1 a2) (f_X5_enroll 0 a1 a2) := by
  unfold q_enroll f_X5_enroll
  refine sm_bn0 (sm_X5_isSix a1) fun v1 => ?_
  refine sm_bn0 (sm_X5_isFactor a2) fun v2 => ?_
  refine sm_bn0 (sm_X5_mayBoth v1 v2) fun v3 => ?_
  refine sm_cnd ?_ ?_
  · exact sm_rt _
  · refine sm_gR 1 31 22 18 rfl ?_
    refine sm_isK ?_
    refine sm_aI 1 31 22 18 rfl fun v8 => ?_
    refine sm_bn0 (sm_X5_ready a1 a2) fun _ => ?_
    exact sm_rt _
def q_factor (a1 : Int32) (a2 : Int32) : PM Int32 := qbd (q_isSix a1) (fun v1 => qbd (q_isFactor a2) (fun v2 => qbd (q_mayBoth v1 v2) (fun v3 => qc (v3 = 0) (qrt (0 : Int32)) (qa 1 18 (((3 : Int32) * a1) + a2) fun v8 => qrt v8))))
theorem sm_X5_factor (a1 : Int32) (a2 : Int32) : SimM (q_factor a1 a2) (f_X5_factor 0 a1 a2) := by
  unfold q_factor f_X5_factor
  refine sm_bn0 (sm_X5_isSix a1) fun v1 => ?_
  refine sm_bn0 (sm_X5_isFactor a2) fun v2 => ?_
  refine sm_bn0 (sm_X5_mayBoth v1 v2) fun v3 => ?_
  refine sm_cnd ?_ ?_
  · exact sm_rt _
  · refine sm_gR 1 31 22 18 rfl ?_
    refine sm_isK ?_
    refine sm_aI 1 31 22 18 rfl fun v8 => ?_
    exact sm_rt _
def q_isNext (a1 : Int32) : PM Int32 := qbd (q_isIn a1 (-1 : Int32) (11 : Int32)) (fun v1 => qas ((v1 = 0) ∨ (v1 = 1)) (qrt v1))
theorem sm_X5_isNext (a1 : Int32) : SimM (q_isNext a1) (f_X5_isNext a1) := by
  unfold q_isNext f_X5_isNext
  refine sm_bn0 (sm_X5_isIn a1 (-1 : Int32) (11 : Int32)) fun v1 => ?_
  refine sm_asr ?_
  exact sm_rt _
def q_step (a1 : Int32) (a2 : Int32) (a3 : Int32) (a4 : Int32) (a5 : Int32) : PM Int32 := qbd (α := Int32) (qjo (σ := Unit) (fun _ => qrt (2 : Int32)) fun j62 => qc (a1 = 0) (j62 ()) (qc (a1 = (3 : Int32)) (j62 ()) (qc (a1 = (2 : Int32)) (qrt (20 : Int32)) (qc (a1 = (4 : Int32)) (qrt (6 : Int32)) (qrt (0 : Int32)))))) (fun u1 => qbd (q_isIn a1 (0 : Int32) (6 : Int32)) (fun v2 => qbd (α := Int32) (qjo (σ := Unit) (fun _ => qrt (0 : Int32)) fun j52 => qc (v2 = 0) (j52 ()) (qbd (q_isIn a2 (0 : Int32) u1) (fun v54 => qc (v54 = 0) (j52 ()) (qc (a1 = 0) (qbd (q_isIn a3 (1 : Int32) (3 : Int32)) (fun v57 => qc (v57 = 0) (j52 ()) (qrt (1 : Int32)))) (qc (a3 = 0) (qrt (1 : Int32)) (j52 ())))))) (fun u3 => qbd (α := Int32) (qjo (σ := Unit) (fun _ => qrt (0 : Int32)) fun j43 => qc (u3 = 0) (j43 ()) (qc ((5 : Int32) ≤ a1) (qrt (1 : Int32)) (qbd (q_isNext a4) (fun v46 => qc (v46 = 0) (j43 ()) (qbd (q_isNext a5) (fun v48 => qc (v48 = 0) (j43 ()) (qrt (1 : Int32)))))))) (fun u4 => qa 10 9 (8 : Int32) fun v8 => qbd (α := Int32) (qc ((12 : Int32) ≤ v8) (qrt (0 : Int32)) (qrt (1 : Int32))) (fun u9 => qbd (q_mayBoth u4 u9) (fun v10 => qc (v10 = 0) (qrt (0 : Int32)) (qa 10 9 (8 : Int32) fun v15 => qw 11 108 ((96 : Int32) + v15) a1 <| qw 12 108 ((96 : Int32) + v15) a2 <| qw 13 108 ((96 : Int32) + v15) a3 <| qw 14 108 ((96 : Int32) + v15) a4 <| qw 15 108 ((96 : Int32) + v15) a5 <| qa 10 9 (8 : Int32) fun v34 => qw 10 9 (8 : Int32) (v34 + (1 : Int32)) <| qa 10 9 (8 : Int32) fun v38 => qrt (v38 - (1 : Int32)))))))))
theorem sm_X5_step (a1 : Int32) (a2 : Int32) (a3 : Int32) (a4 : Int32) (a5 : Int32) : SimM (q_step a1 a2 a3 a4 a5) (f_X5_step 0 a1 a2 a3 a4 a5) := by
  unfold q_step f_X5_step
  refine sm_bnd ?_ ?_
  · refine sm_jo (fun _ => ?_) fun j62 j62q hj62 => ?_
    · exact sm_rt _
    refine sm_cnd ?_ ?_
    · exact hj62 _
    · refine sm_cnd ?_ ?_
      · exact hj62 _
      · refine sm_cnd ?_ ?_
        · exact sm_rt _
        · refine sm_cnd ?_ ?_
          · exact sm_rt _
          · exact sm_rt _
  refine fun u1 => ?_
  refine sm_bn0 (sm_X5_isIn a1 (0 : Int32) (6 : Int32)) fun v2 => ?_
  refine sm_bnd ?_ ?_
  · refine sm_jo (fun _ => ?_) fun j52 j52q hj52 => ?_
    · exact sm_rt _
    refine sm_cnd ?_ ?_
    · exact hj52 _
    · refine sm_bn0 (sm_X5_isIn a2 (0 : Int32) u1) fun v54 => ?_
      refine sm_cnd ?_ ?_
      · exact hj52 _
      · refine sm_cnd ?_ ?_
        · refine sm_bn0 (sm_X5_isIn a3 (1 : Int32) (3 : Int32)) fun v57 => ?_
          refine sm_cnd ?_ ?_
          · exact hj52 _
          · exact sm_rt _
        · refine sm_cnd ?_ ?_
          · exact sm_rt _
          · exact hj52 _
  refine fun u3 => ?_
  refine sm_bnd ?_ ?_
  · refine sm_jo (fun _ => ?_) fun j43 j43q hj43 => ?_
    · exact sm_rt _
    refine sm_cnd ?_ ?_
    · exact hj43 _
    · refine sm_cnd ?_ ?_
      · exact sm_rt _
      · refine sm_bn0 (sm_X5_isNext a4) fun v46 => ?_
        refine sm_cnd ?_ ?_
        · exact hj43 _
        · refine sm_bn0 (sm_X5_isNext a5) fun v48 => ?_
          refine sm_cnd ?_ ?_
          · exact hj43 _
          · exact sm_rt _
  refine fun u4 => ?_
  refine sm_gR 10 31 26 9 rfl ?_
  refine sm_isK ?_
  refine sm_aI 10 31 26 9 rfl fun v8 => ?_
  refine sm_bnd ?_ ?_
  · refine sm_cnd ?_ ?_
    · exact sm_rt _
    · exact sm_rt _
  refine fun u9 => ?_
  refine sm_bn0 (sm_X5_mayBoth u4 u9) fun v10 => ?_
  refine sm_cnd ?_ ?_
  · exact sm_rt _
  · refine sm_gR 10 31 26 9 rfl ?_
    refine sm_isK ?_
    refine sm_aI 10 31 26 9 rfl fun v15 => ?_
    refine sm_gR 11 31 27 108 rfl ?_
    refine sm_isK ?_
    refine sm_bI 11 31 27 108 rfl ?_
    refine sm_gR 12 31 28 108 rfl ?_
    refine sm_isK ?_
    refine sm_bI 12 31 28 108 rfl ?_
    refine sm_gR 13 31 29 108 rfl ?_
    refine sm_isK ?_
    refine sm_bI 13 31 29 108 rfl ?_
    refine sm_gR 14 31 30 108 rfl ?_
    refine sm_isK ?_
    refine sm_bI 14 31 30 108 rfl ?_
    refine sm_gR 15 31 31 108 rfl ?_
    refine sm_isK ?_
    refine sm_bI 15 31 31 108 rfl ?_
    refine sm_gR 10 31 26 9 rfl ?_
    refine sm_isK ?_
    refine sm_aI 10 31 26 9 rfl fun v34 => ?_
    refine sm_bI 10 31 26 9 rfl ?_
    refine sm_gR 10 31 26 9 rfl ?_
    refine sm_isK ?_
    refine sm_aI 10 31 26 9 rfl fun v38 => ?_
    exact sm_rt _
def q_clear : PM Int32 := qW 82 (0 : Int32) <| qa 10 9 (8 : Int32) fun v4 => qw 10 9 (8 : Int32) (0 : Int32) <| qrt v4
theorem sm_X5_clear : SimM (q_clear) (f_X5_clear 0) := by
  unfold q_clear f_X5_clear
  refine sm_pI 82 rfl ?_
  refine sm_gR 10 31 26 9 rfl ?_
  refine sm_isK ?_
  refine sm_aI 10 31 26 9 rfl fun v4 => ?_
  refine sm_gR 10 31 26 9 rfl ?_
  refine sm_isK ?_
  refine sm_bI 10 31 26 9 rfl ?_
  exact sm_rt _
def q_isTest (a1 : Int32) : PM Int32 := qc (a1 < (1 : Int32)) (qas (((0 : Int32) = 0) ∨ ((0 : Int32) = 1)) (qrt (0 : Int32))) (qc ((4 : Int32) < a1) (qas (((0 : Int32) = 0) ∨ ((0 : Int32) = 1)) (qrt (0 : Int32))) (qas (((1 : Int32) = 0) ∨ ((1 : Int32) = 1)) (qrt (1 : Int32))))
theorem sm_X5_isTest (a1 : Int32) : SimM (q_isTest a1) (f_X5_isTest a1) := by
  unfold q_isTest f_X5_isTest
  refine sm_cnd ?_ ?_
  · refine sm_asr ?_
    exact sm_rt _
  · refine sm_cnd ?_ ?_
    · refine sm_asr ?_
      exact sm_rt _
    · refine sm_asr ?_
      exact sm_rt _
def q_circles (a1 : Int32) : PM Int32 := qlp (σ := Int32 × Int32 × Int32) (fun r4 => un3 fun u1 u2 u3 => qc (u2 = u1) (qas ((u3 = 0) ∨ (u3 = 1)) (qrt u3)) (qlp (σ := Int32 × Int32 × Int32) (fun r9 => un3 fun u6 u7 u8 => qa 10 9 (8 : Int32) fun v13 => qc (v13 ≤ u8) (r4 (u2, u6, u7)) (qc (((u2 >>> (u8 &&& 31)) &&& (1 : Int32)) = (1 : Int32)) (qa 11 108 ((96 : Int32) + u8) fun v19 => qbd (q_isTest v19) (fun v20 => qc (v20 = 0) (r9 (u6, u7, (u8 + (1 : Int32)))) (qa 14 108 ((96 : Int32) + u8) fun v25 => qa 15 108 ((96 : Int32) + u8) fun v29 => qbd (α := Int32) (qjo (σ := Unit) (fun _ => qrt (1 : Int32)) fun j38 => qc (u7 = 0) (qc (v25 = a1) (j38 ()) (qc (v29 = a1) (j38 ()) (qrt (0 : Int32)))) (j38 ())) (fun u30 => qbd (α := Int32) (qc (v25 < 0) (qrt (0 : Int32)) (qrt ((1 : Int32) <<< (v25 &&& 31)))) (fun u31 => qc (v29 < 0) (r9 (((u6 ||| u31) ||| (0 : Int32)), u30, (u8 + (1 : Int32)))) (qbd (qrt ((u6 ||| u31) ||| ((1 : Int32) <<< (v29 &&& 31)))) (fun v33 => r9 (v33, u30, (u8 + (1 : Int32)))))))))) (r9 (u6, u7, (u8 + (1 : Int32)))))) (u2, u3, (0 : Int32)))) ((0 : Int32), ((1 : Int32) <<< (a1 &&& 31)), (0 : Int32))
theorem sm_X5_circles (a1 : Int32) : SimM (q_circles a1) (f_X5_circles 0 a1) := by
  unfold q_circles f_X5_circles
  refine sm_lp (fun r4 r4q hr4 => ?_) ((0 : Int32), ((1 : Int32) <<< (a1 &&& 31)), (0 : Int32))
  refine sm_un3 fun u1 u2 u3 => ?_
  refine sm_cnd ?_ ?_
  · refine sm_asr ?_
    exact sm_rt _
  · refine sm_lp (fun r9 r9q hr9 => ?_) (u2, u3, (0 : Int32))
    refine sm_un3 fun u6 u7 u8 => ?_
    refine sm_gR 10 31 26 9 rfl ?_
    refine sm_isK ?_
    refine sm_aI 10 31 26 9 rfl fun v13 => ?_
    refine sm_cnd ?_ ?_
    · exact hr4 _
    · refine sm_cnd ?_ ?_
      · refine sm_gR 11 31 27 108 rfl ?_
        refine sm_isK ?_
        refine sm_aI 11 31 27 108 rfl fun v19 => ?_
        refine sm_bn0 (sm_X5_isTest v19) fun v20 => ?_
        refine sm_cnd ?_ ?_
        · exact hr9 _
        · refine sm_gR 14 31 30 108 rfl ?_
          refine sm_isK ?_
          refine sm_aI 14 31 30 108 rfl fun v25 => ?_
          refine sm_gR 15 31 31 108 rfl ?_
          refine sm_isK ?_
          refine sm_aI 15 31 31 108 rfl fun v29 => ?_
          refine sm_bnd ?_ ?_
          · refine sm_jo (fun _ => ?_) fun j38 j38q hj38 => ?_
            · exact sm_rt _
            refine sm_cnd ?_ ?_
            · refine sm_cnd ?_ ?_
              · exact hj38 _
              · refine sm_cnd ?_ ?_
                · exact hj38 _
                · exact sm_rt _
            · exact hj38 _
          refine fun u30 => ?_
          refine sm_bnd ?_ ?_
          · refine sm_cnd ?_ ?_
            · exact sm_rt _
            · exact sm_rt _
          refine fun u31 => ?_
          refine sm_cnd ?_ ?_
          · exact hr9 _
          · refine sm_bnd ?_ ?_
            · exact sm_rt _
            refine fun v33 => ?_
            exact hr9 _
      · exact hr9 _
def q_publish : PM Int32 := qa 10 9 (8 : Int32) fun v4 => qbd (α := Int32) (qjo (σ := Unit) (fun _ => qrt (0 : Int32)) fun j126 => qc (v4 ≤ 0) (j126 ()) (qI 9 fun v128 => qc ((8 : Int32) ≤ v128) (j126 ()) (qrt (1 : Int32)))) (fun u5 => qbd (qlp (σ := Int32 × Int32) (fun r8 => un2 fun u6 u7 => qa 10 9 (8 : Int32) fun v14 => qc (v14 ≤ u7) (qrt u6) (qc (u6 = 0) (r8 ((0 : Int32), (u7 + (1 : Int32)))) (qa 11 108 ((96 : Int32) + u7) fun v20 => qjo (σ := Int32) (fun u21 => r8 ((1 : Int32), (u21 + (1 : Int32)))) fun j23 => qc ((5 : Int32) ≤ v20) (j23 u7) (qa 14 108 ((96 : Int32) + u7) fun v28 => qa 10 9 (8 : Int32) fun v32 => qc (v32 ≤ v28) (r8 ((0 : Int32), (u7 + (1 : Int32)))) (qa 15 108 ((96 : Int32) + u7) fun v37 => qa 10 9 (8 : Int32) fun v41 => qc (v41 ≤ v37) (r8 ((0 : Int32), (u7 + (1 : Int32)))) (j23 u7)))))) (u5, (0 : Int32))) (fun u9 => qbd (qlp (σ := Int32 × Int32) (fun r45 => un2 fun u43 u44 => qa 10 9 (8 : Int32) fun v51 => qc (v51 ≤ u44) (qrt u43) (qc (u43 = 0) (qrt u43) (qa 11 108 ((96 : Int32) + u44) fun v57 => qbd (q_isTest v57) (fun v58 => qjo (σ := Int32) (fun u59 => r45 ((1 : Int32), (u59 + (1 : Int32)))) fun j61 => qc (v58 = 0) (j61 u44) (qbd (q_circles u44) (fun v63 => qc (v63 = 0) (j61 u44) (r45 ((0 : Int32), (u44 + (1 : Int32)))))))))) (u9, (0 : Int32))) (fun u46 => qbd (q_may u46) (fun v65 => qc (v65 = 0) (qrt (0 : Int32)) (qbd (qlp (σ := Int32) (fun r68 => fun u67 => qa 10 9 (8 : Int32) fun v73 => qc (v73 ≤ u67) (qrt ()) (qI 9 fun v75 => qa 11 108 ((96 : Int32) + u67) fun v80 => qw 11 108 (((12 : Int32) * v75) + u67) v80 <| qa 12 108 ((96 : Int32) + u67) fun v87 => qw 12 108 (((12 : Int32) * v75) + u67) v87 <| qa 13 108 ((96 : Int32) + u67) fun v94 => qw 13 108 (((12 : Int32) * v75) + u67) v94 <| qa 14 108 ((96 : Int32) + u67) fun v101 => qw 14 108 (((12 : Int32) * v75) + u67) v101 <| qa 15 108 ((96 : Int32) + u67) fun v108 => qw 15 108 (((12 : Int32) * v75) + u67) v108 <| r68 (u67 + (1 : Int32)))) (0 : Int32)) (fun _ => qI 9 fun v112 => qa 10 9 (8 : Int32) fun v116 => qw 10 9 v112 v116 <| qw 10 9 (8 : Int32) (0 : Int32) <| qI 9 fun v122 => qW 9 (v122 + (1 : Int32)) <| qI 9 fun v123 => qrt (v123 - (1 : Int32))))))))
theorem sm_X5_publish : SimM (q_publish) (f_X5_publish 0) := by
  unfold q_publish f_X5_publish
  refine sm_gR 10 31 26 9 rfl ?_
  refine sm_isK ?_
  refine sm_aI 10 31 26 9 rfl fun v4 => ?_
  refine sm_bnd ?_ ?_
  · refine sm_jo (fun _ => ?_) fun j126 j126q hj126 => ?_
    · exact sm_rt _
    refine sm_cnd ?_ ?_
    · exact hj126 _
    · refine sm_gI 9 rfl fun v128 => ?_
      refine sm_cnd ?_ ?_
      · exact hj126 _
      · exact sm_rt _
  refine fun u5 => ?_
  refine sm_bnd ?_ ?_
  · refine sm_lp (fun r8 r8q hr8 => ?_) (u5, (0 : Int32))
    refine sm_un2 fun u6 u7 => ?_
    refine sm_gR 10 31 26 9 rfl ?_
    refine sm_isK ?_
    refine sm_aI 10 31 26 9 rfl fun v14 => ?_
    refine sm_cnd ?_ ?_
    · exact sm_rt _
    · refine sm_cnd ?_ ?_
      · exact hr8 _
      · refine sm_gR 11 31 27 108 rfl ?_
        refine sm_isK ?_
        refine sm_aI 11 31 27 108 rfl fun v20 => ?_
        refine sm_jo (fun u21 => ?_) fun j23 j23q hj23 => ?_
        · exact hr8 _
        refine sm_cnd ?_ ?_
        · exact hj23 _
        · refine sm_gR 14 31 30 108 rfl ?_
          refine sm_isK ?_
          refine sm_aI 14 31 30 108 rfl fun v28 => ?_
          refine sm_gR 10 31 26 9 rfl ?_
          refine sm_isK ?_
          refine sm_aI 10 31 26 9 rfl fun v32 => ?_
          refine sm_cnd ?_ ?_
          · exact hr8 _
          · refine sm_gR 15 31 31 108 rfl ?_
            refine sm_isK ?_
            refine sm_aI 15 31 31 108 rfl fun v37 => ?_
            refine sm_gR 10 31 26 9 rfl ?_
            refine sm_isK ?_
            refine sm_aI 10 31 26 9 rfl fun v41 => ?_
            refine sm_cnd ?_ ?_
            · exact hr8 _
            · exact hj23 _
  refine fun u9 => ?_
  refine sm_bnd ?_ ?_
  · refine sm_lp (fun r45 r45q hr45 => ?_) (u9, (0 : Int32))
    refine sm_un2 fun u43 u44 => ?_
    refine sm_gR 10 31 26 9 rfl ?_
    refine sm_isK ?_
    refine sm_aI 10 31 26 9 rfl fun v51 => ?_
    refine sm_cnd ?_ ?_
    · exact sm_rt _
    · refine sm_cnd ?_ ?_
      · exact sm_rt _
      · refine sm_gR 11 31 27 108 rfl ?_
        refine sm_isK ?_
        refine sm_aI 11 31 27 108 rfl fun v57 => ?_
        refine sm_bn0 (sm_X5_isTest v57) fun v58 => ?_
        refine sm_jo (fun u59 => ?_) fun j61 j61q hj61 => ?_
        · exact hr45 _
        refine sm_cnd ?_ ?_
        · exact hj61 _
        · refine sm_bn0 (sm_X5_circles u44) fun v63 => ?_
          refine sm_cnd ?_ ?_
          · exact hj61 _
          · exact hr45 _
  refine fun u46 => ?_
  refine sm_bn0 (sm_X5_may u46) fun v65 => ?_
  refine sm_cnd ?_ ?_
  · exact sm_rt _
  · refine sm_bnd ?_ ?_
    · refine sm_lp (fun r68 r68q hr68 => ?_) (0 : Int32)
      intro u67
      refine sm_gR 10 31 26 9 rfl ?_
      refine sm_isK ?_
      refine sm_aI 10 31 26 9 rfl fun v73 => ?_
      refine sm_cnd ?_ ?_
      · exact sm_rt _
      · refine sm_gI 9 rfl fun v75 => ?_
        refine sm_gR 11 31 27 108 rfl ?_
        refine sm_gR 11 31 27 108 rfl ?_
        refine sm_isK ?_
        refine sm_aI 11 31 27 108 rfl fun v80 => ?_
        refine sm_isK ?_
        refine sm_bI 11 31 27 108 rfl ?_
        refine sm_gR 12 31 28 108 rfl ?_
        refine sm_gR 12 31 28 108 rfl ?_
        refine sm_isK ?_
        refine sm_aI 12 31 28 108 rfl fun v87 => ?_
        refine sm_isK ?_
        refine sm_bI 12 31 28 108 rfl ?_
        refine sm_gR 13 31 29 108 rfl ?_
        refine sm_gR 13 31 29 108 rfl ?_
        refine sm_isK ?_
        refine sm_aI 13 31 29 108 rfl fun v94 => ?_
        refine sm_isK ?_
        refine sm_bI 13 31 29 108 rfl ?_
        refine sm_gR 14 31 30 108 rfl ?_
        refine sm_gR 14 31 30 108 rfl ?_
        refine sm_isK ?_
        refine sm_aI 14 31 30 108 rfl fun v101 => ?_
        refine sm_isK ?_
        refine sm_bI 14 31 30 108 rfl ?_
        refine sm_gR 15 31 31 108 rfl ?_
        refine sm_gR 15 31 31 108 rfl ?_
        refine sm_isK ?_
        refine sm_aI 15 31 31 108 rfl fun v108 => ?_
        refine sm_isK ?_
        refine sm_bI 15 31 31 108 rfl ?_
        exact hr68 _
    refine fun _ => ?_
    refine sm_gR 10 31 26 9 rfl ?_
    refine sm_gI 9 rfl fun v112 => ?_
    refine sm_gR 10 31 26 9 rfl ?_
    refine sm_isK ?_
    refine sm_aI 10 31 26 9 rfl fun v116 => ?_
    refine sm_isK ?_
    refine sm_bI 10 31 26 9 rfl ?_
    refine sm_gR 10 31 26 9 rfl ?_
    refine sm_isK ?_
    refine sm_bI 10 31 26 9 rfl ?_
    refine sm_gI 9 rfl fun v122 => ?_
    refine sm_pI 9 rfl ?_
    refine sm_gI 9 rfl fun v123 => ?_
    exact sm_rt _
def q_levelOf (a1 : Int32) : PM Int32 := qrt (((a1 &&& (1 : Int32)) + (a1 &&& (2 : Int32))) + ((3 : Int32) * ((a1 >>> ((2 : Int32) &&& 31)) &&& (1 : Int32))))
theorem sm_X5_levelOf (a1 : Int32) : SimM (q_levelOf a1) (f_X5_levelOf a1) := by
  unfold q_levelOf f_X5_levelOf
  exact sm_rt _
def q_meet (a1 : Int32) (a2 : Int32) : PM Unit := qc (a1 < 0) (qrt ()) (qz 16 96 (((8 : Int32) * a1) + a2) (1 : Int32) <| qrt ())
theorem sm_X5_meet (a1 : Int32) (a2 : Int32) : SimM (q_meet a1 a2) (f_X5_meet 0 a1 a2) := by
  unfold q_meet f_X5_meet
  refine sm_cnd ?_ ?_
  · exact sm_rt _
  · refine sm_gR 16 32 4 96 rfl ?_
    refine sm_isK ?_
    refine sm_bZ 16 32 4 96 rfl ?_
    exact sm_rt _
def q_weakest (a1 : Int32) : PM Int32 := qI 9 fun v1 => qbd (q_isIn a1 (0 : Int32) (v1 - (1 : Int32))) (fun v2 => qbd (q_may v2) (fun v3 => qc (v3 = 0) (qrt (0 : Int32)) (qbd (qlp (σ := Int32) (fun r6 => fun u5 => qc ((96 : Int32) ≤ u5) (qrt ()) (qz 16 96 u5 (0 : Int32) <| r6 (u5 + (1 : Int32)))) (0 : Int32)) (fun _ => qz 16 96 (0 : Int32) (1 : Int32) <| qbd (qlp (σ := Int32) (fun r16 => fun u15 => qc ((96 : Int32) ≤ u15) (qrt ()) (qlp (σ := Int32) (fun r20 => fun u19 => qc ((96 : Int32) ≤ u19) (r16 (u15 + (1 : Int32))) (qbd (qrt (((12 : Int32) * a1) + (u19 / (8 : Int32)))) (fun v22 => qa 16 96 u19 fun v26 => qc (v26 = 0) (r20 (u19 + (1 : Int32))) (qa 11 108 v22 fun v31 => qc ((5 : Int32) ≤ v31) (r20 (u19 + (1 : Int32))) (qa 11 108 v22 fun v36 => qbd (α := Int32) (qc (v36 = (4 : Int32)) (qrt (1 : Int32)) (qrt (0 : Int32))) (fun u37 => qbd (q_levelOf (u19 - ((u19 / (8 : Int32)) * (8 : Int32)))) (fun v38 => qa 12 108 v22 fun v42 => qbd (α := Int32) (qc (v38 < v42) (qrt (0 : Int32)) (qrt (1 : Int32))) (fun u43 => qbd (α := Unit) (qjo (σ := Unit) (fun _ => qa 14 108 v22 fun v58 => qa 11 108 v22 fun v62 => qbd (α := Int32) (qc (v62 = 0) (qa 12 108 v22 fun v70 => qrt ((u19 - ((u19 / (8 : Int32)) * (8 : Int32))) ||| ((1 : Int32) <<< (v70 &&& 31)))) (qrt (u19 - ((u19 / (8 : Int32)) * (8 : Int32))))) (fun u63 => qbd (q_meet v58 u63) (fun _ => qrt ()))) fun j72 => qc (u37 = 0) (j72 ()) (qc (u43 = 0) (qrt ()) (j72 ()))) (fun _ => qjo (σ := Int32) (fun u44 => qa 15 108 v22 fun v48 => qbd (q_meet v48 (u19 - ((u19 / (8 : Int32)) * (8 : Int32)))) (fun _ => r20 (u44 + (1 : Int32)))) fun j51 => qc (u37 = 0) (j51 u19) (qc (u43 = 0) (j51 u19) (r20 (u19 + (1 : Int32))))))))))))) (0 : Int32))) (0 : Int32)) (fun _ => qlp (σ := Int32 × Int32) (fun r81 => un2 fun u79 u80 => qc ((96 : Int32) ≤ u80) (qrt u79) (qa 16 96 u80 fun v86 => qbd (α := Int32) (qjo (σ := Unit) (fun _ => qrt (0 : Int32)) fun j98 => qc (v86 = 0) (j98 ()) (qa 11 108 (((12 : Int32) * a1) + (u80 / (8 : Int32))) fun v103 => qc (v103 = (5 : Int32)) (qrt (1 : Int32)) (j98 ()))) (fun u87 => qc (u87 = 0) (r81 (u79, (u80 + (1 : Int32)))) (qjo (σ := Int32) (fun u89 => qbd (q_levelOf (u89 - ((u89 / (8 : Int32)) * (8 : Int32)))) (fun v90 => r81 (v90, (u89 + (1 : Int32))))) fun j92 => qc (u79 = (-1 : Int32)) (j92 u80) (qbd (q_levelOf (u80 - ((u80 / (8 : Int32)) * (8 : Int32)))) (fun v94 => qc (u79 ≤ v94) (r81 (u79, (u80 + (1 : Int32)))) (j92 u80))))))) ((-1 : Int32), (0 : Int32)))))))
theorem sm_X5_weakest (a1 : Int32) : SimM (q_weakest a1) (f_X5_weakest 0 a1) := by
  unfold q_weakest f_X5_weakest
  refine sm_gI 9 rfl fun v1 => ?_
  refine sm_bn0 (sm_X5_isIn a1 (0 : Int32) (v1 - (1 : Int32))) fun v2 => ?_
  refine sm_bn0 (sm_X5_may v2) fun v3 => ?_
  refine sm_cnd ?_ ?_
  · exact sm_rt _
  · refine sm_bnd ?_ ?_
    · refine sm_lp (fun r6 r6q hr6 => ?_) (0 : Int32)
      intro u5
      refine sm_cnd ?_ ?_
      · exact sm_rt _
      · refine sm_gR 16 32 4 96 rfl ?_
        refine sm_isK ?_
        refine sm_bZ 16 32 4 96 rfl ?_
        exact hr6 _
    refine fun _ => ?_
    refine sm_gR 16 32 4 96 rfl ?_
    refine sm_isK ?_
    refine sm_bZ 16 32 4 96 rfl ?_
    refine sm_bnd ?_ ?_
    · refine sm_lp (fun r16 r16q hr16 => ?_) (0 : Int32)
      intro u15
      refine sm_cnd ?_ ?_
      · exact sm_rt _
      · refine sm_lp (fun r20 r20q hr20 => ?_) (0 : Int32)
        intro u19
        refine sm_cnd ?_ ?_
        · exact hr16 _
        · refine sm_bnd ?_ ?_
          · exact sm_rt _
          refine fun v22 => ?_
          refine sm_gR 16 32 4 96 rfl ?_
          refine sm_isK ?_
          refine sm_aI 16 32 4 96 rfl fun v26 => ?_
          refine sm_cnd ?_ ?_
          · exact hr20 _
          · refine sm_gR 11 31 27 108 rfl ?_
            refine sm_isK ?_
            refine sm_aI 11 31 27 108 rfl fun v31 => ?_
            refine sm_cnd ?_ ?_
            · exact hr20 _
            · refine sm_gR 11 31 27 108 rfl ?_
              refine sm_isK ?_
              refine sm_aI 11 31 27 108 rfl fun v36 => ?_
              refine sm_bnd ?_ ?_
              · refine sm_cnd ?_ ?_
                · exact sm_rt _
                · exact sm_rt _
              refine fun u37 => ?_
              refine sm_bn0 (sm_X5_levelOf (u19 - ((u19 / (8 : Int32)) * (8 : Int32)))) fun v38 => ?_
              refine sm_gR 12 31 28 108 rfl ?_
              refine sm_isK ?_
              refine sm_aI 12 31 28 108 rfl fun v42 => ?_
              refine sm_bnd ?_ ?_
              · refine sm_cnd ?_ ?_
                · exact sm_rt _
                · exact sm_rt _
              refine fun u43 => ?_
              refine sm_bnd ?_ ?_
              · refine sm_jo (fun _ => ?_) fun j72 j72q hj72 => ?_
                · refine sm_gR 14 31 30 108 rfl ?_
                  refine sm_isK ?_
                  refine sm_aI 14 31 30 108 rfl fun v58 => ?_
                  refine sm_gR 11 31 27 108 rfl ?_
                  refine sm_isK ?_
                  refine sm_aI 11 31 27 108 rfl fun v62 => ?_
                  refine sm_bnd ?_ ?_
                  · refine sm_cnd ?_ ?_
                    · refine sm_gR 12 31 28 108 rfl ?_
                      refine sm_isK ?_
                      refine sm_aI 12 31 28 108 rfl fun v70 => ?_
                      exact sm_rt _
                    · exact sm_rt _
                  refine fun u63 => ?_
                  refine sm_bn0 (sm_X5_meet v58 u63) fun _ => ?_
                  exact sm_rt _
                refine sm_cnd ?_ ?_
                · exact hj72 _
                · refine sm_cnd ?_ ?_
                  · exact sm_rt _
                  · exact hj72 _
              refine fun _ => ?_
              refine sm_jo (fun u44 => ?_) fun j51 j51q hj51 => ?_
              · refine sm_gR 15 31 31 108 rfl ?_
                refine sm_isK ?_
                refine sm_aI 15 31 31 108 rfl fun v48 => ?_
                refine sm_bn0 (sm_X5_meet v48 (u19 - ((u19 / (8 : Int32)) * (8 : Int32)))) fun _ => ?_
                exact hr20 _
              refine sm_cnd ?_ ?_
              · exact hj51 _
              · refine sm_cnd ?_ ?_
                · exact hj51 _
                · exact hr20 _
    refine fun _ => ?_
    refine sm_lp (fun r81 r81q hr81 => ?_) ((-1 : Int32), (0 : Int32))
    refine sm_un2 fun u79 u80 => ?_
    refine sm_cnd ?_ ?_
    · exact sm_rt _
    · refine sm_gR 16 32 4 96 rfl ?_
      refine sm_isK ?_
      refine sm_aI 16 32 4 96 rfl fun v86 => ?_
      refine sm_bnd ?_ ?_
      · refine sm_jo (fun _ => ?_) fun j98 j98q hj98 => ?_
        · exact sm_rt _
        refine sm_cnd ?_ ?_
        · exact hj98 _
        · refine sm_gR 11 31 27 108 rfl ?_
          refine sm_isK ?_
          refine sm_aI 11 31 27 108 rfl fun v103 => ?_
          refine sm_cnd ?_ ?_
          · exact sm_rt _
          · exact hj98 _
      refine fun u87 => ?_
      refine sm_cnd ?_ ?_
      · exact hr81 _
      · refine sm_jo (fun u89 => ?_) fun j92 j92q hj92 => ?_
        · refine sm_bn0 (sm_X5_levelOf (u89 - ((u89 / (8 : Int32)) * (8 : Int32)))) fun v90 => ?_
          exact hr81 _
        refine sm_cnd ?_ ?_
        · exact hj92 _
        · refine sm_bn0 (sm_X5_levelOf (u80 - ((u80 / (8 : Int32)) * (8 : Int32)))) fun v94 => ?_
          refine sm_cnd ?_ ?_
          · exact hr81 _
          · exact hj92 _
def q_points (a1 : Int32) (a2 : Int32) (a3 : Int32) : PM Int32 := qbd (q_isIn a1 (0 : Int32) (2 : Int32)) (fun v1 => qbd (α := Int32) (qjo (σ := Unit) (fun _ => qrt (0 : Int32)) fun j25 => qc (v1 = 0) (j25 ()) (qbd (α := Int32) (qc (a3 = 0) (qrt (0 : Int32)) (qrt (-1 : Int32))) (fun u27 => qbd (q_isIn a2 u27 (5 : Int32)) (fun v28 => qc (v28 = 0) (j25 ()) (qrt (1 : Int32)))))) (fun u2 => qbd (q_may u2) (fun v3 => qc (v3 = 0) (qrt (0 : Int32)) (qbd (α := Int32) (qc (a3 = 0) (qa 17 3 a1 fun v18 => qrt v18) (qa 18 3 a1 fun v22 => qrt v22)) (fun u5 => qc (a3 = 0) (qw 17 3 a1 a2 <| qrt u5) (qw 18 3 a1 a2 <| qrt u5))))))
theorem sm_X5_points (a1 : Int32) (a2 : Int32) (a3 : Int32) : SimM (q_points a1 a2 a3) (f_X5_points 0 a1 a2 a3) := by
  unfold q_points f_X5_points
  refine sm_bn0 (sm_X5_isIn a1 (0 : Int32) (2 : Int32)) fun v1 => ?_
  refine sm_bnd ?_ ?_
  · refine sm_jo (fun _ => ?_) fun j25 j25q hj25 => ?_
    · exact sm_rt _
    refine sm_cnd ?_ ?_
    · exact hj25 _
    · refine sm_bnd ?_ ?_
      · refine sm_cnd ?_ ?_
        · exact sm_rt _
        · exact sm_rt _
      refine fun u27 => ?_
      refine sm_bn0 (sm_X5_isIn a2 u27 (5 : Int32)) fun v28 => ?_
      refine sm_cnd ?_ ?_
      · exact hj25 _
      · exact sm_rt _
  refine fun u2 => ?_
  refine sm_bn0 (sm_X5_may u2) fun v3 => ?_
  refine sm_cnd ?_ ?_
  · exact sm_rt _
  · refine sm_bnd ?_ ?_
    · refine sm_cnd ?_ ?_
      · refine sm_gR 17 31 32 3 rfl ?_
        refine sm_isK ?_
        refine sm_aI 17 31 32 3 rfl fun v18 => ?_
        exact sm_rt _
      · refine sm_gR 18 31 33 3 rfl ?_
        refine sm_isK ?_
        refine sm_aI 18 31 33 3 rfl fun v22 => ?_
        exact sm_rt _
    refine fun u5 => ?_
    refine sm_cnd ?_ ?_
    · refine sm_gR 17 31 32 3 rfl ?_
      refine sm_isK ?_
      refine sm_bI 17 31 32 3 rfl ?_
      exact sm_rt _
    · refine sm_gR 18 31 33 3 rfl ?_
      refine sm_isK ?_
      refine sm_bI 18 31 33 3 rfl ?_
      exact sm_rt _
def q_wrongs (a1 : Int32) : PM Int32 := qlp (σ := Int32 × Int32) (fun r3 => un2 fun u1 u2 => qc ((3 : Int32) ≤ u2) (qrt u1) (qI 0 fun v5 => qa 4 18 (((3 : Int32) * a1) + u2) fun v9 => qc ((60 : Int32) ≤ (v5 - v9)) (r3 ((u1 + (0 : Int32)), (u2 + (1 : Int32)))) (r3 ((u1 + (1 : Int32)), (u2 + (1 : Int32)))))) ((0 : Int32), (0 : Int32))
theorem sm_X5_wrongs (a1 : Int32) : SimM (q_wrongs a1) (f_X5_wrongs 0 a1) := by
  unfold q_wrongs f_X5_wrongs
  refine sm_lp (fun r3 r3q hr3 => ?_) ((0 : Int32), (0 : Int32))
  refine sm_un2 fun u1 u2 => ?_
  refine sm_cnd ?_ ?_
  · exact sm_rt _
  · refine sm_gI 0 rfl fun v5 => ?_
    refine sm_gR 4 31 25 18 rfl ?_
    refine sm_isK ?_
    refine sm_aI 4 31 25 18 rfl fun v9 => ?_
    refine sm_cnd ?_ ?_
    · exact hr3 _
    · exact hr3 _
def q_pointsOf (a1 : Int32) (a2 : Int32) : PM Int32 := qc (a2 = 0) (qa 17 3 a1 fun v5 => qrt v5) (qa 18 3 a1 fun v9 => qc (v9 = (-1 : Int32)) (qa 17 3 a1 fun v14 => qrt v14) (qa 18 3 a1 fun v18 => qrt v18))
theorem sm_X5_pointsOf (a1 : Int32) (a2 : Int32) : SimM (q_pointsOf a1 a2) (f_X5_pointsOf 0 a1 a2) := by
  unfold q_pointsOf f_X5_pointsOf
  refine sm_cnd ?_ ?_
  · refine sm_gR 17 31 32 3 rfl ?_
    refine sm_isK ?_
    refine sm_aI 17 31 32 3 rfl fun v5 => ?_
    exact sm_rt _
  · refine sm_gR 18 31 33 3 rfl ?_
    refine sm_isK ?_
    refine sm_aI 18 31 33 3 rfl fun v9 => ?_
    refine sm_cnd ?_ ?_
    · refine sm_gR 17 31 32 3 rfl ?_
      refine sm_isK ?_
      refine sm_aI 17 31 32 3 rfl fun v14 => ?_
      exact sm_rt _
    · refine sm_gR 18 31 33 3 rfl ?_
      refine sm_isK ?_
      refine sm_aI 18 31 33 3 rfl fun v18 => ?_
      exact sm_rt _
def q_riskOf (a1 : Int32) (a2 : Int32) : PM Int32 := qa 20 60 a1 fun v4 => qbd (q_wrongs v4) (fun v5 => qbd (q_pointsOf (2 : Int32) a2) (fun v6 => qa 21 60 a1 fun v11 => qa 5 36 (((6 : Int32) * v4) + v11) fun v14 => qbd (α := Int32) (qc (v14 = 0) (qbd (q_pointsOf (0 : Int32) a2) (fun v28 => qrt v28)) (qrt (0 : Int32))) (fun u15 => qa 22 60 a1 fun v20 => qa 6 36 (((6 : Int32) * v4) + v20) fun v23 => qc (v23 = 0) (qbd (q_pointsOf (1 : Int32) a2) (fun v25 => qrt (((v5 * v6) + u15) + v25))) (qrt (((v5 * v6) + u15) + (0 : Int32))))))
theorem sm_X5_riskOf (a1 : Int32) (a2 : Int32) : SimM (q_riskOf a1 a2) (f_X5_riskOf 0 a1 a2) := by
  unfold q_riskOf f_X5_riskOf
  refine sm_gR 20 31 34 60 rfl ?_
  refine sm_isK ?_
  refine sm_aI 20 31 34 60 rfl fun v4 => ?_
  refine sm_bn0 (sm_X5_wrongs v4) fun v5 => ?_
  refine sm_bn0 (sm_X5_pointsOf (2 : Int32) a2) fun v6 => ?_
  refine sm_gR 5 32 0 36 rfl ?_
  refine sm_gR 21 31 35 60 rfl ?_
  refine sm_isK ?_
  refine sm_aI 21 31 35 60 rfl fun v11 => ?_
  refine sm_isK ?_
  refine sm_aI 5 32 0 36 rfl fun v14 => ?_
  refine sm_bnd ?_ ?_
  · refine sm_cnd ?_ ?_
    · refine sm_bn0 (sm_X5_pointsOf (0 : Int32) a2) fun v28 => ?_
      exact sm_rt _
    · exact sm_rt _
  refine fun u15 => ?_
  refine sm_gR 6 32 1 36 rfl ?_
  refine sm_gR 22 31 36 60 rfl ?_
  refine sm_isK ?_
  refine sm_aI 22 31 36 60 rfl fun v20 => ?_
  refine sm_isK ?_
  refine sm_aI 6 32 1 36 rfl fun v23 => ?_
  refine sm_cnd ?_ ?_
  · refine sm_bn0 (sm_X5_pointsOf (1 : Int32) a2) fun v25 => ?_
    exact sm_rt _
  · exact sm_rt _
def q_shownIn (a1 : Int32) : PM Int32 := qlp (σ := Int32 × Int32) (fun r3 => un2 fun u1 u2 => qc ((3 : Int32) ≤ u2) (qrt u1) (qa 29 180 (((3 : Int32) * a1) + u2) fun v8 => qc (v8 = (-1 : Int32)) (r3 ((u1 ||| (0 : Int32)), (u2 + (1 : Int32)))) (r3 ((u1 ||| ((1 : Int32) <<< (u2 &&& 31))), (u2 + (1 : Int32)))))) ((0 : Int32), (0 : Int32))
theorem sm_X5_shownIn (a1 : Int32) : SimM (q_shownIn a1) (f_X5_shownIn 0 a1) := by
  unfold q_shownIn f_X5_shownIn
  refine sm_lp (fun r3 r3q hr3 => ?_) ((0 : Int32), (0 : Int32))
  refine sm_un2 fun u1 u2 => ?_
  refine sm_cnd ?_ ?_
  · exact sm_rt _
  · refine sm_gR 29 31 43 180 rfl ?_
    refine sm_isK ?_
    refine sm_aI 29 31 43 180 rfl fun v8 => ?_
    refine sm_cnd ?_ ?_
    · exact hr3 _
    · exact hr3 _
def q_holds (a1 : Int32) (a2 : Int32) : PM Int32 := qa 20 60 a1 fun v4 => qa 11 108 a2 fun v8 => qc (v8 = (1 : Int32)) (qa 21 60 a1 fun v14 => qa 5 36 (((6 : Int32) * v4) + v14) fun v17 => qas ((v17 = 0) ∨ (v17 = 1)) (qrt v17)) (qa 11 108 a2 fun v21 => qc (v21 = (2 : Int32)) (qbd (q_riskOf a1 (0 : Int32)) (fun v23 => qa 12 108 a2 fun v27 => qc (v23 < v27) (qas (((0 : Int32) = 0) ∨ ((0 : Int32) = 1)) (qrt (0 : Int32))) (qas (((1 : Int32) = 0) ∨ ((1 : Int32) = 1)) (qrt (1 : Int32))))) (qa 11 108 a2 fun v32 => qc (v32 = (3 : Int32)) (qa 12 108 a2 fun v38 => qa 1 18 (((3 : Int32) * v4) + v38) fun v41 => qc (v41 = (1 : Int32)) (qas (((1 : Int32) = 0) ∨ ((1 : Int32) = 1)) (qrt (1 : Int32))) (qas (((0 : Int32) = 0) ∨ ((0 : Int32) = 1)) (qrt (0 : Int32)))) (qbd (q_shownIn a1) (fun v43 => qbd (q_levelOf v43) (fun v44 => qa 12 108 a2 fun v48 => qc (v44 < v48) (qas (((0 : Int32) = 0) ∨ ((0 : Int32) = 1)) (qrt (0 : Int32))) (qas (((1 : Int32) = 0) ∨ ((1 : Int32) = 1)) (qrt (1 : Int32))))))))
theorem sm_X5_holds (a1 : Int32) (a2 : Int32) : SimM (q_holds a1 a2) (f_X5_holds 0 a1 a2) := by
  unfold q_holds f_X5_holds
  refine sm_gR 20 31 34 60 rfl ?_
  refine sm_isK ?_
  refine sm_aI 20 31 34 60 rfl fun v4 => ?_
  refine sm_gR 11 31 27 108 rfl ?_
  refine sm_isK ?_
  refine sm_aI 11 31 27 108 rfl fun v8 => ?_
  refine sm_cnd ?_ ?_
  · refine sm_gR 5 32 0 36 rfl ?_
    refine sm_gR 21 31 35 60 rfl ?_
    refine sm_isK ?_
    refine sm_aI 21 31 35 60 rfl fun v14 => ?_
    refine sm_isK ?_
    refine sm_aI 5 32 0 36 rfl fun v17 => ?_
    refine sm_asr ?_
    exact sm_rt _
  · refine sm_gR 11 31 27 108 rfl ?_
    refine sm_isK ?_
    refine sm_aI 11 31 27 108 rfl fun v21 => ?_
    refine sm_cnd ?_ ?_
    · refine sm_bn0 (sm_X5_riskOf a1 (0 : Int32)) fun v23 => ?_
      refine sm_gR 12 31 28 108 rfl ?_
      refine sm_isK ?_
      refine sm_aI 12 31 28 108 rfl fun v27 => ?_
      refine sm_cnd ?_ ?_
      · refine sm_asr ?_
        exact sm_rt _
      · refine sm_asr ?_
        exact sm_rt _
    · refine sm_gR 11 31 27 108 rfl ?_
      refine sm_isK ?_
      refine sm_aI 11 31 27 108 rfl fun v32 => ?_
      refine sm_cnd ?_ ?_
      · refine sm_gR 1 31 22 18 rfl ?_
        refine sm_gR 12 31 28 108 rfl ?_
        refine sm_isK ?_
        refine sm_aI 12 31 28 108 rfl fun v38 => ?_
        refine sm_isK ?_
        refine sm_aI 1 31 22 18 rfl fun v41 => ?_
        refine sm_cnd ?_ ?_
        · refine sm_asr ?_
          exact sm_rt _
        · refine sm_asr ?_
          exact sm_rt _
      · refine sm_bn0 (sm_X5_shownIn a1) fun v43 => ?_
        refine sm_bn0 (sm_X5_levelOf v43) fun v44 => ?_
        refine sm_gR 12 31 28 108 rfl ?_
        refine sm_isK ?_
        refine sm_aI 12 31 28 108 rfl fun v48 => ?_
        refine sm_cnd ?_ ?_
        · refine sm_asr ?_
          exact sm_rt _
        · refine sm_asr ?_
          exact sm_rt _
def q_newSession (a1 : Int32) (a2 : Int32) : PM Int32 := qI 30 fun v1 => qw 31 60 v1 a1 <| qI 0 fun v6 => qw 32 60 v1 v6 <| qI 0 fun v10 => qw 33 60 v1 v10 <| qw 34 60 v1 a2 <| qz 35 60 v1 (1 : Int32) <| qbd (qlp (σ := Int32) (fun r20 => fun u19 => qc ((3 : Int32) ≤ u19) (qrt ()) (qw 36 180 (((3 : Int32) * v1) + u19) (-1 : Int32) <| r20 (u19 + (1 : Int32)))) (0 : Int32)) (fun _ => qI 30 fun v26 => qW 30 (v26 + (1 : Int32)) <| qbd (q_write (0 : Int32) v1) (fun _ => qrt v1))
theorem sm_X5_newSession (a1 : Int32) (a2 : Int32) : SimM (q_newSession a1 a2) (f_X5_newSession 0 a1 a2) := by
  unfold q_newSession f_X5_newSession
  refine sm_gI 30 rfl fun v1 => ?_
  refine sm_gR 31 31 44 60 rfl ?_
  refine sm_isK ?_
  refine sm_bI 31 31 44 60 rfl ?_
  refine sm_gR 32 31 45 60 rfl ?_
  refine sm_gI 0 rfl fun v6 => ?_
  refine sm_isK ?_
  refine sm_bI 32 31 45 60 rfl ?_
  refine sm_gR 33 31 46 60 rfl ?_
  refine sm_gI 0 rfl fun v10 => ?_
  refine sm_isK ?_
  refine sm_bI 33 31 46 60 rfl ?_
  refine sm_gR 34 31 47 60 rfl ?_
  refine sm_isK ?_
  refine sm_bI 34 31 47 60 rfl ?_
  refine sm_gR 35 32 5 60 rfl ?_
  refine sm_isK ?_
  refine sm_bZ 35 32 5 60 rfl ?_
  refine sm_bnd ?_ ?_
  · refine sm_lp (fun r20 r20q hr20 => ?_) (0 : Int32)
    intro u19
    refine sm_cnd ?_ ?_
    · exact sm_rt _
    · refine sm_gR 36 31 48 180 rfl ?_
      refine sm_isK ?_
      refine sm_bI 36 31 48 180 rfl ?_
      exact hr20 _
  refine fun _ => ?_
  refine sm_gI 30 rfl fun v26 => ?_
  refine sm_pI 30 rfl ?_
  refine sm_bn0 (sm_X5_write (0 : Int32) v1) fun _ => ?_
  exact sm_rt _
def q_grant (a1 : Int32) : PM Unit := qI 30 fun v1 => qc (v1 = (60 : Int32)) (qw 25 60 a1 (2 : Int32) <| qrt ()) (qa 20 60 a1 fun v9 => qw 25 60 a1 (1 : Int32) <| qbd (q_newSession v9 (-1 : Int32)) (fun v14 => qw 28 60 a1 v14 <| qbd (qlp (σ := Int32) (fun r18 => fun u17 => qc ((3 : Int32) ≤ u17) (qrt ()) (qa 28 60 a1 fun v25 => qa 29 180 (((3 : Int32) * a1) + u17) fun v29 => qw 36 180 (((3 : Int32) * v25) + u17) v29 <| r18 (u17 + (1 : Int32)))) (0 : Int32)) (fun _ => qa 21 60 a1 fun v36 => qz 5 36 (((6 : Int32) * v9) + v36) (1 : Int32) <| qa 22 60 a1 fun v43 => qz 6 36 (((6 : Int32) * v9) + v43) (1 : Int32) <| qrt ())))
theorem sm_X5_grant (a1 : Int32) : SimM (q_grant a1) (f_X5_grant 0 a1) := by
  unfold q_grant f_X5_grant
  refine sm_gI 30 rfl fun v1 => ?_
  refine sm_cnd ?_ ?_
  · refine sm_gR 25 31 39 60 rfl ?_
    refine sm_isK ?_
    refine sm_bI 25 31 39 60 rfl ?_
    exact sm_rt _
  · refine sm_gR 20 31 34 60 rfl ?_
    refine sm_isK ?_
    refine sm_aI 20 31 34 60 rfl fun v9 => ?_
    refine sm_gR 25 31 39 60 rfl ?_
    refine sm_isK ?_
    refine sm_bI 25 31 39 60 rfl ?_
    refine sm_gR 28 31 42 60 rfl ?_
    refine sm_bn0 (sm_X5_newSession v9 (-1 : Int32)) fun v14 => ?_
    refine sm_isK ?_
    refine sm_bI 28 31 42 60 rfl ?_
    refine sm_bnd ?_ ?_
    · refine sm_lp (fun r18 r18q hr18 => ?_) (0 : Int32)
      intro u17
      refine sm_cnd ?_ ?_
      · exact sm_rt _
      · refine sm_gR 36 31 48 180 rfl ?_
        refine sm_gR 28 31 42 60 rfl ?_
        refine sm_isK ?_
        refine sm_aI 28 31 42 60 rfl fun v25 => ?_
        refine sm_gR 29 31 43 180 rfl ?_
        refine sm_isK ?_
        refine sm_aI 29 31 43 180 rfl fun v29 => ?_
        refine sm_isK ?_
        refine sm_bI 36 31 48 180 rfl ?_
        exact hr18 _
    refine fun _ => ?_
    refine sm_gR 5 32 0 36 rfl ?_
    refine sm_gR 21 31 35 60 rfl ?_
    refine sm_isK ?_
    refine sm_aI 21 31 35 60 rfl fun v36 => ?_
    refine sm_isK ?_
    refine sm_bZ 5 32 0 36 rfl ?_
    refine sm_gR 6 32 1 36 rfl ?_
    refine sm_gR 22 31 36 60 rfl ?_
    refine sm_isK ?_
    refine sm_aI 22 31 36 60 rfl fun v43 => ?_
    refine sm_isK ?_
    refine sm_bZ 6 32 1 36 rfl ?_
    exact sm_rt _
def q_go (a1 : Int32) (a2 : Int32) : PM Unit := qa 23 60 a1 fun v4 => qbd (qlp (σ := Int32 × Int32) (fun r7 => un2 fun u5 u6 => qc (u5 = (-1 : Int32)) (qrt (u5, u6)) (qa 11 108 u6 fun v15 => qbd (q_isTest v15) (fun v16 => qc (v16 = 0) (qrt (u5, u6)) (qbd (q_holds a1 u6) (fun v18 => qbd (α := Int32) (qc (v18 = 0) (qa 15 108 u6 fun v29 => qrt v29) (qa 14 108 u6 fun v33 => qrt v33)) (fun u19 => qa 23 60 a1 fun v23 => r7 (u19, (((12 : Int32) * v23) + u19)))))))) (a2, (((12 : Int32) * v4) + a2))) (un2 fun u8 u9 => qw 24 60 a1 u8 <| qw 26 60 a1 (0 : Int32) <| qjo (σ := Unit) (fun _ => qw 25 60 a1 (2 : Int32) <| qrt ()) fun j44 => qc (u8 = (-1 : Int32)) (j44 ()) (qa 11 108 u9 fun v49 => qc (v49 = (6 : Int32)) (j44 ()) (qa 11 108 u9 fun v54 => qc (v54 = (5 : Int32)) (qbd (q_grant a1) (fun _ => qrt ())) (qrt ()))))
theorem sm_X5_go (a1 : Int32) (a2 : Int32) : SimM (q_go a1 a2) (f_X5_go 0 a1 a2) := by
  unfold q_go f_X5_go
  refine sm_gR 23 31 37 60 rfl ?_
  refine sm_isK ?_
  refine sm_aI 23 31 37 60 rfl fun v4 => ?_
  refine sm_bnd ?_ ?_
  · refine sm_lp (fun r7 r7q hr7 => ?_) (a2, (((12 : Int32) * v4) + a2))
    refine sm_un2 fun u5 u6 => ?_
    refine sm_cnd ?_ ?_
    · exact sm_rt _
    · refine sm_gR 11 31 27 108 rfl ?_
      refine sm_isK ?_
      refine sm_aI 11 31 27 108 rfl fun v15 => ?_
      refine sm_bn0 (sm_X5_isTest v15) fun v16 => ?_
      refine sm_cnd ?_ ?_
      · exact sm_rt _
      · refine sm_bn0 (sm_X5_holds a1 u6) fun v18 => ?_
        refine sm_bnd ?_ ?_
        · refine sm_cnd ?_ ?_
          · refine sm_gR 15 31 31 108 rfl ?_
            refine sm_isK ?_
            refine sm_aI 15 31 31 108 rfl fun v29 => ?_
            exact sm_rt _
          · refine sm_gR 14 31 30 108 rfl ?_
            refine sm_isK ?_
            refine sm_aI 14 31 30 108 rfl fun v33 => ?_
            exact sm_rt _
        refine fun u19 => ?_
        refine sm_gR 23 31 37 60 rfl ?_
        refine sm_isK ?_
        refine sm_aI 23 31 37 60 rfl fun v23 => ?_
        exact hr7 _
  refine sm_un2 fun u8 u9 => ?_
  refine sm_gR 24 31 38 60 rfl ?_
  refine sm_isK ?_
  refine sm_bI 24 31 38 60 rfl ?_
  refine sm_gR 26 31 40 60 rfl ?_
  refine sm_isK ?_
  refine sm_bI 26 31 40 60 rfl ?_
  refine sm_jo (fun _ => ?_) fun j44 j44q hj44 => ?_
  · refine sm_gR 25 31 39 60 rfl ?_
    refine sm_isK ?_
    refine sm_bI 25 31 39 60 rfl ?_
    exact sm_rt _
  refine sm_cnd ?_ ?_
  · exact hj44 _
  · refine sm_gR 11 31 27 108 rfl ?_
    refine sm_isK ?_
    refine sm_aI 11 31 27 108 rfl fun v49 => ?_
    refine sm_cnd ?_ ?_
    · exact hj44 _
    · refine sm_gR 11 31 27 108 rfl ?_
      refine sm_isK ?_
      refine sm_aI 11 31 27 108 rfl fun v54 => ?_
      refine sm_cnd ?_ ?_
      · refine sm_bn0 (sm_X5_grant a1) fun _ => ?_
        exact sm_rt _
      · exact sm_rt _
def q_begin (a1 : Int32) (a2 : Int32) (a3 : Int32) : PM Int32 := qbd (q_isSix a1) (fun v1 => qbd (α := Int32) (qjo (σ := Unit) (fun _ => qrt (0 : Int32)) fun j50 => qc (v1 = 0) (j50 ()) (qbd (q_isSix a2) (fun v52 => qc (v52 = 0) (j50 ()) (qbd (q_isSix a3) (fun v54 => qc (v54 = 0) (j50 ()) (qrt (1 : Int32))))))) (fun u2 => qbd (α := Int32) (qjo (σ := Unit) (fun _ => qrt (0 : Int32)) fun j37 => qc (u2 = 0) (j37 ()) (qI 9 fun v39 => qc (v39 ≤ 0) (j37 ()) (qa 7 6 a1 fun v44 => qc (v44 = 0) (qI 19 fun v46 => qc ((60 : Int32) ≤ v46) (j37 ()) (qrt (1 : Int32))) (j37 ())))) (fun u3 => qbd (q_mayBoth u2 u3) (fun v4 => qc (v4 = 0) (qrt (0 : Int32)) (qI 19 fun v6 => qw 20 60 v6 a1 <| qw 21 60 v6 a2 <| qw 22 60 v6 a3 <| qI 9 fun v17 => qw 23 60 v6 (v17 - (1 : Int32)) <| qw 25 60 v6 (0 : Int32) <| qw 28 60 v6 (-1 : Int32) <| qbd (qlp (σ := Int32) (fun r27 => fun u26 => qc ((3 : Int32) ≤ u26) (qrt ()) (qw 29 180 (((3 : Int32) * v6) + u26) (-1 : Int32) <| r27 (u26 + (1 : Int32)))) (0 : Int32)) (fun _ => qI 19 fun v33 => qW 19 (v33 + (1 : Int32)) <| qbd (q_go v6 (0 : Int32)) (fun _ => qrt v6)))))))
theorem sm_X5_begin (a1 : Int32) (a2 : Int32) (a3 : Int32) : SimM (q_begin a1 a2 a3) (f_X5_begin 0 a1 a2 a3) := by
  unfold q_begin f_X5_begin
  refine sm_bn0 (sm_X5_isSix a1) fun v1 => ?_
  refine sm_bnd ?_ ?_
  · refine sm_jo (fun _ => ?_) fun j50 j50q hj50 => ?_
    · exact sm_rt _
    refine sm_cnd ?_ ?_
    · exact hj50 _
    · refine sm_bn0 (sm_X5_isSix a2) fun v52 => ?_
      refine sm_cnd ?_ ?_
      · exact hj50 _
      · refine sm_bn0 (sm_X5_isSix a3) fun v54 => ?_
        refine sm_cnd ?_ ?_
        · exact hj50 _
        · exact sm_rt _
  refine fun u2 => ?_
  refine sm_bnd ?_ ?_
  · refine sm_jo (fun _ => ?_) fun j37 j37q hj37 => ?_
    · exact sm_rt _
    refine sm_cnd ?_ ?_
    · exact hj37 _
    · refine sm_gI 9 rfl fun v39 => ?_
      refine sm_cnd ?_ ?_
      · exact hj37 _
      · refine sm_gR 7 32 2 6 rfl ?_
        refine sm_isK ?_
        refine sm_aI 7 32 2 6 rfl fun v44 => ?_
        refine sm_cnd ?_ ?_
        · refine sm_gI 19 rfl fun v46 => ?_
          refine sm_cnd ?_ ?_
          · exact hj37 _
          · exact sm_rt _
        · exact hj37 _
  refine fun u3 => ?_
  refine sm_bn0 (sm_X5_mayBoth u2 u3) fun v4 => ?_
  refine sm_cnd ?_ ?_
  · exact sm_rt _
  · refine sm_gI 19 rfl fun v6 => ?_
    refine sm_gR 20 31 34 60 rfl ?_
    refine sm_isK ?_
    refine sm_bI 20 31 34 60 rfl ?_
    refine sm_gR 21 31 35 60 rfl ?_
    refine sm_isK ?_
    refine sm_bI 21 31 35 60 rfl ?_
    refine sm_gR 22 31 36 60 rfl ?_
    refine sm_isK ?_
    refine sm_bI 22 31 36 60 rfl ?_
    refine sm_gR 23 31 37 60 rfl ?_
    refine sm_gI 9 rfl fun v17 => ?_
    refine sm_isK ?_
    refine sm_bI 23 31 37 60 rfl ?_
    refine sm_gR 25 31 39 60 rfl ?_
    refine sm_isK ?_
    refine sm_bI 25 31 39 60 rfl ?_
    refine sm_gR 28 31 42 60 rfl ?_
    refine sm_isK ?_
    refine sm_bI 28 31 42 60 rfl ?_
    refine sm_bnd ?_ ?_
    · refine sm_lp (fun r27 r27q hr27 => ?_) (0 : Int32)
      intro u26
      refine sm_cnd ?_ ?_
      · exact sm_rt _
      · refine sm_gR 29 31 43 180 rfl ?_
        refine sm_isK ?_
        refine sm_bI 29 31 43 180 rfl ?_
        exact hr27 _
    refine fun _ => ?_
    refine sm_gI 19 rfl fun v33 => ?_
    refine sm_pI 19 rfl ?_
    refine sm_bn0 (sm_X5_go v6 (0 : Int32)) fun _ => ?_
    exact sm_rt _
def q_isAttempt (a1 : Int32) : PM Int32 := qI 19 fun v1 => qbd (q_isIn a1 (0 : Int32) (v1 - (1 : Int32))) (fun v2 => qas ((v2 = 0) ∨ (v2 = 1)) (qrt v2))
theorem sm_X5_isAttempt (a1 : Int32) : SimM (q_isAttempt a1) (f_X5_isAttempt 0 a1) := by
  unfold q_isAttempt f_X5_isAttempt
  refine sm_gI 19 rfl fun v1 => ?_
  refine sm_bn0 (sm_X5_isIn a1 (0 : Int32) (v1 - (1 : Int32))) fun v2 => ?_
  refine sm_asr ?_
  exact sm_rt _
def q_mayAll (a1 : Int32) (a2 : Int32) (a3 : Int32) : PM Int32 := qbd (α := Int32) (qc (a1 = 0) (qrt (1 : Int32)) (qc (a2 = 0) (qrt (2 : Int32)) (qc (a3 = 0) (qrt (3 : Int32)) (qrt (0 : Int32))))) (fun u1 => qW 82 u1 <| qI 82 fun v2 => qc (v2 = 0) (qas (((1 : Int32) = 0) ∨ ((1 : Int32) = 1)) (qrt (1 : Int32))) (qas (((0 : Int32) = 0) ∨ ((0 : Int32) = 1)) (qrt (0 : Int32))))
theorem sm_X5_mayAll (a1 : Int32) (a2 : Int32) (a3 : Int32) : SimM (q_mayAll a1 a2 a3) (f_X5_mayAll 0 a1 a2 a3) := by
  unfold q_mayAll f_X5_mayAll
  refine sm_bnd ?_ ?_
  · refine sm_cnd ?_ ?_
    · exact sm_rt _
    · refine sm_cnd ?_ ?_
      · exact sm_rt _
      · refine sm_cnd ?_ ?_
        · exact sm_rt _
        · exact sm_rt _
  refine fun u1 => ?_
  refine sm_pI 82 rfl ?_
  refine sm_gI 82 rfl fun v2 => ?_
  refine sm_cnd ?_ ?_
  · refine sm_asr ?_
    exact sm_rt _
  · refine sm_asr ?_
    exact sm_rt _
def q_suspend (a1 : Int32) (a2 : Int32) : PM Unit := qw 1 18 (((3 : Int32) * a1) + a2) (2 : Int32) <| qbd (q_write (4 : Int32) (((3 : Int32) * a1) + a2)) (fun _ => qrt ())
theorem sm_X5_suspend (a1 : Int32) (a2 : Int32) : SimM (q_suspend a1 a2) (f_X5_suspend 0 a1 a2) := by
  unfold q_suspend f_X5_suspend
  refine sm_gR 1 31 22 18 rfl ?_
  refine sm_isK ?_
  refine sm_bI 1 31 22 18 rfl ?_
  refine sm_bn0 (sm_X5_write (4 : Int32) (((3 : Int32) * a1) + a2)) fun _ => ?_
  exact sm_rt _
def q_answers (a1 : Int32) (a2 : Int32) (a3 : Int32) (a4 : Int32) : PM Int32 := qa 1 18 (((3 : Int32) * a1) + a2) fun v4 => qjo (σ := Unit) (fun _ => qa 4 18 (((3 : Int32) * a1) + (1 : Int32)) fun v9 => qw 4 18 ((3 : Int32) * a1) v9 <| qa 4 18 (((3 : Int32) * a1) + (2 : Int32)) fun v16 => qw 4 18 (((3 : Int32) * a1) + (1 : Int32)) v16 <| qI 0 fun v20 => qw 4 18 (((3 : Int32) * a1) + (2 : Int32)) v20 <| qas (((0 : Int32) = 0) ∨ ((0 : Int32) = 1)) (qrt (0 : Int32))) fun j24 => qc (v4 = (1 : Int32)) (qbd (α := Int32) (qjo (σ := Unit) (fun _ => qrt (0 : Int32)) fun j56 => qc (a2 = (2 : Int32)) (qc (a3 = 0) (j56 ()) (qa 3 6 a1 fun v62 => qc (v62 < a4) (j56 ()) (qrt (1 : Int32)))) (j56 ())) (fun u26 => qjo (σ := Unit) (fun _ => qa 2 18 (((3 : Int32) * a1) + a2) fun v30 => qbd (α := Int32) (qc (a3 = 0) (qrt (1 : Int32)) (qrt (0 : Int32))) (fun u31 => qw 2 18 (((3 : Int32) * a1) + a2) (v30 + u31) <| qjo (σ := Unit) (fun _ => qbd (q_suspend a1 a2) (fun _ => j24 ())) fun j34 => qc (u26 = 0) (qa 2 18 (((3 : Int32) * a1) + a2) fun v39 => qc (v39 = (5 : Int32)) (j34 ()) (j24 ())) (j34 ()))) fun j44 => qc (a3 = 0) (j44 ()) (qc (u26 = 0) (qw 2 18 (((3 : Int32) * a1) + a2) (0 : Int32) <| qc (a2 = (2 : Int32)) (qw 3 6 a1 a4 <| qas (((1 : Int32) = 0) ∨ ((1 : Int32) = 1)) (qrt (1 : Int32))) (qas (((1 : Int32) = 0) ∨ ((1 : Int32) = 1)) (qrt (1 : Int32)))) (j44 ())))) (j24 ())
theorem sm_X5_answers (a1 : Int32) (a2 : Int32) (a3 : Int32) (a4 : Int32) : SimM (q_answers a1 a2 a3 a4) (f_X5_answers 0 a1 a2 a3 a4) := by
  unfold q_answers f_X5_answers
  refine sm_gR 1 31 22 18 rfl ?_
  refine sm_isK ?_
  refine sm_aI 1 31 22 18 rfl fun v4 => ?_
  refine sm_jo (fun _ => ?_) fun j24 j24q hj24 => ?_
  · refine sm_gR 4 31 25 18 rfl ?_
    refine sm_gR 4 31 25 18 rfl ?_
    refine sm_isK ?_
    refine sm_aI 4 31 25 18 rfl fun v9 => ?_
    refine sm_isK ?_
    refine sm_bI 4 31 25 18 rfl ?_
    refine sm_gR 4 31 25 18 rfl ?_
    refine sm_gR 4 31 25 18 rfl ?_
    refine sm_isK ?_
    refine sm_aI 4 31 25 18 rfl fun v16 => ?_
    refine sm_isK ?_
    refine sm_bI 4 31 25 18 rfl ?_
    refine sm_gR 4 31 25 18 rfl ?_
    refine sm_gI 0 rfl fun v20 => ?_
    refine sm_isK ?_
    refine sm_bI 4 31 25 18 rfl ?_
    refine sm_asr ?_
    exact sm_rt _
  refine sm_cnd ?_ ?_
  · refine sm_bnd ?_ ?_
    · refine sm_jo (fun _ => ?_) fun j56 j56q hj56 => ?_
      · exact sm_rt _
      refine sm_cnd ?_ ?_
      · refine sm_cnd ?_ ?_
        · exact hj56 _
        · refine sm_gR 3 31 24 6 rfl ?_
          refine sm_isK ?_
          refine sm_aI 3 31 24 6 rfl fun v62 => ?_
          refine sm_cnd ?_ ?_
          · exact hj56 _
          · exact sm_rt _
      · exact hj56 _
    refine fun u26 => ?_
    refine sm_jo (fun _ => ?_) fun j44 j44q hj44 => ?_
    · refine sm_gR 2 31 23 18 rfl ?_
      refine sm_isK ?_
      refine sm_aI 2 31 23 18 rfl fun v30 => ?_
      refine sm_bnd ?_ ?_
      · refine sm_cnd ?_ ?_
        · exact sm_rt _
        · exact sm_rt _
      refine fun u31 => ?_
      refine sm_bI 2 31 23 18 rfl ?_
      refine sm_jo (fun _ => ?_) fun j34 j34q hj34 => ?_
      · refine sm_bn0 (sm_X5_suspend a1 a2) fun _ => ?_
        exact hj24 _
      refine sm_cnd ?_ ?_
      · refine sm_gR 2 31 23 18 rfl ?_
        refine sm_isK ?_
        refine sm_aI 2 31 23 18 rfl fun v39 => ?_
        refine sm_cnd ?_ ?_
        · exact hj34 _
        · exact hj24 _
      · exact hj34 _
    refine sm_cnd ?_ ?_
    · exact hj44 _
    · refine sm_cnd ?_ ?_
      · refine sm_gR 2 31 23 18 rfl ?_
        refine sm_isK ?_
        refine sm_bI 2 31 23 18 rfl ?_
        refine sm_cnd ?_ ?_
        · refine sm_gR 3 31 24 6 rfl ?_
          refine sm_isK ?_
          refine sm_bI 3 31 24 6 rfl ?_
          refine sm_asr ?_
          exact sm_rt _
        · refine sm_asr ?_
          exact sm_rt _
      · exact hj44 _
  · exact hj24 _
def q_answer (a1 : Int32) (a2 : Int32) (a3 : Int32) : PM Int32 := qbd (q_isAttempt a1) (fun v1 => qbd (q_isIn a3 (0 : Int32) (9999 : Int32)) (fun v2 => qbd (α := Int32) (qjo (σ := Unit) (fun _ => qrt (0 : Int32)) fun j87 => qc (v1 = 0) (j87 ()) (qa 25 60 a1 fun v92 => qc (v92 = 0) (qrt (1 : Int32)) (j87 ()))) (fun u3 => qbd (q_mayAll v1 v2 u3) (fun v4 => qc (v4 = 0) (qrt (0 : Int32)) (qa 23 60 a1 fun v9 => qa 24 60 a1 fun v13 => qa 27 60 a1 fun v17 => qw 27 60 a1 (v17 + (1 : Int32)) <| qa 20 60 a1 fun v21 => qa 12 108 (((12 : Int32) * v9) + v13) fun v25 => qbd (q_answers v21 v25 a2 a3) (fun v26 => qbd (α := Unit) (qc (v26 = 0) (qa 26 60 a1 fun v57 => qw 26 60 a1 (v57 + (1 : Int32)) <| qa 26 60 a1 fun v61 => qa 13 108 (((12 : Int32) * v9) + v13) fun v65 => qc (v61 = v65) (qa 15 108 (((12 : Int32) * v9) + v13) fun v70 => qbd (q_go a1 v70) (fun _ => qrt ())) (qrt ())) (qa 12 108 (((12 : Int32) * v9) + v13) fun v76 => qI 0 fun v77 => qw 29 180 (((3 : Int32) * a1) + v76) v77 <| qa 14 108 (((12 : Int32) * v9) + v13) fun v83 => qbd (q_go a1 v83) (fun _ => qrt ()))) (fun _ => qa 25 60 a1 fun v30 => qc (v30 = 0) (qa 27 60 a1 fun v35 => qc (v35 = (12 : Int32)) (qw 25 60 a1 (2 : Int32) <| qa 25 60 a1 fun v43 => qrt v43) (qa 25 60 a1 fun v47 => qrt v47)) (qa 25 60 a1 fun v51 => qrt v51))))))))
theorem sm_X5_answer (a1 : Int32) (a2 : Int32) (a3 : Int32) : SimM (q_answer a1 a2 a3) (f_X5_answer 0 a1 a2 a3) := by
  unfold q_answer f_X5_answer
  refine sm_bn0 (sm_X5_isAttempt a1) fun v1 => ?_
  refine sm_bn0 (sm_X5_isIn a3 (0 : Int32) (9999 : Int32)) fun v2 => ?_
  refine sm_bnd ?_ ?_
  · refine sm_jo (fun _ => ?_) fun j87 j87q hj87 => ?_
    · exact sm_rt _
    refine sm_cnd ?_ ?_
    · exact hj87 _
    · refine sm_gR 25 31 39 60 rfl ?_
      refine sm_isK ?_
      refine sm_aI 25 31 39 60 rfl fun v92 => ?_
      refine sm_cnd ?_ ?_
      · exact sm_rt _
      · exact hj87 _
  refine fun u3 => ?_
  refine sm_bn0 (sm_X5_mayAll v1 v2 u3) fun v4 => ?_
  refine sm_cnd ?_ ?_
  · exact sm_rt _
  · refine sm_gR 23 31 37 60 rfl ?_
    refine sm_isK ?_
    refine sm_aI 23 31 37 60 rfl fun v9 => ?_
    refine sm_gR 24 31 38 60 rfl ?_
    refine sm_isK ?_
    refine sm_aI 24 31 38 60 rfl fun v13 => ?_
    refine sm_gR 27 31 41 60 rfl ?_
    refine sm_isK ?_
    refine sm_aI 27 31 41 60 rfl fun v17 => ?_
    refine sm_bI 27 31 41 60 rfl ?_
    refine sm_gR 20 31 34 60 rfl ?_
    refine sm_isK ?_
    refine sm_aI 20 31 34 60 rfl fun v21 => ?_
    refine sm_gR 12 31 28 108 rfl ?_
    refine sm_isK ?_
    refine sm_aI 12 31 28 108 rfl fun v25 => ?_
    refine sm_bn0 (sm_X5_answers v21 v25 a2 a3) fun v26 => ?_
    refine sm_bnd ?_ ?_
    · refine sm_cnd ?_ ?_
      · refine sm_gR 26 31 40 60 rfl ?_
        refine sm_isK ?_
        refine sm_aI 26 31 40 60 rfl fun v57 => ?_
        refine sm_bI 26 31 40 60 rfl ?_
        refine sm_gR 26 31 40 60 rfl ?_
        refine sm_isK ?_
        refine sm_aI 26 31 40 60 rfl fun v61 => ?_
        refine sm_gR 13 31 29 108 rfl ?_
        refine sm_isK ?_
        refine sm_aI 13 31 29 108 rfl fun v65 => ?_
        refine sm_cnd ?_ ?_
        · refine sm_gR 15 31 31 108 rfl ?_
          refine sm_isK ?_
          refine sm_aI 15 31 31 108 rfl fun v70 => ?_
          refine sm_bn0 (sm_X5_go a1 v70) fun _ => ?_
          exact sm_rt _
        · exact sm_rt _
      · refine sm_gR 29 31 43 180 rfl ?_
        refine sm_gR 12 31 28 108 rfl ?_
        refine sm_isK ?_
        refine sm_aI 12 31 28 108 rfl fun v76 => ?_
        refine sm_gI 0 rfl fun v77 => ?_
        refine sm_isK ?_
        refine sm_bI 29 31 43 180 rfl ?_
        refine sm_gR 14 31 30 108 rfl ?_
        refine sm_isK ?_
        refine sm_aI 14 31 30 108 rfl fun v83 => ?_
        refine sm_bn0 (sm_X5_go a1 v83) fun _ => ?_
        exact sm_rt _
    refine fun _ => ?_
    refine sm_gR 25 31 39 60 rfl ?_
    refine sm_isK ?_
    refine sm_aI 25 31 39 60 rfl fun v30 => ?_
    refine sm_cnd ?_ ?_
    · refine sm_gR 27 31 41 60 rfl ?_
      refine sm_isK ?_
      refine sm_aI 27 31 41 60 rfl fun v35 => ?_
      refine sm_cnd ?_ ?_
      · refine sm_gR 25 31 39 60 rfl ?_
        refine sm_isK ?_
        refine sm_bI 25 31 39 60 rfl ?_
        refine sm_gR 25 31 39 60 rfl ?_
        refine sm_isK ?_
        refine sm_aI 25 31 39 60 rfl fun v43 => ?_
        exact sm_rt _
      · refine sm_gR 25 31 39 60 rfl ?_
        refine sm_isK ?_
        refine sm_aI 25 31 39 60 rfl fun v47 => ?_
        exact sm_rt _
    · refine sm_gR 25 31 39 60 rfl ?_
      refine sm_isK ?_
      refine sm_aI 25 31 39 60 rfl fun v51 => ?_
      exact sm_rt _
def q_state (a1 : Int32) : PM Int32 := qbd (q_isAttempt a1) (fun v1 => qbd (q_may v1) (fun v2 => qc (v2 = 0) (qrt (0 : Int32)) (qa 25 60 a1 fun v7 => qrt v7)))
theorem sm_X5_state (a1 : Int32) : SimM (q_state a1) (f_X5_state 0 a1) := by
  unfold q_state f_X5_state
  refine sm_bn0 (sm_X5_isAttempt a1) fun v1 => ?_
  refine sm_bn0 (sm_X5_may v1) fun v2 => ?_
  refine sm_cnd ?_ ?_
  · exact sm_rt _
  · refine sm_gR 25 31 39 60 rfl ?_
    refine sm_isK ?_
    refine sm_aI 25 31 39 60 rfl fun v7 => ?_
    exact sm_rt _
def q_asked (a1 : Int32) : PM Int32 := qbd (q_isAttempt a1) (fun v1 => qbd (q_may v1) (fun v2 => qc (v2 = 0) (qrt (0 : Int32)) (qa 25 60 a1 fun v7 => qc (v7 = 0) (qa 23 60 a1 fun v13 => qa 24 60 a1 fun v17 => qa 12 108 (((12 : Int32) * v13) + v17) fun v20 => qrt v20) (qrt (-1 : Int32)))))
theorem sm_X5_asked (a1 : Int32) : SimM (q_asked a1) (f_X5_asked 0 a1) := by
  unfold q_asked f_X5_asked
  refine sm_bn0 (sm_X5_isAttempt a1) fun v1 => ?_
  refine sm_bn0 (sm_X5_may v1) fun v2 => ?_
  refine sm_cnd ?_ ?_
  · exact sm_rt _
  · refine sm_gR 25 31 39 60 rfl ?_
    refine sm_isK ?_
    refine sm_aI 25 31 39 60 rfl fun v7 => ?_
    refine sm_cnd ?_ ?_
    · refine sm_gR 12 31 28 108 rfl ?_
      refine sm_gR 23 31 37 60 rfl ?_
      refine sm_isK ?_
      refine sm_aI 23 31 37 60 rfl fun v13 => ?_
      refine sm_gR 24 31 38 60 rfl ?_
      refine sm_isK ?_
      refine sm_aI 24 31 38 60 rfl fun v17 => ?_
      refine sm_isK ?_
      refine sm_aI 12 31 28 108 rfl fun v20 => ?_
      exact sm_rt _
    · exact sm_rt _
def q_sessionOf (a1 : Int32) : PM Int32 := qbd (q_isAttempt a1) (fun v1 => qbd (q_may v1) (fun v2 => qc (v2 = 0) (qrt (0 : Int32)) (qa 28 60 a1 fun v7 => qrt v7)))
theorem sm_X5_sessionOf (a1 : Int32) : SimM (q_sessionOf a1) (f_X5_sessionOf 0 a1) := by
  unfold q_sessionOf f_X5_sessionOf
  refine sm_bn0 (sm_X5_isAttempt a1) fun v1 => ?_
  refine sm_bn0 (sm_X5_may v1) fun v2 => ?_
  refine sm_cnd ?_ ?_
  · exact sm_rt _
  · refine sm_gR 28 31 42 60 rfl ?_
    refine sm_isK ?_
    refine sm_aI 28 31 42 60 rfl fun v7 => ?_
    exact sm_rt _
def q_risk (a1 : Int32) : PM Int32 := qbd (q_isAttempt a1) (fun v1 => qbd (q_may v1) (fun v2 => qc (v2 = 0) (qrt (0 : Int32)) (qbd (q_riskOf a1 (0 : Int32)) (fun v4 => qrt v4))))
theorem sm_X5_risk (a1 : Int32) : SimM (q_risk a1) (f_X5_risk 0 a1) := by
  unfold q_risk f_X5_risk
  refine sm_bn0 (sm_X5_isAttempt a1) fun v1 => ?_
  refine sm_bn0 (sm_X5_may v1) fun v2 => ?_
  refine sm_cnd ?_ ?_
  · exact sm_rt _
  · refine sm_bn0 (sm_X5_riskOf a1 (0 : Int32)) fun v4 => ?_
    exact sm_rt _
def q_trialRisk (a1 : Int32) : PM Int32 := qbd (q_isAttempt a1) (fun v1 => qbd (q_may v1) (fun v2 => qc (v2 = 0) (qrt (0 : Int32)) (qbd (q_riskOf a1 (1 : Int32)) (fun v4 => qrt v4))))
theorem sm_X5_trialRisk (a1 : Int32) : SimM (q_trialRisk a1) (f_X5_trialRisk 0 a1) := by
  unfold q_trialRisk f_X5_trialRisk
  refine sm_bn0 (sm_X5_isAttempt a1) fun v1 => ?_
  refine sm_bn0 (sm_X5_may v1) fun v2 => ?_
  refine sm_cnd ?_ ?_
  · exact sm_rt _
  · refine sm_bn0 (sm_X5_riskOf a1 (1 : Int32)) fun v4 => ?_
    exact sm_rt _
def q_sessions : PM Int32 := qW 82 (0 : Int32) <| qI 30 fun v1 => qrt v1
theorem sm_X5_sessions : SimM (q_sessions) (f_X5_sessions 0) := by
  unfold q_sessions f_X5_sessions
  refine sm_pI 82 rfl ?_
  refine sm_gI 30 rfl fun v1 => ?_
  exact sm_rt _
def q_isSession (a1 : Int32) : PM Int32 := qI 30 fun v1 => qbd (q_isIn a1 (0 : Int32) (v1 - (1 : Int32))) (fun v2 => qas ((v2 = 0) ∨ (v2 = 1)) (qrt v2))
theorem sm_X5_isSession (a1 : Int32) : SimM (q_isSession a1) (f_X5_isSession 0 a1) := by
  unfold q_isSession f_X5_isSession
  refine sm_gI 30 rfl fun v1 => ?_
  refine sm_bn0 (sm_X5_isIn a1 (0 : Int32) (v1 - (1 : Int32))) fun v2 => ?_
  refine sm_asr ?_
  exact sm_rt _
def q_isLive (a1 : Int32) : PM Int32 := qbd (q_isSession a1) (fun v1 => qbd (q_may v1) (fun v2 => qc (v2 = 0) (qas (((0 : Int32) = 0) ∨ ((0 : Int32) = 1)) (qrt (0 : Int32))) (qa 35 60 a1 fun v7 => qc (v7 = 0) (qas (((0 : Int32) = 0) ∨ ((0 : Int32) = 1)) (qrt (0 : Int32))) (qas (((1 : Int32) = 0) ∨ ((1 : Int32) = 1)) (qrt (1 : Int32))))))
theorem sm_X5_isLive (a1 : Int32) : SimM (q_isLive a1) (f_X5_isLive 0 a1) := by
  unfold q_isLive f_X5_isLive
  refine sm_bn0 (sm_X5_isSession a1) fun v1 => ?_
  refine sm_bn0 (sm_X5_may v1) fun v2 => ?_
  refine sm_cnd ?_ ?_
  · refine sm_asr ?_
    exact sm_rt _
  · refine sm_gR 35 32 5 60 rfl ?_
    refine sm_isK ?_
    refine sm_aI 35 32 5 60 rfl fun v7 => ?_
    refine sm_cnd ?_ ?_
    · refine sm_asr ?_
      exact sm_rt _
    · refine sm_asr ?_
      exact sm_rt _
def q_isLiveByAudit (a1 : Int32) : PM Int32 := qbd (q_isSession a1) (fun v1 => qbd (q_may v1) (fun v2 => qc (v2 = 0) (qas (((0 : Int32) = 0) ∨ ((0 : Int32) = 1)) (qrt (0 : Int32))) (qlp (σ := Int32 × Int32) (fun r6 => un2 fun u4 u5 => qI 77 fun v7 => qc (v7 ≤ u5) (qas ((u4 = 0) ∨ (u4 = 1)) (qrt u4)) (qa 79 1200 u5 fun v12 => qc (v12 = a1) (qa 78 1200 u5 fun v17 => qc ((2 : Int32) ≤ v17) (r6 (u4, (u5 + (1 : Int32)))) (qa 78 1200 u5 fun v22 => qc (v22 = 0) (r6 ((1 : Int32), (u5 + (1 : Int32)))) (r6 ((0 : Int32), (u5 + (1 : Int32)))))) (r6 (u4, (u5 + (1 : Int32)))))) ((0 : Int32), (0 : Int32)))))
theorem sm_X5_isLiveByAudit (a1 : Int32) : SimM (q_isLiveByAudit a1) (f_X5_isLiveByAudit 0 a1) := by
  unfold q_isLiveByAudit f_X5_isLiveByAudit
  refine sm_bn0 (sm_X5_isSession a1) fun v1 => ?_
  refine sm_bn0 (sm_X5_may v1) fun v2 => ?_
  refine sm_cnd ?_ ?_
  · refine sm_asr ?_
    exact sm_rt _
  · refine sm_lp (fun r6 r6q hr6 => ?_) ((0 : Int32), (0 : Int32))
    refine sm_un2 fun u4 u5 => ?_
    refine sm_gI 77 rfl fun v7 => ?_
    refine sm_cnd ?_ ?_
    · refine sm_asr ?_
      exact sm_rt _
    · refine sm_gR 79 31 77 1200 rfl ?_
      refine sm_isK ?_
      refine sm_aI 79 31 77 1200 rfl fun v12 => ?_
      refine sm_cnd ?_ ?_
      · refine sm_gR 78 31 76 1200 rfl ?_
        refine sm_isK ?_
        refine sm_aI 78 31 76 1200 rfl fun v17 => ?_
        refine sm_cnd ?_ ?_
        · exact hr6 _
        · refine sm_gR 78 31 76 1200 rfl ?_
          refine sm_isK ?_
          refine sm_aI 78 31 76 1200 rfl fun v22 => ?_
          refine sm_cnd ?_ ?_
          · exact hr6 _
          · exact hr6 _
      · exact hr6 _
def q_levelNow (a1 : Int32) : PM Int32 := qbd (qlp (σ := Int32 × Int32) (fun r3 => un2 fun u1 u2 => qc ((3 : Int32) ≤ u2) (qrt u1) (qa 36 180 (((3 : Int32) * a1) + u2) fun v10 => qjo (σ := Int32) (fun u11 => r3 ((u1 ||| (0 : Int32)), (u11 + (1 : Int32)))) fun j13 => qc (v10 = (-1 : Int32)) (j13 u2) (qI 0 fun v15 => qc ((120 : Int32) < (v15 - v10)) (j13 u2) (r3 ((u1 ||| ((1 : Int32) <<< (u2 &&& 31))), (u2 + (1 : Int32))))))) ((0 : Int32), (0 : Int32))) (fun u4 => qbd (q_levelOf u4) (fun v17 => qrt v17))
theorem sm_X5_levelNow (a1 : Int32) : SimM (q_levelNow a1) (f_X5_levelNow 0 a1) := by
  unfold q_levelNow f_X5_levelNow
  refine sm_bnd ?_ ?_
  · refine sm_lp (fun r3 r3q hr3 => ?_) ((0 : Int32), (0 : Int32))
    refine sm_un2 fun u1 u2 => ?_
    refine sm_cnd ?_ ?_
    · exact sm_rt _
    · refine sm_gR 36 31 48 180 rfl ?_
      refine sm_isK ?_
      refine sm_aI 36 31 48 180 rfl fun v10 => ?_
      refine sm_jo (fun u11 => ?_) fun j13 j13q hj13 => ?_
      · exact hr3 _
      refine sm_cnd ?_ ?_
      · exact hj13 _
      · refine sm_gI 0 rfl fun v15 => ?_
        refine sm_cnd ?_ ?_
        · exact hj13 _
        · exact hr3 _
  refine fun u4 => ?_
  refine sm_bn0 (sm_X5_levelOf u4) fun v17 => ?_
  exact sm_rt _
def q_level (a1 : Int32) : PM Int32 := qbd (q_isSession a1) (fun v1 => qbd (q_may v1) (fun v2 => qc (v2 = 0) (qrt (0 : Int32)) (qbd (q_levelNow a1) (fun v4 => qrt v4))))
theorem sm_X5_level (a1 : Int32) : SimM (q_level a1) (f_X5_level 0 a1) := by
  unfold q_level f_X5_level
  refine sm_bn0 (sm_X5_isSession a1) fun v1 => ?_
  refine sm_bn0 (sm_X5_may v1) fun v2 => ?_
  refine sm_cnd ?_ ?_
  · exact sm_rt _
  · refine sm_bn0 (sm_X5_levelNow a1) fun v4 => ?_
    exact sm_rt _
def q_stepUp (a1 : Int32) (a2 : Int32) (a3 : Int32) (a4 : Int32) : PM Int32 := qbd (q_isSession a1) (fun v1 => qbd (q_isFactor a2) (fun v2 => qbd (α := Int32) (qjo (σ := Unit) (fun _ => qrt (0 : Int32)) fun j39 => qc (v2 = 0) (j39 ()) (qbd (q_isIn a4 (0 : Int32) (9999 : Int32)) (fun v41 => qc (v41 = 0) (j39 ()) (qrt (1 : Int32))))) (fun u3 => qbd (α := Int32) (qjo (σ := Unit) (fun _ => qrt (0 : Int32)) fun j25 => qc (v1 = 0) (j25 ()) (qa 35 60 a1 fun v30 => qc (v30 = 0) (j25 ()) (qa 34 60 a1 fun v35 => qc (v35 = (-1 : Int32)) (qrt (1 : Int32)) (j25 ())))) (fun u4 => qbd (q_mayAll v1 u3 u4) (fun v5 => qc (v5 = 0) (qrt (0 : Int32)) (qI 0 fun v8 => qw 33 60 a1 v8 <| qa 31 60 a1 fun v14 => qbd (q_answers v14 a2 a3 a4) (fun v15 => qbd (α := Unit) (qc (v15 = 0) (qrt ()) (qI 0 fun v20 => qw 36 180 (((3 : Int32) * a1) + a2) v20 <| qrt ())) (fun _ => qbd (q_levelNow a1) (fun v16 => qrt v16)))))))))
theorem sm_X5_stepUp (a1 : Int32) (a2 : Int32) (a3 : Int32) (a4 : Int32) : SimM (q_stepUp a1 a2 a3 a4) (f_X5_stepUp 0 a1 a2 a3 a4) := by
  unfold q_stepUp f_X5_stepUp
  refine sm_bn0 (sm_X5_isSession a1) fun v1 => ?_
  refine sm_bn0 (sm_X5_isFactor a2) fun v2 => ?_
  refine sm_bnd ?_ ?_
  · refine sm_jo (fun _ => ?_) fun j39 j39q hj39 => ?_
    · exact sm_rt _
    refine sm_cnd ?_ ?_
    · exact hj39 _
    · refine sm_bn0 (sm_X5_isIn a4 (0 : Int32) (9999 : Int32)) fun v41 => ?_
      refine sm_cnd ?_ ?_
      · exact hj39 _
      · exact sm_rt _
  refine fun u3 => ?_
  refine sm_bnd ?_ ?_
  · refine sm_jo (fun _ => ?_) fun j25 j25q hj25 => ?_
    · exact sm_rt _
    refine sm_cnd ?_ ?_
    · exact hj25 _
    · refine sm_gR 35 32 5 60 rfl ?_
      refine sm_isK ?_
      refine sm_aI 35 32 5 60 rfl fun v30 => ?_
      refine sm_cnd ?_ ?_
      · exact hj25 _
      · refine sm_gR 34 31 47 60 rfl ?_
        refine sm_isK ?_
        refine sm_aI 34 31 47 60 rfl fun v35 => ?_
        refine sm_cnd ?_ ?_
        · exact sm_rt _
        · exact hj25 _
  refine fun u4 => ?_
  refine sm_bn0 (sm_X5_mayAll v1 u3 u4) fun v5 => ?_
  refine sm_cnd ?_ ?_
  · exact sm_rt _
  · refine sm_gR 33 31 46 60 rfl ?_
    refine sm_gI 0 rfl fun v8 => ?_
    refine sm_isK ?_
    refine sm_bI 33 31 46 60 rfl ?_
    refine sm_gR 31 31 44 60 rfl ?_
    refine sm_isK ?_
    refine sm_aI 31 31 44 60 rfl fun v14 => ?_
    refine sm_bn0 (sm_X5_answers v14 a2 a3 a4) fun v15 => ?_
    refine sm_bnd ?_ ?_
    · refine sm_cnd ?_ ?_
      · exact sm_rt _
      · refine sm_gR 36 31 48 180 rfl ?_
        refine sm_gI 0 rfl fun v20 => ?_
        refine sm_isK ?_
        refine sm_bI 36 31 48 180 rfl ?_
        exact sm_rt _
    refine fun _ => ?_
    refine sm_bn0 (sm_X5_levelNow a1) fun v16 => ?_
    exact sm_rt _
def q_signOut (a1 : Int32) : PM Int32 := qbd (q_isSession a1) (fun v1 => qbd (α := Int32) (qjo (σ := Unit) (fun _ => qrt (0 : Int32)) fun j8 => qc (v1 = 0) (j8 ()) (qa 35 60 a1 fun v13 => qc (v13 = 0) (j8 ()) (qrt (1 : Int32)))) (fun u2 => qbd (q_mayBoth v1 u2) (fun v3 => qc (v3 = 0) (qrt (0 : Int32)) (qbd (q_endSession a1) (fun v5 => qrt v5)))))
theorem sm_X5_signOut (a1 : Int32) : SimM (q_signOut a1) (f_X5_signOut 0 a1) := by
  unfold q_signOut f_X5_signOut
  refine sm_bn0 (sm_X5_isSession a1) fun v1 => ?_
  refine sm_bnd ?_ ?_
  · refine sm_jo (fun _ => ?_) fun j8 j8q hj8 => ?_
    · exact sm_rt _
    refine sm_cnd ?_ ?_
    · exact hj8 _
    · refine sm_gR 35 32 5 60 rfl ?_
      refine sm_isK ?_
      refine sm_aI 35 32 5 60 rfl fun v13 => ?_
      refine sm_cnd ?_ ?_
      · exact hj8 _
      · exact sm_rt _
  refine fun u2 => ?_
  refine sm_bn0 (sm_X5_mayBoth v1 u2) fun v3 => ?_
  refine sm_cnd ?_ ?_
  · exact sm_rt _
  · refine sm_bn0 (sm_X5_endSession a1) fun v5 => ?_
    exact sm_rt _
def q_helper (a1 : Int32) : PM Int32 := qbd (q_isSix a1) (fun v1 => qbd (q_may v1) (fun v2 => qc (v2 = 0) (qas (((0 : Int32) = 0) ∨ ((0 : Int32) = 1)) (qrt (0 : Int32))) (qa 8 6 a1 fun v8 => qbd (α := Int32) (qc (v8 = 0) (qrt (1 : Int32)) (qrt (0 : Int32))) (fun u9 => qz 8 6 a1 u9 <| qa 8 6 a1 fun v15 => qas ((v15 = 0) ∨ (v15 = 1)) (qrt v15)))))
theorem sm_X5_helper (a1 : Int32) : SimM (q_helper a1) (f_X5_helper 0 a1) := by
  unfold q_helper f_X5_helper
  refine sm_bn0 (sm_X5_isSix a1) fun v1 => ?_
  refine sm_bn0 (sm_X5_may v1) fun v2 => ?_
  refine sm_cnd ?_ ?_
  · refine sm_asr ?_
    exact sm_rt _
  · refine sm_gR 8 32 3 6 rfl ?_
    refine sm_gR 8 32 3 6 rfl ?_
    refine sm_isK ?_
    refine sm_aI 8 32 3 6 rfl fun v8 => ?_
    refine sm_bnd ?_ ?_
    · refine sm_cnd ?_ ?_
      · exact sm_rt _
      · exact sm_rt _
    refine fun u9 => ?_
    refine sm_isK ?_
    refine sm_bZ 8 32 3 6 rfl ?_
    refine sm_gR 8 32 3 6 rfl ?_
    refine sm_isK ?_
    refine sm_aI 8 32 3 6 rfl fun v15 => ?_
    refine sm_asr ?_
    exact sm_rt _
def q_act (a1 : Int32) (a2 : Int32) : PM Int32 := qbd (q_isSession a1) (fun v1 => qbd (α := Int32) (qjo (σ := Unit) (fun _ => qrt (0 : Int32)) fun j61 => qc (v1 = 0) (j61 ()) (qbd (q_isSix a2) (fun v63 => qc (v63 = 0) (j61 ()) (qrt (1 : Int32))))) (fun u2 => qbd (α := Int32) (qjo (σ := Unit) (fun _ => qrt (0 : Int32)) fun j36 => qc (u2 = 0) (j36 ()) (qa 35 60 a1 fun v41 => qc (v41 = 0) (j36 ()) (qa 34 60 a1 fun v46 => qc (v46 = (-1 : Int32)) (qbd (q_levelNow a1) (fun v48 => qc (v48 < (3 : Int32)) (j36 ()) (qa 31 60 a1 fun v54 => qa 8 6 v54 fun v57 => qc (v57 = 0) (j36 ()) (qrt (1 : Int32))))) (j36 ())))) (fun u3 => qbd (α := Int32) (qjo (σ := Unit) (fun _ => qrt (0 : Int32)) fun j20 => qc (u3 = 0) (j20 ()) (qa 31 60 a1 fun v25 => qc (v25 = a2) (j20 ()) (qa 7 6 a2 fun v30 => qc (v30 = 0) (qI 30 fun v32 => qc ((60 : Int32) ≤ v32) (j20 ()) (qrt (1 : Int32))) (j20 ())))) (fun u4 => qbd (q_mayBoth u2 u4) (fun v5 => qc (v5 = 0) (qrt (0 : Int32)) (qbd (q_newSession a2 a1) (fun v7 => qlp (σ := Int32) (fun r9 => fun u8 => qc ((3 : Int32) ≤ u8) (qrt v7) (qa 36 180 (((3 : Int32) * a1) + u8) fun v15 => qw 36 180 (((3 : Int32) * v7) + u8) v15 <| r9 (u8 + (1 : Int32)))) (0 : Int32))))))))
theorem sm_X5_act (a1 : Int32) (a2 : Int32) : SimM (q_act a1 a2) (f_X5_act 0 a1 a2) := by
  unfold q_act f_X5_act
  refine sm_bn0 (sm_X5_isSession a1) fun v1 => ?_
  refine sm_bnd ?_ ?_
  · refine sm_jo (fun _ => ?_) fun j61 j61q hj61 => ?_
    · exact sm_rt _
    refine sm_cnd ?_ ?_
    · exact hj61 _
    · refine sm_bn0 (sm_X5_isSix a2) fun v63 => ?_
      refine sm_cnd ?_ ?_
      · exact hj61 _
      · exact sm_rt _
  refine fun u2 => ?_
  refine sm_bnd ?_ ?_
  · refine sm_jo (fun _ => ?_) fun j36 j36q hj36 => ?_
    · exact sm_rt _
    refine sm_cnd ?_ ?_
    · exact hj36 _
    · refine sm_gR 35 32 5 60 rfl ?_
      refine sm_isK ?_
      refine sm_aI 35 32 5 60 rfl fun v41 => ?_
      refine sm_cnd ?_ ?_
      · exact hj36 _
      · refine sm_gR 34 31 47 60 rfl ?_
        refine sm_isK ?_
        refine sm_aI 34 31 47 60 rfl fun v46 => ?_
        refine sm_cnd ?_ ?_
        · refine sm_bn0 (sm_X5_levelNow a1) fun v48 => ?_
          refine sm_cnd ?_ ?_
          · exact hj36 _
          · refine sm_gR 8 32 3 6 rfl ?_
            refine sm_gR 31 31 44 60 rfl ?_
            refine sm_isK ?_
            refine sm_aI 31 31 44 60 rfl fun v54 => ?_
            refine sm_isK ?_
            refine sm_aI 8 32 3 6 rfl fun v57 => ?_
            refine sm_cnd ?_ ?_
            · exact hj36 _
            · exact sm_rt _
        · exact hj36 _
  refine fun u3 => ?_
  refine sm_bnd ?_ ?_
  · refine sm_jo (fun _ => ?_) fun j20 j20q hj20 => ?_
    · exact sm_rt _
    refine sm_cnd ?_ ?_
    · exact hj20 _
    · refine sm_gR 31 31 44 60 rfl ?_
      refine sm_isK ?_
      refine sm_aI 31 31 44 60 rfl fun v25 => ?_
      refine sm_cnd ?_ ?_
      · exact hj20 _
      · refine sm_gR 7 32 2 6 rfl ?_
        refine sm_isK ?_
        refine sm_aI 7 32 2 6 rfl fun v30 => ?_
        refine sm_cnd ?_ ?_
        · refine sm_gI 30 rfl fun v32 => ?_
          refine sm_cnd ?_ ?_
          · exact hj20 _
          · exact sm_rt _
        · exact hj20 _
  refine fun u4 => ?_
  refine sm_bn0 (sm_X5_mayBoth u2 u4) fun v5 => ?_
  refine sm_cnd ?_ ?_
  · exact sm_rt _
  · refine sm_bn0 (sm_X5_newSession a2 a1) fun v7 => ?_
    refine sm_lp (fun r9 r9q hr9 => ?_) (0 : Int32)
    intro u8
    refine sm_cnd ?_ ?_
    · exact sm_rt _
    · refine sm_gR 36 31 48 180 rfl ?_
      refine sm_gR 36 31 48 180 rfl ?_
      refine sm_isK ?_
      refine sm_aI 36 31 48 180 rfl fun v15 => ?_
      refine sm_isK ?_
      refine sm_bI 36 31 48 180 rfl ?_
      exact hr9 _
def q_isService (a1 : Int32) : PM Int32 := qbd (q_isIn a1 (0 : Int32) (3 : Int32)) (fun v1 => qas ((v1 = 0) ∨ (v1 = 1)) (qrt v1))
theorem sm_X5_isService (a1 : Int32) : SimM (q_isService a1) (f_X5_isService a1) := by
  unfold q_isService f_X5_isService
  refine sm_bn0 (sm_X5_isIn a1 (0 : Int32) (3 : Int32)) fun v1 => ?_
  refine sm_asr ?_
  exact sm_rt _
def q_consent (a1 : Int32) (a2 : Int32) (a3 : Int32) : PM Int32 := qbd (q_isIn a1 (-1 : Int32) (5 : Int32)) (fun v1 => qbd (α := Int32) (qjo (σ := Unit) (fun _ => qrt (0 : Int32)) fun j19 => qc (v1 = 0) (j19 ()) (qbd (q_isService a2) (fun v21 => qc (v21 = 0) (j19 ()) (qrt (1 : Int32))))) (fun u2 => qbd (q_isIn a3 (0 : Int32) (15 : Int32)) (fun v3 => qbd (q_mayBoth u2 v3) (fun v4 => qc (v4 = 0) (qrt (0 : Int32)) (qbd (α := Int32) (qc (a1 = (-1 : Int32)) (qrt (6 : Int32)) (qrt a1)) (fun u6 => qa 37 28 (((4 : Int32) * u6) + a2) fun v10 => qw 37 28 (((4 : Int32) * u6) + a2) (v10 ||| a3) <| qa 37 28 (((4 : Int32) * u6) + a2) fun v14 => qrt v14))))))
theorem sm_X5_consent (a1 : Int32) (a2 : Int32) (a3 : Int32) : SimM (q_consent a1 a2 a3) (f_X5_consent 0 a1 a2 a3) := by
  unfold q_consent f_X5_consent
  refine sm_bn0 (sm_X5_isIn a1 (-1 : Int32) (5 : Int32)) fun v1 => ?_
  refine sm_bnd ?_ ?_
  · refine sm_jo (fun _ => ?_) fun j19 j19q hj19 => ?_
    · exact sm_rt _
    refine sm_cnd ?_ ?_
    · exact hj19 _
    · refine sm_bn0 (sm_X5_isService a2) fun v21 => ?_
      refine sm_cnd ?_ ?_
      · exact hj19 _
      · exact sm_rt _
  refine fun u2 => ?_
  refine sm_bn0 (sm_X5_isIn a3 (0 : Int32) (15 : Int32)) fun v3 => ?_
  refine sm_bn0 (sm_X5_mayBoth u2 v3) fun v4 => ?_
  refine sm_cnd ?_ ?_
  · exact sm_rt _
  · refine sm_bnd ?_ ?_
    · refine sm_cnd ?_ ?_
      · exact sm_rt _
      · exact sm_rt _
    refine fun u6 => ?_
    refine sm_gR 37 31 49 28 rfl ?_
    refine sm_isK ?_
    refine sm_aI 37 31 49 28 rfl fun v10 => ?_
    refine sm_bI 37 31 49 28 rfl ?_
    refine sm_gR 37 31 49 28 rfl ?_
    refine sm_isK ?_
    refine sm_aI 37 31 49 28 rfl fun v14 => ?_
    exact sm_rt _
def q_withdraw (a1 : Int32) (a2 : Int32) : PM Int32 := qbd (q_isSix a1) (fun v1 => qbd (α := Int32) (qjo (σ := Unit) (fun _ => qrt (0 : Int32)) fun j51 => qc (v1 = 0) (j51 ()) (qbd (q_isService a2) (fun v53 => qc (v53 = 0) (j51 ()) (qrt (1 : Int32))))) (fun u2 => qbd (q_may u2) (fun v3 => qc (v3 = 0) (qrt (0 : Int32)) (qw 37 28 (((4 : Int32) * a1) + a2) (0 : Int32) <| qlp (σ := Int32 × Int32) (fun r10 => un2 fun u8 u9 => qI 46 fun v11 => qc (v11 ≤ u9) (qrt u8) (qa 51 60 u9 fun v16 => qbd (α := Int32) (qjo (σ := Unit) (fun _ => qrt (0 : Int32)) fun j25 => qc (v16 = 0) (j25 ()) (qa 47 60 u9 fun v32 => qa 40 60 v32 fun v35 => qa 31 60 v35 fun v38 => qc (v38 = a1) (qa 47 60 u9 fun v44 => qa 41 60 v44 fun v47 => qc (v47 = a2) (qrt (1 : Int32)) (j25 ())) (j25 ()))) (fun u17 => qbd (α := Int32) (qc (u17 = 0) (qrt (0 : Int32)) (qrt (1 : Int32))) (fun u18 => qc (u17 = 0) (r10 ((u8 + u18), (u9 + (1 : Int32)))) (qbd (q_endFamily u9) (fun _ => r10 ((u8 + u18), (u9 + (1 : Int32))))))))) ((0 : Int32), (0 : Int32))))))
theorem sm_X5_withdraw (a1 : Int32) (a2 : Int32) : SimM (q_withdraw a1 a2) (f_X5_withdraw 0 a1 a2) := by
  unfold q_withdraw f_X5_withdraw
  refine sm_bn0 (sm_X5_isSix a1) fun v1 => ?_
  refine sm_bnd ?_ ?_
  · refine sm_jo (fun _ => ?_) fun j51 j51q hj51 => ?_
    · exact sm_rt _
    refine sm_cnd ?_ ?_
    · exact hj51 _
    · refine sm_bn0 (sm_X5_isService a2) fun v53 => ?_
      refine sm_cnd ?_ ?_
      · exact hj51 _
      · exact sm_rt _
  refine fun u2 => ?_
  refine sm_bn0 (sm_X5_may u2) fun v3 => ?_
  refine sm_cnd ?_ ?_
  · exact sm_rt _
  · refine sm_gR 37 31 49 28 rfl ?_
    refine sm_isK ?_
    refine sm_bI 37 31 49 28 rfl ?_
    refine sm_lp (fun r10 r10q hr10 => ?_) ((0 : Int32), (0 : Int32))
    refine sm_un2 fun u8 u9 => ?_
    refine sm_gI 46 rfl fun v11 => ?_
    refine sm_cnd ?_ ?_
    · exact sm_rt _
    · refine sm_gR 51 32 6 60 rfl ?_
      refine sm_isK ?_
      refine sm_aI 51 32 6 60 rfl fun v16 => ?_
      refine sm_bnd ?_ ?_
      · refine sm_jo (fun _ => ?_) fun j25 j25q hj25 => ?_
        · exact sm_rt _
        refine sm_cnd ?_ ?_
        · exact hj25 _
        · refine sm_gR 31 31 44 60 rfl ?_
          refine sm_gR 40 31 51 60 rfl ?_
          refine sm_gR 47 31 57 60 rfl ?_
          refine sm_isK ?_
          refine sm_aI 47 31 57 60 rfl fun v32 => ?_
          refine sm_isK ?_
          refine sm_aI 40 31 51 60 rfl fun v35 => ?_
          refine sm_isK ?_
          refine sm_aI 31 31 44 60 rfl fun v38 => ?_
          refine sm_cnd ?_ ?_
          · refine sm_gR 41 31 52 60 rfl ?_
            refine sm_gR 47 31 57 60 rfl ?_
            refine sm_isK ?_
            refine sm_aI 47 31 57 60 rfl fun v44 => ?_
            refine sm_isK ?_
            refine sm_aI 41 31 52 60 rfl fun v47 => ?_
            refine sm_cnd ?_ ?_
            · exact sm_rt _
            · exact hj25 _
          · exact hj25 _
      refine fun u17 => ?_
      refine sm_bnd ?_ ?_
      · refine sm_cnd ?_ ?_
        · exact sm_rt _
        · exact sm_rt _
      refine fun u18 => ?_
      refine sm_cnd ?_ ?_
      · exact hr10 _
      · refine sm_bn0 (sm_X5_endFamily u9) fun _ => ?_
        exact hr10 _
def q_need (a1 : Int32) (a2 : Int32) : PM Int32 := qbd (q_isService a1) (fun v1 => qbd (q_isIn a2 (0 : Int32) (6 : Int32)) (fun v2 => qbd (q_mayBoth v1 v2) (fun v3 => qc (v3 = 0) (qrt (0 : Int32)) (qa 38 4 a1 fun v8 => qw 38 4 a1 a2 <| qrt v8))))
theorem sm_X5_need (a1 : Int32) (a2 : Int32) : SimM (q_need a1 a2) (f_X5_need 0 a1 a2) := by
  unfold q_need f_X5_need
  refine sm_bn0 (sm_X5_isService a1) fun v1 => ?_
  refine sm_bn0 (sm_X5_isIn a2 (0 : Int32) (6 : Int32)) fun v2 => ?_
  refine sm_bn0 (sm_X5_mayBoth v1 v2) fun v3 => ?_
  refine sm_cnd ?_ ?_
  · exact sm_rt _
  · refine sm_gR 38 31 50 4 rfl ?_
    refine sm_isK ?_
    refine sm_aI 38 31 50 4 rfl fun v8 => ?_
    refine sm_gR 38 31 50 4 rfl ?_
    refine sm_isK ?_
    refine sm_bI 38 31 50 4 rfl ?_
    exact sm_rt _
def q_authorize (a1 : Int32) (a2 : Int32) (a3 : Int32) (a4 : Int32) : PM Int32 := qbd (q_isSession a1) (fun v1 => qbd (α := Int32) (qjo (σ := Unit) (fun _ => qrt (0 : Int32)) fun j70 => qc (v1 = 0) (j70 ()) (qbd (q_isService a2) (fun v72 => qc (v72 = 0) (j70 ()) (qbd (q_isService a3) (fun v74 => qc (v74 = 0) (j70 ()) (qrt (1 : Int32))))))) (fun u2 => qbd (q_isIn a4 (1 : Int32) (15 : Int32)) (fun v3 => qbd (α := Int32) (qjo (σ := Unit) (fun _ => qrt (0 : Int32)) fun j59 => qc (u2 = 0) (j59 ()) (qa 35 60 a1 fun v64 => qc (v64 = 0) (j59 ()) (qI 39 fun v66 => qc ((60 : Int32) ≤ v66) (j59 ()) (qrt (1 : Int32))))) (fun u4 => qbd (q_mayAll u2 v3 u4) (fun v5 => qc (v5 = 0) (qrt (0 : Int32)) (qI 0 fun v8 => qw 33 60 a1 v8 <| qa 31 60 a1 fun v15 => qa 37 28 (((4 : Int32) * v15) + a2) fun v18 => qa 37 28 ((24 : Int32) + a2) fun v22 => qc ((a4 &&& ((v18 ||| v22) ^^^ (-1 : Int32))) = 0) (qbd (q_levelNow a1) (fun v24 => qa 38 4 a3 fun v28 => qc (v28 ≤ v24) (qI 39 fun v31 => qw 40 60 v31 a1 <| qI 39 fun v35 => qw 41 60 v35 a2 <| qI 39 fun v39 => qw 42 60 v39 a3 <| qI 39 fun v43 => qw 43 60 v43 a4 <| qI 39 fun v47 => qI 0 fun v48 => qw 44 60 v47 v48 <| qI 39 fun v52 => qw 45 60 v52 (-1 : Int32) <| qI 39 fun v55 => qW 39 (v55 + (1 : Int32)) <| qI 39 fun v56 => qrt (v56 - (1 : Int32))) (qrt (-2 : Int32)))) (qrt (-3 : Int32))))))))
theorem sm_X5_authorize (a1 : Int32) (a2 : Int32) (a3 : Int32) (a4 : Int32) : SimM (q_authorize a1 a2 a3 a4) (f_X5_authorize 0 a1 a2 a3 a4) := by
  unfold q_authorize f_X5_authorize
  refine sm_bn0 (sm_X5_isSession a1) fun v1 => ?_
  refine sm_bnd ?_ ?_
  · refine sm_jo (fun _ => ?_) fun j70 j70q hj70 => ?_
    · exact sm_rt _
    refine sm_cnd ?_ ?_
    · exact hj70 _
    · refine sm_bn0 (sm_X5_isService a2) fun v72 => ?_
      refine sm_cnd ?_ ?_
      · exact hj70 _
      · refine sm_bn0 (sm_X5_isService a3) fun v74 => ?_
        refine sm_cnd ?_ ?_
        · exact hj70 _
        · exact sm_rt _
  refine fun u2 => ?_
  refine sm_bn0 (sm_X5_isIn a4 (1 : Int32) (15 : Int32)) fun v3 => ?_
  refine sm_bnd ?_ ?_
  · refine sm_jo (fun _ => ?_) fun j59 j59q hj59 => ?_
    · exact sm_rt _
    refine sm_cnd ?_ ?_
    · exact hj59 _
    · refine sm_gR 35 32 5 60 rfl ?_
      refine sm_isK ?_
      refine sm_aI 35 32 5 60 rfl fun v64 => ?_
      refine sm_cnd ?_ ?_
      · exact hj59 _
      · refine sm_gI 39 rfl fun v66 => ?_
        refine sm_cnd ?_ ?_
        · exact hj59 _
        · exact sm_rt _
  refine fun u4 => ?_
  refine sm_bn0 (sm_X5_mayAll u2 v3 u4) fun v5 => ?_
  refine sm_cnd ?_ ?_
  · exact sm_rt _
  · refine sm_gR 33 31 46 60 rfl ?_
    refine sm_gI 0 rfl fun v8 => ?_
    refine sm_isK ?_
    refine sm_bI 33 31 46 60 rfl ?_
    refine sm_gR 37 31 49 28 rfl ?_
    refine sm_gR 31 31 44 60 rfl ?_
    refine sm_isK ?_
    refine sm_aI 31 31 44 60 rfl fun v15 => ?_
    refine sm_isK ?_
    refine sm_aI 37 31 49 28 rfl fun v18 => ?_
    refine sm_gR 37 31 49 28 rfl ?_
    refine sm_isK ?_
    refine sm_aI 37 31 49 28 rfl fun v22 => ?_
    refine sm_cnd ?_ ?_
    · refine sm_bn0 (sm_X5_levelNow a1) fun v24 => ?_
      refine sm_gR 38 31 50 4 rfl ?_
      refine sm_isK ?_
      refine sm_aI 38 31 50 4 rfl fun v28 => ?_
      refine sm_cnd ?_ ?_
      · refine sm_gR 40 31 51 60 rfl ?_
        refine sm_gI 39 rfl fun v31 => ?_
        refine sm_isK ?_
        refine sm_bI 40 31 51 60 rfl ?_
        refine sm_gR 41 31 52 60 rfl ?_
        refine sm_gI 39 rfl fun v35 => ?_
        refine sm_isK ?_
        refine sm_bI 41 31 52 60 rfl ?_
        refine sm_gR 42 31 53 60 rfl ?_
        refine sm_gI 39 rfl fun v39 => ?_
        refine sm_isK ?_
        refine sm_bI 42 31 53 60 rfl ?_
        refine sm_gR 43 31 54 60 rfl ?_
        refine sm_gI 39 rfl fun v43 => ?_
        refine sm_isK ?_
        refine sm_bI 43 31 54 60 rfl ?_
        refine sm_gR 44 31 55 60 rfl ?_
        refine sm_gI 39 rfl fun v47 => ?_
        refine sm_gI 0 rfl fun v48 => ?_
        refine sm_isK ?_
        refine sm_bI 44 31 55 60 rfl ?_
        refine sm_gR 45 31 56 60 rfl ?_
        refine sm_gI 39 rfl fun v52 => ?_
        refine sm_isK ?_
        refine sm_bI 45 31 56 60 rfl ?_
        refine sm_gI 39 rfl fun v55 => ?_
        refine sm_pI 39 rfl ?_
        refine sm_gI 39 rfl fun v56 => ?_
        exact sm_rt _
      · exact sm_rt _
    · exact sm_rt _
def q_newToken (a1 : Int32) (a2 : Int32) (a3 : Int32) (a4 : Int32) (a5 : Int32) (a6 : Int32) : PM Int32 := qI 52 fun v1 => qw 57 200 v1 a1 <| qw 53 200 v1 a2 <| qw 54 200 v1 a3 <| qw 55 200 v1 a4 <| qw 56 200 v1 a5 <| qw 59 200 v1 a6 <| qI 61 fun v21 => qw 58 200 v1 v21 <| qw 50 60 a1 v1 <| qI 52 fun v27 => qW 52 (v27 + (1 : Int32)) <| qrt v1
theorem sm_X5_newToken (a1 : Int32) (a2 : Int32) (a3 : Int32) (a4 : Int32) (a5 : Int32) (a6 : Int32) : SimM (q_newToken a1 a2 a3 a4 a5 a6) (f_X5_newToken 0 a1 a2 a3 a4 a5 a6) := by
  unfold q_newToken f_X5_newToken
  refine sm_gI 52 rfl fun v1 => ?_
  refine sm_gR 57 31 65 200 rfl ?_
  refine sm_isK ?_
  refine sm_bI 57 31 65 200 rfl ?_
  refine sm_gR 53 31 61 200 rfl ?_
  refine sm_isK ?_
  refine sm_bI 53 31 61 200 rfl ?_
  refine sm_gR 54 31 62 200 rfl ?_
  refine sm_isK ?_
  refine sm_bI 54 31 62 200 rfl ?_
  refine sm_gR 55 31 63 200 rfl ?_
  refine sm_isK ?_
  refine sm_bI 55 31 63 200 rfl ?_
  refine sm_gR 56 31 64 200 rfl ?_
  refine sm_isK ?_
  refine sm_bI 56 31 64 200 rfl ?_
  refine sm_gR 59 31 67 200 rfl ?_
  refine sm_isK ?_
  refine sm_bI 59 31 67 200 rfl ?_
  refine sm_gR 58 31 66 200 rfl ?_
  refine sm_gI 61 rfl fun v21 => ?_
  refine sm_isK ?_
  refine sm_bI 58 31 66 200 rfl ?_
  refine sm_gR 50 31 60 60 rfl ?_
  refine sm_isK ?_
  refine sm_bI 50 31 60 60 rfl ?_
  refine sm_gI 52 rfl fun v27 => ?_
  refine sm_pI 52 rfl ?_
  exact sm_rt _
def q_firstToken (a1 : Int32) : PM Unit := qa 47 60 a1 fun v4 => qa 41 60 v4 fun v8 => qa 42 60 v4 fun v12 => qa 43 60 v4 fun v16 => qI 0 fun v17 => qbd (q_newToken a1 v8 v12 v16 (0 : Int32) (v17 + (10 : Int32))) (fun v18 => qrt ())
theorem sm_X5_firstToken (a1 : Int32) : SimM (q_firstToken a1) (f_X5_firstToken 0 a1) := by
  unfold q_firstToken f_X5_firstToken
  refine sm_gR 47 31 57 60 rfl ?_
  refine sm_isK ?_
  refine sm_aI 47 31 57 60 rfl fun v4 => ?_
  refine sm_gR 41 31 52 60 rfl ?_
  refine sm_isK ?_
  refine sm_aI 41 31 52 60 rfl fun v8 => ?_
  refine sm_gR 42 31 53 60 rfl ?_
  refine sm_isK ?_
  refine sm_aI 42 31 53 60 rfl fun v12 => ?_
  refine sm_gR 43 31 54 60 rfl ?_
  refine sm_isK ?_
  refine sm_aI 43 31 54 60 rfl fun v16 => ?_
  refine sm_gI 0 rfl fun v17 => ?_
  refine sm_bn0 (sm_X5_newToken a1 v8 v12 v16 (0 : Int32) (v17 + (10 : Int32))) fun v18 => ?_
  exact sm_rt _
def q_redeem (a1 : Int32) : PM Int32 := qI 39 fun v1 => qbd (q_isIn a1 (0 : Int32) (v1 - (1 : Int32))) (fun v2 => qbd (α := Int32) (qjo (σ := Unit) (fun _ => qrt (0 : Int32)) fun j46 => qc (v2 = 0) (j46 ()) (qa 45 60 a1 fun v51 => qc (v51 = (-1 : Int32)) (qI 0 fun v53 => qa 44 60 a1 fun v57 => qc ((5 : Int32) < (v53 - v57)) (j46 ()) (qa 40 60 a1 fun v63 => qa 35 60 v63 fun v66 => qc (v66 = 0) (j46 ()) (qrt (1 : Int32)))) (j46 ()))) (fun u3 => qbd (α := Int32) (qjo (σ := Unit) (fun _ => qrt (1 : Int32)) fun j40 => qc (u3 = 0) (j40 ()) (qI 52 fun v42 => qc ((200 : Int32) ≤ v42) (qrt (0 : Int32)) (j40 ()))) (fun u4 => qbd (q_mayBoth v2 u4) (fun v5 => qc (v5 = 0) (qrt (0 : Int32)) (qc (u3 = 0) (qa 45 60 a1 fun v11 => qc (v11 = (-1 : Int32)) (qrt (-1 : Int32)) (qa 45 60 a1 fun v16 => qbd (q_endFamily v16) (fun _ => qrt (-1 : Int32)))) (qI 46 fun v18 => qw 47 60 v18 a1 <| qw 48 60 v18 (0 : Int32) <| qI 0 fun v26 => qw 49 60 v18 v26 <| qz 51 60 v18 (1 : Int32) <| qw 45 60 a1 v18 <| qI 46 fun v35 => qW 46 (v35 + (1 : Int32)) <| qbd (q_write (2 : Int32) v18) (fun _ => qbd (q_firstToken v18) (fun _ => qrt v18))))))))
theorem sm_X5_redeem (a1 : Int32) : SimM (q_redeem a1) (f_X5_redeem 0 a1) := by
  unfold q_redeem f_X5_redeem
  refine sm_gI 39 rfl fun v1 => ?_
  refine sm_bn0 (sm_X5_isIn a1 (0 : Int32) (v1 - (1 : Int32))) fun v2 => ?_
  refine sm_bnd ?_ ?_
  · refine sm_jo (fun _ => ?_) fun j46 j46q hj46 => ?_
    · exact sm_rt _
    refine sm_cnd ?_ ?_
    · exact hj46 _
    · refine sm_gR 45 31 56 60 rfl ?_
      refine sm_isK ?_
      refine sm_aI 45 31 56 60 rfl fun v51 => ?_
      refine sm_cnd ?_ ?_
      · refine sm_gI 0 rfl fun v53 => ?_
        refine sm_gR 44 31 55 60 rfl ?_
        refine sm_isK ?_
        refine sm_aI 44 31 55 60 rfl fun v57 => ?_
        refine sm_cnd ?_ ?_
        · exact hj46 _
        · refine sm_gR 35 32 5 60 rfl ?_
          refine sm_gR 40 31 51 60 rfl ?_
          refine sm_isK ?_
          refine sm_aI 40 31 51 60 rfl fun v63 => ?_
          refine sm_isK ?_
          refine sm_aI 35 32 5 60 rfl fun v66 => ?_
          refine sm_cnd ?_ ?_
          · exact hj46 _
          · exact sm_rt _
      · exact hj46 _
  refine fun u3 => ?_
  refine sm_bnd ?_ ?_
  · refine sm_jo (fun _ => ?_) fun j40 j40q hj40 => ?_
    · exact sm_rt _
    refine sm_cnd ?_ ?_
    · exact hj40 _
    · refine sm_gI 52 rfl fun v42 => ?_
      refine sm_cnd ?_ ?_
      · exact sm_rt _
      · exact hj40 _
  refine fun u4 => ?_
  refine sm_bn0 (sm_X5_mayBoth v2 u4) fun v5 => ?_
  refine sm_cnd ?_ ?_
  · exact sm_rt _
  · refine sm_cnd ?_ ?_
    · refine sm_gR 45 31 56 60 rfl ?_
      refine sm_isK ?_
      refine sm_aI 45 31 56 60 rfl fun v11 => ?_
      refine sm_cnd ?_ ?_
      · exact sm_rt _
      · refine sm_gR 45 31 56 60 rfl ?_
        refine sm_isK ?_
        refine sm_aI 45 31 56 60 rfl fun v16 => ?_
        refine sm_bn0 (sm_X5_endFamily v16) fun _ => ?_
        exact sm_rt _
    · refine sm_gI 46 rfl fun v18 => ?_
      refine sm_gR 47 31 57 60 rfl ?_
      refine sm_isK ?_
      refine sm_bI 47 31 57 60 rfl ?_
      refine sm_gR 48 31 58 60 rfl ?_
      refine sm_isK ?_
      refine sm_bI 48 31 58 60 rfl ?_
      refine sm_gR 49 31 59 60 rfl ?_
      refine sm_gI 0 rfl fun v26 => ?_
      refine sm_isK ?_
      refine sm_bI 49 31 59 60 rfl ?_
      refine sm_gR 51 32 6 60 rfl ?_
      refine sm_isK ?_
      refine sm_bZ 51 32 6 60 rfl ?_
      refine sm_gR 45 31 56 60 rfl ?_
      refine sm_isK ?_
      refine sm_bI 45 31 56 60 rfl ?_
      refine sm_gI 46 rfl fun v35 => ?_
      refine sm_pI 46 rfl ?_
      refine sm_bn0 (sm_X5_write (2 : Int32) v18) fun _ => ?_
      refine sm_bn0 (sm_X5_firstToken v18) fun _ => ?_
      exact sm_rt _
def q_isFamily (a1 : Int32) : PM Int32 := qI 46 fun v1 => qbd (q_isIn a1 (0 : Int32) (v1 - (1 : Int32))) (fun v2 => qas ((v2 = 0) ∨ (v2 = 1)) (qrt v2))
theorem sm_X5_isFamily (a1 : Int32) : SimM (q_isFamily a1) (f_X5_isFamily 0 a1) := by
  unfold q_isFamily f_X5_isFamily
  refine sm_gI 46 rfl fun v1 => ?_
  refine sm_bn0 (sm_X5_isIn a1 (0 : Int32) (v1 - (1 : Int32))) fun v2 => ?_
  refine sm_asr ?_
  exact sm_rt _
def q_refresh (a1 : Int32) (a2 : Int32) : PM Int32 := qbd (q_isFamily a1) (fun v1 => qbd (α := Int32) (qjo (σ := Unit) (fun _ => qrt (0 : Int32)) fun j93 => qc (v1 = 0) (j93 ()) (qa 48 60 a1 fun v98 => qbd (q_isIn a2 (0 : Int32) v98) (fun v99 => qc (v99 = 0) (j93 ()) (qrt (1 : Int32))))) (fun u2 => qbd (α := Int32) (qjo (σ := Unit) (fun _ => qrt (0 : Int32)) fun j71 => qc (v1 = 0) (j71 ()) (qa 51 60 a1 fun v76 => qc (v76 = 0) (j71 ()) (qa 47 60 a1 fun v83 => qa 40 60 v83 fun v86 => qa 35 60 v86 fun v89 => qc (v89 = 0) (j71 ()) (qrt (1 : Int32))))) (fun u3 => qbd (α := Int32) (qjo (σ := Unit) (fun _ => qrt (0 : Int32)) fun j61 => qc (u2 = 0) (j61 ()) (qc (u3 = 0) (j61 ()) (qa 48 60 a1 fun v67 => qc (a2 = v67) (qrt (1 : Int32)) (j61 ())))) (fun u4 => qbd (α := Int32) (qjo (σ := Unit) (fun _ => qrt (1 : Int32)) fun j55 => qc (u4 = 0) (j55 ()) (qI 52 fun v57 => qc ((200 : Int32) ≤ v57) (qrt (0 : Int32)) (j55 ()))) (fun u5 => qbd (q_mayAll v1 u2 u5) (fun v6 => qc (v6 = 0) (qrt (0 : Int32)) (qc (u3 = 0) (qrt (-1 : Int32)) (qc (u4 = 0) (qa 48 60 a1 fun v13 => qjo (σ := Unit) (fun _ => qbd (q_endFamily a1) (fun _ => qrt (-1 : Int32))) fun j16 => qc (a2 = (v13 - (1 : Int32))) (qI 0 fun v18 => qa 49 60 a1 fun v22 => qc ((1 : Int32) < (v18 - v22)) (j16 ()) (qa 48 60 a1 fun v27 => qrt v27)) (j16 ())) (qa 48 60 a1 fun v31 => qw 48 60 a1 (v31 + (1 : Int32)) <| qI 0 fun v33 => qw 49 60 a1 v33 <| qbd (q_firstToken a1) (fun _ => qa 47 60 a1 fun v42 => qa 40 60 v42 fun v45 => qI 0 fun v46 => qw 33 60 v45 v46 <| qa 48 60 a1 fun v52 => qrt v52))))))))))
theorem sm_X5_refresh (a1 : Int32) (a2 : Int32) : SimM (q_refresh a1 a2) (f_X5_refresh 0 a1 a2) := by
  unfold q_refresh f_X5_refresh
  refine sm_bn0 (sm_X5_isFamily a1) fun v1 => ?_
  refine sm_bnd ?_ ?_
  · refine sm_jo (fun _ => ?_) fun j93 j93q hj93 => ?_
    · exact sm_rt _
    refine sm_cnd ?_ ?_
    · exact hj93 _
    · refine sm_gR 48 31 58 60 rfl ?_
      refine sm_isK ?_
      refine sm_aI 48 31 58 60 rfl fun v98 => ?_
      refine sm_bn0 (sm_X5_isIn a2 (0 : Int32) v98) fun v99 => ?_
      refine sm_cnd ?_ ?_
      · exact hj93 _
      · exact sm_rt _
  refine fun u2 => ?_
  refine sm_bnd ?_ ?_
  · refine sm_jo (fun _ => ?_) fun j71 j71q hj71 => ?_
    · exact sm_rt _
    refine sm_cnd ?_ ?_
    · exact hj71 _
    · refine sm_gR 51 32 6 60 rfl ?_
      refine sm_isK ?_
      refine sm_aI 51 32 6 60 rfl fun v76 => ?_
      refine sm_cnd ?_ ?_
      · exact hj71 _
      · refine sm_gR 35 32 5 60 rfl ?_
        refine sm_gR 40 31 51 60 rfl ?_
        refine sm_gR 47 31 57 60 rfl ?_
        refine sm_isK ?_
        refine sm_aI 47 31 57 60 rfl fun v83 => ?_
        refine sm_isK ?_
        refine sm_aI 40 31 51 60 rfl fun v86 => ?_
        refine sm_isK ?_
        refine sm_aI 35 32 5 60 rfl fun v89 => ?_
        refine sm_cnd ?_ ?_
        · exact hj71 _
        · exact sm_rt _
  refine fun u3 => ?_
  refine sm_bnd ?_ ?_
  · refine sm_jo (fun _ => ?_) fun j61 j61q hj61 => ?_
    · exact sm_rt _
    refine sm_cnd ?_ ?_
    · exact hj61 _
    · refine sm_cnd ?_ ?_
      · exact hj61 _
      · refine sm_gR 48 31 58 60 rfl ?_
        refine sm_isK ?_
        refine sm_aI 48 31 58 60 rfl fun v67 => ?_
        refine sm_cnd ?_ ?_
        · exact sm_rt _
        · exact hj61 _
  refine fun u4 => ?_
  refine sm_bnd ?_ ?_
  · refine sm_jo (fun _ => ?_) fun j55 j55q hj55 => ?_
    · exact sm_rt _
    refine sm_cnd ?_ ?_
    · exact hj55 _
    · refine sm_gI 52 rfl fun v57 => ?_
      refine sm_cnd ?_ ?_
      · exact sm_rt _
      · exact hj55 _
  refine fun u5 => ?_
  refine sm_bn0 (sm_X5_mayAll v1 u2 u5) fun v6 => ?_
  refine sm_cnd ?_ ?_
  · exact sm_rt _
  · refine sm_cnd ?_ ?_
    · exact sm_rt _
    · refine sm_cnd ?_ ?_
      · refine sm_gR 48 31 58 60 rfl ?_
        refine sm_isK ?_
        refine sm_aI 48 31 58 60 rfl fun v13 => ?_
        refine sm_jo (fun _ => ?_) fun j16 j16q hj16 => ?_
        · refine sm_bn0 (sm_X5_endFamily a1) fun _ => ?_
          exact sm_rt _
        refine sm_cnd ?_ ?_
        · refine sm_gI 0 rfl fun v18 => ?_
          refine sm_gR 49 31 59 60 rfl ?_
          refine sm_isK ?_
          refine sm_aI 49 31 59 60 rfl fun v22 => ?_
          refine sm_cnd ?_ ?_
          · exact hj16 _
          · refine sm_gR 48 31 58 60 rfl ?_
            refine sm_isK ?_
            refine sm_aI 48 31 58 60 rfl fun v27 => ?_
            exact sm_rt _
        · exact hj16 _
      · refine sm_gR 48 31 58 60 rfl ?_
        refine sm_isK ?_
        refine sm_aI 48 31 58 60 rfl fun v31 => ?_
        refine sm_bI 48 31 58 60 rfl ?_
        refine sm_gR 49 31 59 60 rfl ?_
        refine sm_gI 0 rfl fun v33 => ?_
        refine sm_isK ?_
        refine sm_bI 49 31 59 60 rfl ?_
        refine sm_bn0 (sm_X5_firstToken a1) fun _ => ?_
        refine sm_gR 33 31 46 60 rfl ?_
        refine sm_gR 40 31 51 60 rfl ?_
        refine sm_gR 47 31 57 60 rfl ?_
        refine sm_isK ?_
        refine sm_aI 47 31 57 60 rfl fun v42 => ?_
        refine sm_isK ?_
        refine sm_aI 40 31 51 60 rfl fun v45 => ?_
        refine sm_gI 0 rfl fun v46 => ?_
        refine sm_isK ?_
        refine sm_bI 33 31 46 60 rfl ?_
        refine sm_gR 48 31 58 60 rfl ?_
        refine sm_isK ?_
        refine sm_aI 48 31 58 60 rfl fun v52 => ?_
        exact sm_rt _
def q_isGood (a1 : Int32) : PM Int32 := qbd (q_isFamily a1) (fun v1 => qbd (q_may v1) (fun v2 => qc (v2 = 0) (qas (((0 : Int32) = 0) ∨ ((0 : Int32) = 1)) (qrt (0 : Int32))) (qa 51 60 a1 fun v7 => qc (v7 = 0) (qas (((0 : Int32) = 0) ∨ ((0 : Int32) = 1)) (qrt (0 : Int32))) (qas (((1 : Int32) = 0) ∨ ((1 : Int32) = 1)) (qrt (1 : Int32))))))
theorem sm_X5_isGood (a1 : Int32) : SimM (q_isGood a1) (f_X5_isGood 0 a1) := by
  unfold q_isGood f_X5_isGood
  refine sm_bn0 (sm_X5_isFamily a1) fun v1 => ?_
  refine sm_bn0 (sm_X5_may v1) fun v2 => ?_
  refine sm_cnd ?_ ?_
  · refine sm_asr ?_
    exact sm_rt _
  · refine sm_gR 51 32 6 60 rfl ?_
    refine sm_isK ?_
    refine sm_aI 51 32 6 60 rfl fun v7 => ?_
    refine sm_cnd ?_ ?_
    · refine sm_asr ?_
      exact sm_rt _
    · refine sm_asr ?_
      exact sm_rt _
def q_tokenOf (a1 : Int32) : PM Int32 := qbd (q_isFamily a1) (fun v1 => qbd (q_may v1) (fun v2 => qc (v2 = 0) (qrt (0 : Int32)) (qa 50 60 a1 fun v7 => qrt v7)))
theorem sm_X5_tokenOf (a1 : Int32) : SimM (q_tokenOf a1) (f_X5_tokenOf 0 a1) := by
  unfold q_tokenOf f_X5_tokenOf
  refine sm_bn0 (sm_X5_isFamily a1) fun v1 => ?_
  refine sm_bn0 (sm_X5_may v1) fun v2 => ?_
  refine sm_cnd ?_ ?_
  · exact sm_rt _
  · refine sm_gR 50 31 60 60 rfl ?_
    refine sm_isK ?_
    refine sm_aI 50 31 60 60 rfl fun v7 => ?_
    exact sm_rt _
def q_isToken (a1 : Int32) : PM Int32 := qI 52 fun v1 => qbd (q_isIn a1 (0 : Int32) (v1 - (1 : Int32))) (fun v2 => qas ((v2 = 0) ∨ (v2 = 1)) (qrt v2))
theorem sm_X5_isToken (a1 : Int32) : SimM (q_isToken a1) (f_X5_isToken 0 a1) := by
  unfold q_isToken f_X5_isToken
  refine sm_gI 52 rfl fun v1 => ?_
  refine sm_bn0 (sm_X5_isIn a1 (0 : Int32) (v1 - (1 : Int32))) fun v2 => ?_
  refine sm_asr ?_
  exact sm_rt _
def q_exchange (a1 : Int32) (a2 : Int32) (a3 : Int32) : PM Int32 := qbd (q_isToken a1) (fun v1 => qbd (α := Int32) (qjo (σ := Unit) (fun _ => qrt (0 : Int32)) fun j77 => qc (v1 = 0) (j77 ()) (qbd (q_isService a2) (fun v79 => qc (v79 = 0) (j77 ()) (qrt (1 : Int32))))) (fun u2 => qbd (α := Int32) (qjo (σ := Unit) (fun _ => qrt (0 : Int32)) fun j66 => qc (u2 = 0) (j66 ()) (qbd (q_isIn a3 (1 : Int32) (15 : Int32)) (fun v68 => qc (v68 = 0) (j66 ()) (qa 55 200 a1 fun v73 => qc ((a3 &&& (v73 ^^^ (-1 : Int32))) = 0) (qrt (1 : Int32)) (j66 ()))))) (fun u3 => qbd (α := Int32) (qjo (σ := Unit) (fun _ => qrt (0 : Int32)) fun j40 => qc (u2 = 0) (j40 ()) (qI 0 fun v42 => qa 59 200 a1 fun v46 => qc (v46 < v42) (j40 ()) (qa 57 200 a1 fun v52 => qa 51 60 v52 fun v55 => qc (v55 = 0) (j40 ()) (qa 56 200 a1 fun v60 => qc ((3 : Int32) ≤ v60) (j40 ()) (qI 52 fun v62 => qc ((200 : Int32) ≤ v62) (j40 ()) (qrt (1 : Int32))))))) (fun u4 => qbd (q_mayAll u2 u3 u4) (fun v5 => qc (v5 = 0) (qrt (0 : Int32)) (qa 57 200 a1 fun v10 => qa 47 60 v10 fun v15 => qa 40 60 v15 fun v18 => qbd (q_levelNow v18) (fun v19 => qa 38 4 a2 fun v23 => qc (v23 ≤ v19) (qa 54 200 a1 fun v28 => qa 56 200 a1 fun v32 => qa 59 200 a1 fun v36 => qbd (q_newToken v10 v28 a2 a3 (v32 + (1 : Int32)) v36) (fun v37 => qrt v37)) (qrt (-2 : Int32)))))))))
theorem sm_X5_exchange (a1 : Int32) (a2 : Int32) (a3 : Int32) : SimM (q_exchange a1 a2 a3) (f_X5_exchange 0 a1 a2 a3) := by
  unfold q_exchange f_X5_exchange
  refine sm_bn0 (sm_X5_isToken a1) fun v1 => ?_
  refine sm_bnd ?_ ?_
  · refine sm_jo (fun _ => ?_) fun j77 j77q hj77 => ?_
    · exact sm_rt _
    refine sm_cnd ?_ ?_
    · exact hj77 _
    · refine sm_bn0 (sm_X5_isService a2) fun v79 => ?_
      refine sm_cnd ?_ ?_
      · exact hj77 _
      · exact sm_rt _
  refine fun u2 => ?_
  refine sm_bnd ?_ ?_
  · refine sm_jo (fun _ => ?_) fun j66 j66q hj66 => ?_
    · exact sm_rt _
    refine sm_cnd ?_ ?_
    · exact hj66 _
    · refine sm_bn0 (sm_X5_isIn a3 (1 : Int32) (15 : Int32)) fun v68 => ?_
      refine sm_cnd ?_ ?_
      · exact hj66 _
      · refine sm_gR 55 31 63 200 rfl ?_
        refine sm_isK ?_
        refine sm_aI 55 31 63 200 rfl fun v73 => ?_
        refine sm_cnd ?_ ?_
        · exact sm_rt _
        · exact hj66 _
  refine fun u3 => ?_
  refine sm_bnd ?_ ?_
  · refine sm_jo (fun _ => ?_) fun j40 j40q hj40 => ?_
    · exact sm_rt _
    refine sm_cnd ?_ ?_
    · exact hj40 _
    · refine sm_gI 0 rfl fun v42 => ?_
      refine sm_gR 59 31 67 200 rfl ?_
      refine sm_isK ?_
      refine sm_aI 59 31 67 200 rfl fun v46 => ?_
      refine sm_cnd ?_ ?_
      · exact hj40 _
      · refine sm_gR 51 32 6 60 rfl ?_
        refine sm_gR 57 31 65 200 rfl ?_
        refine sm_isK ?_
        refine sm_aI 57 31 65 200 rfl fun v52 => ?_
        refine sm_isK ?_
        refine sm_aI 51 32 6 60 rfl fun v55 => ?_
        refine sm_cnd ?_ ?_
        · exact hj40 _
        · refine sm_gR 56 31 64 200 rfl ?_
          refine sm_isK ?_
          refine sm_aI 56 31 64 200 rfl fun v60 => ?_
          refine sm_cnd ?_ ?_
          · exact hj40 _
          · refine sm_gI 52 rfl fun v62 => ?_
            refine sm_cnd ?_ ?_
            · exact hj40 _
            · exact sm_rt _
  refine fun u4 => ?_
  refine sm_bn0 (sm_X5_mayAll u2 u3 u4) fun v5 => ?_
  refine sm_cnd ?_ ?_
  · exact sm_rt _
  · refine sm_gR 57 31 65 200 rfl ?_
    refine sm_isK ?_
    refine sm_aI 57 31 65 200 rfl fun v10 => ?_
    refine sm_gR 40 31 51 60 rfl ?_
    refine sm_gR 47 31 57 60 rfl ?_
    refine sm_isK ?_
    refine sm_aI 47 31 57 60 rfl fun v15 => ?_
    refine sm_isK ?_
    refine sm_aI 40 31 51 60 rfl fun v18 => ?_
    refine sm_bn0 (sm_X5_levelNow v18) fun v19 => ?_
    refine sm_gR 38 31 50 4 rfl ?_
    refine sm_isK ?_
    refine sm_aI 38 31 50 4 rfl fun v23 => ?_
    refine sm_cnd ?_ ?_
    · refine sm_gR 54 31 62 200 rfl ?_
      refine sm_isK ?_
      refine sm_aI 54 31 62 200 rfl fun v28 => ?_
      refine sm_gR 56 31 64 200 rfl ?_
      refine sm_isK ?_
      refine sm_aI 56 31 64 200 rfl fun v32 => ?_
      refine sm_gR 59 31 67 200 rfl ?_
      refine sm_isK ?_
      refine sm_aI 59 31 67 200 rfl fun v36 => ?_
      refine sm_bn0 (sm_X5_newToken v10 v28 a2 a3 (v32 + (1 : Int32)) v36) fun v37 => ?_
      exact sm_rt _
    · exact sm_rt _
def q_token (a1 : Int32) : PM Int32 := qbd (q_isToken a1) (fun v1 => qbd (q_may v1) (fun v2 => qc (v2 = 0) (qrt (0 : Int32)) (qa 59 200 a1 fun v7 => qa 53 200 a1 fun v11 => qa 54 200 a1 fun v15 => qa 56 200 a1 fun v19 => qrt (((((1000 : Int32) * v7) + ((100 : Int32) * v11)) + ((10 : Int32) * v15)) + v19))))
theorem sm_X5_token (a1 : Int32) : SimM (q_token a1) (f_X5_token 0 a1) := by
  unfold q_token f_X5_token
  refine sm_bn0 (sm_X5_isToken a1) fun v1 => ?_
  refine sm_bn0 (sm_X5_may v1) fun v2 => ?_
  refine sm_cnd ?_ ?_
  · exact sm_rt _
  · refine sm_gR 59 31 67 200 rfl ?_
    refine sm_isK ?_
    refine sm_aI 59 31 67 200 rfl fun v7 => ?_
    refine sm_gR 53 31 61 200 rfl ?_
    refine sm_isK ?_
    refine sm_aI 53 31 61 200 rfl fun v11 => ?_
    refine sm_gR 54 31 62 200 rfl ?_
    refine sm_isK ?_
    refine sm_aI 54 31 62 200 rfl fun v15 => ?_
    refine sm_gR 56 31 64 200 rfl ?_
    refine sm_isK ?_
    refine sm_aI 56 31 64 200 rfl fun v19 => ?_
    exact sm_rt _
def q_turn : PM Int32 := qI 62 fun v1 => qbd (α := Int32) (qjo (σ := Unit) (fun _ => qrt (0 : Int32)) fun j11 => qc (v1 = (-1 : Int32)) (qI 60 fun v13 => qc ((20 : Int32) ≤ v13) (j11 ()) (qrt (1 : Int32))) (j11 ())) (fun u2 => qbd (q_may u2) (fun v3 => qc (v3 = 0) (qrt (0 : Int32)) (qI 60 fun v5 => qW 62 v5 <| qI 0 fun v6 => qW 63 (v6 + (5 : Int32)) <| qI 60 fun v7 => qW 60 (v7 + (1 : Int32)) <| qI 62 fun v8 => qrt v8)))
theorem sm_X5_turn : SimM (q_turn) (f_X5_turn 0) := by
  unfold q_turn f_X5_turn
  refine sm_gI 62 rfl fun v1 => ?_
  refine sm_bnd ?_ ?_
  · refine sm_jo (fun _ => ?_) fun j11 j11q hj11 => ?_
    · exact sm_rt _
    refine sm_cnd ?_ ?_
    · refine sm_gI 60 rfl fun v13 => ?_
      refine sm_cnd ?_ ?_
      · exact hj11 _
      · exact sm_rt _
    · exact hj11 _
  refine fun u2 => ?_
  refine sm_bn0 (sm_X5_may u2) fun v3 => ?_
  refine sm_cnd ?_ ?_
  · exact sm_rt _
  · refine sm_gI 60 rfl fun v5 => ?_
    refine sm_pI 62 rfl ?_
    refine sm_gI 0 rfl fun v6 => ?_
    refine sm_pI 63 rfl ?_
    refine sm_gI 60 rfl fun v7 => ?_
    refine sm_pI 60 rfl ?_
    refine sm_gI 62 rfl fun v8 => ?_
    exact sm_rt _
def q_emergency : PM Int32 := qI 62 fun v1 => qbd (α := Int32) (qjo (σ := Unit) (fun _ => qrt (1 : Int32)) fun j20 => qc (v1 = (-1 : Int32)) (qI 60 fun v22 => qc ((20 : Int32) ≤ v22) (qrt (0 : Int32)) (j20 ())) (j20 ())) (fun u2 => qbd (q_may u2) (fun v3 => qc (v3 = 0) (qrt (0 : Int32)) (qI 61 fun v6 => qz 64 20 v6 (1 : Int32) <| qI 62 fun v9 => qbd (α := Unit) (qc (v9 = (-1 : Int32)) (qI 60 fun v16 => qW 62 v16 <| qI 60 fun v17 => qW 60 (v17 + (1 : Int32)) <| qrt ()) (qrt ())) (fun _ => qI 62 fun v10 => qW 61 v10 <| qW 62 (-1 : Int32) <| qI 61 fun v11 => qbd (q_write (5 : Int32) v11) (fun _ => qI 61 fun v13 => qrt v13)))))
theorem sm_X5_emergency : SimM (q_emergency) (f_X5_emergency 0) := by
  unfold q_emergency f_X5_emergency
  refine sm_gI 62 rfl fun v1 => ?_
  refine sm_bnd ?_ ?_
  · refine sm_jo (fun _ => ?_) fun j20 j20q hj20 => ?_
    · exact sm_rt _
    refine sm_cnd ?_ ?_
    · refine sm_gI 60 rfl fun v22 => ?_
      refine sm_cnd ?_ ?_
      · exact sm_rt _
      · exact hj20 _
    · exact hj20 _
  refine fun u2 => ?_
  refine sm_bn0 (sm_X5_may u2) fun v3 => ?_
  refine sm_cnd ?_ ?_
  · exact sm_rt _
  · refine sm_gR 64 32 7 20 rfl ?_
    refine sm_gI 61 rfl fun v6 => ?_
    refine sm_isK ?_
    refine sm_bZ 64 32 7 20 rfl ?_
    refine sm_gI 62 rfl fun v9 => ?_
    refine sm_bnd ?_ ?_
    · refine sm_cnd ?_ ?_
      · refine sm_gI 60 rfl fun v16 => ?_
        refine sm_pI 62 rfl ?_
        refine sm_gI 60 rfl fun v17 => ?_
        refine sm_pI 60 rfl ?_
        exact sm_rt _
      · exact sm_rt _
    refine fun _ => ?_
    refine sm_gI 62 rfl fun v10 => ?_
    refine sm_pI 61 rfl ?_
    refine sm_pI 62 rfl ?_
    refine sm_gI 61 rfl fun v11 => ?_
    refine sm_bn0 (sm_X5_write (5 : Int32) v11) fun _ => ?_
    refine sm_gI 61 rfl fun v13 => ?_
    exact sm_rt _
def q_signing : PM Int32 := qW 82 (0 : Int32) <| qI 61 fun v1 => qrt v1
theorem sm_X5_signing : SimM (q_signing) (f_X5_signing 0) := by
  unfold q_signing f_X5_signing
  refine sm_pI 82 rfl ?_
  refine sm_gI 61 rfl fun v1 => ?_
  exact sm_rt _
def q_isOpenKey (a1 : Int32) : PM Int32 := qI 60 fun v1 => qc (v1 ≤ a1) (qas (((0 : Int32) = 0) ∨ ((0 : Int32) = 1)) (qrt (0 : Int32))) (qa 64 20 a1 fun v6 => qc (v6 = 0) (qa 65 20 a1 fun v11 => qc (v11 = (-1 : Int32)) (qas (((1 : Int32) = 0) ∨ ((1 : Int32) = 1)) (qrt (1 : Int32))) (qI 0 fun v13 => qa 65 20 a1 fun v17 => qc (v17 ≤ v13) (qas (((0 : Int32) = 0) ∨ ((0 : Int32) = 1)) (qrt (0 : Int32))) (qas (((1 : Int32) = 0) ∨ ((1 : Int32) = 1)) (qrt (1 : Int32))))) (qas (((0 : Int32) = 0) ∨ ((0 : Int32) = 1)) (qrt (0 : Int32))))
theorem sm_X5_isOpenKey (a1 : Int32) : SimM (q_isOpenKey a1) (f_X5_isOpenKey 0 a1) := by
  unfold q_isOpenKey f_X5_isOpenKey
  refine sm_gI 60 rfl fun v1 => ?_
  refine sm_cnd ?_ ?_
  · refine sm_asr ?_
    exact sm_rt _
  · refine sm_gR 64 32 7 20 rfl ?_
    refine sm_isK ?_
    refine sm_aI 64 32 7 20 rfl fun v6 => ?_
    refine sm_cnd ?_ ?_
    · refine sm_gR 65 31 68 20 rfl ?_
      refine sm_isK ?_
      refine sm_aI 65 31 68 20 rfl fun v11 => ?_
      refine sm_cnd ?_ ?_
      · refine sm_asr ?_
        exact sm_rt _
      · refine sm_gI 0 rfl fun v13 => ?_
        refine sm_gR 65 31 68 20 rfl ?_
        refine sm_isK ?_
        refine sm_aI 65 31 68 20 rfl fun v17 => ?_
        refine sm_cnd ?_ ?_
        · refine sm_asr ?_
          exact sm_rt _
        · refine sm_asr ?_
          exact sm_rt _
    · refine sm_asr ?_
      exact sm_rt _
def q_isPublished (a1 : Int32) : PM Int32 := qI 60 fun v1 => qbd (q_isIn a1 (0 : Int32) (v1 - (1 : Int32))) (fun v2 => qbd (q_may v2) (fun v3 => qc (v3 = 0) (qas (((0 : Int32) = 0) ∨ ((0 : Int32) = 1)) (qrt (0 : Int32))) (qbd (q_isOpenKey a1) (fun v5 => qc (v5 = 0) (qas (((0 : Int32) = 0) ∨ ((0 : Int32) = 1)) (qrt (0 : Int32))) (qas (((1 : Int32) = 0) ∨ ((1 : Int32) = 1)) (qrt (1 : Int32)))))))
theorem sm_X5_isPublished (a1 : Int32) : SimM (q_isPublished a1) (f_X5_isPublished 0 a1) := by
  unfold q_isPublished f_X5_isPublished
  refine sm_gI 60 rfl fun v1 => ?_
  refine sm_bn0 (sm_X5_isIn a1 (0 : Int32) (v1 - (1 : Int32))) fun v2 => ?_
  refine sm_bn0 (sm_X5_may v2) fun v3 => ?_
  refine sm_cnd ?_ ?_
  · refine sm_asr ?_
    exact sm_rt _
  · refine sm_bn0 (sm_X5_isOpenKey a1) fun v5 => ?_
    refine sm_cnd ?_ ?_
    · refine sm_asr ?_
      exact sm_rt _
    · refine sm_asr ?_
      exact sm_rt _
def q_line (a1 : Int32) : PM Int32 := qbd (q_isService a1) (fun v1 => qbd (q_may v1) (fun v2 => qc (v2 = 0) (qrt (0 : Int32)) (qa 66 4 a1 fun v8 => qbd (α := Int32) (qc (v8 = 0) (qrt (1 : Int32)) (qrt (0 : Int32))) (fun u9 => qz 66 4 a1 u9 <| qlp (σ := Int32 × Int32) (fun r14 => un2 fun u12 u13 => qI 46 fun v15 => qc (v15 ≤ u13) (qrt u12) (qa 66 4 a1 fun v20 => qc (v20 = 0) (qa 51 60 u13 fun v25 => qbd (α := Int32) (qjo (σ := Unit) (fun _ => qrt (0 : Int32)) fun j43 => qc (v25 = 0) (qa 69 240 (((60 : Int32) * a1) + u13) fun v48 => qc (v48 = 0) (qbd (q_hears a1 u13) (fun v50 => qc (v50 = 0) (j43 ()) (qrt (1 : Int32)))) (j43 ())) (j43 ())) (fun u26 => qa 69 240 (((60 : Int32) * a1) + u13) fun v31 => qbd (α := Int32) (qjo (σ := Unit) (fun _ => qrt (1 : Int32)) fun j38 => qc (v31 = 0) (qc (u26 = 0) (qrt (0 : Int32)) (j38 ())) (j38 ())) (fun u32 => qz 69 240 (((60 : Int32) * a1) + u13) u32 <| qc (u26 = 0) (r14 ((u12 + (0 : Int32)), (u13 + (1 : Int32)))) (r14 ((u12 + (1 : Int32)), (u13 + (1 : Int32))))))) (qrt u12))) ((0 : Int32), (0 : Int32))))))
theorem sm_X5_line (a1 : Int32) : SimM (q_line a1) (f_X5_line 0 a1) := by
  unfold q_line f_X5_line
  refine sm_bn0 (sm_X5_isService a1) fun v1 => ?_
  refine sm_bn0 (sm_X5_may v1) fun v2 => ?_
  refine sm_cnd ?_ ?_
  · exact sm_rt _
  · refine sm_gR 66 32 8 4 rfl ?_
    refine sm_gR 66 32 8 4 rfl ?_
    refine sm_isK ?_
    refine sm_aI 66 32 8 4 rfl fun v8 => ?_
    refine sm_bnd ?_ ?_
    · refine sm_cnd ?_ ?_
      · exact sm_rt _
      · exact sm_rt _
    refine fun u9 => ?_
    refine sm_isK ?_
    refine sm_bZ 66 32 8 4 rfl ?_
    refine sm_lp (fun r14 r14q hr14 => ?_) ((0 : Int32), (0 : Int32))
    refine sm_un2 fun u12 u13 => ?_
    refine sm_gI 46 rfl fun v15 => ?_
    refine sm_cnd ?_ ?_
    · exact sm_rt _
    · refine sm_gR 66 32 8 4 rfl ?_
      refine sm_isK ?_
      refine sm_aI 66 32 8 4 rfl fun v20 => ?_
      refine sm_cnd ?_ ?_
      · refine sm_gR 51 32 6 60 rfl ?_
        refine sm_isK ?_
        refine sm_aI 51 32 6 60 rfl fun v25 => ?_
        refine sm_bnd ?_ ?_
        · refine sm_jo (fun _ => ?_) fun j43 j43q hj43 => ?_
          · exact sm_rt _
          refine sm_cnd ?_ ?_
          · refine sm_gR 69 32 9 240 rfl ?_
            refine sm_isK ?_
            refine sm_aI 69 32 9 240 rfl fun v48 => ?_
            refine sm_cnd ?_ ?_
            · refine sm_bn0 (sm_X5_hears a1 u13) fun v50 => ?_
              refine sm_cnd ?_ ?_
              · exact hj43 _
              · exact sm_rt _
            · exact hj43 _
          · exact hj43 _
        refine fun u26 => ?_
        refine sm_gR 69 32 9 240 rfl ?_
        refine sm_gR 69 32 9 240 rfl ?_
        refine sm_isK ?_
        refine sm_aI 69 32 9 240 rfl fun v31 => ?_
        refine sm_bnd ?_ ?_
        · refine sm_jo (fun _ => ?_) fun j38 j38q hj38 => ?_
          · exact sm_rt _
          refine sm_cnd ?_ ?_
          · refine sm_cnd ?_ ?_
            · exact sm_rt _
            · exact hj38 _
          · exact hj38 _
        refine fun u32 => ?_
        refine sm_isK ?_
        refine sm_bZ 69 32 9 240 rfl ?_
        refine sm_cnd ?_ ?_
        · exact hr14 _
        · exact hr14 _
      · exact sm_rt _
def q_check (a1 : Int32) (a2 : Int32) (a3 : Int32) : PM Int32 := qbd (q_isService a1) (fun v1 => qbd (α := Int32) (qjo (σ := Unit) (fun _ => qrt (0 : Int32)) fun j84 => qc (v1 = 0) (j84 ()) (qbd (q_isToken a2) (fun v86 => qc (v86 = 0) (j84 ()) (qrt (1 : Int32))))) (fun u2 => qbd (q_isIn a3 (0 : Int32) (3 : Int32)) (fun v3 => qbd (q_mayBoth u2 v3) (fun v4 => qc (v4 = 0) (qrt (0 : Int32)) (qa 54 200 a2 fun v9 => qc (v9 = a1) (qI 0 fun v11 => qa 59 200 a2 fun v15 => qc (v11 ≤ v15) (qa 66 4 a1 fun v20 => qbd (α := Unit) (qc (v20 = 0) (qI 0 fun v46 => qa 68 4 a1 fun v50 => qjo (σ := Unit) (fun _ => qw 67 4 a1 (0 : Int32) <| qbd (qlp (σ := Int32) (fun r55 => fun u54 => qc ((20 : Int32) ≤ u54) (qrt ()) (qa 67 4 a1 fun v61 => qbd (q_isOpenKey u54) (fun v62 => qbd (α := Int32) (qc (v62 = 0) (qrt (0 : Int32)) (qrt ((1 : Int32) <<< (u54 &&& 31)))) (fun u63 => qw 67 4 a1 (v61 ||| u63) <| r55 (u54 + (1 : Int32)))))) (0 : Int32)) (fun _ => qI 0 fun v67 => qw 68 4 a1 v67 <| qrt ())) fun j71 => qc ((15 : Int32) < (v46 - v50)) (j71 ()) (qa 67 4 a1 fun v76 => qa 58 200 a2 fun v80 => qc (((v76 >>> (v80 &&& 31)) &&& (1 : Int32)) = 0) (j71 ()) (qrt ()))) (qrt ())) (fun _ => qa 67 4 a1 fun v24 => qa 58 200 a2 fun v28 => qc (((v24 >>> (v28 &&& 31)) &&& (1 : Int32)) = 0) (qrt (3 : Int32)) (qa 57 200 a2 fun v34 => qa 69 240 (((60 : Int32) * a1) + v34) fun v37 => qc (v37 = 0) (qa 55 200 a2 fun v42 => qc (((v42 >>> (a3 &&& 31)) &&& (1 : Int32)) = 0) (qrt (5 : Int32)) (qrt (0 : Int32))) (qrt (4 : Int32))))) (qrt (2 : Int32))) (qrt (1 : Int32)))))))
theorem sm_X5_check (a1 : Int32) (a2 : Int32) (a3 : Int32) : SimM (q_check a1 a2 a3) (f_X5_check 0 a1 a2 a3) := by
  unfold q_check f_X5_check
  refine sm_bn0 (sm_X5_isService a1) fun v1 => ?_
  refine sm_bnd ?_ ?_
  · refine sm_jo (fun _ => ?_) fun j84 j84q hj84 => ?_
    · exact sm_rt _
    refine sm_cnd ?_ ?_
    · exact hj84 _
    · refine sm_bn0 (sm_X5_isToken a2) fun v86 => ?_
      refine sm_cnd ?_ ?_
      · exact hj84 _
      · exact sm_rt _
  refine fun u2 => ?_
  refine sm_bn0 (sm_X5_isIn a3 (0 : Int32) (3 : Int32)) fun v3 => ?_
  refine sm_bn0 (sm_X5_mayBoth u2 v3) fun v4 => ?_
  refine sm_cnd ?_ ?_
  · exact sm_rt _
  · refine sm_gR 54 31 62 200 rfl ?_
    refine sm_isK ?_
    refine sm_aI 54 31 62 200 rfl fun v9 => ?_
    refine sm_cnd ?_ ?_
    · refine sm_gI 0 rfl fun v11 => ?_
      refine sm_gR 59 31 67 200 rfl ?_
      refine sm_isK ?_
      refine sm_aI 59 31 67 200 rfl fun v15 => ?_
      refine sm_cnd ?_ ?_
      · refine sm_gR 66 32 8 4 rfl ?_
        refine sm_isK ?_
        refine sm_aI 66 32 8 4 rfl fun v20 => ?_
        refine sm_bnd ?_ ?_
        · refine sm_cnd ?_ ?_
          · refine sm_gI 0 rfl fun v46 => ?_
            refine sm_gR 68 31 70 4 rfl ?_
            refine sm_isK ?_
            refine sm_aI 68 31 70 4 rfl fun v50 => ?_
            refine sm_jo (fun _ => ?_) fun j71 j71q hj71 => ?_
            · refine sm_gR 67 31 69 4 rfl ?_
              refine sm_isK ?_
              refine sm_bI 67 31 69 4 rfl ?_
              refine sm_bnd ?_ ?_
              · refine sm_lp (fun r55 r55q hr55 => ?_) (0 : Int32)
                intro u54
                refine sm_cnd ?_ ?_
                · exact sm_rt _
                · refine sm_gR 67 31 69 4 rfl ?_
                  refine sm_isK ?_
                  refine sm_aI 67 31 69 4 rfl fun v61 => ?_
                  refine sm_bn0 (sm_X5_isOpenKey u54) fun v62 => ?_
                  refine sm_bnd ?_ ?_
                  · refine sm_cnd ?_ ?_
                    · exact sm_rt _
                    · exact sm_rt _
                  refine fun u63 => ?_
                  refine sm_bI 67 31 69 4 rfl ?_
                  exact hr55 _
              refine fun _ => ?_
              refine sm_gR 68 31 70 4 rfl ?_
              refine sm_gI 0 rfl fun v67 => ?_
              refine sm_isK ?_
              refine sm_bI 68 31 70 4 rfl ?_
              exact sm_rt _
            refine sm_cnd ?_ ?_
            · exact hj71 _
            · refine sm_gR 67 31 69 4 rfl ?_
              refine sm_isK ?_
              refine sm_aI 67 31 69 4 rfl fun v76 => ?_
              refine sm_gR 58 31 66 200 rfl ?_
              refine sm_isK ?_
              refine sm_aI 58 31 66 200 rfl fun v80 => ?_
              refine sm_cnd ?_ ?_
              · exact hj71 _
              · exact sm_rt _
          · exact sm_rt _
        refine fun _ => ?_
        refine sm_gR 67 31 69 4 rfl ?_
        refine sm_isK ?_
        refine sm_aI 67 31 69 4 rfl fun v24 => ?_
        refine sm_gR 58 31 66 200 rfl ?_
        refine sm_isK ?_
        refine sm_aI 58 31 66 200 rfl fun v28 => ?_
        refine sm_cnd ?_ ?_
        · exact sm_rt _
        · refine sm_gR 69 32 9 240 rfl ?_
          refine sm_gR 57 31 65 200 rfl ?_
          refine sm_isK ?_
          refine sm_aI 57 31 65 200 rfl fun v34 => ?_
          refine sm_isK ?_
          refine sm_aI 69 32 9 240 rfl fun v37 => ?_
          refine sm_cnd ?_ ?_
          · refine sm_gR 55 31 63 200 rfl ?_
            refine sm_isK ?_
            refine sm_aI 55 31 63 200 rfl fun v42 => ?_
            refine sm_cnd ?_ ?_
            · exact sm_rt _
            · exact sm_rt _
          · exact sm_rt _
      · exact sm_rt _
    · exact sm_rt _
def q_lag (a1 : Int32) : PM Int32 := qbd (q_isToken a1) (fun v1 => qbd (q_may v1) (fun v2 => qc (v2 = 0) (qrt (0 : Int32)) (qa 57 200 a1 fun v8 => qa 51 60 v8 fun v11 => qbd (α := Int32) (qjo (σ := Unit) (fun _ => qrt (0 : Int32)) fun j21 => qc (v11 = 0) (qa 54 200 a1 fun v27 => qa 57 200 a1 fun v31 => qa 69 240 (((60 : Int32) * v27) + v31) fun v34 => qc (v34 = 0) (qI 0 fun v36 => qa 59 200 a1 fun v40 => qc (v40 < v36) (j21 ()) (qrt (1 : Int32))) (j21 ())) (j21 ())) (fun u12 => qc (u12 = 0) (qrt (0 : Int32)) (qa 59 200 a1 fun v17 => qI 0 fun v18 => qrt ((v17 - v18) + (1 : Int32)))))))
theorem sm_X5_lag (a1 : Int32) : SimM (q_lag a1) (f_X5_lag 0 a1) := by
  unfold q_lag f_X5_lag
  refine sm_bn0 (sm_X5_isToken a1) fun v1 => ?_
  refine sm_bn0 (sm_X5_may v1) fun v2 => ?_
  refine sm_cnd ?_ ?_
  · exact sm_rt _
  · refine sm_gR 51 32 6 60 rfl ?_
    refine sm_gR 57 31 65 200 rfl ?_
    refine sm_isK ?_
    refine sm_aI 57 31 65 200 rfl fun v8 => ?_
    refine sm_isK ?_
    refine sm_aI 51 32 6 60 rfl fun v11 => ?_
    refine sm_bnd ?_ ?_
    · refine sm_jo (fun _ => ?_) fun j21 j21q hj21 => ?_
      · exact sm_rt _
      refine sm_cnd ?_ ?_
      · refine sm_gR 69 32 9 240 rfl ?_
        refine sm_gR 54 31 62 200 rfl ?_
        refine sm_isK ?_
        refine sm_aI 54 31 62 200 rfl fun v27 => ?_
        refine sm_gR 57 31 65 200 rfl ?_
        refine sm_isK ?_
        refine sm_aI 57 31 65 200 rfl fun v31 => ?_
        refine sm_isK ?_
        refine sm_aI 69 32 9 240 rfl fun v34 => ?_
        refine sm_cnd ?_ ?_
        · refine sm_gI 0 rfl fun v36 => ?_
          refine sm_gR 59 31 67 200 rfl ?_
          refine sm_isK ?_
          refine sm_aI 59 31 67 200 rfl fun v40 => ?_
          refine sm_cnd ?_ ?_
          · exact hj21 _
          · exact sm_rt _
        · exact hj21 _
      · exact hj21 _
    refine fun u12 => ?_
    refine sm_cnd ?_ ?_
    · exact sm_rt _
    · refine sm_gR 59 31 67 200 rfl ?_
      refine sm_isK ?_
      refine sm_aI 59 31 67 200 rfl fun v17 => ?_
      refine sm_gI 0 rfl fun v18 => ?_
      exact sm_rt _
def q_recover (a1 : Int32) : PM Int32 := qbd (q_isSix a1) (fun v1 => qbd (α := Int32) (qjo (σ := Unit) (fun _ => qrt (0 : Int32)) fun j43 => qc (v1 = 0) (j43 ()) (qa 7 6 a1 fun v48 => qc (v48 = 0) (qI 70 fun v50 => qc ((20 : Int32) ≤ v50) (j43 ()) (qrt (1 : Int32))) (j43 ()))) (fun u2 => qbd (qlp (σ := Int32 × Int32) (fun r5 => un2 fun u3 u4 => qI 70 fun v8 => qc (v8 ≤ u4) (qrt u3) (qc (u3 = 0) (r5 ((0 : Int32), (u4 + (1 : Int32)))) (qa 73 20 u4 fun v14 => qjo (σ := Int32) (fun u15 => r5 ((1 : Int32), (u15 + (1 : Int32)))) fun j17 => qc (v14 = 0) (j17 u4) (qa 71 20 u4 fun v22 => qc (v22 = a1) (r5 ((0 : Int32), (u4 + (1 : Int32)))) (j17 u4))))) (u2, (0 : Int32))) (fun u6 => qbd (q_mayBoth v1 u6) (fun v24 => qc (v24 = 0) (qrt (0 : Int32)) (qI 70 fun v27 => qw 71 20 v27 a1 <| qI 70 fun v31 => qI 0 fun v32 => qw 72 20 v31 v32 <| qI 70 fun v36 => qz 73 20 v36 (1 : Int32) <| qI 70 fun v39 => qW 70 (v39 + (1 : Int32)) <| qI 70 fun v40 => qrt (v40 - (1 : Int32)))))))
theorem sm_X5_recover (a1 : Int32) : SimM (q_recover a1) (f_X5_recover 0 a1) := by
  unfold q_recover f_X5_recover
  refine sm_bn0 (sm_X5_isSix a1) fun v1 => ?_
  refine sm_bnd ?_ ?_
  · refine sm_jo (fun _ => ?_) fun j43 j43q hj43 => ?_
    · exact sm_rt _
    refine sm_cnd ?_ ?_
    · exact hj43 _
    · refine sm_gR 7 32 2 6 rfl ?_
      refine sm_isK ?_
      refine sm_aI 7 32 2 6 rfl fun v48 => ?_
      refine sm_cnd ?_ ?_
      · refine sm_gI 70 rfl fun v50 => ?_
        refine sm_cnd ?_ ?_
        · exact hj43 _
        · exact sm_rt _
      · exact hj43 _
  refine fun u2 => ?_
  refine sm_bnd ?_ ?_
  · refine sm_lp (fun r5 r5q hr5 => ?_) (u2, (0 : Int32))
    refine sm_un2 fun u3 u4 => ?_
    refine sm_gI 70 rfl fun v8 => ?_
    refine sm_cnd ?_ ?_
    · exact sm_rt _
    · refine sm_cnd ?_ ?_
      · exact hr5 _
      · refine sm_gR 73 32 10 20 rfl ?_
        refine sm_isK ?_
        refine sm_aI 73 32 10 20 rfl fun v14 => ?_
        refine sm_jo (fun u15 => ?_) fun j17 j17q hj17 => ?_
        · exact hr5 _
        refine sm_cnd ?_ ?_
        · exact hj17 _
        · refine sm_gR 71 31 71 20 rfl ?_
          refine sm_isK ?_
          refine sm_aI 71 31 71 20 rfl fun v22 => ?_
          refine sm_cnd ?_ ?_
          · exact hr5 _
          · exact hj17 _
  refine fun u6 => ?_
  refine sm_bn0 (sm_X5_mayBoth v1 u6) fun v24 => ?_
  refine sm_cnd ?_ ?_
  · exact sm_rt _
  · refine sm_gR 71 31 71 20 rfl ?_
    refine sm_gI 70 rfl fun v27 => ?_
    refine sm_isK ?_
    refine sm_bI 71 31 71 20 rfl ?_
    refine sm_gR 72 31 72 20 rfl ?_
    refine sm_gI 70 rfl fun v31 => ?_
    refine sm_gI 0 rfl fun v32 => ?_
    refine sm_isK ?_
    refine sm_bI 72 31 72 20 rfl ?_
    refine sm_gR 73 32 10 20 rfl ?_
    refine sm_gI 70 rfl fun v36 => ?_
    refine sm_isK ?_
    refine sm_bZ 73 32 10 20 rfl ?_
    refine sm_gI 70 rfl fun v39 => ?_
    refine sm_pI 70 rfl ?_
    refine sm_gI 70 rfl fun v40 => ?_
    exact sm_rt _
def q_isRecovery (a1 : Int32) : PM Int32 := qI 70 fun v1 => qbd (q_isIn a1 (0 : Int32) (v1 - (1 : Int32))) (fun v2 => qas ((v2 = 0) ∨ (v2 = 1)) (qrt v2))
theorem sm_X5_isRecovery (a1 : Int32) : SimM (q_isRecovery a1) (f_X5_isRecovery 0 a1) := by
  unfold q_isRecovery f_X5_isRecovery
  refine sm_gI 70 rfl fun v1 => ?_
  refine sm_bn0 (sm_X5_isIn a1 (0 : Int32) (v1 - (1 : Int32))) fun v2 => ?_
  refine sm_asr ?_
  exact sm_rt _
def q_speaks (a1 : Int32) : PM Int32 := qa 35 60 a1 fun v4 => qc (v4 = 0) (qas (((0 : Int32) = 0) ∨ ((0 : Int32) = 1)) (qrt (0 : Int32))) (qa 34 60 a1 fun v9 => qc (v9 = (-1 : Int32)) (qas (((1 : Int32) = 0) ∨ ((1 : Int32) = 1)) (qrt (1 : Int32))) (qas (((0 : Int32) = 0) ∨ ((0 : Int32) = 1)) (qrt (0 : Int32))))
theorem sm_X5_speaks (a1 : Int32) : SimM (q_speaks a1) (f_X5_speaks 0 a1) := by
  unfold q_speaks f_X5_speaks
  refine sm_gR 35 32 5 60 rfl ?_
  refine sm_isK ?_
  refine sm_aI 35 32 5 60 rfl fun v4 => ?_
  refine sm_cnd ?_ ?_
  · refine sm_asr ?_
    exact sm_rt _
  · refine sm_gR 34 31 47 60 rfl ?_
    refine sm_isK ?_
    refine sm_aI 34 31 47 60 rfl fun v9 => ?_
    refine sm_cnd ?_ ?_
    · refine sm_asr ?_
      exact sm_rt _
    · refine sm_asr ?_
      exact sm_rt _
def q_vouch (a1 : Int32) (a2 : Int32) : PM Int32 := qbd (q_isRecovery a1) (fun v1 => qbd (α := Int32) (qjo (σ := Unit) (fun _ => qrt (0 : Int32)) fun j61 => qc (v1 = 0) (j61 ()) (qbd (q_isSession a2) (fun v63 => qc (v63 = 0) (j61 ()) (qrt (1 : Int32))))) (fun u2 => qbd (α := Int32) (qjo (σ := Unit) (fun _ => qrt (0 : Int32)) fun j39 => qc (u2 = 0) (j39 ()) (qa 73 20 a1 fun v44 => qc (v44 = 0) (j39 ()) (qbd (q_speaks a2) (fun v46 => qc (v46 = 0) (j39 ()) (qbd (q_levelNow a2) (fun v48 => qc (v48 < (3 : Int32)) (j39 ()) (qa 31 60 a2 fun v53 => qa 71 20 a1 fun v57 => qc (v53 = v57) (j39 ()) (qrt (1 : Int32))))))))) (fun u3 => qbd (α := Int32) (qjo (σ := Unit) (fun _ => qrt (0 : Int32)) fun j26 => qc (u3 = 0) (j26 ()) (qa 74 20 a1 fun v31 => qa 31 60 a2 fun v35 => qc (((v31 >>> (v35 &&& 31)) &&& (1 : Int32)) = 0) (qrt (1 : Int32)) (j26 ()))) (fun u4 => qbd (q_mayBoth u2 u4) (fun v5 => qc (v5 = 0) (qrt (0 : Int32)) (qa 74 20 a1 fun v10 => qa 31 60 a2 fun v14 => qw 74 20 a1 (v10 ||| ((1 : Int32) <<< (v14 &&& 31))) <| qa 75 20 a1 fun v18 => qbd (q_levelNow a2) (fun v19 => qw 75 20 a1 (v18 + v19) <| qa 75 20 a1 fun v23 => qrt v23)))))))
theorem sm_X5_vouch (a1 : Int32) (a2 : Int32) : SimM (q_vouch a1 a2) (f_X5_vouch 0 a1 a2) := by
  unfold q_vouch f_X5_vouch
  refine sm_bn0 (sm_X5_isRecovery a1) fun v1 => ?_
  refine sm_bnd ?_ ?_
  · refine sm_jo (fun _ => ?_) fun j61 j61q hj61 => ?_
    · exact sm_rt _
    refine sm_cnd ?_ ?_
    · exact hj61 _
    · refine sm_bn0 (sm_X5_isSession a2) fun v63 => ?_
      refine sm_cnd ?_ ?_
      · exact hj61 _
      · exact sm_rt _
  refine fun u2 => ?_
  refine sm_bnd ?_ ?_
  · refine sm_jo (fun _ => ?_) fun j39 j39q hj39 => ?_
    · exact sm_rt _
    refine sm_cnd ?_ ?_
    · exact hj39 _
    · refine sm_gR 73 32 10 20 rfl ?_
      refine sm_isK ?_
      refine sm_aI 73 32 10 20 rfl fun v44 => ?_
      refine sm_cnd ?_ ?_
      · exact hj39 _
      · refine sm_bn0 (sm_X5_speaks a2) fun v46 => ?_
        refine sm_cnd ?_ ?_
        · exact hj39 _
        · refine sm_bn0 (sm_X5_levelNow a2) fun v48 => ?_
          refine sm_cnd ?_ ?_
          · exact hj39 _
          · refine sm_gR 31 31 44 60 rfl ?_
            refine sm_isK ?_
            refine sm_aI 31 31 44 60 rfl fun v53 => ?_
            refine sm_gR 71 31 71 20 rfl ?_
            refine sm_isK ?_
            refine sm_aI 71 31 71 20 rfl fun v57 => ?_
            refine sm_cnd ?_ ?_
            · exact hj39 _
            · exact sm_rt _
  refine fun u3 => ?_
  refine sm_bnd ?_ ?_
  · refine sm_jo (fun _ => ?_) fun j26 j26q hj26 => ?_
    · exact sm_rt _
    refine sm_cnd ?_ ?_
    · exact hj26 _
    · refine sm_gR 74 31 73 20 rfl ?_
      refine sm_isK ?_
      refine sm_aI 74 31 73 20 rfl fun v31 => ?_
      refine sm_gR 31 31 44 60 rfl ?_
      refine sm_isK ?_
      refine sm_aI 31 31 44 60 rfl fun v35 => ?_
      refine sm_cnd ?_ ?_
      · exact sm_rt _
      · exact hj26 _
  refine fun u4 => ?_
  refine sm_bn0 (sm_X5_mayBoth u2 u4) fun v5 => ?_
  refine sm_cnd ?_ ?_
  · exact sm_rt _
  · refine sm_gR 74 31 73 20 rfl ?_
    refine sm_isK ?_
    refine sm_aI 74 31 73 20 rfl fun v10 => ?_
    refine sm_gR 31 31 44 60 rfl ?_
    refine sm_isK ?_
    refine sm_aI 31 31 44 60 rfl fun v14 => ?_
    refine sm_bI 74 31 73 20 rfl ?_
    refine sm_gR 75 31 74 20 rfl ?_
    refine sm_isK ?_
    refine sm_aI 75 31 74 20 rfl fun v18 => ?_
    refine sm_bn0 (sm_X5_levelNow a2) fun v19 => ?_
    refine sm_bI 75 31 74 20 rfl ?_
    refine sm_gR 75 31 74 20 rfl ?_
    refine sm_isK ?_
    refine sm_aI 75 31 74 20 rfl fun v23 => ?_
    exact sm_rt _
def q_many (a1 : Int32) : PM Int32 := qlp (σ := Int32 × Int32) (fun r3 => un2 fun u1 u2 => qc ((6 : Int32) ≤ u2) (qrt u1) (qbd (qrt (u1 + ((a1 >>> (u2 &&& 31)) &&& (1 : Int32)))) (fun v5 => r3 (v5, (u2 + (1 : Int32)))))) ((0 : Int32), (0 : Int32))
theorem sm_X5_many (a1 : Int32) : SimM (q_many a1) (f_X5_many a1) := by
  unfold q_many f_X5_many
  refine sm_lp (fun r3 r3q hr3 => ?_) ((0 : Int32), (0 : Int32))
  refine sm_un2 fun u1 u2 => ?_
  refine sm_cnd ?_ ?_
  · exact sm_rt _
  · refine sm_bnd ?_ ?_
    · exact sm_rt _
    refine fun v5 => ?_
    exact hr3 _
def q_stop (a1 : Int32) (a2 : Int32) : PM Int32 := qbd (q_isRecovery a1) (fun v1 => qbd (α := Int32) (qjo (σ := Unit) (fun _ => qrt (0 : Int32)) fun j36 => qc (v1 = 0) (j36 ()) (qbd (q_isSession a2) (fun v38 => qc (v38 = 0) (j36 ()) (qrt (1 : Int32))))) (fun u2 => qbd (α := Int32) (qjo (σ := Unit) (fun _ => qrt (0 : Int32)) fun j16 => qc (u2 = 0) (j16 ()) (qa 73 20 a1 fun v21 => qc (v21 = 0) (j16 ()) (qbd (q_speaks a2) (fun v23 => qc (v23 = 0) (j16 ()) (qa 31 60 a2 fun v28 => qa 71 20 a1 fun v32 => qc (v28 = v32) (qrt (1 : Int32)) (j16 ())))))) (fun u3 => qbd (q_mayBoth u2 u3) (fun v4 => qc (v4 = 0) (qrt (0 : Int32)) (qz 73 20 a1 (0 : Int32) <| qa 74 20 a1 fun v12 => qbd (q_many v12) (fun v13 => qrt v13))))))
theorem sm_X5_stop (a1 : Int32) (a2 : Int32) : SimM (q_stop a1 a2) (f_X5_stop 0 a1 a2) := by
  unfold q_stop f_X5_stop
  refine sm_bn0 (sm_X5_isRecovery a1) fun v1 => ?_
  refine sm_bnd ?_ ?_
  · refine sm_jo (fun _ => ?_) fun j36 j36q hj36 => ?_
    · exact sm_rt _
    refine sm_cnd ?_ ?_
    · exact hj36 _
    · refine sm_bn0 (sm_X5_isSession a2) fun v38 => ?_
      refine sm_cnd ?_ ?_
      · exact hj36 _
      · exact sm_rt _
  refine fun u2 => ?_
  refine sm_bnd ?_ ?_
  · refine sm_jo (fun _ => ?_) fun j16 j16q hj16 => ?_
    · exact sm_rt _
    refine sm_cnd ?_ ?_
    · exact hj16 _
    · refine sm_gR 73 32 10 20 rfl ?_
      refine sm_isK ?_
      refine sm_aI 73 32 10 20 rfl fun v21 => ?_
      refine sm_cnd ?_ ?_
      · exact hj16 _
      · refine sm_bn0 (sm_X5_speaks a2) fun v23 => ?_
        refine sm_cnd ?_ ?_
        · exact hj16 _
        · refine sm_gR 31 31 44 60 rfl ?_
          refine sm_isK ?_
          refine sm_aI 31 31 44 60 rfl fun v28 => ?_
          refine sm_gR 71 31 71 20 rfl ?_
          refine sm_isK ?_
          refine sm_aI 71 31 71 20 rfl fun v32 => ?_
          refine sm_cnd ?_ ?_
          · exact sm_rt _
          · exact hj16 _
  refine fun u3 => ?_
  refine sm_bn0 (sm_X5_mayBoth u2 u3) fun v4 => ?_
  refine sm_cnd ?_ ?_
  · exact sm_rt _
  · refine sm_gR 73 32 10 20 rfl ?_
    refine sm_isK ?_
    refine sm_bZ 73 32 10 20 rfl ?_
    refine sm_gR 74 31 73 20 rfl ?_
    refine sm_isK ?_
    refine sm_aI 74 31 73 20 rfl fun v12 => ?_
    refine sm_bn0 (sm_X5_many v12) fun v13 => ?_
    exact sm_rt _
def q_weight (a1 : Int32) : PM Int32 := qrt (a1 + (1 : Int32))
theorem sm_X5_weight (a1 : Int32) : SimM (q_weight a1) (f_X5_weight a1) := by
  unfold q_weight f_X5_weight
  exact sm_rt _
def q_endAllOf (a1 : Int32) : PM Int32 := qlp (σ := Int32 × Int32) (fun r3 => un2 fun u1 u2 => qI 30 fun v4 => qc (v4 ≤ u2) (qrt u1) (qa 35 60 u2 fun v9 => qjo (σ := Int32) (fun u10 => r3 ((u1 + (0 : Int32)), (u10 + (1 : Int32)))) fun j12 => qc (v9 = 0) (j12 u2) (qa 31 60 u2 fun v17 => qc (v17 = a1) (qbd (q_endSession u2) (fun v19 => r3 ((u1 + v19), (u2 + (1 : Int32))))) (j12 u2)))) ((0 : Int32), (0 : Int32))
theorem sm_X5_endAllOf (a1 : Int32) : SimM (q_endAllOf a1) (f_X5_endAllOf 0 a1) := by
  unfold q_endAllOf f_X5_endAllOf
  refine sm_lp (fun r3 r3q hr3 => ?_) ((0 : Int32), (0 : Int32))
  refine sm_un2 fun u1 u2 => ?_
  refine sm_gI 30 rfl fun v4 => ?_
  refine sm_cnd ?_ ?_
  · exact sm_rt _
  · refine sm_gR 35 32 5 60 rfl ?_
    refine sm_isK ?_
    refine sm_aI 35 32 5 60 rfl fun v9 => ?_
    refine sm_jo (fun u10 => ?_) fun j12 j12q hj12 => ?_
    · exact hr3 _
    refine sm_cnd ?_ ?_
    · exact hj12 _
    · refine sm_gR 31 31 44 60 rfl ?_
      refine sm_isK ?_
      refine sm_aI 31 31 44 60 rfl fun v17 => ?_
      refine sm_cnd ?_ ?_
      · refine sm_bn0 (sm_X5_endSession u2) fun v19 => ?_
        exact hr3 _
      · exact hj12 _
def q_finish (a1 : Int32) : PM Int32 := qbd (q_isRecovery a1) (fun v1 => qbd (α := Int32) (qjo (σ := Unit) (fun _ => qrt (0 : Int32)) fun j51 => qc (v1 = 0) (j51 ()) (qa 73 20 a1 fun v56 => qc (v56 = 0) (j51 ()) (qI 0 fun v58 => qa 72 20 a1 fun v62 => qc ((v58 - v62) < (60 : Int32)) (j51 ()) (qa 74 20 a1 fun v67 => qbd (q_many v67) (fun v68 => qc (v68 < (2 : Int32)) (j51 ()) (qrt (1 : Int32))))))) (fun u2 => qbd (qlp (σ := Int32 × Int32) (fun r5 => un2 fun u3 u4 => qc ((3 : Int32) ≤ u4) (qrt u3) (qc (v1 = 0) (qrt u3) (qa 71 20 a1 fun v14 => qa 1 18 (((3 : Int32) * v14) + u4) fun v17 => qc (v17 = 0) (r5 ((u3 + (0 : Int32)), (u4 + (1 : Int32)))) (qbd (q_weight u4) (fun v19 => r5 ((u3 + v19), (u4 + (1 : Int32)))))))) ((0 : Int32), (0 : Int32))) (fun u6 => qbd (α := Int32) (qjo (σ := Unit) (fun _ => qrt (0 : Int32)) fun j42 => qc (u2 = 0) (j42 ()) (qa 75 20 a1 fun v47 => qc (v47 < u6) (j42 ()) (qrt (1 : Int32)))) (fun u20 => qbd (q_mayBoth v1 u20) (fun v21 => qc (v21 = 0) (qrt (0 : Int32)) (qa 71 20 a1 fun v26 => qz 73 20 a1 (0 : Int32) <| qbd (q_endAllOf v26) (fun v30 => qbd (qlp (σ := Int32) (fun r32 => fun u31 => qc ((3 : Int32) ≤ u31) (qrt ()) (qw 1 18 (((3 : Int32) * v26) + u31) (0 : Int32) <| r32 (u31 + (1 : Int32)))) (0 : Int32)) (fun _ => qbd (q_ready v26 (0 : Int32)) (fun _ => qbd (q_write (6 : Int32) a1) (fun _ => qrt v30))))))))))
theorem sm_X5_finish (a1 : Int32) : SimM (q_finish a1) (f_X5_finish 0 a1) := by
  unfold q_finish f_X5_finish
  refine sm_bn0 (sm_X5_isRecovery a1) fun v1 => ?_
  refine sm_bnd ?_ ?_
  · refine sm_jo (fun _ => ?_) fun j51 j51q hj51 => ?_
    · exact sm_rt _
    refine sm_cnd ?_ ?_
    · exact hj51 _
    · refine sm_gR 73 32 10 20 rfl ?_
      refine sm_isK ?_
      refine sm_aI 73 32 10 20 rfl fun v56 => ?_
      refine sm_cnd ?_ ?_
      · exact hj51 _
      · refine sm_gI 0 rfl fun v58 => ?_
        refine sm_gR 72 31 72 20 rfl ?_
        refine sm_isK ?_
        refine sm_aI 72 31 72 20 rfl fun v62 => ?_
        refine sm_cnd ?_ ?_
        · exact hj51 _
        · refine sm_gR 74 31 73 20 rfl ?_
          refine sm_isK ?_
          refine sm_aI 74 31 73 20 rfl fun v67 => ?_
          refine sm_bn0 (sm_X5_many v67) fun v68 => ?_
          refine sm_cnd ?_ ?_
          · exact hj51 _
          · exact sm_rt _
  refine fun u2 => ?_
  refine sm_bnd ?_ ?_
  · refine sm_lp (fun r5 r5q hr5 => ?_) ((0 : Int32), (0 : Int32))
    refine sm_un2 fun u3 u4 => ?_
    refine sm_cnd ?_ ?_
    · exact sm_rt _
    · refine sm_cnd ?_ ?_
      · exact sm_rt _
      · refine sm_gR 1 31 22 18 rfl ?_
        refine sm_gR 71 31 71 20 rfl ?_
        refine sm_isK ?_
        refine sm_aI 71 31 71 20 rfl fun v14 => ?_
        refine sm_isK ?_
        refine sm_aI 1 31 22 18 rfl fun v17 => ?_
        refine sm_cnd ?_ ?_
        · exact hr5 _
        · refine sm_bn0 (sm_X5_weight u4) fun v19 => ?_
          exact hr5 _
  refine fun u6 => ?_
  refine sm_bnd ?_ ?_
  · refine sm_jo (fun _ => ?_) fun j42 j42q hj42 => ?_
    · exact sm_rt _
    refine sm_cnd ?_ ?_
    · exact hj42 _
    · refine sm_gR 75 31 74 20 rfl ?_
      refine sm_isK ?_
      refine sm_aI 75 31 74 20 rfl fun v47 => ?_
      refine sm_cnd ?_ ?_
      · exact hj42 _
      · exact sm_rt _
  refine fun u20 => ?_
  refine sm_bn0 (sm_X5_mayBoth v1 u20) fun v21 => ?_
  refine sm_cnd ?_ ?_
  · exact sm_rt _
  · refine sm_gR 71 31 71 20 rfl ?_
    refine sm_isK ?_
    refine sm_aI 71 31 71 20 rfl fun v26 => ?_
    refine sm_gR 73 32 10 20 rfl ?_
    refine sm_isK ?_
    refine sm_bZ 73 32 10 20 rfl ?_
    refine sm_bn0 (sm_X5_endAllOf v26) fun v30 => ?_
    refine sm_bnd ?_ ?_
    · refine sm_lp (fun r32 r32q hr32 => ?_) (0 : Int32)
      intro u31
      refine sm_cnd ?_ ?_
      · exact sm_rt _
      · refine sm_gR 1 31 22 18 rfl ?_
        refine sm_isK ?_
        refine sm_bI 1 31 22 18 rfl ?_
        exact hr32 _
    refine fun _ => ?_
    refine sm_bn0 (sm_X5_ready v26 (0 : Int32)) fun _ => ?_
    refine sm_bn0 (sm_X5_write (6 : Int32) a1) fun _ => ?_
    exact sm_rt _
def q_link (a1 : Int32) (a2 : Int32) : PM Int32 := qbd (q_isSix a1) (fun v1 => qbd (α := Int32) (qjo (σ := Unit) (fun _ => qrt (0 : Int32)) fun j30 => qc (v1 = 0) (j30 ()) (qbd (q_isIn a2 (-1 : Int32) (5 : Int32)) (fun v32 => qc (v32 = 0) (j30 ()) (qrt (1 : Int32))))) (fun u2 => qbd (α := Int32) (qjo (σ := Unit) (fun _ => qrt (0 : Int32)) fun j15 => qc (u2 = 0) (j15 ()) (qc (a2 = (-1 : Int32)) (qrt (1 : Int32)) (qa 76 6 a1 fun v21 => qc (v21 = (-1 : Int32)) (qrt (1 : Int32)) (qa 76 6 a1 fun v26 => qc (v26 = a2) (qrt (1 : Int32)) (j15 ()))))) (fun u3 => qbd (q_mayBoth u2 u3) (fun v4 => qc (v4 = 0) (qrt (0 : Int32)) (qa 76 6 a1 fun v9 => qw 76 6 a1 a2 <| qrt v9)))))
theorem sm_X5_link (a1 : Int32) (a2 : Int32) : SimM (q_link a1 a2) (f_X5_link 0 a1 a2) := by
  unfold q_link f_X5_link
  refine sm_bn0 (sm_X5_isSix a1) fun v1 => ?_
  refine sm_bnd ?_ ?_
  · refine sm_jo (fun _ => ?_) fun j30 j30q hj30 => ?_
    · exact sm_rt _
    refine sm_cnd ?_ ?_
    · exact hj30 _
    · refine sm_bn0 (sm_X5_isIn a2 (-1 : Int32) (5 : Int32)) fun v32 => ?_
      refine sm_cnd ?_ ?_
      · exact hj30 _
      · exact sm_rt _
  refine fun u2 => ?_
  refine sm_bnd ?_ ?_
  · refine sm_jo (fun _ => ?_) fun j15 j15q hj15 => ?_
    · exact sm_rt _
    refine sm_cnd ?_ ?_
    · exact hj15 _
    · refine sm_cnd ?_ ?_
      · exact sm_rt _
      · refine sm_gR 76 31 75 6 rfl ?_
        refine sm_isK ?_
        refine sm_aI 76 31 75 6 rfl fun v21 => ?_
        refine sm_cnd ?_ ?_
        · exact sm_rt _
        · refine sm_gR 76 31 75 6 rfl ?_
          refine sm_isK ?_
          refine sm_aI 76 31 75 6 rfl fun v26 => ?_
          refine sm_cnd ?_ ?_
          · exact sm_rt _
          · exact hj15 _
  refine fun u3 => ?_
  refine sm_bn0 (sm_X5_mayBoth u2 u3) fun v4 => ?_
  refine sm_cnd ?_ ?_
  · exact sm_rt _
  · refine sm_gR 76 31 75 6 rfl ?_
    refine sm_isK ?_
    refine sm_aI 76 31 75 6 rfl fun v9 => ?_
    refine sm_gR 76 31 75 6 rfl ?_
    refine sm_isK ?_
    refine sm_bI 76 31 75 6 rfl ?_
    exact sm_rt _
def q_foreign (a1 : Int32) : PM Int32 := qbd (q_isSix a1) (fun v1 => qbd (α := Int32) (qjo (σ := Unit) (fun _ => qrt (0 : Int32)) fun j12 => qc (v1 = 0) (j12 ()) (qa 76 6 a1 fun v17 => qc (v17 = (-1 : Int32)) (j12 ()) (qa 76 6 a1 fun v23 => qa 7 6 v23 fun v26 => qc (v26 = 0) (qI 30 fun v28 => qc ((60 : Int32) ≤ v28) (j12 ()) (qrt (1 : Int32))) (j12 ())))) (fun u2 => qbd (q_mayBoth v1 u2) (fun v3 => qc (v3 = 0) (qrt (0 : Int32)) (qa 76 6 a1 fun v8 => qbd (q_newSession v8 (-1 : Int32)) (fun v9 => qrt v9)))))
theorem sm_X5_foreign (a1 : Int32) : SimM (q_foreign a1) (f_X5_foreign 0 a1) := by
  unfold q_foreign f_X5_foreign
  refine sm_bn0 (sm_X5_isSix a1) fun v1 => ?_
  refine sm_bnd ?_ ?_
  · refine sm_jo (fun _ => ?_) fun j12 j12q hj12 => ?_
    · exact sm_rt _
    refine sm_cnd ?_ ?_
    · exact hj12 _
    · refine sm_gR 76 31 75 6 rfl ?_
      refine sm_isK ?_
      refine sm_aI 76 31 75 6 rfl fun v17 => ?_
      refine sm_cnd ?_ ?_
      · exact hj12 _
      · refine sm_gR 7 32 2 6 rfl ?_
        refine sm_gR 76 31 75 6 rfl ?_
        refine sm_isK ?_
        refine sm_aI 76 31 75 6 rfl fun v23 => ?_
        refine sm_isK ?_
        refine sm_aI 7 32 2 6 rfl fun v26 => ?_
        refine sm_cnd ?_ ?_
        · refine sm_gI 30 rfl fun v28 => ?_
          refine sm_cnd ?_ ?_
          · exact hj12 _
          · exact sm_rt _
        · exact hj12 _
  refine fun u2 => ?_
  refine sm_bn0 (sm_X5_mayBoth v1 u2) fun v3 => ?_
  refine sm_cnd ?_ ?_
  · exact sm_rt _
  · refine sm_gR 76 31 75 6 rfl ?_
    refine sm_isK ?_
    refine sm_aI 76 31 75 6 rfl fun v8 => ?_
    refine sm_bn0 (sm_X5_newSession v8 (-1 : Int32)) fun v9 => ?_
    exact sm_rt _
def q_leave (a1 : Int32) : PM Int32 := qbd (q_isSix a1) (fun v1 => qbd (q_may v1) (fun v2 => qc (v2 = 0) (qrt (0 : Int32)) (qa 7 6 a1 fun v8 => qbd (α := Int32) (qc (v8 = 0) (qrt (1 : Int32)) (qrt (0 : Int32))) (fun u9 => qz 7 6 a1 u9 <| qa 7 6 a1 fun v15 => qc (v15 = 0) (qrt (-1 : Int32)) (qbd (q_endAllOf a1) (fun v17 => qbd (qlp (σ := Int32) (fun r19 => fun u18 => qI 19 fun v21 => qc (v21 ≤ u18) (qrt ()) (qa 20 60 u18 fun v27 => qbd (α := Int32) (qjo (σ := Unit) (fun _ => qa 25 60 u18 fun v35 => qrt v35) fun j37 => qc (v27 = a1) (qa 25 60 u18 fun v42 => qc (v42 = 0) (qrt (2 : Int32)) (j37 ())) (j37 ())) (fun u28 => qw 25 60 u18 u28 <| r19 (u18 + (1 : Int32))))) (0 : Int32)) (fun _ => qlp (σ := Int32) (fun r45 => fun u44 => qI 70 fun v46 => qc (v46 ≤ u44) (qrt v17) (qa 73 20 u44 fun v52 => qbd (α := Int32) (qjo (σ := Unit) (fun _ => qrt (0 : Int32)) fun j58 => qc (v52 = 0) (j58 ()) (qa 71 20 u44 fun v63 => qc (v63 = a1) (j58 ()) (qrt (1 : Int32)))) (fun u53 => qz 73 20 u44 u53 <| r45 (u44 + (1 : Int32))))) (0 : Int32))))))))
theorem sm_X5_leave (a1 : Int32) : SimM (q_leave a1) (f_X5_leave 0 a1) := by
  unfold q_leave f_X5_leave
  refine sm_bn0 (sm_X5_isSix a1) fun v1 => ?_
  refine sm_bn0 (sm_X5_may v1) fun v2 => ?_
  refine sm_cnd ?_ ?_
  · exact sm_rt _
  · refine sm_gR 7 32 2 6 rfl ?_
    refine sm_gR 7 32 2 6 rfl ?_
    refine sm_isK ?_
    refine sm_aI 7 32 2 6 rfl fun v8 => ?_
    refine sm_bnd ?_ ?_
    · refine sm_cnd ?_ ?_
      · exact sm_rt _
      · exact sm_rt _
    refine fun u9 => ?_
    refine sm_isK ?_
    refine sm_bZ 7 32 2 6 rfl ?_
    refine sm_gR 7 32 2 6 rfl ?_
    refine sm_isK ?_
    refine sm_aI 7 32 2 6 rfl fun v15 => ?_
    refine sm_cnd ?_ ?_
    · exact sm_rt _
    · refine sm_bn0 (sm_X5_endAllOf a1) fun v17 => ?_
      refine sm_bnd ?_ ?_
      · refine sm_lp (fun r19 r19q hr19 => ?_) (0 : Int32)
        intro u18
        refine sm_gI 19 rfl fun v21 => ?_
        refine sm_cnd ?_ ?_
        · exact sm_rt _
        · refine sm_gR 25 31 39 60 rfl ?_
          refine sm_gR 20 31 34 60 rfl ?_
          refine sm_isK ?_
          refine sm_aI 20 31 34 60 rfl fun v27 => ?_
          refine sm_bnd ?_ ?_
          · refine sm_jo (fun _ => ?_) fun j37 j37q hj37 => ?_
            · refine sm_gR 25 31 39 60 rfl ?_
              refine sm_isK ?_
              refine sm_aI 25 31 39 60 rfl fun v35 => ?_
              exact sm_rt _
            refine sm_cnd ?_ ?_
            · refine sm_gR 25 31 39 60 rfl ?_
              refine sm_isK ?_
              refine sm_aI 25 31 39 60 rfl fun v42 => ?_
              refine sm_cnd ?_ ?_
              · exact sm_rt _
              · exact hj37 _
            · exact hj37 _
          refine fun u28 => ?_
          refine sm_isK ?_
          refine sm_bI 25 31 39 60 rfl ?_
          exact hr19 _
      refine fun _ => ?_
      refine sm_lp (fun r45 r45q hr45 => ?_) (0 : Int32)
      intro u44
      refine sm_gI 70 rfl fun v46 => ?_
      refine sm_cnd ?_ ?_
      · exact sm_rt _
      · refine sm_gR 73 32 10 20 rfl ?_
        refine sm_gR 73 32 10 20 rfl ?_
        refine sm_isK ?_
        refine sm_aI 73 32 10 20 rfl fun v52 => ?_
        refine sm_bnd ?_ ?_
        · refine sm_jo (fun _ => ?_) fun j58 j58q hj58 => ?_
          · exact sm_rt _
          refine sm_cnd ?_ ?_
          · exact hj58 _
          · refine sm_gR 71 31 71 20 rfl ?_
            refine sm_isK ?_
            refine sm_aI 71 31 71 20 rfl fun v63 => ?_
            refine sm_cnd ?_ ?_
            · exact hj58 _
            · exact sm_rt _
        refine fun u53 => ?_
        refine sm_isK ?_
        refine sm_bZ 73 32 10 20 rfl ?_
        exact hr45 _
