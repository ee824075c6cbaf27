/-! ===== operations (9): asked ===== -/
theorem nIx {m : Mst} {F k : Nat} (h : m F 0 = nI k) (hk : k < 2 ^ 31) : nn m F = k := by unfold nn; rw [h, nI_clamp hk]
/-- an attempt's flow and step -/
theorem att_facts {v : Vw} {m m0 : Mst} {o : Nat × Int64} {b T T' k : Nat} (h : CC v m m0 o b T') (hI : Inv m T) (hk : k < nn m 19) : ∃ V w, V < 8 ∧ m 23 k = nI V ∧ V < nn m 9 ∧ vN v 7 k 3 = idc 1 w ∧ gFi (vZ v) (vE v) (vM v 6) (vK v 6) (m 11) (m 12) (m 13) (m 14) (m 15) w (12 * V) (m 10 V) ∧ w + 1 < vK v 1 := by
  obtain ⟨i1, i2, i3, b5, b6, b7, b8, b35, b51, b64, b66, b69, b73, iK, iA, iS, iC, iFm, iz, iT, iR, iRz, iL, iE, iV, iAz⟩ := hI
  obtain ⟨_, _, _, ⟨V, hV, eV⟩, _, _⟩ := iA k hk
  obtain ⟨_, _, _, f4, f5, f6⟩ := h.1.hFl
  have e9 : nn m 9 = vZ v 1 := nIx f4 (by omega)
  obtain ⟨w, w1, w2, w3⟩ := f6 V (by omega)
  refine ⟨V, w, by omega, eV, hV, ?_, w3, w2⟩
  have := (h.1.hAt k hk).1
  rw [eV, nI_clamp (by omega), w1] at this
  exact this
theorem att_step {v : Vw} {m m0 : Mst} {o : Nat × Int64} {b T T' k : Nat} (h : CC v m m0 o b T') (hI : Inv m T) (hk : k < nn m 19) (hs : m 24 k ≠ -1) : ∃ V j q, V < 8 ∧ j < 12 ∧ m 23 k = nI V ∧ m 24 k = nI j ∧ vN v 7 k 4 = idc 6 q ∧ q < vK v 6 ∧ vM v 6 q 0 = m 11 (12 * V + j) ∧ vM v 6 q 1 = m 12 (12 * V + j) ∧ vM v 6 q 2 = m 13 (12 * V + j) ∧ vM v 6 q 3 = m 14 (12 * V + j) ∧ vM v 6 q 4 = m 15 (12 * V + j) := by
  obtain ⟨V, w, hV, eV, hV9, e3, ⟨g1, g2, g3⟩, hw⟩ := att_facts h hI hk
  obtain ⟨_, _, _, _, hj, _⟩ := hI.2.2.2.2.2.2.2.2.2.2.2.2.2.2.1 k hk
  rcases hj with r | ⟨j, j1, j2⟩
  · exact absurd r hs
  rw [eV, nI_clamp (by omega), g1, nI_clamp (by omega)] at j1
  obtain ⟨q, q1, q2, q3, q4, q5, q6, q7⟩ := g3 j j1
  refine ⟨V, j, q, hV, by omega, eV, j2, ?_, q2, q3, q4, q5, q6, q7⟩
  have := (h.1.hAt k hk).2
  rw [if_neg hs, j2, nI_clamp (by omega)] at this
  have e : (fun i => vN v 7 i 3) k = idc 1 w := e3
  rw [e, show idc 1 w / 64 = w by unfold idc; omega, q1] at this
  exact this
theorem op_asked (a : Int32) : OpV (fun z => h_X0_asked (idc 0 0) a z) (q_asked a) := by
  intro v m T b z x h hI hT
  have hb := h.vb
  obtain ⟨c1, c2⟩ := hI.c19 hT
  rcases ix3 a (n := nn m 19) (by omega) with ha | ⟨k, hk, rfl⟩
  · refine ⟨0, up2 m 82 0 1, ?_, (hI.m82 1).up, fun P X hP => ?_⟩
    · unfold q_asked
      rw [qbd_e (q_Attempt_f c1 (by omega) ha), qbd_e q_may_f]; rfl
    · unfold h_X0_asked
      refine hisK_i (htry_i ?_)
      unfold h_X1_asked
      refine hgR_e h.1.1.s3 (hbnd_i (c_at_f (h.1.1.lt13 (by decide)) h.1.1.hLa.1 ha (by omega) (hx_1 (hrt_i ?_))))
      exact hP (ub v 7) x (h.th 1) (thX (by decide))
  · by_cases hs : m 25 k = 0
    · have h24 : m 24 k ≠ -1 := ((hI.2.2.2.2.2.2.2.2.2.2.2.2.2.2.1 k hk).2.2.2.2.2 hs).1
      obtain ⟨V, j, q, hV, hj, e23, e24, eN, _, _, eM, _⟩ := att_step h.1 hI hk h24
      refine ⟨m 12 (12 * V + j), up2 m 82 0 0, ?_, (hI.m82 0).up, fun P X hP => ?_⟩
      · unfold q_asked
        have g25 : up2 m 82 0 0 25 k = 0 := hs
        have g23 : up2 m 82 0 0 23 k = nI V := e23
        have g24 : up2 m 82 0 0 24 k = nI j := e24
        have ix12 : ((12 : Int32) * nI V) + nI j = nI (12 * V + j) := by rw [show (12 : Int32) = nI 12 from by decide +kernel, pk_mul, nI_add]
        rw [qbd_e (q_Attempt_t c1 (by omega) hk), qbd_e q_may_t, qc_f one_ne, qa_e rfl (by omega) (by decide), qc_t g25, qa_e rfl (by omega) (by decide), g23, qa_e rfl (by omega) (by decide), g24, qa_e ix12 (by omega) (by decide)]
        rfl
      · unfold h_X0_asked
        refine hisK_i (htry_i ?_)
        unfold h_X1_asked
        refine hgR_e h.1.1.s3 (hbnd_i (c_at (h.1.1.lt13 (by decide)) h.1.1.hLa.1 (by omega) hk (h.1.1.hLa.2 k hk) (hisK_i (hbn0_i ?_))))
        unfold h_X8_asked
        refine hgI_e ((h.1.1.f 7 7 25 (by decide) hk).trans hs) (hcnd_t rfl (hgR_e eN (hisK_i (hgI_e eM (hrt_i (hrt_i ?_))))))
        exact KK.ans (m := m) (o := (0, 0)) (m1 := up2 m 82 0 0) (h.m82 0).1 rfl hP
    · refine ⟨-1, up2 m 82 0 0, ?_, (hI.m82 0).up, fun P X hP => ?_⟩
      · unfold q_asked
        have g25 : ¬ up2 m 82 0 0 25 k = 0 := hs
        rw [qbd_e (q_Attempt_t c1 (by omega) hk), qbd_e q_may_t, qc_f one_ne, qa_e rfl (by omega) (by decide), qc_f g25]
        rfl
      · unfold h_X0_asked
        refine hisK_i (htry_i ?_)
        unfold h_X1_asked
        refine hgR_e h.1.1.s3 (hbnd_i (c_at (h.1.1.lt13 (by decide)) h.1.1.hLa.1 (by omega) hk (h.1.1.hLa.2 k hk) (hisK_i (hbn0_i ?_))))
        unfold h_X8_asked
        refine hgI_e (h.1.1.f 7 7 25 (by decide) hk) (hcnd_f hs (hrt_i (hrt_i ?_)))
        exact KK.ans (m := m) (o := (0, 0)) (m1 := up2 m 82 0 0) (h.m82 0).1 rfl hP
