/-! ===== operations (6): lag ===== -/
theorem lag_v {a c : Nat} (ha : a < 2 ^ 30) (hc : c < 2 ^ 30) : mxI 0 ((nI a - nI c) + 1) = if nI a < nI c then 0 else (nI a - nI c) + 1 := by
  have e0 : (0 : Int32).toInt = 0 := rfl
  have e1 : (1 : Int32).toInt = 1 := rfl
  have i1 := nI_toInt (n := a) (by omega)
  have i2 := nI_toInt (n := c) (by omega)
  have s : ((nI a - nI c) + 1).toInt = (a : Int) - c + 1 := by
    rw [Int32.toInt_add, Int32.toInt_sub, i1, i2, e1]
    simp only [Int.bmod]
    omega
  unfold mxI
  by_cases q : a < c
  · rw [if_pos (nI_lt q (by omega)), if_neg]
    rw [Int32.lt_iff_toInt_lt, s, e0]; omega
  · rw [if_neg (nI_nlt (by omega) (by omega)), if_pos]
    rw [Int32.lt_iff_toInt_lt, s, e0]; omega
theorem rf_ix {K k : Nat} (hk : k < 2 ^ 31) : rf K (nI k) = idc K k := by
  unfold rf
  rw [if_neg (fun r => nI_pos hk (by rw [r]; decide)), nI_clamp hk]
theorem c_isTold {v : Vw} {m m0 : Mst} {o : Nat × Int64} {b T s f : Nat} (h : CC v m m0 o b T) (hs : s < 4) (hf : f < nn m 46) (hf6 : f < 60) {P : Int32 → Vw → Prop} {X : String → Vw → Prop} (hP : P (if decide (m 69 (60 * s + f) ≠ 0) then 1 else 0) v) : h_X4_isTold s (idc 10 f) P X v := by
  have hc := h.1.hCt.2.2.2.2.2.2.2.2.2.1
  have e := h.1.hTo s hs f hf6
  have en : vM v 10 f 0 = nI f := h.1.hN10 f hf
  unfold h_X4_isTold
  have hbo : (if vB v (14 + 2 * s) f then (1 : Int32) else 0) = 0 ∨ (if vB v (14 + 2 * s) f then (1 : Int32) else 0) = 1 := by cases vB v (14 + 2 * s) f <;> decide
  refine hgR_e (h.1.hSe s hs).2.1 (hisK_i (hgI_e en (hisK_i (hbn0_i ⟨f, ⟨rfl, by omega, by omega⟩, hasr_i hbo (hrt_i ?_)⟩))))
  rw [e]
  exact hP
theorem op_lag (a : Int32) : OpV (fun z => h_X0_lag (idc 0 0) a z) (q_lag a) := by
  intro v m T b z x h hI hT
  have hb := h.vb
  obtain ⟨c1, c2⟩ := hI.c52 hT
  obtain ⟨d1, d2⟩ := hI.c46 hT
  rcases ix3 a (n := nn m 52) (by omega) with ha | ⟨k, hk, rfl⟩
  · refine ⟨0, up2 m 82 0 1, ?_, (hI.m82 1).up, fun P X hP => ?_⟩
    · unfold q_lag
      rw [qbd_e (q_Token_f c1 (by omega) ha), qbd_e q_may_f]; rfl
    · unfold h_X0_lag
      refine hisK_i (htry_i ?_)
      unfold h_X1_lag
      refine hgR_e h.1.1.s7 (hbnd_i (c_at_f (h.1.1.lt13 (by decide)) h.1.1.hL6.1 ha (by omega) (hx_1 (hrt_i ?_))))
      exact hP (ub v 7) x (h.th 1) (thX (by decide))
  · have hTo : iTo (nn m 52) (nn m 46) (m 60 0) (m 53) (m 54) (m 57) (m 58) (m 59) := hI.2.2.2.2.2.2.2.2.2.2.2.2.2.2.2.2.2.2.2.1
    have hTm : ix (m 0 0) 30001 := hI.1.1
    obtain ⟨_, ⟨s, hs, es⟩, ⟨f, hf, ef⟩, _, ⟨y, hy, ey⟩⟩ := hTo k hk
    obtain ⟨c, hc, ec⟩ := hTm
    have hbo : m 51 f = 0 ∨ m 51 f = 1 := hI.2.2.2.2.2.2.2.2.1 f
    obtain ⟨r, er⟩ : ∃ r : Int32, r = if m 51 f = 0 ∧ m 69 (60 * s + f) = 0 ∧ ¬ nI y < nI c then (nI y - nI c) + 1 else 0 := ⟨_, rfl⟩
    have e1 : vN v 11 k 0 = idc 10 f := by
      have := h.1.1.hRt k hk
      rw [ef, rf_ix (by omega)] at this
      exact this
    refine ⟨r, up2 m 82 0 0, ?_, (hI.m82 0).up, fun P X hP => ?_⟩
    · unfold q_lag
      have g57 : up2 m 82 0 0 57 k = nI f := ef
      have g54 : up2 m 82 0 0 54 k = nI s := es
      have g59 : up2 m 82 0 0 59 k = nI y := ey
      have g0 : up2 m 82 0 0 0 0 = nI c := ec
      have g51 : up2 m 82 0 0 51 f = m 51 f := rfl
      have g69 : up2 m 82 0 0 69 (60 * s + f) = m 69 (60 * s + f) := rfl
      have ix60 : ((60 : Int32) * nI s) + nI f = nI (60 * s + f) := by rw [show (60 : Int32) = nI 60 from by decide +kernel, pk_mul, nI_add]
      rw [qbd_e (q_Token_t c1 (by omega) hk), qbd_e q_may_t, qc_f one_ne, qa_e rfl (by omega) (by decide), g57, qa_e rfl (by omega) (by decide), g51]
      obtain ⟨u, hu, eu⟩ : ∃ u : Int32, (¬ u = 0 ↔ m 51 f = 0 ∧ m 69 (60 * s + f) = 0 ∧ ¬ nI y < nI c) ∧ (qjo (σ := Unit) (fun _ => qrt (0 : Int32)) fun j21 => qc (m 51 f = 0) (qa 54 200 (nI k) fun v27 => qa 57 200 (nI k) fun v31 => qa 69 240 (((60 : Int32) * v27) + v31) fun v34 => qc (v34 = 0) (qI 0 fun v36 => qa 59 200 (nI k) fun v40 => qc (v40 < v36) (j21 ()) (qrt (1 : Int32))) (j21 ())) (j21 ())) (up2 m 82 0 0) = some (u, up2 m 82 0 0) := by
        show ∃ u : Int32, _ ∧ qc (m 51 f = 0) _ _ _ = _
        by_cases q1 : m 51 f = 0
        · rw [qc_t q1, qa_e rfl (by omega) (by decide), g54, qa_e rfl (by omega) (by decide), g57, qa_e ix60 (by omega) (by decide), g69]
          by_cases q2 : m 69 (60 * s + f) = 0
          · rw [qc_t q2, qI_d, qa_e rfl (by omega) (by decide), g59, g0]
            by_cases q3 : nI y < nI c
            · rw [qc_t q3]; exact ⟨0, ⟨fun q => absurd rfl q, fun q => absurd q3 q.2.2⟩, rfl⟩
            · rw [qc_f q3]; exact ⟨1, ⟨fun _ => ⟨q1, q2, q3⟩, fun _ => one_ne⟩, rfl⟩
          · rw [qc_f q2]; exact ⟨0, ⟨fun q => absurd rfl q, fun q => absurd q.2.1 q2⟩, rfl⟩
        · rw [qc_f q1]; exact ⟨0, ⟨fun q => absurd rfl q, fun q => absurd q.1 q1⟩, rfl⟩
      rw [qbd_e eu, er]
      by_cases q : u = 0
      · rw [qc_t q, if_neg (fun r => hu.mpr r q)]; rfl
      · rw [qc_f q, if_pos (hu.mp q), qa_e rfl (by omega) (by decide), qI_d, g59, g0]; rfl
    · unfold h_X0_lag
      refine hisK_i (htry_i ?_)
      unfold h_X1_lag
      refine hgR_e h.1.1.s7 (hbnd_i (c_at (h.1.1.lt13 (by decide)) h.1.1.hL6.1 (by omega) hk (h.1.1.hL6.2 k hk) (hisK_i (hgR_e e1 (hisK_i (hgI_e (h.1.1.f 10 5 51 (by decide) hf) (hbnd_i ?_)))))))
      have fin : ∀ w : Int32, (w = 0 ↔ m 51 f = 0 ∧ m 69 (60 * s + f) = 0) → (hcnd (ρ := Int32) (w = 0) (hgI 11 k 6 fun v11 => hgI 0 0 16 fun v12 => hrt (mxI (0 : Int32) ((v11 - v12) + (1 : Int32)))) (hrt (0 : Int32))) (fun r v' => (hbJ z r.toInt64 <| hrt (0 : Int32)) P X v') (fun E v' => (hhsel [("java/lang/IndexOutOfBoundsException", hrt (1 : Int32))] E : PV Int32) P X v') v := fun w hw => by
        refine hcnd_i (fun q => hgI_e ((h.1.1.f 11 6 59 (by decide) hk).trans ey) (hgI_e ((h.1.1.f 0 16 0 (by decide) (by show 0 < 1; decide)).trans ec) (hrt_i ?_))) fun q => hrt_i ?_
        · have : mxI 0 ((nI y - nI c) + 1) = r := by
            rw [lag_v (by omega) (by omega), er]
            obtain ⟨q1, q2⟩ := hw.mp q
            by_cases q3 : nI y < nI c
            · rw [if_pos q3, if_neg fun r => r.2.2 q3]
            · rw [if_neg q3, if_pos ⟨q1, q2, q3⟩]
          rw [this]
          exact KK.ans (m := m) (o := (0, 0)) (m1 := up2 m 82 0 0) (h.m82 0).1 rfl hP
        · have : (0 : Int32) = r := by rw [er, if_neg fun r => q (hw.mpr ⟨r.1, r.2.1⟩)]
          have e := KK.ans (X := X) (m := m) (o := (0, 0)) (m1 := up2 m 82 0 0) (h.m82 0).1 rfl hP
          rw [← this] at e
          exact e
      refine hjo_i (hcnd_i (fun q => ?_) fun q => hrt_i (fin 1 ⟨fun r => absurd r one_ne, fun r => absurd r.1 q⟩))
      refine hgR_e h.1.1.s9 (hgI_e ((h.1.1.f 11 2 54 (by decide) hk).trans es) (hisK_i (haR_e rfl (by rw [h.1.1.hLn.2.2.1]; exact hs) (by omega) (h.1.1.hSe s hs).1 (hgR_e e1 (hisK_i (hbn0_i (c_isTold h.1 hs hf (by omega) ?_)))))))
      by_cases q2 : m 69 (60 * s + f) = 0
      · rw [decide_eq_false (by rw [q2]; exact fun r => r rfl)]
        exact hcnd_t rfl (hrt_i (fin 0 ⟨fun _ => ⟨q, q2⟩, fun _ => rfl⟩))
      · rw [decide_eq_true q2]
        exact hcnd_f one_ne (hrt_i (fin 1 ⟨fun r => absurd r one_ne, fun r => absurd r.2 q2⟩))
