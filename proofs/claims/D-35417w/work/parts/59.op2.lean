/-! ===== operations (2): queries of lists (printed by gen/ops.py) ===== -/
theorem ix_nn {m : Mst} {F n : Nat} (h : ix (m F 0) (n + 1)) (hn : n < 2 ^ 30) : m F 0 = nI (nn m F) ∧ nn m F ≤ n := by
  obtain ⟨k, h1, h2⟩ := h
  have e : nn m F = k := by unfold nn; rw [h2, nI_clamp (by omega)]
  exact ⟨by rw [e]; exact h2, by omega⟩
theorem Inv.c19 {m : Mst} {T : Nat} (h : Inv m T) (hT : T < 24) : m 19 0 = nI (nn m 19) ∧ nn m 19 ≤ 23 := by
  have := ix_nn h.2.1.1 (by omega)
  exact ⟨this.1, by omega⟩
theorem Inv.c30 {m : Mst} {T : Nat} (h : Inv m T) (hT : T < 24) : m 30 0 = nI (nn m 30) ∧ nn m 30 ≤ 23 := by
  have := ix_nn h.2.1.2.1 (by omega)
  exact ⟨this.1, by omega⟩
theorem Inv.c39 {m : Mst} {T : Nat} (h : Inv m T) (hT : T < 24) : m 39 0 = nI (nn m 39) ∧ nn m 39 ≤ 23 := by
  have := ix_nn h.2.1.2.2.1 (by omega)
  exact ⟨this.1, by omega⟩
theorem Inv.c46 {m : Mst} {T : Nat} (h : Inv m T) (hT : T < 24) : m 46 0 = nI (nn m 46) ∧ nn m 46 ≤ 23 := by
  have := ix_nn h.2.1.2.2.2.1 (by omega)
  exact ⟨this.1, by omega⟩
theorem Inv.c52 {m : Mst} {T : Nat} (h : Inv m T) (hT : T < 24) : m 52 0 = nI (nn m 52) ∧ nn m 52 ≤ 23 := by
  have := ix_nn h.2.1.2.2.2.2.1 (by omega)
  exact ⟨this.1, by omega⟩
theorem Inv.c70 {m : Mst} {T : Nat} (h : Inv m T) (hT : T < 24) : m 70 0 = nI (nn m 70) ∧ nn m 70 ≤ 23 := by
  have := ix_nn h.2.1.2.2.2.2.2.1 (by omega)
  exact ⟨this.1, by omega⟩
theorem Inv.c77 {m : Mst} {T : Nat} (h : Inv m T) (hT : T < 24) : m 77 0 = nI (nn m 77) ∧ nn m 77 ≤ 92 := by
  have := ix_nn h.2.1.2.2.2.2.2.2 (by omega)
  exact ⟨this.1, by omega⟩
theorem q_up_t {m : Mst} {F k n : Nat} (h : m F 0 = nI n) (hn : n < 2 ^ 30) (hk : k < n) : q_isIn (nI k) 0 (m F 0 - 1) m = some (1, m) := by
  refine q_isIn_t (nI_pos (by omega)) ?_
  obtain ⟨j, rfl⟩ : ∃ j, n = j + 1 := ⟨n - 1, by omega⟩
  rw [h, nI_pred]
  exact nI_nlt (by omega) (by omega)
theorem q_up_f {m : Mst} {F n : Nat} {a : Int32} (h : m F 0 = nI n) (hn : n < 2 ^ 30) (ha : a < 0 ∨ nI n ≤ a) : q_isIn a 0 (m F 0 - 1) m = some (0, m) := by
  refine q_isIn_f (ha.imp id fun q => ?_)
  rw [h]
  rcases Nat.eq_zero_or_pos n with h0 | h0
  · subst h0
    exact Int32.lt_of_lt_of_le (show nI 0 - 1 < nI 0 by decide +kernel) q
  · obtain ⟨j, rfl⟩ : ∃ j, n = j + 1 := ⟨n - 1, by omega⟩
    rw [nI_pred]
    exact Int32.lt_of_lt_of_le (nI_lt (by omega) (by omega)) q
theorem thX {m : Mst} {x : Int32} {A : Prop} (hx : x ≠ 0) (q : up2 m 82 0 x 82 0 = 0) : A := absurd (up2_s.symm.trans q) hx
theorem bool_l {x : Int32} (h : x = 0 ∨ x = 1) {P : Int64 → Prop} (hP : P x.toInt64) : (x = 0 → P 0) ∧ (¬ x = 0 → P 1) := by
  rcases h with rfl | rfl
  · exact ⟨fun _ => hP, fun q => absurd rfl q⟩
  · exact ⟨fun q => absurd q (by decide), fun _ => hP⟩
theorem q_Attempt_t {m : Mst} {k n : Nat} (h : m 19 0 = nI n) (hn : n < 2 ^ 30) (hk : k < n) : q_isAttempt (nI k) m = some (1, m) := by
  show qbd (q_isIn (nI k) 0 (m 19 0 - 1)) _ m = _
  rw [qbd_e (q_up_t h hn hk)]; rfl
theorem q_Attempt_f {m : Mst} {a : Int32} {n : Nat} (h : m 19 0 = nI n) (hn : n < 2 ^ 30) (ha : a < 0 ∨ nI n ≤ a) : q_isAttempt a m = some (0, m) := by
  show qbd (q_isIn a 0 (m 19 0 - 1)) _ m = _
  rw [qbd_e (q_up_f h hn ha)]; rfl
theorem q_Session_t {m : Mst} {k n : Nat} (h : m 30 0 = nI n) (hn : n < 2 ^ 30) (hk : k < n) : q_isSession (nI k) m = some (1, m) := by
  show qbd (q_isIn (nI k) 0 (m 30 0 - 1)) _ m = _
  rw [qbd_e (q_up_t h hn hk)]; rfl
theorem q_Session_f {m : Mst} {a : Int32} {n : Nat} (h : m 30 0 = nI n) (hn : n < 2 ^ 30) (ha : a < 0 ∨ nI n ≤ a) : q_isSession a m = some (0, m) := by
  show qbd (q_isIn a 0 (m 30 0 - 1)) _ m = _
  rw [qbd_e (q_up_f h hn ha)]; rfl
theorem q_Family_t {m : Mst} {k n : Nat} (h : m 46 0 = nI n) (hn : n < 2 ^ 30) (hk : k < n) : q_isFamily (nI k) m = some (1, m) := by
  show qbd (q_isIn (nI k) 0 (m 46 0 - 1)) _ m = _
  rw [qbd_e (q_up_t h hn hk)]; rfl
theorem q_Family_f {m : Mst} {a : Int32} {n : Nat} (h : m 46 0 = nI n) (hn : n < 2 ^ 30) (ha : a < 0 ∨ nI n ≤ a) : q_isFamily a m = some (0, m) := by
  show qbd (q_isIn a 0 (m 46 0 - 1)) _ m = _
  rw [qbd_e (q_up_f h hn ha)]; rfl
theorem q_Token_t {m : Mst} {k n : Nat} (h : m 52 0 = nI n) (hn : n < 2 ^ 30) (hk : k < n) : q_isToken (nI k) m = some (1, m) := by
  show qbd (q_isIn (nI k) 0 (m 52 0 - 1)) _ m = _
  rw [qbd_e (q_up_t h hn hk)]; rfl
theorem q_Token_f {m : Mst} {a : Int32} {n : Nat} (h : m 52 0 = nI n) (hn : n < 2 ^ 30) (ha : a < 0 ∨ nI n ≤ a) : q_isToken a m = some (0, m) := by
  show qbd (q_isIn a 0 (m 52 0 - 1)) _ m = _
  rw [qbd_e (q_up_f h hn ha)]; rfl
theorem op_state (a : Int32) : OpV (fun z => h_X0_state (idc 0 0) a z) (q_state a) := by
  intro v m T b z x h hI hT
  have hb := h.vb
  obtain ⟨c1, c2⟩ := hI.c19 hT
  rcases ix3 a (n := nn m 19) (by omega) with ha | ⟨k, hk, rfl⟩
  · refine ⟨0, up2 m 82 0 1, ?_, (hI.m82 1).up, fun P X hP => ?_⟩
    · unfold q_state
      rw [qbd_e (q_Attempt_f c1 (by omega) ha), qbd_e q_may_f]; rfl
    · unfold h_X0_state
      refine hisK_i (htry_i ?_)
      unfold h_X1_state
      refine hgR_e h.1.1.s3 (hbnd_i (c_at_f (h.1.1.lt13 (by decide)) h.1.1.hLa.1 ha (by omega) (hx_1 (hrt_i ?_))))
      exact hP (ub v 7) x (h.th 1) (thX (by decide))
  · refine ⟨m 25 k, up2 m 82 0 0, ?_, (hI.m82 0).up, fun P X hP => ?_⟩
    · unfold q_state
      rw [qbd_e (q_Attempt_t c1 (by omega) hk), qbd_e q_may_t, qc_f one_ne, qa_e rfl (by omega) (by decide)]
      rfl
    · unfold h_X0_state
      refine hisK_i (htry_i ?_)
      unfold h_X1_state
      refine hgR_e h.1.1.s3 (hbnd_i (c_at (h.1.1.lt13 (by decide)) h.1.1.hLa.1 (by omega) hk (h.1.1.hLa.2 k hk) (hisK_i (hgI_e (h.1.1.f 7 7 25 (by decide) hk) (hrt_i (hbJ_i ?_ (hrt_i ?_)))))))
      · rw [h.1.2.2]
      · exact hP (uO v z _) _ (((h.m82 0).less (by omega) (by omega)).long z _) (fun _ => rfl)
theorem op_sessionOf (a : Int32) : OpV (fun z => h_X0_sessionOf (idc 0 0) a z) (q_sessionOf a) := by
  intro v m T b z x h hI hT
  have hb := h.vb
  obtain ⟨c1, c2⟩ := hI.c19 hT
  rcases ix3 a (n := nn m 19) (by omega) with ha | ⟨k, hk, rfl⟩
  · refine ⟨0, up2 m 82 0 1, ?_, (hI.m82 1).up, fun P X hP => ?_⟩
    · unfold q_sessionOf
      rw [qbd_e (q_Attempt_f c1 (by omega) ha), qbd_e q_may_f]; rfl
    · unfold h_X0_sessionOf
      refine hisK_i (htry_i ?_)
      unfold h_X1_sessionOf
      refine hgR_e h.1.1.s3 (hbnd_i (c_at_f (h.1.1.lt13 (by decide)) h.1.1.hLa.1 ha (by omega) (hx_1 (hrt_i ?_))))
      exact hP (ub v 7) x (h.th 1) (thX (by decide))
  · refine ⟨m 28 k, up2 m 82 0 0, ?_, (hI.m82 0).up, fun P X hP => ?_⟩
    · unfold q_sessionOf
      rw [qbd_e (q_Attempt_t c1 (by omega) hk), qbd_e q_may_t, qc_f one_ne, qa_e rfl (by omega) (by decide)]
      rfl
    · unfold h_X0_sessionOf
      refine hisK_i (htry_i ?_)
      unfold h_X1_sessionOf
      refine hgR_e h.1.1.s3 (hbnd_i (c_at (h.1.1.lt13 (by decide)) h.1.1.hLa.1 (by omega) hk (h.1.1.hLa.2 k hk) (hisK_i (hgI_e (h.1.1.f 7 10 28 (by decide) hk) (hrt_i (hbJ_i ?_ (hrt_i ?_)))))))
      · rw [h.1.2.2]
      · exact hP (uO v z _) _ (((h.m82 0).less (by omega) (by omega)).long z _) (fun _ => rfl)
theorem op_isLive (a : Int32) : OpV (fun z => h_X0_isLive (idc 0 0) a z) (q_isLive a) := by
  intro v m T b z x h hI hT
  have hb := h.vb
  obtain ⟨c1, c2⟩ := hI.c30 hT
  rcases ix3 a (n := nn m 30) (by omega) with ha | ⟨k, hk, rfl⟩
  · refine ⟨0, up2 m 82 0 1, ?_, (hI.m82 1).up, fun P X hP => ?_⟩
    · unfold q_isLive
      rw [qbd_e (q_Session_f c1 (by omega) ha), qbd_e q_may_f]; rfl
    · unfold h_X0_isLive
      refine hisK_i (htry_i ?_)
      unfold h_X1_isLive
      refine hgR_e h.1.1.s4 (hbnd_i (c_at_f (h.1.1.lt13 (by decide)) h.1.1.hL3.1 ha (by omega) (hx_1 (hrt_i ?_))))
      exact hP (ub v 7) x (h.th 1) (thX (by decide))
  · refine ⟨m 35 k, up2 m 82 0 0, ?_, (hI.m82 0).up, fun P X hP => ?_⟩
    · unfold q_isLive
      rw [qbd_e (q_Session_t c1 (by omega) hk), qbd_e q_may_t, qc_f one_ne, qa_e rfl (by omega) (by decide)]
      have e : up2 m 82 0 0 35 k = m 35 k := rfl
      rcases hI.2.2.2.2.2.2.2.1 k with q | q
      · rw [e, q]; rfl
      · rw [e, q]; rfl
    · unfold h_X0_isLive
      refine hisK_i (htry_i ?_)
      unfold h_X1_isLive
      have hbo : m 35 k = 0 ∨ m 35 k = 1 := hI.2.2.2.2.2.2.2.1 k
      refine hgR_e h.1.1.s4 (hbnd_i (c_at (h.1.1.lt13 (by decide)) h.1.1.hL3.1 (by omega) hk (h.1.1.hL3.2 k hk) (hisK_i (hgI_e (h.1.1.f 8 5 35 (by decide) hk) (hasr_i hbo (hrt_i ?_))))))
      have main : ∀ y : Int64, y = (m 35 k).toInt64 → P 0 (uO v z y) := fun y hy => by
        refine hP (uO v z y) y ?_ (fun _ => hy)
        exact (((h.m82 0).less (by omega) (by omega)).long z y)
      refine hbnd_i (hcnd_i (fun q => hrt_i (hbJ_i ?_ (hrt_i (main _ ?_)))) fun q => hrt_i (hbJ_i ?_ (hrt_i (main _ ?_))))
      · rw [h.1.2.2]
      · rw [q]; rfl
      · rw [h.1.2.2]
      · rw [hbo.resolve_left q]; rfl
theorem op_isGood (a : Int32) : OpV (fun z => h_X0_isGood (idc 0 0) a z) (q_isGood a) := by
  intro v m T b z x h hI hT
  have hb := h.vb
  obtain ⟨c1, c2⟩ := hI.c46 hT
  rcases ix3 a (n := nn m 46) (by omega) with ha | ⟨k, hk, rfl⟩
  · refine ⟨0, up2 m 82 0 1, ?_, (hI.m82 1).up, fun P X hP => ?_⟩
    · unfold q_isGood
      rw [qbd_e (q_Family_f c1 (by omega) ha), qbd_e q_may_f]; rfl
    · unfold h_X0_isGood
      refine hisK_i (htry_i ?_)
      unfold h_X1_isGood
      refine hgR_e h.1.1.s6 (hbnd_i (c_at_f (h.1.1.lt13 (by decide)) h.1.1.hL5.1 ha (by omega) (hx_1 (hrt_i ?_))))
      exact hP (ub v 7) x (h.th 1) (thX (by decide))
  · refine ⟨m 51 k, up2 m 82 0 0, ?_, (hI.m82 0).up, fun P X hP => ?_⟩
    · unfold q_isGood
      rw [qbd_e (q_Family_t c1 (by omega) hk), qbd_e q_may_t, qc_f one_ne, qa_e rfl (by omega) (by decide)]
      have e : up2 m 82 0 0 51 k = m 51 k := rfl
      rcases hI.2.2.2.2.2.2.2.2.1 k with q | q
      · rw [e, q]; rfl
      · rw [e, q]; rfl
    · unfold h_X0_isGood
      refine hisK_i (htry_i ?_)
      unfold h_X1_isGood
      have hbo : m 51 k = 0 ∨ m 51 k = 1 := hI.2.2.2.2.2.2.2.2.1 k
      refine hgR_e h.1.1.s6 (hbnd_i (c_at (h.1.1.lt13 (by decide)) h.1.1.hL5.1 (by omega) hk (h.1.1.hL5.2 k hk) (hisK_i (hgI_e (h.1.1.f 10 5 51 (by decide) hk) (hasr_i hbo (hrt_i ?_))))))
      have main : ∀ y : Int64, y = (m 51 k).toInt64 → P 0 (uO v z y) := fun y hy => by
        refine hP (uO v z y) y ?_ (fun _ => hy)
        exact (((h.m82 0).less (by omega) (by omega)).long z y)
      refine hbnd_i (hcnd_i (fun q => hrt_i (hbJ_i ?_ (hrt_i (main _ ?_)))) fun q => hrt_i (hbJ_i ?_ (hrt_i (main _ ?_))))
      · rw [h.1.2.2]
      · rw [q]; rfl
      · rw [h.1.2.2]
      · rw [hbo.resolve_left q]; rfl
theorem op_tokenOf (a : Int32) : OpV (fun z => h_X0_tokenOf (idc 0 0) a z) (q_tokenOf a) := by
  intro v m T b z x h hI hT
  have hb := h.vb
  obtain ⟨c1, c2⟩ := hI.c46 hT
  rcases ix3 a (n := nn m 46) (by omega) with ha | ⟨k, hk, rfl⟩
  · refine ⟨0, up2 m 82 0 1, ?_, (hI.m82 1).up, fun P X hP => ?_⟩
    · unfold q_tokenOf
      rw [qbd_e (q_Family_f c1 (by omega) ha), qbd_e q_may_f]; rfl
    · unfold h_X0_tokenOf
      refine hisK_i (htry_i ?_)
      unfold h_X1_tokenOf
      refine hgR_e h.1.1.s6 (hbnd_i (c_at_f (h.1.1.lt13 (by decide)) h.1.1.hL5.1 ha (by omega) (hx_1 (hrt_i ?_))))
      exact hP (ub v 7) x (h.th 1) (thX (by decide))
  · refine ⟨m 50 k, up2 m 82 0 0, ?_, (hI.m82 0).up, fun P X hP => ?_⟩
    · unfold q_tokenOf
      rw [qbd_e (q_Family_t c1 (by omega) hk), qbd_e q_may_t, qc_f one_ne, qa_e rfl (by omega) (by decide)]
      rfl
    · unfold h_X0_tokenOf
      refine hisK_i (htry_i ?_)
      unfold h_X1_tokenOf
      refine hgR_e h.1.1.s6 (hbnd_i (c_at (h.1.1.lt13 (by decide)) h.1.1.hL5.1 (by omega) hk (h.1.1.hL5.2 k hk) (hisK_i (hgI_e (h.1.1.f 10 9 50 (by decide) hk) (hrt_i (hbJ_i ?_ (hrt_i ?_)))))))
      · rw [h.1.2.2]
      · exact hP (uO v z _) _ (((h.m82 0).less (by omega) (by omega)).long z _) (fun _ => rfl)
theorem op_token (a : Int32) : OpV (fun z => h_X0_token (idc 0 0) a z) (q_token a) := by
  intro v m T b z x h hI hT
  have hb := h.vb
  obtain ⟨c1, c2⟩ := hI.c52 hT
  rcases ix3 a (n := nn m 52) (by omega) with ha | ⟨k, hk, rfl⟩
  · refine ⟨0, up2 m 82 0 1, ?_, (hI.m82 1).up, fun P X hP => ?_⟩
    · unfold q_token
      rw [qbd_e (q_Token_f c1 (by omega) ha), qbd_e q_may_f]; rfl
    · unfold h_X0_token
      refine hisK_i (htry_i ?_)
      unfold h_X1_token
      refine hgR_e h.1.1.s7 (hbnd_i (c_at_f (h.1.1.lt13 (by decide)) h.1.1.hL6.1 ha (by omega) (hx_1 (hrt_i ?_))))
      exact hP (ub v 7) x (h.th 1) (thX (by decide))
  · refine ⟨((((1000 : Int32) * m 59 k) + ((100 : Int32) * m 53 k)) + ((10 : Int32) * m 54 k)) + m 56 k, up2 m 82 0 0, ?_, (hI.m82 0).up, fun P X hP => ?_⟩
    · unfold q_token
      rw [qbd_e (q_Token_t c1 (by omega) hk), qbd_e q_may_t, qc_f one_ne, qa_e rfl (by omega) (by decide), qa_e rfl (by omega) (by decide), qa_e rfl (by omega) (by decide), qa_e rfl (by omega) (by decide)]
      rfl
    · unfold h_X0_token
      refine hisK_i (htry_i ?_)
      unfold h_X1_token
      refine hgR_e h.1.1.s7 (hbnd_i (c_at (h.1.1.lt13 (by decide)) h.1.1.hL6.1 (by omega) hk (h.1.1.hL6.2 k hk) (hisK_i (hgI_e (h.1.1.f 11 6 59 (by decide) hk) (hgI_e (h.1.1.f 11 1 53 (by decide) hk) (hgI_e (h.1.1.f 11 2 54 (by decide) hk) (hgI_e (h.1.1.f 11 4 56 (by decide) hk) (hrt_i (hbJ_i ?_ (hrt_i ?_))))))))))
      · rw [h.1.2.2]
      · exact hP (uO v z _) _ (((h.m82 0).less (by omega) (by omega)).long z _) (fun _ => rfl)
theorem op_audit (a : Int32) : OpV (fun z => h_X0_audit (idc 0 0) a z) (q_audit a) := by
  intro v m T b z x h hI hT
  have hb := h.vb
  obtain ⟨c1, c2⟩ := hI.c77 hT
  rcases ix3 a (n := nn m 77) (by omega) with ha | ⟨k, hk, rfl⟩
  · refine ⟨0, up2 m 82 0 1, ?_, (hI.m82 1).up, fun P X hP => ?_⟩
    · show qbd (q_isIn _ 0 (m 77 0 - 1)) (fun v2 => qbd (q_may v2) (fun v3 => qc (v3 = 0) (qrt (0 : Int32)) (qa 78 1200 _ fun v8 => qa 79 1200 _ fun v12 => qrt (((1000 : Int32) * v8) + v12)))) m = _
      rw [qbd_e (q_up_f c1 (by omega) ha), qbd_e q_may_f]; rfl
    · unfold h_X0_audit
      refine hisK_i (htry_i ?_)
      unfold h_X1_audit
      refine hgR_e h.1.1.s14 (hbnd_i (c_at_f (h.1.1.lt13 (by decide)) h.1.1.hL8.1 ha (by omega) (hx_1 (hrt_i ?_))))
      exact hP (ub v 7) x (h.th 1) (thX (by decide))
  · refine ⟨((1000 : Int32) * m 78 k) + m 79 k, up2 m 82 0 0, ?_, (hI.m82 0).up, fun P X hP => ?_⟩
    · show qbd (q_isIn _ 0 (m 77 0 - 1)) (fun v2 => qbd (q_may v2) (fun v3 => qc (v3 = 0) (qrt (0 : Int32)) (qa 78 1200 _ fun v8 => qa 79 1200 _ fun v12 => qrt (((1000 : Int32) * v8) + v12)))) m = _
      rw [qbd_e (q_up_t c1 (by omega) hk), qbd_e q_may_t, qc_f one_ne, qa_e rfl (by omega) (by decide), qa_e rfl (by omega) (by decide)]
      rfl
    · unfold h_X0_audit
      refine hisK_i (htry_i ?_)
      unfold h_X1_audit
      refine hgR_e h.1.1.s14 (hbnd_i (c_at (h.1.1.lt13 (by decide)) h.1.1.hL8.1 (by omega) hk (h.1.1.hL8.2 k hk) (hisK_i (hgI_e (h.1.1.f 5 0 78 (by decide) hk) (hgI_e (h.1.1.f 5 1 79 (by decide) hk) (hrt_i (hbJ_i ?_ (hrt_i ?_))))))))
      · rw [h.1.2.2]
      · exact hP (uO v z _) _ (((h.m82 0).less (by omega) (by omega)).long z _) (fun _ => rfl)
