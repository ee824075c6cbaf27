/-! ===== operations (3) ===== -/
theorem op_sessions : OpD (h_X1_sessions 0) q_sessions := by
  intro v m T b o h hI hT
  obtain ⟨c1, c2⟩ := hI.c30 hT
  refine ⟨m 30 0, up2 m 82 0 0, rfl, (hI.m82 0).up, fun P X hP => ?_⟩
  unfold h_X1_sessions
  refine hgR_e h.1.1.s4 (hisK_i (hbn0_i (J2sz (h.1.1.lt13 (by decide)) h.1.1.hL3.1 (hrt_i ?_))))
  rw [← c1]
  exact hP v ((h.m82 0).less (by omega) (by omega))
theorem op_audits : OpD (h_X1_audits 0) q_audits := by
  intro v m T b o h hI hT
  obtain ⟨c1, c2⟩ := hI.c77 hT
  refine ⟨m 77 0, up2 m 82 0 0, rfl, (hI.m82 0).up, fun P X hP => ?_⟩
  unfold h_X1_audits
  refine hgR_e h.1.1.s14 (hisK_i (hbn0_i (J2sz (h.1.1.lt13 (by decide)) h.1.1.hL8.1 (hrt_i ?_))))
  rw [← c1]
  exact hP v ((h.m82 0).less (by omega) (by omega))
theorem op_signing : OpD (h_X1_signing 0) q_signing := by
  intro v m T b o h hI hT
  refine ⟨m 61 0, up2 m 82 0 0, rfl, (hI.m82 0).up, fun P X hP => ?_⟩
  exact hgI_e h.1.1.g20 (hrt_i (hP v ((h.m82 0).less (by omega) (by omega))))
theorem op_sum : OpD (h_X1_sum 0) q_sum := by
  intro v m T b o h hI hT
  refine ⟨m 81 0, up2 m 82 0 0, rfl, (hI.m82 0).up, fun P X hP => ?_⟩
  exact hgI_e h.1.1.g15 (hrt_i (hP v ((h.m82 0).less (by omega) (by omega))))
theorem op_signOut (a : Int32) : OpV (fun z => h_X0_signOut (idc 0 0) a z) (q_signOut a) := by
  intro v m T b z x h hI hT
  have hb := h.vb
  obtain ⟨c1, c2⟩ := hI.c30 hT
  rcases ix3 a (n := nn m 30) (by omega) with ha | ⟨k, hk, rfl⟩
  · refine ⟨0, up2 m 82 0 1, ?_, (hI.m82 1).up, fun P X hP => ?_⟩
    · unfold q_signOut
      rw [qbd_e (q_Session_f c1 (by omega) ha)]
      have e : (qjo (σ := Unit) (fun _ => qrt (0 : Int32)) fun j8 => qc ((0 : Int32) = 0) (j8 ()) (qa 35 60 a fun v13 => qc (v13 = 0) (j8 ()) (qrt (1 : Int32)))) m = some (0, m) := rfl
      rw [qbd_e e, qbd_e q_both_1]; rfl
    · unfold h_X0_signOut
      refine hisK_i (htry_i ?_)
      unfold h_X1_signOut
      refine hgR_e h.1.1.s4 (hbnd_i (c_at_f (h.1.1.lt13 (by decide)) h.1.1.hL3.1 ha (by omega) (hx_1 (hrt_i ?_))))
      exact hP (ub v 7) x (h.th 1) (thX (by decide))
  · by_cases hl : m 35 k = 0
    · refine ⟨0, up2 m 82 0 2, ?_, (hI.m82 2).up, fun P X hP => ?_⟩
      · unfold q_signOut
        rw [qbd_e (q_Session_t c1 (by omega) hk)]
        have e : (qjo (σ := Unit) (fun _ => qrt (0 : Int32)) fun j8 => qc ((1 : Int32) = 0) (j8 ()) (qa 35 60 (nI k) fun v13 => qc (v13 = 0) (j8 ()) (qrt (1 : Int32)))) m = some (0, m) := by
          show qc ((1 : Int32) = 0) _ _ m = _
          rw [qc_f one_ne, qa_e rfl (by omega) (by decide), qc_t hl]; rfl
        rw [qbd_e e, qbd_e (q_both_2 one_ne)]; rfl
      · unfold h_X0_signOut
        refine hisK_i (htry_i ?_)
        unfold h_X1_signOut
        refine hgR_e h.1.1.s4 (hbnd_i (c_at (h.1.1.lt13 (by decide)) h.1.1.hL3.1 (by omega) hk (h.1.1.hL3.2 k hk) (hisK_i (hgI_e (h.1.1.f 8 5 35 (by decide) hk) (hbnd_i ?_)))))
        rw [hl]
        refine c_can_f (by omega) (hx_s (by decide) (hx_1 (hrt_i ?_)))
        exact hP (ub v 7) x (h.th 2) (thX (by decide))
    · have hI0 := hI.m82 0
      have hl0 : up2 m 82 0 0 35 k ≠ 0 := hl
      have hk0 : k < nn (up2 m 82 0 0) 30 := hk
      refine ⟨nI (mES (up2 m 82 0 0) k).2, (mES (up2 m 82 0 0) k).1, ?_, (hI0.es hT hk0 hl0).up, fun P X hP => ?_⟩
      · unfold q_signOut
        rw [qbd_e (q_Session_t c1 (by omega) hk)]
        have e : (qjo (σ := Unit) (fun _ => qrt (0 : Int32)) fun j8 => qc ((1 : Int32) = 0) (j8 ()) (qa 35 60 (nI k) fun v13 => qc (v13 = 0) (j8 ()) (qrt (1 : Int32)))) m = some (1, m) := by
          show qc ((1 : Int32) = 0) _ _ m = _
          rw [qc_f one_ne, qa_e rfl (by omega) (by decide), qc_f hl]; rfl
        rw [qbd_e e, qbd_e (q_both_0 one_ne one_ne), qc_f one_ne, qbd_e (q_endSession_eq (hI0.ei hT) hk0 hl0)]; rfl
      · unfold h_X0_signOut
        refine hisK_i (htry_i ?_)
        unfold h_X1_signOut
        refine hgR_e h.1.1.s4 (hbnd_i (c_at (h.1.1.lt13 (by decide)) h.1.1.hL3.1 (by omega) hk (h.1.1.hL3.2 k hk) (hisK_i (hgI_e (h.1.1.f 8 5 35 (by decide) hk) (hbnd_i (c_can_t hl (hbn0_i ?_)))))))
        refine c_end (n := 28) (h.m82 0).1 (hI0.ei hT) hk0 hl0 fun v' hv => hrt_i (hbJ_i ?_ (hrt_i ?_))
        · rw [hv.2.2]
        · have e82 : (mES (up2 m 82 0 0) k).1 82 0 = 0 := by
            unfold mES
            show mEFs _ _ _ 82 0 = 0
            rw [mEFs_o (by decide) (by decide), mCh_o (by decide) (by decide) (by decide), mLv_o (by decide) (by decide)]
            exact up2_s
          have := hP (uO v' z (nI (mES (up2 m 82 0 0) k).2).toInt64) _ ((KK.less ⟨hv, trivial⟩ (by omega) (by omega)).long z _) (fun _ => rfl)
          rw [e82] at this
          exact this
theorem op_helper (a : Int32) : OpV (fun z => h_X0_helper (idc 0 0) a z) (q_helper a) := by
  intro v m T b z x h hI hT
  have hb := h.vb
  rcases ix3 a (n := 6) (by decide) with ha | ⟨p, hp, rfl⟩
  · refine ⟨0, up2 m 82 0 1, ?_, (hI.m82 1).up, fun P X hP => ?_⟩
    · unfold q_helper
      rw [qbd_e (q_six_f ha), qbd_e q_may_f]; rfl
    · unfold h_X0_helper
      refine hisK_i (htry_i ?_)
      unfold h_X1_helper
      refine hbnd_i (personAt_f ha (by omega) (hx_1 (hrt_i ?_)))
      exact hP (ub v 7) x (h.th 1) (thX (by decide))
  · obtain ⟨u, hu, hu2, hu3⟩ : ∃ u : Int32, (u = 0 ∨ u = 1) ∧ (m 8 p = 0 → u = 1) ∧ (¬ m 8 p = 0 → u = 0) := by
      by_cases q : m 8 p = 0
      · exact ⟨1, Or.inr rfl, fun _ => rfl, fun r => absurd q r⟩
      · exact ⟨0, Or.inl rfl, fun r => absurd r q, fun _ => rfl⟩
    have hI2 : Inv (up2 (up2 m 82 0 0) 8 p u) (T + 1) := by
      have hI' := (hI.m82 0).up
      obtain ⟨i1, i2, i3, b5, b6, b7, b8, rest⟩ := hI'
      refine ⟨i1, i2, i3, b5, b6, b7, ?_, rest⟩
      show iBo (up2 (up2 m 82 0 0) 8 p u 8)
      rw [up2_r]
      exact b8.up p hu
    refine ⟨u, up2 (up2 m 82 0 0) 8 p u, ?_, hI2, fun P X hP => ?_⟩
    · unfold q_helper
      rw [qbd_e (q_six_t hp), qbd_e q_may_t, qc_f one_ne, qa_e rfl hp (by decide)]
      have e : (qc (up2 m 82 0 0 8 p = 0) (qrt (1 : Int32)) (qrt (0 : Int32))) (up2 m 82 0 0) = some (u, up2 m 82 0 0) := by
        by_cases q : m 8 p = 0
        · rw [qc_t (show up2 m 82 0 0 8 p = 0 from q), hu2 q]; rfl
        · rw [qc_f (show ¬ up2 m 82 0 0 8 p = 0 from q), hu3 q]; rfl
      rw [qbd_e e, qz_e rfl hp (by decide) hu, qa_e rfl hp (by decide), up2_s, qas_t hu]; rfl
    · unfold h_X0_helper
      refine hisK_i (htry_i ?_)
      unfold h_X1_helper
      have h2 : KK (uM v 2 p 5 u) (up2 (up2 m 82 0 0) 8 p u) m (z + 1, x) (b + 40000) T := ⟨⟨(h.1.1.m82 0).isHelper p u, h.1.2.1.oM rfl, h.1.2.2⟩, trivial⟩
      have main : ∀ y : Int64, y = u.toInt64 → P 0 (uO (uM v 2 p 5 u) z y) := fun y hy => hP _ y ((h2.less (by omega) (by omega)).long z y) (fun _ => hy)
      have tail : ∀ u', u' = u → (hpZ 2 p 5 u' <| hgI 2 p 5 fun v6 => hasr ((v6 = 0) ∨ (v6 = 1)) (hrt (ρ := Int32) v6)) (fun r v' => (fun v3 => hbnd (ρ := _) (α := Int64) (hcnd (v3 = 0) (hrt (0 : Int64)) (hrt (1 : Int64))) (fun u4 => hbJ z u4 <| hrt (0 : Int32))) r P X v') (fun E v' => hhsel [("java/lang/IndexOutOfBoundsException", hrt (1 : Int32))] E P X v') v := by
        intro u' hu'
        subst hu'
        refine hpZ_i hu (hgI_e (x := u') up3_s (hasr_i hu (hrt_i (hbnd_i (hcnd_i (fun q => hrt_i (hbJ_i ?_ (hrt_i (main _ ?_)))) fun q => hrt_i (hbJ_i ?_ (hrt_i (main _ ?_))))))))
        · show (vo v).1 = z + 1
          rw [h.1.2.2]
        · rw [q]; rfl
        · show (vo v).1 = z + 1
          rw [h.1.2.2]
        · rw [hu.resolve_left q]; rfl
      refine hbnd_i (c_personAt h.1 hp (hisK_i (hgI_e (h.1.1.f 2 5 8 (by decide) hp) (hbnd_i (hcnd_i (fun q => hrt_i (tail _ (hu2 q).symm)) fun q => hrt_i (tail _ (hu3 q).symm))))))
theorem ix3p {p k : Nat} : ((3 : Int32) * nI p) + nI k = nI (3 * p + k) := by rw [show (3 : Int32) = nI 3 from by decide +kernel, pk_mul, nI_add]
theorem fitFactor_t {v : Vw} {k : Nat} (hk : k < 3) {P : Unit → Vw → Prop} {X : String → Vw → Prop} (h : P () v) : h_X1_fitFactor (nI k) P X v := by
  unfold h_X1_fitFactor
  exact hbnd_i (c_fit_t (nI_pos (by omega)) (by rw [show (2 : Int32) = nI 2 from by decide +kernel]; exact nI_le (by omega) (by decide)) (hrt_i h))
theorem fitFactor_f {v : Vw} {a : Int32} (ha : a < 0 ∨ nI 3 ≤ a) (hb : 7 ≤ vb v) {P : Unit → Vw → Prop} {X : String → Vw → Prop} (h : X "java/lang/IllegalArgumentException" (ub v 7)) : h_X1_fitFactor a P X v := by
  unfold h_X1_fitFactor
  exact hbnd_i (c_fit_f (ha.imp id fun q => Int32.lt_of_lt_of_le (show (2 : Int32) < nI 3 by decide +kernel) q) hb h)
theorem q_six_x (a : Int32) (m : Mst) : (∃ p, p < 6 ∧ a = nI p ∧ q_isSix a m = some (1, m)) ∨ ((a < 0 ∨ nI 6 ≤ a) ∧ q_isSix a m = some (0, m)) := by
  rcases ix3 a (n := 6) (by decide) with ha | ⟨p, hp, rfl⟩
  · exact Or.inr ⟨ha, q_six_f ha⟩
  · exact Or.inl ⟨p, hp, rfl, q_six_t hp⟩
theorem q_factor_x (a : Int32) (m : Mst) : (∃ p, p < 3 ∧ a = nI p ∧ q_isFactor a m = some (1, m)) ∨ ((a < 0 ∨ nI 3 ≤ a) ∧ q_isFactor a m = some (0, m)) := by
  rcases ix3 a (n := 3) (by decide) with ha | ⟨p, hp, rfl⟩
  · exact Or.inr ⟨ha, q_factor_f ha⟩
  · exact Or.inl ⟨p, hp, rfl, q_factor_t hp⟩
theorem q_service_x (a : Int32) (m : Mst) : (∃ p, p < 4 ∧ a = nI p ∧ q_isService a m = some (1, m)) ∨ ((a < 0 ∨ nI 4 ≤ a) ∧ q_isService a m = some (0, m)) := by
  rcases ix3 a (n := 4) (by decide) with ha | ⟨p, hp, rfl⟩
  · exact Or.inr ⟨ha, q_service_f ha⟩
  · exact Or.inl ⟨p, hp, rfl, q_service_t hp⟩
theorem q_isIn_x (a x y : Int32) (m : Mst) : ∃ r : Int32, q_isIn a x y m = some (r, m) := by
  by_cases q : a < x ∨ y < a
  · exact ⟨0, q_isIn_f q⟩
  · exact ⟨1, q_isIn_t (fun r => q (Or.inl r)) fun r => q (Or.inr r)⟩
theorem op_factor (a f : Int32) : OpV (fun z => h_X0_factor (idc 0 0) a f z) (q_factor a f) := by
  intro v m T b z x h hI hT
  have hb := h.vb
  rcases q_six_x a m with ⟨p, hp, rfl, e1⟩ | ⟨ha, e1⟩
  · rcases q_factor_x f m with ⟨k, hk, rfl, e2⟩ | ⟨hf, e2⟩
    · refine ⟨m 1 (3 * p + k), up2 m 82 0 0, ?_, (hI.m82 0).up, fun P X hP => ?_⟩
      · unfold q_factor
        rw [qbd_e e1, qbd_e e2, qbd_e (q_both_0 one_ne one_ne), qc_f one_ne, qa_e ix3p (by omega) (by decide)]; rfl
      · unfold h_X0_factor
        refine hisK_i (htry_i ?_)
        unfold h_X1_factor
        obtain ⟨p1, p2, p3, p4, p5, p6, p7, p8, p9⟩ := h.1.1.hPe p hp
        refine hbnd_i (c_personAt h.1 hp (hbnd_i (fitFactor_t hk (hisK_i (hgR_e p2 (hisK_i (haI_e rfl (by rw [(h.1.1.hLn.2.2.2.2.2.2.2 p hp).1]; exact hk) (by omega) ((h.1.1.hAr.2.2.2.2 p hp).1 k hk) (hrt_i (hbJ_i ?_ (hrt_i ?_))))))))))
        · rw [h.1.2.2]
        · exact hP _ _ (((h.m82 0).less (by omega) (by omega)).long z _) (fun _ => rfl)
    · refine ⟨0, up2 m 82 0 2, ?_, (hI.m82 2).up, fun P X hP => ?_⟩
      · unfold q_factor
        rw [qbd_e e1, qbd_e e2, qbd_e (q_both_2 one_ne)]; rfl
      · unfold h_X0_factor
        refine hisK_i (htry_i ?_)
        unfold h_X1_factor
        refine hbnd_i (c_personAt h.1 hp (hbnd_i (fitFactor_f hf (by omega) (hx_s (by decide) (hx_1 (hrt_i ?_))))))
        exact hP (ub v 7) x (h.th 2) (thX (by decide))
  · refine ⟨0, up2 m 82 0 1, ?_, (hI.m82 1).up, fun P X hP => ?_⟩
    · unfold q_factor
      rw [qbd_e e1]
      rcases q_factor_x f m with ⟨k, hk, rfl, e2⟩ | ⟨hf, e2⟩ <;> rw [qbd_e e2, qbd_e q_both_1] <;> rfl
    · unfold h_X0_factor
      refine hisK_i (htry_i ?_)
      unfold h_X1_factor
      refine hbnd_i (personAt_f ha (by omega) (hx_1 (hrt_i ?_)))
      exact hP (ub v 7) x (h.th 1) (thX (by decide))
