/-! ===== operations (33): clear ===== -/
theorem MR.oL {v : Vw} {m : Mst} (h : MR v m) {n : Nat} : MR (uL v n) m := h.eqv rfl rfl rfl
theorem Inv.dr {m : Mst} {T : Nat} (h : Inv m T) : Inv (up2 m 10 8 0) T := by
  obtain ⟨i1, i2, i3, b5, b6, b7, b8, b35, b51, b64, b66, b69, b73, iK, iA, iS, iC, iFm, iz, iT, iR, iRz, iL, iE, iV, iAz⟩ := h
  obtain ⟨⟨v9, v91, v92⟩, v2, v3, v4⟩ := iV
  have n9 : nn m 9 = v9 := nIx v92 (by omega)
  refine ⟨i1, i2, i3, b5, b6, b7, b8, b35, b51, b64, b66, b69, b73, iK, ?_, iS, iC, iFm, iz, iT, iR, iRz, iL, iE, ?_, iAz⟩
  · intro a ha
    obtain ⟨j1, j2, j3, ⟨V, w1, w2⟩, j5, j6⟩ := iA a ha
    refine ⟨j1, j2, j3, ⟨V, w1, w2⟩, ?_, j6⟩
    show ixn (m 24 a) (up2 m 10 8 0 10 (m 23 a).toNatClampNeg).toNatClampNeg
    have hne : ¬ ((10 : Nat) = 10 ∧ (m 23 a).toNatClampNeg = 8) := fun t => by
      have t2 := t.2
      rw [w2, nI_clamp (by omega)] at t2
      omega
    rw [up2_n hne]
    exact j5
  · show iVe (m 9 0) (up2 m 10 8 0 10 8) (up2 m 10 8 0 10) (m 11) (m 12) (m 13) (m 14) (m 15)
    rw [up2_s]
    have z0 : (0 : Int32).toNatClampNeg = 0 := by decide +kernel
    refine ⟨⟨v9, v91, v92⟩, ⟨0, by decide, nI_0.symm⟩, fun k hk => ?_, fun j hj => ?_⟩
    · rw [z0] at hk
      exact absurd hk (Nat.not_lt_zero _)
    · have hj2 : j < nn m 9 := hj
      rw [up2_n (fun t => by omega)]
      exact v4 j hj
theorem op_clear : OpD (h_X1_clear 0) q_clear := by
  intro v m T b o h hI hT
  show OpE (h_X1_clear 0) q_clear v m T b o
  have hb := h.vb
  have i8 : (8 : Int32) = nI 8 := by decide +kernel
  obtain ⟨f1, f2, f3, f4, f5, f6⟩ := h.1.1.hFl
  have k13 : vK v 13 = 8 + vK v 1 := h.1.1.hCt.2.2.2.2.2.2.2.1
  have k1 : 1 ≤ vK v 1 := h.1.1.hCt.2.2.2.2.2.2.2.2.1
  refine OpE.ok (r := m 10 8) (m1 := up2 (up2 m 82 0 0) 10 8 0) ?_ (Inv.dr (hI.m82 0)).up fun P X hP => ?_
  · unfold q_clear
    rw [qW_d, qa_e i8 (by decide) (by decide), qw_e i8 (by decide) (by decide)]
    rfl
  · have hmr := h.1.2.1
    have rel := ((h.1.1.m82 0).less (b' := b + 39000 + 20) (by omega) (Nat.le_refl _)).draft
    have rel2 := (⟨rel, MR.oN (MR.oN (MR.oL (MR.oK hmr (K := 1) (n := 1) (Or.inl ⟨by decide, by decide, by decide⟩))) (by decide)) (by decide), h.1.2.2⟩ : CC _ (up2 (up2 m 82 0 0) 10 8 0) m o (b + 39000) T)
    have fin := hP _ 39000 T (by omega) rel2
    rw [f3.1] at fin
    unfold h_X1_clear
    refine hgR_e f1 (hisK_i (hgR_e (f2 _ (by omega)) (hisK_i (hbn0_i (J2sz (by unfold fl; split <;> omega) rfl (hnw_i (by omega) (hbn0_i ?_)))))))
    unfold h_X2_init
    exact ⟨(show 12 + 5 ≤ vb v - (1 + 1) by omega), hpR_i (hrt_i (hpR_i (hrt_i fin)))⟩
