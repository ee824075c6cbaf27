/-! ===== operations (1) ===== -/
theorem q_service_t {m : Mst} {s : Nat} (hs : s < 4) : q_isService (nI s) m = some (1, m) := by
  unfold q_isService
  rw [qbd_e (q_in_t (n := 3) (by omega) (by decide) rfl (by decide +kernel) (by decide +kernel))]; rfl
theorem q_service_f {m : Mst} {a : Int32} (ha : a < 0 ∨ nI 4 ≤ a) : q_isService a m = some (0, m) := by
  unfold q_isService
  rw [qbd_e (q_in_f (n := 3) ha (by decide) rfl (by decide +kernel))]; rfl
theorem q_six_t {m : Mst} {s : Nat} (hs : s < 6) : q_isSix (nI s) m = some (1, m) := by
  unfold q_isSix
  rw [qbd_e (q_in_t (n := 5) (by omega) (by decide) rfl (by decide +kernel) (by decide +kernel))]; rfl
theorem q_six_f {m : Mst} {a : Int32} (ha : a < 0 ∨ nI 6 ≤ a) : q_isSix a m = some (0, m) := by
  unfold q_isSix
  rw [qbd_e (q_in_f (n := 5) ha (by decide) rfl (by decide +kernel))]; rfl
theorem q_factor_t {m : Mst} {s : Nat} (hs : s < 3) : q_isFactor (nI s) m = some (1, m) := by
  unfold q_isFactor
  rw [qbd_e (q_in_t (n := 2) (by omega) (by decide) rfl (by decide +kernel) (by decide +kernel))]; rfl
theorem q_factor_f {m : Mst} {a : Int32} (ha : a < 0 ∨ nI 3 ≤ a) : q_isFactor a m = some (0, m) := by
  unfold q_isFactor
  rw [qbd_e (q_in_f (n := 2) ha (by decide) rfl (by decide +kernel))]; rfl
theorem ix3 (a : Int32) {n : Nat} (hn : n < 2 ^ 31) : (a < 0 ∨ nI n ≤ a) ∨ ∃ j, j < n ∧ a = nI j := by
  rcases pk_ix a hn with h | h | h
  · exact Or.inl (Or.inl h)
  · exact Or.inl (Or.inr h)
  · exact Or.inr h
theorem one_ne : (1 : Int32) ≠ 0 := by decide
/-- a thrown check: nothing changed but the code -/
theorem KK.th {v : Vw} {m m0 : Mst} {o : Nat × Int64} {b T : Nat} (h : KK v m m0 o (b + 40000) T) (x : Int32) : KK (ub v 7) (up2 m 82 0 x) m0 o b (T + 1) := ((h.less (b' := b + 7) (by omega) (Nat.le_refl _)).spend (Nat.le_refl 7)).less (Nat.le_refl _) (by omega) |>.m82 x
theorem serviceAt_f {v : Vw} {a : Int32} (ha : a < 0 ∨ nI 4 ≤ a) (hb : 7 ≤ vb v) {P : Nat → Vw → Prop} {X : String → Vw → Prop} (h : X "java/lang/IndexOutOfBoundsException" (ub v 7)) : h_X1_serviceAt 0 a P X v := by
  unfold h_X1_serviceAt
  exact hbnd_i (c_there_f (by rw [show (4 : Int32) = nI 4 from by decide +kernel]; exact ha) hb h)
theorem personAt_f {v : Vw} {a : Int32} (ha : a < 0 ∨ nI 6 ≤ a) (hb : 7 ≤ vb v) {P : Nat → Vw → Prop} {X : String → Vw → Prop} (h : X "java/lang/IndexOutOfBoundsException" (ub v 7)) : h_X1_personAt 0 a P X v := by
  unfold h_X1_personAt
  exact hbnd_i (c_there_f (by rw [show (6 : Int32) = nI 6 from by decide +kernel]; exact ha) hb h)
theorem op_need (a l : Int32) : OpV (fun z => h_X0_need (idc 0 0) a l z) (q_need a l) := by
  intro v m T b z x h hI hT
  have hb := h.vb
  have l6 : (6 : Int32) = nI 6 := by decide +kernel
  rcases ix3 a (n := 4) (by decide) with ha | ⟨s, hs, rfl⟩
  · rcases ix3 l (n := 7) (by decide) with hl | ⟨k, hk, rfl⟩
    · refine ⟨0, up2 m 82 0 1, ?_, (hI.m82 1).up, fun P X hP => ?_⟩
      · unfold q_need
        rw [qbd_e (q_service_f ha), qbd_e (q_in_f (n := 6) hl (by decide) rfl l6), qbd_e q_both_1]; rfl
      · unfold h_X0_need
        refine hisK_i (htry_i ?_)
        unfold h_X1_need
        refine hbnd_i (serviceAt_f ha (by omega) (hx_1 (hrt_i ?_)))
        exact hP (ub v 7) x (h.th 1) (fun q => absurd (up2_s.symm.trans q) (by decide))
    · refine ⟨0, up2 m 82 0 1, ?_, (hI.m82 1).up, fun P X hP => ?_⟩
      · unfold q_need
        rw [qbd_e (q_service_f ha), qbd_e (q_in_t (n := 6) (by omega) (by decide) rfl (by decide +kernel) l6), qbd_e q_both_1]; rfl
      · unfold h_X0_need
        refine hisK_i (htry_i ?_)
        unfold h_X1_need
        refine hbnd_i (serviceAt_f ha (by omega) (hx_1 (hrt_i ?_)))
        exact hP (ub v 7) x (h.th 1) (fun q => absurd (up2_s.symm.trans q) (by decide))
  · rcases ix3 l (n := 7) (by decide) with hl | ⟨k, hk, rfl⟩
    · refine ⟨0, up2 m 82 0 2, ?_, (hI.m82 2).up, fun P X hP => ?_⟩
      · unfold q_need
        rw [qbd_e (q_service_t hs), qbd_e (q_in_f (n := 6) hl (by decide) rfl l6), qbd_e (q_both_2 one_ne)]; rfl
      · unfold h_X0_need
        refine hisK_i (htry_i ?_)
        unfold h_X1_need
        refine hbnd_i (c_serviceAt h.1 hs (hbnd_i (c_fit_f (hl.imp id fun q => by rw [l6]; exact Int32.lt_of_lt_of_le (nI_lt (by decide) (by decide)) q) (by omega) (hx_s (by decide) (hx_1 (hrt_i ?_))))))
        exact hP (ub v 7) x (h.th 2) (fun q => absurd (up2_s.symm.trans q) (by decide))
    · refine ⟨m 38 s, up2 (up2 m 82 0 0) 38 s (nI k), ?_, (hI.m82 0).up, fun P X hP => ?_⟩
      · unfold q_need
        rw [qbd_e (q_service_t hs), qbd_e (q_in_t (n := 6) (by omega) (by decide) rfl (by decide +kernel) l6), qbd_e (q_both_0 one_ne one_ne), qc_f one_ne, qa_e rfl hs (by decide), qw_e rfl hs (by decide)]
        rfl
      · unfold h_X0_need
        refine hisK_i (htry_i ?_)
        unfold h_X1_need
        refine hbnd_i (c_serviceAt h.1 hs (hbnd_i (c_fit_t (nI_pos (by omega)) (by rw [l6]; exact nI_le (by omega) (by decide)) (hisK_i (hgI_e (h.1.1.f 3 5 38 (by decide) hs) (hpI_i (hrt_i (hbJ_i ?_ (hrt_i ?_)))))))))
        · show (vo v).1 = z + 1
          rw [h.1.2.2]
        · refine hP (uO (uM v 3 s 5 (nI k)) z (m 38 s).toInt64) _ ?_ (fun _ => rfl)
          have h2 : KK (uM v 3 s 5 (nI k)) (up2 (up2 m 82 0 0) 38 s (nI k)) m (z + 1, x) (b + 40000) T := ⟨⟨(h.1.1.m82 0).need s (nI k), h.1.2.1.oM rfl, h.1.2.2⟩, h.2⟩
          exact (h2.less (by omega) (by omega)).long z _
