/-! ===== operations (4) ===== -/
theorem up2_e {m : Mst} {F i : Nat} : up2 m F i (m F i) = m := by
  funext a b
  unfold up2
  split
  · rename_i h; rw [h.1, h.2]
  · rfl
/-- a factor made ready -/
def mRd (m : Mst) (p k : Nat) : Mst := if k = 2 then up2 (up2 (up2 m 1 (3 * p + k) 1) 2 (3 * p + k) 0) 3 p 0 else up2 (up2 m 1 (3 * p + k) 1) 2 (3 * p + k) 0
theorem q_ready_eq {m : Mst} {p k : Nat} (hp : p < 6) (hk : k < 3) : q_ready (nI p) (nI k) m = some ((), mRd m p k) := by
  unfold q_ready
  rw [qw_e ix3p (by omega) (by decide), qw_e ix3p (by omega) (by decide)]
  unfold mRd
  by_cases q : k = 2
  · rw [qc_t (by rw [q]; decide +kernel), qw_e rfl hp (by decide), if_pos q]; rfl
  · rw [qc_f (fun r => q ((nI_eq (by omega) (by decide)).mp (r.trans (by decide +kernel : (2 : Int32) = nI 2)))), if_neg q]; rfl
theorem mRd_o {m : Mst} {p k F : Nat} (h : F ≠ 1 ∧ F ≠ 2 ∧ F ≠ 3) : mRd m p k F = m F := by
  unfold mRd
  split
  · rw [up2_o h.2.2, up2_o h.2.1, up2_o h.1]
  · rw [up2_o h.2.1, up2_o h.1]
theorem c_enrollP {v : Vw} {m m0 : Mst} {o : Nat × Int64} {b T p k : Nat} (h : CC v m m0 o b T) (hp : p < 6) (hk : k < 3) {P : Int32 → Vw → Prop} {X : String → Vw → Prop} (hP : ∀ v', CC v' (mRd m p k) m0 o b T → P (m 1 (3 * p + k)) v') : h_X3_enroll p (nI k) P X v := by
  obtain ⟨p1, p2, p3, p4, p5, p6, p7, p8, p9⟩ := h.1.hPe p hp
  obtain ⟨l1, l2, l3⟩ := h.1.hLn.2.2.2.2.2.2.2 p hp
  unfold h_X3_enroll
  refine hgR_e p2 (hisK_i (haI_e rfl (by rw [l1]; exact hk) (by omega) ((h.1.hAr.2.2.2.2 p hp).1 k hk) (hgR_e p2 (hisK_i (hbI_e rfl (by rw [l1]; exact hk) (by omega) (hgR_e p3 (hisK_i (hbI_e rfl (by show k < vL v 32 (5 + 3 * p); rw [l2]; exact hk) (by omega) (hbnd_i ?_)))))))))
  have h1 : CC (uM (uM v 32 (4 + 3 * p) k 1) 32 (5 + 3 * p) k 0) (up2 (up2 m 1 (3 * p + k) 1) 2 (3 * p + k) 0) m0 o b T := ⟨(h.1.arStates p k hp hk 1).arRow p k hp hk 0, (h.2.1.oM (by unfold mcl; rw [decide_eq_false (show ¬ 22 ≤ 4 + 3 * p by omega)]; rfl)).oM (by unfold mcl; rw [decide_eq_false (show ¬ 22 ≤ 5 + 3 * p by omega)]; rfl), h.2.2⟩
  refine hcnd_i (fun q => hrt_i (hpI_i (hrt_i ?_))) fun q => hgI_e (x := m 3 p) (h1.1.f 2 3 3 (by decide) hp) (hrt_i (hpI_i (hrt_i ?_)))
  · have hk2 : k = 2 := (nI_eq (by omega) (by decide)).mp (q.trans (by decide +kernel : (2 : Int32) = nI 2))
    refine hP _ ?_
    unfold mRd
    rw [if_pos hk2]
    exact ⟨h1.1.counter p 0, h1.2.1.oM rfl, h1.2.2⟩
  · have hk2 : ¬ k = 2 := fun r => q (by rw [r]; decide +kernel)
    refine hP _ ?_
    unfold mRd
    rw [if_neg hk2]
    have e := h1.1.counter p (m 3 p)
    have e2 : up2 (up2 (up2 m 1 (3 * p + k) 1) 2 (3 * p + k) 0) 3 p (m 3 p) = up2 (up2 m 1 (3 * p + k) 1) 2 (3 * p + k) 0 := up2_e (m := up2 (up2 m 1 (3 * p + k) 1) 2 (3 * p + k) 0) (F := 3) (i := p)
    rw [e2] at e
    exact ⟨e, h1.2.1.oM rfl, h1.2.2⟩
theorem Inv.rd {m : Mst} {T p k : Nat} (h : Inv m T) : Inv (mRd m p k) T := by
  unfold mRd
  split
  · exact h
  · exact h
theorem op_enroll (a f : Int32) : OpV (fun z => h_X0_enroll (idc 0 0) a f z) (q_enroll a f) := by
  intro v m T b z x h hI hT
  have hb := h.vb
  rcases q_six_x a m with ⟨p, hp, rfl, e1⟩ | ⟨ha, e1⟩
  · rcases q_factor_x f m with ⟨k, hk, rfl, e2⟩ | ⟨hf, e2⟩
    · refine ⟨m 1 (3 * p + k), mRd (up2 m 82 0 0) p k, ?_, ((hI.m82 0).rd).up, fun P X hP => ?_⟩
      · unfold q_enroll
        rw [qbd_e e1, qbd_e e2, qbd_e (q_both_0 one_ne one_ne), qc_f one_ne, qa_e ix3p (by omega) (by decide), qbd_e (q_ready_eq hp hk)]; rfl
      · unfold h_X0_enroll
        refine hisK_i (htry_i ?_)
        unfold h_X1_enroll
        refine hbnd_i (c_personAt h.1 hp (hbnd_i (fitFactor_t hk (hisK_i (hbn0_i (c_enrollP (h.m82 0).1 hp hk fun v' hv => hrt_i (hbJ_i ?_ (hrt_i ?_))))))))
        · rw [hv.2.2]
        · have e82 : mRd (up2 m 82 0 0) p k 82 0 = 0 := by rw [mRd_o (by decide)]; exact up2_s
          have := hP (uO v' z (m 1 (3 * p + k)).toInt64) _ ((KK.less ⟨hv, trivial⟩ (by omega) (by omega)).long z _) (fun _ => rfl)
          rw [e82] at this
          exact this
    · refine ⟨0, up2 m 82 0 2, ?_, (hI.m82 2).up, fun P X hP => ?_⟩
      · unfold q_enroll
        rw [qbd_e e1, qbd_e e2, qbd_e (q_both_2 one_ne)]; rfl
      · unfold h_X0_enroll
        refine hisK_i (htry_i ?_)
        unfold h_X1_enroll
        refine hbnd_i (c_personAt h.1 hp (hbnd_i (fitFactor_f hf (by omega) (hx_s (by decide) (hx_1 (hrt_i ?_))))))
        exact hP (ub v 7) x (h.th 2) (thX (by decide))
  · refine ⟨0, up2 m 82 0 1, ?_, (hI.m82 1).up, fun P X hP => ?_⟩
    · unfold q_enroll
      rw [qbd_e e1]
      rcases q_factor_x f m with ⟨k, hk, rfl, e2⟩ | ⟨hf, e2⟩ <;> rw [qbd_e e2, qbd_e q_both_1] <;> rfl
    · unfold h_X0_enroll
      refine hisK_i (htry_i ?_)
      unfold h_X1_enroll
      refine hbnd_i (personAt_f ha (by omega) (hx_1 (hrt_i ?_)))
      exact hP (ub v 7) x (h.th 1) (thX (by decide))
/-- the tail of a wrapper that has come to an answer -/
theorem KK.ans {v' : Vw} {m m0 m1 : Mst} {o : Nat × Int64} {x : Int64} {b T z : Nat} (hv : CC v' m1 m0 (z + 1, x) (b + 40000) T) (e82 : m1 82 0 = 0) {r : Int32} {P : Int32 → Vw → Prop} {X : String → Vw → Prop} (hP : ∀ v'' y, KK v'' m1 m0 (z + 1, y) b (T + 1) → (m1 82 0 = 0 → y = r.toInt64) → P (m1 82 0) v'') : (hbJ z r.toInt64 <| hrt (0 : Int32)) P X v' := by
  refine hbJ_i (by rw [hv.2.2]) (hrt_i ?_)
  have := hP (uO v' z r.toInt64) _ ((KK.less ⟨hv, trivial⟩ (by omega) (by omega)).long z _) (fun _ => rfl)
  rw [e82] at this
  exact this
theorem op_points (a l t : Int32) : OpV (fun z => h_X0_points (idc 0 0) a l t z) (q_points a l t) := by
  intro v m T b z x h hI hT
  have hb := h.vb
  have l5 : (5 : Int32) = nI 5 := by decide +kernel
  obtain ⟨lo, hlo1, hlo2⟩ : ∃ lo : Int32, (t = 0 → lo = 0) ∧ (¬ t = 0 → lo = -1) := by
    by_cases q : t = 0
    · exact ⟨0, fun _ => rfl, fun r => absurd q r⟩
    · exact ⟨-1, fun r => absurd r q, fun _ => rfl⟩
  have elo : ∀ m, (qc (t = 0) (qrt (0 : Int32)) (qrt (-1 : Int32))) m = some (lo, m) := fun m => by
    by_cases q : t = 0
    · rw [qc_t q, hlo1 q]; rfl
    · rw [qc_f q, hlo2 q]; rfl
  have clo : ∀ (k : Int32 → PV Int32) (P : Int32 → Vw → Prop) (X : String → Vw → Prop) (v : Vw), k lo P X v → (hbnd (ρ := _) (α := Int32) (hcnd (t = 0) (hrt (0 : Int32)) (hrt (-1 : Int32))) k) P X v := fun k P X v hk =>
    hbnd_i (hcnd_i (fun q => hrt_i (by rw [← hlo1 q]; exact hk)) fun q => hrt_i (by rw [← hlo2 q]; exact hk))
  have bad : ∀ q0 : q_points a l t m = some (0, up2 m 82 0 1), (∀ (P : Int32 → Vw → Prop) (X : String → Vw → Prop), (∀ v' y, KK v' (up2 m 82 0 1) m (z + 1, y) b (T + 1) → (up2 m 82 0 1 82 0 = 0 → y = (0 : Int32).toInt64) → P (up2 m 82 0 1 82 0) v') → h_X0_points (idc 0 0) a l t z P X v) → ∃ r m', q_points a l t m = some (r, m') ∧ Inv m' (T + 1) ∧ ∀ (P : Int32 → Vw → Prop) (X : String → Vw → Prop), (∀ v' y, KK v' m' m (z + 1, y) b (T + 1) → (m' 82 0 = 0 → y = r.toInt64) → P (m' 82 0) v') → h_X0_points (idc 0 0) a l t z P X v := fun q0 q1 => ⟨0, up2 m 82 0 1, q0, (hI.m82 1).up, q1⟩
  rcases ix3 a (n := 3) (by decide) with ha | ⟨k, hk, rfl⟩
  · refine bad ?_ fun P X hP => ?_
    · unfold q_points
      rw [qbd_e (q_in_f (n := 2) ha (by decide) rfl (by decide +kernel))]
      have e : (qjo (σ := Unit) (fun _ => qrt (0 : Int32)) fun j25 => qc ((0 : Int32) = 0) (j25 ()) (qbd (α := Int32) (qc (t = 0) (qrt (0 : Int32)) (qrt (-1 : Int32))) (fun u27 => qbd (q_isIn l u27 (5 : Int32)) (fun v28 => qc (v28 = 0) (j25 ()) (qrt (1 : Int32)))))) m = some (0, m) := rfl
      rw [qbd_e e, qbd_e q_may_f]; rfl
    · unfold h_X0_points
      refine hisK_i (htry_i ?_)
      unfold h_X1_points
      refine hbnd_i (c_fit_f (ha.imp id fun q => Int32.lt_of_lt_of_le (show (2 : Int32) < nI 3 by decide +kernel) q) (by omega) (hx_1 (hrt_i ?_)))
      exact hP (ub v 7) x (h.th 1) (thX (by decide))
  · have c2 : nI k ≤ 2 := by rw [show (2 : Int32) = nI 2 from by decide +kernel]; exact nI_le (by omega) (by decide)
    by_cases hl : l < lo ∨ 5 < l
    · refine bad ?_ fun P X hP => ?_
      · unfold q_points
        rw [qbd_e (q_in_t (n := 2) (by omega) (by decide) rfl (by decide +kernel) (by decide +kernel))]
        have e : (qjo (σ := Unit) (fun _ => qrt (0 : Int32)) fun j25 => qc ((1 : Int32) = 0) (j25 ()) (qbd (α := Int32) (qc (t = 0) (qrt (0 : Int32)) (qrt (-1 : Int32))) (fun u27 => qbd (q_isIn l u27 (5 : Int32)) (fun v28 => qc (v28 = 0) (j25 ()) (qrt (1 : Int32)))))) m = some (0, m) := by
          show qc ((1 : Int32) = 0) _ _ m = _
          rw [qc_f one_ne, qbd_e (elo m), qbd_e (q_isIn_f hl)]; rfl
        rw [qbd_e e, qbd_e q_may_f]; rfl
      · unfold h_X0_points
        refine hisK_i (htry_i ?_)
        unfold h_X1_points
        refine hbnd_i (c_fit_t (nI_pos (by omega)) c2 (clo _ _ _ _ (hbnd_i (c_fit_f hl (by omega) (hx_1 (hrt_i ?_))))))
        exact hP (ub v 7) x (h.th 1) (thX (by decide))
    · have hl1 : ¬ l < lo := fun r => hl (Or.inl r)
      have hl2 : ¬ 5 < l := fun r => hl (Or.inr r)
      have qpre : ∀ (kk : Int32 → PM Int32), kk 1 m = (qbd (α := Int32) (qjo (σ := Unit) (fun _ => qrt (0 : Int32)) fun j25 => qc ((1 : Int32) = 0) (j25 ()) (qbd (α := Int32) (qc (t = 0) (qrt (0 : Int32)) (qrt (-1 : Int32))) (fun u27 => qbd (q_isIn l u27 (5 : Int32)) (fun v28 => qc (v28 = 0) (j25 ()) (qrt (1 : Int32)))))) kk) m := fun kk => by
        have e : (qjo (σ := Unit) (fun _ => qrt (0 : Int32)) fun j25 => qc ((1 : Int32) = 0) (j25 ()) (qbd (α := Int32) (qc (t = 0) (qrt (0 : Int32)) (qrt (-1 : Int32))) (fun u27 => qbd (q_isIn l u27 (5 : Int32)) (fun v28 => qc (v28 = 0) (j25 ()) (qrt (1 : Int32)))))) m = some (1, m) := by
          show qc ((1 : Int32) = 0) _ _ m = _
          rw [qc_f one_ne, qbd_e (elo m), qbd_e (q_isIn_t hl1 hl2)]; rfl
        rw [qbd_e e]
      have hL := h.1.1.hLn
      have hAr := h.1.1.hAr
      by_cases ht : t = 0
      · refine ⟨m 17 k, up2 (up2 m 82 0 0) 17 k l, ?_, (hI.m82 0).up, fun P X hP => ?_⟩
        · unfold q_points
          rw [qbd_e (q_in_t (n := 2) (by omega) (by decide) rfl (by decide +kernel) (by decide +kernel)), ← qpre, qbd_e q_may_t, qc_f one_ne]
          have e : (qc (t = 0) (qa 17 3 (nI k) fun v18 => qrt v18) (qa 18 3 (nI k) fun v22 => qrt v22)) (up2 m 82 0 0) = some (m 17 k, up2 m 82 0 0) := by
            rw [qc_t ht, qa_e rfl hk (by decide)]; rfl
          rw [qbd_e e, qc_t ht, qw_e rfl hk (by decide)]; rfl
        · unfold h_X0_points
          refine hisK_i (htry_i ?_)
          unfold h_X1_points
          refine hbnd_i (c_fit_t (nI_pos (by omega)) c2 (clo _ _ _ _ (hbnd_i (c_fit_t hl1 (Int32.not_lt.mp hl2) (hbnd_i (hcnd_t ht (hgR_e h.1.1.s12 (hrt_i (hisK_i (haI_e rfl (by rw [hL.2.2.2.2.1]; exact hk) (by omega) (hAr.2.1 k hk) (hbI_e rfl (by rw [hL.2.2.2.2.1]; exact hk) (by omega) (hrt_i ?_))))))))))))
          exact KK.ans (m := m) (o := (0, 0)) (m1 := up2 (up2 m 82 0 0) 17 k l) ⟨(h.1.1.m82 0).arPoints k hk l, h.1.2.1.oM rfl, h.1.2.2⟩ rfl hP
      · refine ⟨m 18 k, up2 (up2 m 82 0 0) 18 k l, ?_, (hI.m82 0).up, fun P X hP => ?_⟩
        · unfold q_points
          rw [qbd_e (q_in_t (n := 2) (by omega) (by decide) rfl (by decide +kernel) (by decide +kernel)), ← qpre, qbd_e q_may_t, qc_f one_ne]
          have e : (qc (t = 0) (qa 17 3 (nI k) fun v18 => qrt v18) (qa 18 3 (nI k) fun v22 => qrt v22)) (up2 m 82 0 0) = some (m 18 k, up2 m 82 0 0) := by
            rw [qc_f ht, qa_e rfl hk (by decide)]; rfl
          rw [qbd_e e, qc_f ht, qw_e rfl hk (by decide)]; rfl
        · unfold h_X0_points
          refine hisK_i (htry_i ?_)
          unfold h_X1_points
          refine hbnd_i (c_fit_t (nI_pos (by omega)) c2 (clo _ _ _ _ (hbnd_i (c_fit_t hl1 (Int32.not_lt.mp hl2) (hbnd_i (hcnd_f ht (hgR_e h.1.1.s13 (hrt_i (hisK_i (haI_e rfl (by rw [hL.2.2.2.2.2.1]; exact hk) (by omega) (hAr.2.2.1 k hk) (hbI_e rfl (by rw [hL.2.2.2.2.2.1]; exact hk) (by omega) (hrt_i ?_))))))))))))
          exact KK.ans (m := m) (o := (0, 0)) (m1 := up2 (up2 m 82 0 0) 18 k l) ⟨(h.1.1.m82 0).arTrials k hk l, h.1.2.1.oM rfl, h.1.2.2⟩ rfl hP
