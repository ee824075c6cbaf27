/-! ===== operations (11): act ===== -/
theorem op_act (a c : Int32) : OpV (fun z => h_X0_act (idc 0 0) a c z) (q_act a c) := by
  intro v m T b z x h hI hT
  have hb := h.vb
  obtain ⟨d1, d2⟩ := hI.c30 hT
  have bad : ∀ e : Int32, e ≠ 0 → q_act a c m = some (0, up2 m 82 0 e) → (∀ (P : Int32 → Vw → Prop) (X : String → Vw → Prop), P e (ub v 7) → h_X0_act (idc 0 0) a c z P X v) → ∃ r m', q_act a c m = some (r, m') ∧ Inv m' (T + 1) ∧ ∀ (P : Int32 → Vw → Prop) (X : String → Vw → Prop), (∀ v' y, KK v' m' m (z + 1, y) b (T + 1) → (m' 82 0 = 0 → y = r.toInt64) → P (m' 82 0) v') → h_X0_act (idc 0 0) a c z P X v := fun e he q0 q1 => ⟨0, up2 m 82 0 e, q0, (hI.m82 e).up, fun P X hP => q1 P X (by
    have := hP (ub v 7) x (h.th e) (thX he)
    rw [up2_s] at this
    exact this)⟩
  have c1 : ∀ (P : Int32 → Vw → Prop) (X : String → Vw → Prop), h_X1_act 0 a c (fun r v' => (hbJ z r.toInt64 <| hrt (0 : Int32)) P X v') (fun E v' => (hhsel [("java/lang/IndexOutOfBoundsException", hrt (1 : Int32)), ("java/lang/IllegalStateException", hrt (2 : Int32))] E : PV Int32) P X v') v → h_X0_act (idc 0 0) a c z P X v := fun P X q => by
    unfold h_X0_act
    exact hisK_i (htry_i q)
  rcases ix3 a (n := nn m 30) (by omega) with ha | ⟨s, hs, rfl⟩
  · refine bad 1 (by decide) ?_ fun P X hP => c1 P X ?_
    · unfold q_act
      rw [qbd_e (q_Session_f d1 (by omega) ha), qbd_e qJ_0]
      rfl
    · unfold h_X1_act
      exact hgR_e h.1.1.s4 (hbnd_i (c_at_f (h.1.1.lt13 (by decide)) h.1.1.hL3.1 ha (by omega) (hx_1 (hrt_i hP))))
  have e1 : q_isSession (nI s) m = some (1, m) := q_Session_t d1 (by omega) hs
  have cs : ∀ (kk : Nat → PV Int32) (P : Int32 → Vw → Prop) (X : String → Vw → Prop), kk (idc 8 s) P X v → (hgR 0 0 4 fun v1 => hbnd (ρ := Int32) (h_X1_at v1 (nI s)) kk) P X v := fun kk P X hk => hgR_e h.1.1.s4 (hbnd_i (c_at (h.1.1.lt13 (by decide)) h.1.1.hL3.1 (by omega) hs (h.1.1.hL3.2 s hs) hk))
  rcases q_six_x c m with ⟨p, hp, rfl, e2⟩ | ⟨hc, e2⟩
  rotate_left
  · refine bad 1 (by decide) ?_ fun P X hP => c1 P X ?_
    · unfold q_act
      rw [qbd_e e1, qbd_e (qJ_2 one_ne e2)]
      rfl
    · unfold h_X1_act
      exact cs _ _ _ (hisK_i (hbnd_i (personAt_f hc (by omega) (hx_1 (hrt_i hP)))))
  obtain ⟨⟨ps, hps, eps⟩, how⟩ : ix (m 31 s) 6 ∧ (m 34 s = -1 ∨ ∃ o, o < s ∧ m 34 s = nI o ∧ m 34 o = -1) := hI.2.2.2.2.2.2.2.2.2.2.2.2.2.2.2.1 s hs
  have n34 : rf 8 (m 34 s) = nul ↔ m 34 s = -1 := by
    rcases how with r | ⟨o, o1, o2, _⟩
    · rw [r]; exact ⟨fun _ => rfl, fun _ => rf_m1⟩
    · rw [o2, rf_ix (by omega)]
      exact ⟨fun r => by unfold idc nul at r; omega, fun r => absurd r (nI_nm (by omega))⟩
  have N1 : vN v 8 s 1 = idc 2 ps := by
    have := h.1.1.hR81 s hs
    rw [eps, rf_ix (by omega)] at this
    exact this
  have N2 : vN v 8 s 2 = rf 8 (m 34 s) := h.1.1.hR82 s hs
  obtain ⟨A, hA⟩ : ∃ A : Prop, A = (m 35 s ≠ 0 ∧ m 34 s = -1 ∧ ¬ lv m s < 3 ∧ m 8 ps ≠ 0) := ⟨_, rfl⟩
  obtain ⟨B, hB⟩ : ∃ B : Prop, B = (ps ≠ p ∧ m 7 p = 0) := ⟨_, rfl⟩
  obtain ⟨u, hu, eu⟩ : ∃ u : Int32, (¬ u = 0 ↔ A) ∧ (qjo (σ := Unit) (fun _ => qrt (0 : Int32)) fun j36 => qc ((1 : Int32) = 0) (j36 ()) (qa 35 60 (nI s) fun v41 => qc (v41 = 0) (j36 ()) (qa 34 60 (nI s) fun v46 => qc (v46 = (-1 : Int32)) (qbd (q_levelNow (nI s)) (fun v48 => qc (v48 < (3 : Int32)) (j36 ()) (qa 31 60 (nI s) fun v54 => qa 8 6 v54 fun v57 => qc (v57 = 0) (j36 ()) (qrt (1 : Int32))))) (j36 ())))) m = some (u, m) := by
    show ∃ u : Int32, _ ∧ qc ((1 : Int32) = 0) _ _ _ = _
    rw [hA, qc_f one_ne, qa_e rfl (by omega) (by decide)]
    by_cases q1 : m 35 s = 0
    · rw [qc_t q1]; exact ⟨0, ⟨fun r => absurd rfl r, fun r => absurd q1 r.1⟩, rfl⟩
    · rw [qc_f q1, qa_e rfl (by omega) (by decide)]
      by_cases q2 : m 34 s = -1
      · rw [qc_t q2, qbd_e (q_levelNow_eq (by omega))]
        by_cases q3 : lv m s < 3
        · rw [qc_t q3]; exact ⟨0, ⟨fun r => absurd rfl r, fun r => absurd q3 r.2.2.1⟩, rfl⟩
        · rw [qc_f q3, qa_e rfl (by omega) (by decide), qa_e eps hps (by decide)]
          by_cases q4 : m 8 ps = 0
          · rw [qc_t q4]; exact ⟨0, ⟨fun r => absurd rfl r, fun r => absurd q4 r.2.2.2⟩, rfl⟩
          · rw [qc_f q4]; exact ⟨1, ⟨fun _ => ⟨q1, q2, q3, q4⟩, fun _ => one_ne⟩, rfl⟩
      · rw [qc_f q2]; exact ⟨0, ⟨fun r => absurd rfl r, fun r => absurd r.2.1 q2⟩, rfl⟩
  obtain ⟨w, hw, ew⟩ : ∃ w : Int32, (¬ w = 0 ↔ A ∧ B) ∧ (qjo (σ := Unit) (fun _ => qrt (0 : Int32)) fun j20 => qc (u = 0) (j20 ()) (qa 31 60 (nI s) fun v25 => qc (v25 = nI p) (j20 ()) (qa 7 6 (nI p) fun v30 => qc (v30 = 0) (qI 30 fun v32 => qc ((60 : Int32) ≤ v32) (j20 ()) (qrt (1 : Int32))) (j20 ())))) m = some (w, m) := by
    show ∃ w : Int32, _ ∧ qc (u = 0) _ _ _ = _
    by_cases q0 : u = 0
    · rw [qc_t q0]; exact ⟨0, ⟨fun r => absurd rfl r, fun r => absurd q0 (hu.mpr r.1)⟩, rfl⟩
    · have hA1 := hu.mp q0
      rw [hB, qc_f q0, qa_e rfl (by omega) (by decide)]
      by_cases q1 : m 31 s = nI p
      · rw [qc_t q1]; exact ⟨0, ⟨fun r => absurd rfl r, fun r => absurd ((nI_eq (by omega) (by omega)).mp (eps.symm.trans q1)) r.2.1⟩, rfl⟩
      · rw [qc_f q1, qa_e rfl hp (by decide)]
        by_cases q2 : m 7 p = 0
        · rw [qc_t q2, qI_d, qc_f (by rw [d1, show (60 : Int32) = nI 60 from by decide +kernel]; exact nI_ge (by omega) (by decide))]
          exact ⟨1, ⟨fun _ => ⟨hA1, fun r => q1 (by rw [eps, r]), q2⟩, fun _ => one_ne⟩, rfl⟩
        · rw [qc_f q2]; exact ⟨0, ⟨fun r => absurd rfl r, fun r => absurd r.2.2 q2⟩, rfl⟩
  have cu : ∀ (kk : Int32 → PV Int32) (P : Int32 → Vw → Prop) (X : String → Vw → Prop), (∀ y : Int32, (¬ y = 0 ↔ A) → kk y P X v) → (hbnd (ρ := Int32) (α := Int32) (hjo (σ := Unit) (fun _ => hrt (0 : Int32)) fun j32 => hcnd (m 35 s = 0) (j32 ()) (hgR 8 s 2 fun v34 => hcnd (v34 = nul) (hbn0 (h_X9_level s) (fun v36 => hcnd (v36 < (3 : Int32)) (j32 ()) (hgR 8 s 1 fun v38 => hisK 2 v38 fun i39 => hgI 2 i39 5 fun v41 => hcnd (v41 = 0) (j32 ()) (hrt (1 : Int32))))) (j32 ()))) kk) P X v := fun kk P X hk => by
    have k0 : ¬ A → kk 0 P X v := fun q => hk 0 ⟨fun r => absurd rfl r, fun r => absurd r q⟩
    refine hbnd_i (hjo_i (hcnd_i (fun q1 => hrt_i (k0 fun r => (hA ▸ r).1 q1)) fun q1 => hgR_e N2 (hcnd_i (fun q2 => hbn0_i (c_level h.1 hs (hcnd_i (fun q3 => hrt_i (k0 fun r => (hA ▸ r).2.2.1 q3)) fun q3 => hgR_e N1 (hisK_i (hgI_e (h.1.1.f 2 5 8 (by decide) hps) (hcnd_i (fun q4 => hrt_i (k0 fun r => (hA ▸ r).2.2.2 q4)) fun q4 => hrt_i (hk 1 ⟨fun _ => ?_, fun _ => one_ne⟩))))))) fun q2 => hrt_i (k0 fun r => q2 (n34.mpr (hA ▸ r).2.1)))))
    rw [hA]
    exact ⟨q1, n34.mp q2, q3, q4⟩
  have cw : ∀ (kk : Int32 → PV Int32) (P : Int32 → Vw → Prop) (X : String → Vw → Prop), (∀ y : Int32, (¬ y = 0 ↔ B) → kk y P X v) → (hbnd (ρ := Int32) (α := Int32) (hjo (σ := Unit) (fun _ => hrt (0 : Int32)) fun j19 => hasr ((cmpN (idc 2 p)) ∧ (cmpN (idc 2 ps))) (hcnd (idc 2 p = idc 2 ps) (j19 ()) (hisK 2 (idc 2 p) fun i21 => hgI 2 i21 4 fun v23 => hcnd (v23 = 0) (hgR 0 0 4 fun v25 => hisK 13 v25 fun i26 => hbn0 (h_J2_size i26) (fun v28 => hcnd ((60 : Int32) ≤ v28) (j19 ()) (hrt (1 : Int32)))) (j19 ())))) kk) P X v := fun kk P X hk => by
    have k0 : ¬ B → kk 0 P X v := fun q => hk 0 ⟨fun r => absurd rfl r, fun r => absurd r q⟩
    refine hbnd_i (hjo_i (hasr_i ⟨cmp_idc (by decide), cmp_idc (by decide)⟩ (hcnd_i (fun q1 => hrt_i (k0 fun r => (hB ▸ r).1 (by unfold idc at q1; omega))) fun q1 => hisK_i (hgI_e (h.1.1.f 2 4 7 (by decide) hp) (hcnd_i (fun q2 => hgR_e h.1.1.s4 (hisK_i (hbn0_i (J2sz (h.1.1.lt13 (by decide)) h.1.1.hL3.1 (hcnd_f ?_ (hrt_i (hk 1 ⟨fun _ => ?_, fun _ => one_ne⟩))))))) fun q2 => hrt_i (k0 fun r => q2 (hB ▸ r).2)))))) 
    · rw [show (60 : Int32) = nI 60 from by decide +kernel]; exact nI_ge (by omega) (by decide)
    · rw [hB]; exact ⟨fun r => q1 (by rw [r]), q2⟩
  have f35 : vM v 8 s 5 = m 35 s := h.1.1.f 8 5 35 (by decide) hs
  by_cases hz : w = 0
  · refine bad 2 (by decide) ?_ fun P X hP => c1 P X ?_
    · unfold q_act
      rw [qbd_e e1, qbd_e (qJ_1 one_ne e2), qbd_e eu, qbd_e ew, hz, qbd_e (q_both_2 one_ne)]; rfl
    · unfold h_X1_act
      refine cs _ _ _ (hisK_i (hbnd_i (c_personAt h.1 hp (hgI_e f35 (cu _ _ _ fun y hy => hbnd_i ?_)))))
      by_cases q0 : y = 0
      · rw [q0]; exact c_can_f (by omega) (hx_s (by decide) (hx_1 (hrt_i hP)))
      · refine c_can_t q0 (hgR_e N1 (cw _ _ _ fun y2 hy2 => hbnd_i ?_))
        have : y2 = 0 := Classical.byContradiction fun r => absurd hz (hw.mpr ⟨hy.mp q0, hy2.mp r⟩)
        rw [this]
        exact c_can_f (by omega) (hx_s (by decide) (hx_1 (hrt_i hP)))
  · obtain ⟨hA1, hB1⟩ := hw.mp hz
    have h34 : m 34 s = -1 := by rw [hA] at hA1; exact hA1.2.1
    have h1 := h.m82 0
    have hI1 := hI.m82 0
    have g82 : up2 m 82 0 0 82 0 = 0 := up2_s
    have g34 : up2 m 82 0 0 34 s = -1 := h34
    have g30 : nn (up2 m 82 0 0) 30 = nn m 30 := rfl
    have eb : q_mayBoth 1 w m = some (1, up2 m 82 0 0) := q_both_0 one_ne hz
    generalize hm1 : up2 m 82 0 0 = m1 at h1 hI1 g34 g82 eb g30
    obtain ⟨d3, d4⟩ := hI1.c30 hT
    have hs1 : s < nn m1 30 := by omega
    obtain ⟨s1, s2, s3, s4, s5, s6⟩ := h1.1.1.hSs s hs1
    refine ⟨nI (nn m1 30), mW (mNS m1 (nI p) (nI s) (m1 36 (3 * s)) (m1 36 (3 * s + 1)) (m1 36 (3 * s + 2))) 0 (nI (nn m1 30)), ?_, hI1.ns hT ⟨p, hp, rfl⟩ (Or.inr ⟨s, hs1, rfl, g34⟩), fun P X hP => c1 P X ?_⟩
    · unfold q_act
      rw [qbd_e e1, qbd_e (qJ_1 one_ne e2), qbd_e eu, qbd_e ew, qbd_e eb, qc_f one_ne]
      exact q_newCopy (hI1.w hT) d3 (by omega) hs1
    · unfold h_X1_act
      refine cs _ _ _ (hisK_i (hbnd_i (c_personAt h.1 hp (hgI_e f35 (cu _ _ _ fun y hy => hbnd_i (c_can_t (hy.mpr hA1) (hgR_e N1 (cw _ _ _ fun y2 hy2 => hbnd_i (c_can_t (hy2.mpr hB1) (hgR_e s1 (hgI_e s5 (hisK_i (hbn0_i ?_)))))))))))))
      have h3 : CC v m1 m (z + 1, x) ((b + 38000) + 260 + 300 + 100) T := (h1.less (by omega) (Nat.le_refl _)).1
      refine c_begin (a := m1 36 (3 * s)) (b' := m1 36 (3 * s + 1)) (c := m1 36 (3 * s + 2)) (p := nI p) (w := nI s) h3 (hI1.w hT) (by omega) (rf_ix (by omega)).symm (rf_ix (by omega)).symm rfl s4 ⟨s6 0 (by decide), s6 1 (by decide), s6 2 (by decide)⟩ fun v' hv => hrt_i ?_
      refine KK.ans2 (d := 38000) (CC.ns hv) ?_ hP
      rw [mW_o (by decide), mNS_o (by decide) (by decide)]
      exact g82
