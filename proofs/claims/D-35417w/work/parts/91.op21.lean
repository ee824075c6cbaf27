/-! ===== operations (21): exchange, refresh, redeem ===== -/
theorem tok_facts {v : Vw} {m m0 : Mst} {o : Nat × Int64} {b T T' t : Nat} (h : CC v m m0 o b T') (hI : Inv m T) (he : EI m) (ht : t < nn m 52) : ∃ a f c s, a < 4 ∧ m 54 t = nI a ∧ f < nn m 46 ∧ m 57 t = nI f ∧ vN v 11 t 0 = idc 10 f ∧ ix (m 59 t) 30011 ∧ m 47 f = nI c ∧ c < 60 ∧ m 40 c = nI s ∧ s < nn m 30 ∧ vN v 10 f 1 = idc 8 s ∧ ix (m 53 t) 4 := by
  have hS60 := he.2.2.1.2
  have hF60 := he.2.2.2.1.2
  obtain ⟨x53, ⟨a, ha, ea⟩, ⟨f, hf, ef⟩, -, x59⟩ := hI.pTo t ht
  obtain ⟨c, s, e1, e2, e3, e4⟩ := he.2.2.2.2.2.1 f hf
  refine ⟨a, f, c, s, ha, ea, hf, ef, ?_, x59, e1, e2, e3, e4, ?_, x53⟩
  · have := h.1.hRt t ht
    rw [ef, rf_ix (by omega)] at this
    exact this
  · have := (h.1.hFa f hf).1
    rw [e1, nI_clamp (by omega), e3, rf_ix (by omega)] at this
    exact this
theorem op_exchange (a d e : Int32) : OpV (fun z => h_X0_exchange (idc 0 0) a d e z) (q_exchange a d e) := by
  intro v m T b z x h hI hT
  show OpA (fun z => h_X0_exchange (idc 0 0) a d e z) (q_exchange a d e) v m T b z x
  have hb := h.vb
  obtain ⟨d1, d2⟩ := hI.c52 hT
  obtain ⟨f1, f2⟩ := hI.c46 hT
  obtain ⟨t1, t2⟩ := hI.c30 hT
  have l200 : (200 : Int32) = nI 200 := by decide +kernel
  have c1 : ∀ (P : Int32 → Vw → Prop) (X : String → Vw → Prop), h_X1_exchange 0 a d e (fun r v' => (hbJ z r.toInt64 <| hrt (0 : Int32)) P X v') (fun E v' => (hhsel [("java/lang/IndexOutOfBoundsException", hrt (1 : Int32)), ("java/lang/IllegalArgumentException", hrt (2 : Int32)), ("java/lang/IllegalStateException", hrt (3 : Int32))] E : PV Int32) P X v') v → h_X0_exchange (idc 0 0) a d e z P X v := fun P X q => by
    unfold h_X0_exchange
    exact hisK_i (htry_i q)
  rcases ix3 a (n := nn m 52) (by omega) with ha | ⟨t, ht, rfl⟩
  · refine OpA.bad h hI 1 (by decide) ?_ fun P X hP => c1 P X ?_
    · unfold q_exchange
      rw [qbd_e (q_Token_f d1 (by omega) ha)]
      refine qbd_t (r := (0 : Int32)) (m' := m) rfl ?_
      refine qbd_t (r := (0 : Int32)) (m' := m) rfl ?_
      refine qbd_t (r := (0 : Int32)) (m' := m) rfl ?_
      refine qbd_t q_all_1 ?_
      rfl
    · unfold h_X1_exchange
      exact hgR_e h.1.1.s7 (hbnd_i (c_at_f (h.1.1.lt13 (by decide)) h.1.1.hL6.1 ha (by omega) (hx_1 (hrt_i hP))))
  have ct : ∀ (kk : Nat → PV Int32) (P : Int32 → Vw → Prop) (X : String → Vw → Prop), kk (idc 11 t) P X v → (hgR 0 0 7 fun v1 => hbnd (ρ := Int32) (h_X1_at v1 (nI t)) kk) P X v := fun kk P X hk => hgR_e h.1.1.s7 (hbnd_i (c_at (h.1.1.lt13 (by decide)) h.1.1.hL6.1 (by omega) ht (h.1.1.hL6.2 t ht) hk))
  have e1 := q_Token_t d1 (by omega) ht
  rcases q_service_x d m with ⟨au, hau, rfl, e2⟩ | ⟨hd, e2⟩
  rotate_left
  · refine OpA.bad h hI 1 (by decide) ?_ fun P X hP => c1 P X ?_
    · unfold q_exchange
      rw [qbd_e e1, qbd_e (qJ_2 one_ne e2)]
      refine qbd_t (r := (0 : Int32)) (m' := m) rfl ?_
      refine qbd_t (r := (0 : Int32)) (m' := m) rfl ?_
      refine qbd_t q_all_1 ?_
      rfl
    · unfold h_X1_exchange
      exact ct _ _ _ (hisK_i (hbnd_i (serviceAt_f hd (by omega) (hx_1 (hrt_i hP)))))
  obtain ⟨tau, f, c, s, htau, eau, hf, ef, n0, x59, e47, hc, e40, hs, n1, x53⟩ := tok_facts h.1 hI (hI.ei hT) ht
  have x55 : vM v 11 t 3 = m 55 t := h.1.1.f 11 3 55 (by decide) ht
  have x59v : vM v 11 t 6 = m 59 t := h.1.1.f 11 6 59 (by decide) ht
  have x51 : vM v 10 f 5 = m 51 f := h.1.1.f 10 5 51 (by decide) hf
  have x56 : vM v 11 t 4 = m 56 t := h.1.1.f 11 4 56 (by decide) ht
  obtain ⟨C, hC⟩ : ∃ C : Prop, C = (¬ m 59 t < m 0 0 ∧ m 51 f ≠ 0 ∧ ¬ 3 ≤ m 56 t) := ⟨_, rfl⟩
  have eC : ∀ (F : Prop) (u3 : Int32) (out : Option (Int32 × Mst)) (k : Int32 → PM Int32), (∀ y : Int32, (y = 0 ↔ ¬ C) → k y m = out) → (qbd (α := Int32) (qjo (σ := Unit) (fun _ => qrt (0 : Int32)) fun j40 => qc ((1 : Int32) = 0) (j40 ()) (qI 0 fun v42 => qa 59 200 (nI t) fun v46 => qc (v46 < v42) (j40 ()) (qa 57 200 (nI t) fun v52 => qa 51 60 v52 fun v55 => qc (v55 = 0) (j40 ()) (qa 56 200 (nI t) fun v60 => qc ((3 : Int32) ≤ v60) (j40 ()) (qI 52 fun v62 => qc ((200 : Int32) ≤ v62) (j40 ()) (qrt (1 : Int32))))))) k) m = out := fun F u3 out k hk => by
    have k0 : ¬ C → k 0 m = out := fun q => hk 0 ⟨fun _ => q, fun _ => rfl⟩
    by_cases q1 : m 59 t < m 0 0
    · refine qbd_t (r := (0 : Int32)) (m' := m) ?_ (k0 (by rw [hC]; exact fun r => r.1 q1))
      show qc ((1 : Int32) = 0) _ _ _ = _
      rw [qc_f one_ne, qI_d, qa_e rfl (by omega) (by decide), qc_t q1]; rfl
    · by_cases q2 : m 51 f = 0
      · refine qbd_t (r := (0 : Int32)) (m' := m) ?_ (k0 (by rw [hC]; exact fun r => r.2.1 q2))
        show qc ((1 : Int32) = 0) _ _ _ = _
        rw [qc_f one_ne, qI_d, qa_e rfl (by omega) (by decide), qc_f q1, qa_e rfl (by omega) (by decide), qa_e ef (by omega) (by decide), qc_t q2]; rfl
      · by_cases q3 : 3 ≤ m 56 t
        · refine qbd_t (r := (0 : Int32)) (m' := m) ?_ (k0 (by rw [hC]; exact fun r => r.2.2 q3))
          show qc ((1 : Int32) = 0) _ _ _ = _
          rw [qc_f one_ne, qI_d, qa_e rfl (by omega) (by decide), qc_f q1, qa_e rfl (by omega) (by decide), qa_e ef (by omega) (by decide), qc_f q2, qa_e rfl (by omega) (by decide), qc_t q3]; rfl
        · refine qbd_t (r := (1 : Int32)) (m' := m) ?_ (hk 1 ⟨fun r => absurd r one_ne, fun r => absurd (by rw [hC]; exact ⟨q1, q2, q3⟩) r⟩)
          show qc ((1 : Int32) = 0) _ _ _ = _
          rw [qc_f one_ne, qI_d, qa_e rfl (by omega) (by decide), qc_f q1, qa_e rfl (by omega) (by decide), qa_e ef (by omega) (by decide), qc_f q2, qa_e rfl (by omega) (by decide), qc_f q3, qI_d, qc_f (by rw [d1, l200]; exact nI_ge (by omega) (by decide))]; rfl
  by_cases hsc : e < 1 ∨ 15 < e
  · have ew0 : q_isIn e 1 15 m = some (0, m) := q_isIn_f hsc
    refine OpA.bad h hI 2 (by decide) ?_ fun P X hP => c1 P X ?_
    · unfold q_exchange
      rw [qbd_e e1, qbd_e (qJ_1 one_ne e2)]
      refine qbd_t (r := (0 : Int32)) (m' := m) ?_ ?_
      · show qc ((1 : Int32) = 0) _ _ _ = _
        rw [qc_f one_ne, qbd_e ew0]; rfl
      · refine eC True 0 _ _ fun y hy => ?_
        refine qbd_t (q_all_2 one_ne) ?_
        rfl
    · unfold h_X1_exchange
      exact ct _ _ _ (hisK_i (hbnd_i (c_serviceAt h.1 hau (hbnd_i (c_fit_f hsc (by omega) (hx_s (by decide) (hx_1 (hrt_i hP))))))))
  have ew1 : q_isIn e 1 15 m = some (1, m) := q_isIn_t (fun t => hsc (Or.inl t)) fun t => hsc (Or.inr t)
  have hfit : ¬ e < 1 ∧ e ≤ 15 := ⟨fun t => hsc (Or.inl t), Int32.not_lt.mp fun t => hsc (Or.inr t)⟩
  by_cases hfs : (e &&& (m 55 t ^^^ (-1 : Int32))) = 0
  rotate_left
  · refine OpA.bad h hI 2 (by decide) ?_ fun P X hP => c1 P X ?_
    · unfold q_exchange
      rw [qbd_e e1, qbd_e (qJ_1 one_ne e2)]
      refine qbd_t (r := (0 : Int32)) (m' := m) ?_ ?_
      · show qc ((1 : Int32) = 0) _ _ _ = _
        rw [qc_f one_ne, qbd_e ew1, qc_f one_ne, qa_e rfl (by omega) (by decide), qc_f hfs]; rfl
      · refine eC True 0 _ _ fun y hy => ?_
        refine qbd_t (q_all_2 one_ne) ?_
        rfl
    · unfold h_X1_exchange
      refine ct _ _ _ (hisK_i (hbnd_i (c_serviceAt h.1 hau (hbnd_i (c_fit_t hfit.1 hfit.2 (hgI_e x55 (hbnd_i (hcnd_f hfs (hrt_i (hbnd_i ?_))))))))))
      unfold h_X1_fits
      exact hbnd_i (hcnd_t rfl (hrt_i (hbnd_i (c_fit_f (Or.inr (by decide)) (by omega) (hx_s (by decide) (hx_1 (hrt_i hP)))))))
  have u3 : ∀ (out : Option (Int32 × Mst)) (k : Int32 → PM Int32), k 1 m = out → (qbd (α := Int32) (qjo (σ := Unit) (fun _ => qrt (0 : Int32)) fun j66 => qc ((1 : Int32) = 0) (j66 ()) (qbd (q_isIn e (1 : Int32) (15 : Int32)) (fun v68 => qc (v68 = 0) (j66 ()) (qa 55 200 (nI t) fun v73 => qc ((e &&& (v73 ^^^ (-1 : Int32))) = 0) (qrt (1 : Int32)) (j66 ()))))) k) m = out := fun out k hk => by
    refine qbd_t (r := (1 : Int32)) (m' := m) ?_ hk
    show qc ((1 : Int32) = 0) _ _ _ = _
    rw [qc_f one_ne, qbd_e ew1, qc_f one_ne, qa_e rfl (by omega) (by decide), qc_t hfs]; rfl
  have cC : ∀ (kk : Int32 → PV Int32) (P : Int32 → Vw → Prop) (X : String → Vw → Prop), (∀ y : Int32, (y = 0 ↔ ¬ C) → kk y P X v) → (hbnd (ρ := Int32) (α := Int32) (hjo (σ := Unit) (fun _ => hrt (0 : Int32)) fun j34 => hcnd (m 59 t < m 0 0) (j34 ()) (hgR 11 t 0 fun v36 => hisK 10 v36 fun i37 => hgI 10 i37 5 fun v39 => hcnd (v39 = 0) (j34 ()) (hgI 11 t 4 fun v41 => hcnd ((3 : Int32) ≤ v41) (j34 ()) (hgR 0 0 7 fun v43 => hisK 13 v43 fun i44 => hbn0 (h_J2_size i44) (fun v46 => hcnd ((200 : Int32) ≤ v46) (j34 ()) (hrt (1 : Int32))))))) kk) P X v := fun kk P X hk => by
    have k0 : ¬ C → kk 0 P X v := fun q => hk 0 ⟨fun _ => q, fun _ => rfl⟩
    refine hbnd_i (hjo_i (hcnd_i (fun q => hrt_i (k0 (by rw [hC]; exact fun r => r.1 q))) fun q1 => hgR_e n0 (hisK_i (hgI_e x51 (hcnd_i (fun q => hrt_i (k0 (by rw [hC]; exact fun r => r.2.1 q))) fun q2 => hgI_e x56 (hcnd_i (fun q => hrt_i (k0 (by rw [hC]; exact fun r => r.2.2 q))) fun q3 => hgR_e h.1.1.s7 (hisK_i (hbn0_i (J2sz (h.1.1.lt13 (by decide)) h.1.1.hL6.1 (hcnd_f (by rw [l200]; exact nI_ge (by omega) (by decide)) (hrt_i (hk 1 ⟨fun r => absurd r one_ne, fun r => absurd (by rw [hC]; exact ⟨q1, q2, q3⟩) r⟩)))))))))))) 
  have cpre : ∀ (P : Int32 → Vw → Prop) (X : String → Vw → Prop), (∀ y : Int32, (y = 0 ↔ ¬ C) → (hbnd (h_X1_can y) (fun _ => hgR 11 t 0 fun v14 => hisK 10 v14 fun i15 => hgR 10 i15 1 fun v17 => hisK 8 v17 fun i18 => hbn0 (h_X9_level i18) (fun v20 => hisK 3 (idc 3 au) fun i21 => hgI 3 i21 5 fun v23 => hcnd (v23 ≤ v20) (hgR 11 t 0 fun v25 => hgI 11 t 2 fun v26 => hgI 11 t 4 fun v27 => hgI 11 t 6 fun v28 => hisK 10 v25 fun i29 => hbn0 (h_X11_make_2 i29 v26 (nI au) e (v27 + (1 : Int32)) v28) (fun v31 => hrt v31)) (hrt (-2 : Int32))))) (fun r v' => (hbJ z r.toInt64 <| hrt (0 : Int32)) P X v') (fun E v' => (hhsel [("java/lang/IndexOutOfBoundsException", hrt (1 : Int32)), ("java/lang/IllegalArgumentException", hrt (2 : Int32)), ("java/lang/IllegalStateException", hrt (3 : Int32))] E : PV Int32) P X v') v) → h_X0_exchange (idc 0 0) (nI t) (nI au) e z P X v := fun P X hk => by
    refine c1 P X ?_
    unfold h_X1_exchange
    refine ct _ _ _ (hisK_i (hbnd_i (c_serviceAt h.1 hau (hbnd_i (c_fit_t hfit.1 hfit.2 (hgI_e x55 (hbnd_i (hcnd_t hfs (hrt_i (hbnd_i ?_))))))))))
    unfold h_X1_fits
    exact hbnd_i (hcnd_f one_ne (hrt_i (hbnd_i (c_fit_t (by decide) (by decide) (hrt_i (hgI_e h.1.1.g16 (hgI_e x59v (cC _ _ _ fun y hy => hk y hy))))))))
  by_cases hCC : C
  rotate_left
  · refine OpA.bad h hI 3 (by decide) ?_ fun P X hP => cpre P X fun y hy => ?_
    · unfold q_exchange
      rw [qbd_e e1, qbd_e (qJ_1 one_ne e2)]
      refine u3 _ _ ?_
      refine eC True 0 _ _ fun y hy => ?_
      rw [hy.mpr hCC]
      refine qbd_t (q_all_3 one_ne one_ne) ?_
      rfl
    · rw [hy.mpr hCC]
      exact hbnd_i (c_can_f (by omega) (hx_s (by decide) (hx_s (by decide) (hx_1 (hrt_i hP)))))
  have hC2 := hCC
  rw [hC] at hC2
  have h1 := h.m82 0
  have hI1 := hI.m82 0
  have g82 : up2 m 82 0 0 82 0 = 0 := up2_s
  have hq : ∀ (out : Option (Int32 × Mst)), (qa 57 200 (nI t) fun v10 => qa 47 60 v10 fun v15 => qa 40 60 v15 fun v18 => qbd (q_levelNow v18) (fun v19 => qa 38 4 (nI au) fun v23 => qc (v23 ≤ v19) (qa 54 200 (nI t) fun v28 => qa 56 200 (nI t) fun v32 => qa 59 200 (nI t) fun v36 => qbd (q_newToken v10 v28 (nI au) e (v32 + (1 : Int32)) v36) (fun v37 => qrt v37)) (qrt (-2 : Int32)))) (up2 m 82 0 0) = out → q_exchange (nI t) (nI au) e m = out := fun out ho => by
    unfold q_exchange
    rw [qbd_e e1, qbd_e (qJ_1 one_ne e2)]
    refine u3 _ _ ?_
    refine eC True 0 _ _ fun y hy => ?_
    refine qbd_t (q_all_0 one_ne one_ne (fun r => (hy.mp r) hCC)) ?_
    rw [qc_f one_ne]
    exact ho
  have hv54 : vM v 11 t 2 = nI tau := (h.1.1.f 11 2 54 (by decide) ht).trans eau
  have g57 : up2 m 82 0 0 57 t = nI f := ef
  have g47 : up2 m 82 0 0 47 f = nI c := e47
  have g40 : up2 m 82 0 0 40 c = nI s := e40
  have g54 : up2 m 82 0 0 54 t = nI tau := eau
  have g51 : up2 m 82 0 0 51 f ≠ 0 := hC2.2.1
  have n52 : nn (up2 m 82 0 0) 52 = nn m 52 := rfl
  have n46 : nn (up2 m 82 0 0) 46 = nn m 46 := rfl
  have n30 : nn (up2 m 82 0 0) 30 = nn m 30 := rfl
  have g52 : up2 m 82 0 0 52 0 = nI (nn (up2 m 82 0 0) 52) := d1
  have x59' : ix (up2 m 82 0 0 59 t) 30011 := x59
  have hnT : nn m 52 ≤ T := by
    have := ix_nn hI.2.1.2.2.2.2.1 (by omega)
    exact this.2
  have v56 : vM v 11 t 4 = up2 m 82 0 0 56 t := x56
  have v59 : vM v 11 t 6 = up2 m 82 0 0 59 t := x59v
  generalize up2 m 82 0 0 = m1 at h1 hI1 g82 hq g57 g47 g40 g54 g51 n52 n46 n30 g52 x59' v56 v59
  have hs1 : s < nn m1 30 := by omega
  by_cases B : m1 38 au ≤ lv m1 s
  · refine OpA.ok (r := nI (nn m1 52)) (m1 := mTk m1 f (nI tau) au e (m1 56 t + 1) (m1 59 t)) (hq _ ?_) (hI1.up.tk hT (by omega) ⟨tau, htau, rfl⟩ hau x59' (by omega)) ?_ fun P X hP => cpre P X fun y hy => ?_
    · rw [qa_e rfl (by omega) (by decide), qa_e g57 (by omega) (by decide), qa_e g47 (by omega) (by decide), g40, qbd_e (q_levelNow_eq (by omega)), qa_e rfl hau (by decide), qc_t B, qa_e rfl (by omega) (by decide), qa_e rfl (by omega) (by decide), qa_e rfl (by omega) (by decide), g57, g54, qbd_e (q_newToken_eq g52 (by omega) (by omega))]
      rfl
    · rw [mTk_o (by decide) (by decide)]; exact g82
    · refine hbnd_i (c_can_t (fun r => (hy.mp r) hCC) (hgR_e n0 (hisK_i (hgR_e n1 (hisK_i (hbn0_i (c_level h1.1 hs1 (hisK_i (hgI_e (h1.1.1.f 3 5 38 (by decide) hau) (hcnd_t B (hgR_e n0 (hgI_e hv54 (hgI_e v56 (hgI_e v59 (hisK_i (hbn0_i ?_))))))))))))))))
      exact c_make2 (h1.1.less (b' := b + 39000 + 100) (by omega) (Nat.le_refl _)) (by omega) (by omega) hau (by omega) g51 fun v' hv => hrt_i (hP v' 39000 T (by omega) hv)
  · refine OpA.ok (r := -2) (m1 := m1) (hq _ ?_) hI1.up g82 fun P X hP => cpre P X fun y hy => ?_
    · rw [qa_e rfl (by omega) (by decide), qa_e g57 (by omega) (by decide), qa_e g47 (by omega) (by decide), g40, qbd_e (q_levelNow_eq (by omega)), qa_e rfl hau (by decide), qc_f B]
      rfl
    · exact hbnd_i (c_can_t (fun r => (hy.mp r) hCC) (hgR_e n0 (hisK_i (hgR_e n1 (hisK_i (hbn0_i (c_level h1.1 hs1 (hisK_i (hgI_e (h1.1.1.f 3 5 38 (by decide) hau) (hcnd_f B (hrt_i (hP v 40000 T (by omega) h1.1)))))))))))) 
