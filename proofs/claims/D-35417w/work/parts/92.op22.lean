/-! ===== operations (22): refresh, redeem ===== -/
theorem op_refresh (a n : Int32) : OpV (fun z => h_X0_refresh (idc 0 0) a n z) (q_refresh a n) := by
  intro v m T b z x h hI hT
  show OpA (fun z => h_X0_refresh (idc 0 0) a n z) (q_refresh a n) v m T b z x
  have hb := h.vb
  obtain ⟨d1, d2⟩ := hI.c52 hT
  obtain ⟨f1, f2⟩ := hI.c46 hT
  obtain ⟨t1, t2⟩ := hI.c30 hT
  obtain ⟨k1, k2⟩ := hI.c39 hT
  have l200 : (200 : Int32) = nI 200 := by decide +kernel
  have c1 : ∀ (P : Int32 → Vw → Prop) (X : String → Vw → Prop), h_X1_refresh 0 a n (fun r v' => (hbJ z r.toInt64 <| hrt (0 : Int32)) P X v') (fun E v' => (hhsel [("java/lang/IndexOutOfBoundsException", hrt (1 : Int32)), ("java/lang/IllegalArgumentException", hrt (2 : Int32)), ("java/lang/IllegalStateException", hrt (3 : Int32))] E : PV Int32) P X v') v → h_X0_refresh (idc 0 0) a n z P X v := fun P X q => by
    unfold h_X0_refresh
    exact hisK_i (htry_i q)
  rcases ix3 a (n := nn m 46) (by omega) with ha | ⟨f, hf, rfl⟩
  · refine OpA.bad h hI 1 (by decide) ?_ fun P X hP => c1 P X ?_
    · unfold q_refresh
      rw [qbd_e (q_Family_f f1 (by omega) ha)]
      refine qbd_t (r := (0 : Int32)) (m' := m) rfl ?_
      refine qbd_t (r := (0 : Int32)) (m' := m) rfl ?_
      refine qbd_t (r := (0 : Int32)) (m' := m) rfl ?_
      refine qbd_t (r := (1 : Int32)) (m' := m) rfl ?_
      refine qbd_t q_all_1 ?_
      rfl
    · unfold h_X1_refresh
      exact hgR_e h.1.1.s6 (hbnd_i (c_at_f (h.1.1.lt13 (by decide)) h.1.1.hL5.1 ha (by omega) (hx_1 (hrt_i hP))))
  have e1 := q_Family_t f1 (by omega) hf
  have cf : ∀ (kk : Nat → PV Int32) (P : Int32 → Vw → Prop) (X : String → Vw → Prop), kk (idc 10 f) P X v → (hgR 0 0 6 fun v1 => hbnd (ρ := Int32) (h_X1_at v1 (nI f)) kk) P X v := fun kk P X hk => hgR_e h.1.1.s6 (hbnd_i (c_at (h.1.1.lt13 (by decide)) h.1.1.hL5.1 (by omega) hf (h.1.1.hL5.2 f hf) hk))
  have x48 : vM v 10 f 6 = m 48 f := h.1.1.f 10 6 48 (by decide) hf
  have x51 : vM v 10 f 5 = m 51 f := h.1.1.f 10 5 51 (by decide) hf
  obtain ⟨c, s, e47, hc, e40, hs, -, -⟩ := fam_f (hI.ei hT) hf
  obtain ⟨c', hc', e47'⟩ := (hI.pFa f hf).1
  have ecc : c = c' := (nI_eq (by omega) (by omega)).mp (e47.symm.trans e47')
  subst ecc
  obtain ⟨-, ⟨cl, hcl, e41⟩, ⟨au, hau, e42⟩, -⟩ := hI.pCo c hc'
  have n1 : vN v 10 f 1 = idc 8 s := by
    have := (h.1.1.hFa f hf).1
    rw [e47, nI_clamp (by omega), e40, rf_ix (by omega)] at this
    exact this
  have x35 : vM v 8 s 5 = m 35 s := h.1.1.f 8 5 35 (by decide) hs
  have u3 : ∀ (out : Option (Int32 × Mst)) (k : Int32 → PM Int32), (∀ y : Int32, (y = 0 ↔ ¬ (m 51 f ≠ 0 ∧ m 35 s ≠ 0)) → k y m = out) → (qbd (α := Int32) (qjo (σ := Unit) (fun _ => qrt (0 : Int32)) fun j71 => qc ((1 : Int32) = 0) (j71 ()) (qa 51 60 (nI f) fun v76 => qc (v76 = 0) (j71 ()) (qa 47 60 (nI f) fun v83 => qa 40 60 v83 fun v86 => qa 35 60 v86 fun v89 => qc (v89 = 0) (j71 ()) (qrt (1 : Int32))))) k) m = out := fun out k hk => by
    by_cases q1 : m 51 f = 0
    · refine qbd_t (r := (0 : Int32)) (m' := m) ?_ (hk 0 ⟨fun _ r => r.1 q1, fun _ => rfl⟩)
      show qc ((1 : Int32) = 0) _ _ _ = _
      rw [qc_f one_ne, qa_e rfl (by omega) (by decide), qc_t q1]; rfl
    · by_cases q2 : m 35 s = 0
      · refine qbd_t (r := (0 : Int32)) (m' := m) ?_ (hk 0 ⟨fun _ r => r.2 q2, fun _ => rfl⟩)
        show qc ((1 : Int32) = 0) _ _ _ = _
        rw [qc_f one_ne, qa_e rfl (by omega) (by decide), qc_f q1, qa_e rfl (by omega) (by decide), qa_e e47 hc (by decide), qa_e e40 (by omega) (by decide), qc_t q2]; rfl
      · refine qbd_t (r := (1 : Int32)) (m' := m) ?_ (hk 1 ⟨fun r => absurd r one_ne, fun r => absurd ⟨q1, q2⟩ r⟩)
        show qc ((1 : Int32) = 0) _ _ _ = _
        rw [qc_f one_ne, qa_e rfl (by omega) (by decide), qc_f q1, qa_e rfl (by omega) (by decide), qa_e e47 hc (by decide), qa_e e40 (by omega) (by decide), qc_f q2]; rfl
  by_cases hfit : n < 0 ∨ m 48 f < n
  · refine OpA.bad h hI 2 (by decide) ?_ fun P X hP => c1 P X ?_
    · unfold q_refresh
      rw [qbd_e e1]
      refine qbd_t (r := (0 : Int32)) (m' := m) ?_ ?_
      · show qc ((1 : Int32) = 0) _ _ _ = _
        rw [qc_f one_ne, qa_e rfl (by omega) (by decide), qbd_e (q_isIn_f hfit)]; rfl
      · refine u3 _ _ fun y hy => ?_
        refine qbd_t (r := (0 : Int32)) (m' := m) rfl ?_
        refine qbd_t (r := (1 : Int32)) (m' := m) rfl ?_
        refine qbd_t (q_all_2 one_ne) ?_
        rfl
    · unfold h_X1_refresh
      exact cf _ _ _ (hisK_i (hgI_e x48 (hbnd_i (c_fit_f hfit (by omega) (hx_s (by decide) (hx_1 (hrt_i hP)))))))
  have hq : ∀ (out : Option (Int32 × Mst)) (k : Int32 → PM Int32), k 1 m = out → (qbd (α := Int32) (qjo (σ := Unit) (fun _ => qrt (0 : Int32)) fun j93 => qc ((1 : Int32) = 0) (j93 ()) (qa 48 60 (nI f) fun v98 => qbd (q_isIn n (0 : Int32) v98) (fun v99 => qc (v99 = 0) (j93 ()) (qrt (1 : Int32))))) k) m = out := fun out k hk => by
    refine qbd_t (r := (1 : Int32)) (m' := m) ?_ hk
    show qc ((1 : Int32) = 0) _ _ _ = _
    rw [qc_f one_ne, qa_e rfl (by omega) (by decide), qbd_e (q_isIn_t (fun t => hfit (Or.inl t)) fun t => hfit (Or.inr t))]; rfl
  have cpre : ∀ (P : Int32 → Vw → Prop) (X : String → Vw → Prop), (hbnd (h_X11_refresh f n) (fun v7 => hrt v7)) (fun r v' => (hbJ z r.toInt64 <| hrt (0 : Int32)) P X v') (fun E v' => (hhsel [("java/lang/IndexOutOfBoundsException", hrt (1 : Int32)), ("java/lang/IllegalArgumentException", hrt (2 : Int32)), ("java/lang/IllegalStateException", hrt (3 : Int32))] E : PV Int32) P X v') v → h_X0_refresh (idc 0 0) (nI f) n z P X v := fun P X hk => by
    refine c1 P X ?_
    unfold h_X1_refresh
    exact cf _ _ _ (hisK_i (hgI_e x48 (hbnd_i (c_fit_t (fun t => hfit (Or.inl t)) (Int32.not_lt.mp fun t => hfit (Or.inr t)) hk))))
  have hmay : q_mayAll 1 1 1 m = some (1, up2 m 82 0 0) := q_all_0 one_ne one_ne one_ne
  have h1 := h.m82 0
  have hI1 := hI.m82 0
  by_cases C : m 51 f ≠ 0 ∧ m 35 s ≠ 0
  rotate_left
  · refine OpA.ok (r := -1) (m1 := up2 m 82 0 0) ?_ hI1.up rfl fun P X hP => cpre P X ?_
    · unfold q_refresh
      rw [qbd_e e1]
      refine hq _ _ ?_
      refine u3 _ _ fun y hy => ?_
      rw [hy.mpr C]
      refine qbd_t (r := (0 : Int32)) (m' := m) rfl ?_
      refine qbd_t (r := (1 : Int32)) (m' := m) rfl ?_
      refine qbd_t hmay ?_
      rfl
    · unfold h_X11_refresh
      refine hbnd_i (hgI_e x51 (hcnd_i (fun q => hrt_i (hrt_i (hP v 40000 T (by omega) h1.1))) fun q1 => hgR_e n1 (hisK_i (hgI_e x35 (hcnd_t ?_ (hrt_i (hrt_i (hP v 40000 T (by omega) h1.1))))))))
      exact Classical.byContradiction fun q2 => C ⟨q1, q2⟩
  have yC : ∀ y : Int32, (y = 0 ↔ ¬ (m 51 f ≠ 0 ∧ m 35 s ≠ 0)) → y ≠ 0 := fun y hy r => (hy.mp r) C
  have g82 : up2 m 82 0 0 82 0 = 0 := up2_s
  have g48 : up2 m 82 0 0 48 f = m 48 f := rfl
  have g49 : up2 m 82 0 0 49 f = m 49 f := rfl
  have g47 : up2 m 82 0 0 47 f = nI c := e47
  have g40 : up2 m 82 0 0 40 c = nI s := e40
  have g42 : up2 m 82 0 0 42 c = nI au := e42
  have g41 : ix (up2 m 82 0 0 41 c) 4 := ⟨cl, hcl, e41⟩
  have g51 : up2 m 82 0 0 51 f ≠ 0 := C.1
  have g52 : up2 m 82 0 0 52 0 = nI (nn (up2 m 82 0 0) 52) := d1
  have g0 : up2 m 82 0 0 0 0 = m 0 0 := rfl
  have n52 : nn (up2 m 82 0 0) 52 = nn m 52 := rfl
  have n46 : nn (up2 m 82 0 0) 46 = nn m 46 := rfl
  have n30 : nn (up2 m 82 0 0) 30 = nn m 30 := rfl
  have hnT : nn m 52 ≤ T := by
    have := ix_nn hI.2.1.2.2.2.2.1 (by omega)
    exact this.2
  by_cases E : n = m 48 f
  · have hpre : ∀ (out : Option (Int32 × Mst)), (qa 48 60 (nI f) fun v31 => qw 48 60 (nI f) (v31 + (1 : Int32)) <| qI 0 fun v33 => qw 49 60 (nI f) v33 <| qbd (q_firstToken (nI f)) (fun _ => qa 47 60 (nI f) fun v42 => qa 40 60 v42 fun v45 => qI 0 fun v46 => qw 33 60 v45 v46 <| qa 48 60 (nI f) fun v52 => qrt v52)) (up2 m 82 0 0) = out → q_refresh (nI f) n m = out := fun out ho => by
      unfold q_refresh
      rw [qbd_e e1]
      refine hq _ _ ?_
      refine u3 _ _ fun y hy => ?_
      refine qbd_t (r := (1 : Int32)) (m' := m) ?_ ?_
      · show qc ((1 : Int32) = 0) _ _ _ = _
        rw [qc_f one_ne, qc_f (yC y hy), qa_e rfl (by omega) (by decide), qc_t E]; rfl
      refine qbd_t (r := (1 : Int32)) (m' := m) ?_ ?_
      · show qc ((1 : Int32) = 0) _ _ _ = _
        rw [qc_f one_ne, qI_d, qc_f (by rw [d1, l200]; exact nI_ge (by omega) (by decide))]; rfl
      refine qbd_t hmay ?_
      rw [qc_f one_ne, qc_f (yC y hy), qc_f one_ne]
      exact ho
    generalize up2 m 82 0 0 = m1 at h1 hI1 hmay g82 g48 g49 g47 g40 g42 g41 g51 g52 g0 n52 n46 n30 hpre
    obtain ⟨M1, hM1⟩ : ∃ M1, M1 = up2 (up2 m1 48 f (m 48 f + 1)) 49 f (m1 0 0) := ⟨_, rfl⟩
    have hI2 : Inv M1 T := by rw [hM1]; exact hI1
    have b82 : M1 82 0 = 0 := by rw [hM1]; exact g82
    have b48 : M1 48 f = m 48 f + 1 := by rw [hM1, up2_o (by decide), up2_s]
    have b47 : M1 47 f = nI c := by rw [hM1]; exact g47
    have b40 : M1 40 c = nI s := by rw [hM1]; exact g40
    have b42 : M1 42 c = nI au := by rw [hM1]; exact g42
    have b41 : ix (M1 41 c) 4 := by rw [hM1]; exact g41
    have b51 : M1 51 f ≠ 0 := by rw [hM1]; exact g51
    have b52 : M1 52 0 = nI (nn M1 52) := by rw [hM1]; exact g52
    have b0 : M1 0 0 = m 0 0 := by rw [hM1]; exact g0
    have r52 : nn M1 52 = nn m 52 := by rw [hM1]; exact n52
    have r46 : nn M1 46 = nn m 46 := by rw [hM1]; exact n46
    have r30 : nn M1 30 = nn m 30 := by rw [hM1]; exact n30
    have hte : ix (M1 0 0 + 10) 30011 := by
      obtain ⟨k, q1, q2⟩ := hI2.pTm.1
      exact ⟨k + 10, by omega, by rw [q2, show (10 : Int32) = nI 10 from by decide +kernel, nI_add]⟩
    have hI3 : Inv (mTk M1 f (M1 41 c) au (M1 43 c) 0 (M1 0 0 + 10)) (T + 1) := hI2.up.tk hT (by omega) b41 hau hte (by omega)
    have t82 : mTk M1 f (M1 41 c) au (M1 43 c) 0 (M1 0 0 + 10) 82 0 = 0 := by rw [mTk_o (by decide) (by decide)]; exact b82
    have t48 : mTk M1 f (M1 41 c) au (M1 43 c) 0 (M1 0 0 + 10) 48 f = m 48 f + 1 := by rw [mTk_o (by decide) (by decide)]; exact b48
    have t47 : mTk M1 f (M1 41 c) au (M1 43 c) 0 (M1 0 0 + 10) 47 f = nI c := by rw [mTk_o (by decide) (by decide)]; exact b47
    have t40 : mTk M1 f (M1 41 c) au (M1 43 c) 0 (M1 0 0 + 10) 40 c = nI s := by rw [mTk_o (by decide) (by decide)]; exact b40
    have t0 : mTk M1 f (M1 41 c) au (M1 43 c) 0 (M1 0 0 + 10) 0 0 = m 0 0 := by rw [mTk_o (by decide) (by decide)]; exact b0
    have t46 : nn (mTk M1 f (M1 41 c) au (M1 43 c) 0 (M1 0 0 + 10)) 46 = nn m 46 := by unfold nn; rw [mTk_o (by decide) (by decide)]; exact r46
    have t30 : nn (mTk M1 f (M1 41 c) au (M1 43 c) 0 (M1 0 0 + 10)) 30 = nn m 30 := by unfold nn; rw [mTk_o (by decide) (by decide)]; exact r30
    have hqt := q_first b52 (by omega) (by omega) b47 hc b42
    have hcm := fun (w : Vw) (hw : CC w M1 m (z + 1, x) (b + 39000 + 100) T) (P : Unit → Vw → Prop) (X : String → Vw → Prop) => c_make (P := P) (X := X) hw (show f < nn M1 46 by omega) (by omega) hau (by omega) b51 b47 hc b42
    generalize hM2 : mTk M1 f (M1 41 c) au (M1 43 c) 0 (M1 0 0 + 10) = M2 at hI3 t82 t48 t47 t40 t0 t46 t30 hqt hcm
    refine OpA.ok (r := m 48 f + 1) (m1 := up2 M2 33 s (m 0 0)) (hpre _ ?_) (show Inv M2 (T + 1) from hI3) t82 fun P X hP => cpre P X ?_
    · rw [qa_e rfl (by omega) (by decide), qw_e rfl (by omega) (by decide), qI_d, qw_e rfl (by omega) (by decide), g48]
      have e : up2 (up2 m1 48 f (m 48 f + 1)) 49 f (up2 m1 48 f (m 48 f + 1) 0 0) = M1 := hM1.symm
      rw [e, qbd_e hqt, qa_e rfl (by omega) (by decide), qa_e t47 hc (by decide), qI_d, qw_e t40 (by omega) (by decide), qa_e rfl (by omega) (by decide)]
      have e2 : up2 M2 33 s (M2 0 0) 48 f = m 48 f + 1 := t48
      rw [e2, t0]
      rfl
    · unfold h_X11_refresh
      have n10 : vN v 10 f 10 = idc 0 0 := h.1.1.hT10 f hf
      refine hbnd_i (hgI_e x51 (hcnd_f C.1 (hgR_e n1 (hisK_i (hgI_e x35 (hcnd_f C.2 (hgI_e x48 (hcnd_t E (hgR_e n10 (hisK_i (hgR_e h.1.1.s7 (hisK_i (hbn0_i (J2sz (h.1.1.lt13 (by decide)) h.1.1.hL6.1 (hbnd_i (hcnd_f (by rw [l200]; exact nI_ge (by omega) (by decide)) (hrt_i (hbnd_i (c_can_t one_ne (hgI_e x48 (hpI_i ?_)))))))))))))))))))))
      have hc2 : CC (uM (uM v 10 f 6 (m 48 f + 1)) 10 f 7 (m1 0 0)) M1 m (z + 1, x) (b + 39000 + 100) T := by
        rw [hM1]
        exact ⟨(h1.1.1.less (b' := b + 39000 + 100) (by omega) (Nat.le_refl _)).turned f _, (h1.1.2.1.oM rfl).oM rfl, h1.1.2.2⟩
      refine hgR_e (x := idc 0 0) n10 (hisK_i (hgI_e (x := m1 0 0) (show vM v 0 0 16 = m1 0 0 from h1.1.1.g16) (hpI_i (hbn0_i ?_))))
      refine hcm _ hc2 _ _ fun v3 h3 => ?_
      have h3n : vN v3 10 f 1 = idc 8 s := by
        have := (h3.1.hFa f (by omega)).1
        rw [t47, nI_clamp (by omega), t40, rf_ix (by omega)] at this
        exact this
      have h3t : vN v3 10 f 10 = idc 0 0 := h3.1.hT10 f (by omega)
      refine hgR_e h3n (hgR_e h3t (hisK_i (hgI_e (h3.1.g16.trans t0) (hisK_i (hpI_i (hgI_e (x := m 48 f + 1) ?_ (hrt_i (hrt_i (hP _ 39000 T (by omega) ⟨h3.1.used s (m 0 0), h3.2.1.oM rfl, h3.2.2⟩)))))))))
      show vM v3 10 f 6 = _
      exact (h3.1.f 10 6 48 (by decide) (show f < nn M2 46 by omega)).trans t48
  · have hpre : ∀ (out : Option (Int32 × Mst)), (qa 48 60 (nI f) fun v13 => qjo (σ := Unit) (fun _ => qbd (q_endFamily (nI f)) (fun _ => qrt (-1 : Int32))) fun j16 => qc (n = (v13 - (1 : Int32))) (qI 0 fun v18 => qa 49 60 (nI f) fun v22 => qc ((1 : Int32) < (v18 - v22)) (j16 ()) (qa 48 60 (nI f) fun v27 => qrt v27)) (j16 ())) (up2 m 82 0 0) = out → q_refresh (nI f) n m = out := fun out ho => by
      unfold q_refresh
      rw [qbd_e e1]
      refine hq _ _ ?_
      refine u3 _ _ fun y hy => ?_
      refine qbd_t (r := (0 : Int32)) (m' := m) ?_ ?_
      · show qc ((1 : Int32) = 0) _ _ _ = _
        rw [qc_f one_ne, qc_f (yC y hy), qa_e rfl (by omega) (by decide), qc_f E]; rfl
      refine qbd_t (r := (1 : Int32)) (m' := m) rfl ?_
      refine qbd_t hmay ?_
      rw [qc_f one_ne, qc_f (yC y hy), qc_t rfl]
      exact ho
    have cp2 : ∀ (P : Int32 → Vw → Prop) (X : String → Vw → Prop), (hjo (σ := Unit) (fun _ => hbn0 (h_X11_end f) (fun v36 => hrt (-1 : Int32))) fun j38 => hcnd (n = (m 48 f - (1 : Int32))) (hgR 10 f 10 fun v40 => hisK 0 v40 fun i41 => hgI 0 i41 16 fun v43 => hgI 10 f 7 fun v44 => hcnd ((1 : Int32) < (v43 - v44)) (j38 ()) (hgI 10 f 6 fun v46 => hrt v46)) (j38 ())) (fun r v' => (hbJ z r.toInt64 <| hrt (0 : Int32)) P X v') (fun E v' => (hhsel [("java/lang/IndexOutOfBoundsException", hrt (1 : Int32)), ("java/lang/IllegalArgumentException", hrt (2 : Int32)), ("java/lang/IllegalStateException", hrt (3 : Int32))] E : PV Int32) P X v') v → h_X0_refresh (idc 0 0) (nI f) n z P X v := fun P X hk => by
      refine cpre P X ?_
      unfold h_X11_refresh
      exact hbnd_i (hgI_e x51 (hcnd_f C.1 (hgR_e n1 (hisK_i (hgI_e x35 (hcnd_f C.2 (hgI_e x48 (hcnd_f E (hgI_e x48 hk)))))))))
    have n10 : vN v 10 f 10 = idc 0 0 := h.1.1.hT10 f hf
    by_cases D : n = m 48 f - 1 ∧ ¬ 1 < m 0 0 - m 49 f
    · have hne : m 48 f ≠ 0 := fun t => hfit (Or.inl (by rw [D.1, t]; decide))
      refine OpA.ok (r := m 48 f) (m1 := up2 m 82 0 0) (hpre _ ?_) hI1.up rfl fun P X hP => cp2 P X ?_
      · rw [qa_e rfl (by omega) (by decide), g48]
        show qc (n = m 48 f - 1) _ _ _ = _
        rw [qc_t D.1, qI_d, qa_e rfl (by omega) (by decide), g0, g49, qc_f D.2, qa_e rfl (by omega) (by decide)]
        rfl
      · exact hjo_i (hcnd_t D.1 (hgR_e n10 (hisK_i (hgI_e h.1.1.g16 (hgI_e (x := m 49 f) (h.1.1.hTu f hf hne) (hcnd_f D.2 (hgI_e x48 (hrt_i (hrt_i (X := X) (hP v 40000 T (by omega) h1.1)))))))))) 
    · have hend : ∀ (P : Int32 → Vw → Prop) (X : String → Vw → Prop), (∀ v' d T', T' ≤ T + 1 → CC v' (mEF (up2 m 82 0 0) f) m (z + 1, x) (b + d) T' → (hbJ z (-1 : Int32).toInt64 <| hrt (0 : Int32)) P X v') → (hbn0 (h_X11_end f) (fun v36 => hrt (-1 : Int32))) (fun r v' => (hrt r : PV Int32) (fun r v' => (hbJ z r.toInt64 <| hrt (0 : Int32)) P X v') (fun E v' => (hhsel [("java/lang/IndexOutOfBoundsException", hrt (1 : Int32)), ("java/lang/IllegalArgumentException", hrt (2 : Int32)), ("java/lang/IllegalStateException", hrt (3 : Int32))] E : PV Int32) P X v') v') (fun E v' => (hhsel [("java/lang/IndexOutOfBoundsException", hrt (1 : Int32)), ("java/lang/IllegalArgumentException", hrt (2 : Int32)), ("java/lang/IllegalStateException", hrt (3 : Int32))] E : PV Int32) P X v') v := fun P X hP => by
        have he := hI1.ei hT
        exact hbn0_i (c_endFam h1.1 (show f < nn (up2 m 82 0 0) 46 from hf) (by omega) g51 he.1 (he.2.2.2.2.2.2.1 f hf g51) fun v' hv => hrt_i (hrt_i (hP v' 40000 T (by omega) hv)))
      have he := hI1.ei hT
      refine OpA.ok (r := -1) (m1 := mEF (up2 m 82 0 0) f) (hpre _ ?_) (hI1.ef hT (show f < nn (up2 m 82 0 0) 46 from hf) g51).up (by rw [mEF_o (by decide) (by decide)]; exact g82) fun P X hP => cp2 P X ?_
      · have hee := q_endFamily_eq (m := up2 m 82 0 0) (f := f) (by omega) g51 he.1 he.2.2.2.2.1.1 he.2.2.2.2.1.2
        rw [qa_e rfl (by omega) (by decide), g48]
        show qc (n = m 48 f - 1) _ _ _ = _
        by_cases q1 : n = m 48 f - 1
        · rw [qc_t q1, qI_d, qa_e rfl (by omega) (by decide), g0, g49, qc_t (Classical.byContradiction fun t => D ⟨q1, t⟩)]
          show qbd (q_endFamily (nI f)) _ _ = _
          rw [qbd_e hee]
          rfl
        · rw [qc_f q1]
          show qbd (q_endFamily (nI f)) _ _ = _
          rw [qbd_e hee]
          rfl
      · refine hjo_i (hcnd_i (fun q1 => ?_) fun q1 => hend P X hP)
        have hne : m 48 f ≠ 0 := fun t => hfit (Or.inl (by rw [q1, t]; decide))
        exact hgR_e n10 (hisK_i (hgI_e h.1.1.g16 (hgI_e (x := m 49 f) (h.1.1.hTu f hf hne) (hcnd_t (Classical.byContradiction fun t => D ⟨q1, t⟩) (hend P X hP)))))
