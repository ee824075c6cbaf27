/-! ===== operations (20): authorize ===== -/
def mCd (m : Mst) (s : Nat) (c a x : Int32) : Mst := up2 (up2 (up2 (up2 (up2 (up2 (up2 m 40 (nn m 39) (nI s)) 41 (nn m 39) c) 42 (nn m 39) a) 43 (nn m 39) x) 44 (nn m 39) (m 0 0)) 45 (nn m 39) (-1)) 39 0 (nI (nn m 39 + 1))
theorem Inv.cd {m : Mst} {T s c a : Nat} {x : Int32} (h : Inv m T) (hT : T < 24) (hs : s < nn m 30) (hc : c < 4) (ha : a < 4) : Inv (mCd m s (nI c) (nI a) x) (T + 1) := by
  have h39 : nn m 39 ≤ T := by
    have := ix_nn h.2.1.2.2.1 (by omega)
    exact this.2
  have n39 : nn (mCd m s (nI c) (nI a) x) 39 = nn m 39 + 1 := by
    show (nI (nn m 39 + 1)).toNatClampNeg = _
    exact nI_clamp (by omega)
  have e40 : mCd m s (nI c) (nI a) x 40 = up1 (m 40) (nn m 39) (nI s) := by
    unfold mCd
    rw [up2_o (by decide), up2_o (by decide), up2_o (by decide), up2_o (by decide), up2_o (by decide), up2_o (by decide), up2_r]
  have e41 : mCd m s (nI c) (nI a) x 41 = up1 (m 41) (nn m 39) (nI c) := by
    unfold mCd
    rw [up2_o (by decide), up2_o (by decide), up2_o (by decide), up2_o (by decide), up2_o (by decide), up2_r, up2_o (by decide)]
  have e42 : mCd m s (nI c) (nI a) x 42 = up1 (m 42) (nn m 39) (nI a) := by
    unfold mCd
    rw [up2_o (by decide), up2_o (by decide), up2_o (by decide), up2_o (by decide), up2_r, up2_o (by decide), up2_o (by decide)]
  have e45 : mCd m s (nI c) (nI a) x 45 = up1 (m 45) (nn m 39) (-1) := by
    unfold mCd
    rw [up2_o (by decide), up2_r, up2_o (by decide), up2_o (by decide), up2_o (by decide), up2_o (by decide), up2_o (by decide)]
  obtain ⟨i1, i2, i3, b5, b6, b7, b8, b35, b51, b64, b66, b69, b73, iK, iA, iS, iC, iFm, rest⟩ := h.up
  obtain ⟨a1, a2, a3, a4, a5, a6, a7⟩ := i2
  refine ⟨i1, ⟨a1, a2, ⟨nn m 39 + 1, by omega, rfl⟩, a4, a5, a6, a7⟩, i3, b5, b6, b7, b8, b35, b51, b64, b66, b69, b73, iK, iA, iS, ?_, ?_, rest⟩
  · rw [n39, e40, e41, e42, e45]
    show iCo (nn m 39 + 1) (nn m 30) (nn m 46) _ _ _ _
    intro k hk
    by_cases q : k = nn m 39
    · subst q
      rw [up1_s, up1_s, up1_s, up1_s]
      exact ⟨⟨s, hs, rfl⟩, ⟨c, hc, rfl⟩, ⟨a, ha, rfl⟩, Or.inl rfl⟩
    · rw [up1_n q, up1_n q, up1_n q, up1_n q]
      exact iC k (by omega)
  · rw [n39]
    show iFa (nn m 46) (nn m 39 + 1) (m 47) (m 51) (m 69)
    intro f hf
    obtain ⟨j1, j2⟩ := iFm f hf
    exact ⟨j1.mono (by omega), j2⟩
theorem q_codeTail {m : Mst} {s : Nat} {c a x : Int32} (h : m 39 0 = nI (nn m 39)) (hn : nn m 39 < 60) : (qI 39 fun v31 => qw 40 60 v31 (nI s) <| qI 39 fun v35 => qw 41 60 v35 c <| qI 39 fun v39 => qw 42 60 v39 a <| qI 39 fun v43 => qw 43 60 v43 x <| qI 39 fun v47 => qI 0 fun v48 => qw 44 60 v47 v48 <| qI 39 fun v52 => qw 45 60 v52 (-1 : Int32) <| qI 39 fun v55 => qW 39 (v55 + (1 : Int32)) <| qI 39 fun v56 => qrt (v56 - (1 : Int32))) m = some (nI (nn m 39), mCd m s c a x) := by
  unfold mCd
  show qw 40 60 (m 39 0) (nI s) _ m = _
  rw [qw_e h hn (by decide)]
  show qw 41 60 (m 39 0) c _ _ = _
  rw [qw_e h hn (by decide)]
  show qw 42 60 (m 39 0) a _ _ = _
  rw [qw_e h hn (by decide)]
  show qw 43 60 (m 39 0) x _ _ = _
  rw [qw_e h hn (by decide)]
  show qw 44 60 (m 39 0) (m 0 0) _ _ = _
  rw [qw_e h hn (by decide)]
  show qw 45 60 (m 39 0) (-1) _ _ = _
  rw [qw_e h hn (by decide)]
  show some (m 39 0 + 1 - 1, up2 _ 39 0 (m 39 0 + 1)) = _
  rw [h, nI_1, nI_pred]
theorem c_codeTail {v : Vw} {m m0 : Mst} {o : Nat × Int64} {b T s : Nat} {c a x : Int32} (h : CC v m m0 o (b + 100) T) (hs : s < 60) (hC : nn m 39 ≤ 24) (hfc : ∀ f, f < nn m 46 → (m 47 f).toNatClampNeg < nn m 39) {P : Int32 → Vw → Prop} {X : String → Vw → Prop} (hP : ∀ v', CC v' (mCd m s c a x) m0 o b T → P (nI (nn m 39)) v') : (hgR 0 0 5 fun v29 => hnw 9 6 fun i30 => hgI 0 0 16 fun v31 => hbn0 (h_X10_init i30 (idc 8 s) c a x v31) (fun _ => hisK 13 v29 fun i33 => hbn0 (h_J2_add i33 (idc 9 i30)) (fun v35 => hgR 0 0 5 fun v36 => hisK 13 v36 fun i37 => hbn0 (h_J2_size i37) (fun v39 => hrt (ρ := Int32) (v39 - (1 : Int32)))))) P X v := by
  have rel := h.1.code hs c a x hC hfc
  have hb := h.1.bud
  have hZ := h.1.hL4.1
  have e9 : vK v 9 = nn m 39 := h.1.hCt.2.2.2.1
  have c13 := h.1.lt13 (y := 4) (by decide)
  have hmr := h.2.1
  refine hgR_e h.1.s5 (hnw_i (by omega) ?_)
  rw [e9]
  refine hgI_e (x := m 0 0) h.1.g16 (hbn0_i ?_)
  unfold h_X10_init
  refine hpR_i (hpI_i (hpI_i (hpI_i (hpI_i (hrt_i ?_)))))
  refine hisK_i (hbn0_i (J2add (show 4 < vK v 13 from c13) (by rw [idc_mod (by decide)]; decide) (show vZ v 4 < 4096 by omega) (show 2 * vZ v 4 + 12 ≤ vb v - (6 + 1) by omega) ?_))
  refine hgR_e (x := idc 13 4) h.1.s5 (hisK_i (hbn0_i (J2sz (n := nn m 39 + 1) (show 4 < vK v 13 from c13) ?_ (hrt_i ?_))))
  · show up1 (vZ v) 4 (vZ v 4 + 1) 4 = _
    rw [up1_s, hZ]
  · rw [nI_pred]
    exact hP _ ⟨rel, (by repeat' first | with_reducible exact hmr | with_reducible refine MR.oM ?_ ?_ | with_reducible refine MR.oN ?_ ?_ | with_reducible refine MR.oA ?_ | with_reducible refine MR.oBs ?_ | with_reducible refine MR.oB ?_ | with_reducible refine MR.oK ?_ ?_ | rfl | decide | exact Or.inl ⟨by decide, by decide, by decide⟩), h.2.2⟩
theorem op_authorize (a c d e : Int32) : OpV (fun z => h_X0_authorize (idc 0 0) a c d e z) (q_authorize a c d e) := by
  intro v m T b z x h hI hT
  show OpA (fun z => h_X0_authorize (idc 0 0) a c d e z) (q_authorize a c d e) v m T b z x
  have hb := h.vb
  obtain ⟨d1, d2⟩ := hI.c30 hT
  obtain ⟨k1, k2⟩ := hI.c39 hT
  have l60 : (60 : Int32) = nI 60 := by decide +kernel
  obtain ⟨w, ew⟩ := q_isIn_x e 1 15 m
  have c1 : ∀ (P : Int32 → Vw → Prop) (X : String → Vw → Prop), h_X1_authorize 0 a c d e (fun r v' => (hbJ z r.toInt64 <| hrt (0 : Int32)) P X v') (fun E v' => (hhsel [("java/lang/IndexOutOfBoundsException", hrt (1 : Int32)), ("java/lang/IllegalArgumentException", hrt (2 : Int32)), ("java/lang/IllegalStateException", hrt (3 : Int32))] E : PV Int32) P X v') v → h_X0_authorize (idc 0 0) a c d e z P X v := fun P X q => by
    unfold h_X0_authorize
    exact hisK_i (htry_i q)
  rcases ix3 a (n := nn m 30) (by omega) with ha | ⟨s, hs, rfl⟩
  · refine OpA.bad h hI 1 (by decide) ?_ fun P X hP => c1 P X ?_
    · unfold q_authorize
      rw [qbd_e (q_Session_f d1 (by omega) ha)]
      refine qbd_t (r := (0 : Int32)) (m' := m) rfl ?_
      refine qbd_t ew ?_
      refine qbd_t (r := (0 : Int32)) (m' := m) rfl ?_
      refine qbd_t q_all_1 ?_
      rfl
    · unfold h_X1_authorize
      exact hgR_e h.1.1.s4 (hbnd_i (c_at_f (h.1.1.lt13 (by decide)) h.1.1.hL3.1 ha (by omega) (hx_1 (hrt_i hP))))
  have e1 : q_isSession (nI s) m = some (1, m) := q_Session_t d1 (by omega) hs
  have cs : ∀ (kk : Nat → PV Int32) (P : Int32 → Vw → Prop) (X : String → Vw → Prop), kk (idc 8 s) P X v → (hgR 0 0 4 fun v1 => hbnd (ρ := Int32) (h_X1_at v1 (nI s)) kk) P X v := fun kk P X hk => hgR_e h.1.1.s4 (hbnd_i (c_at (h.1.1.lt13 (by decide)) h.1.1.hL3.1 (by omega) hs (h.1.1.hL3.2 s hs) hk))
  rcases q_service_x c m with ⟨cl, hcl, rfl, e2⟩ | ⟨hc, e2⟩
  rotate_left
  · refine OpA.bad h hI 1 (by decide) ?_ fun P X hP => c1 P X ?_
    · unfold q_authorize
      rw [qbd_e e1]
      refine qbd_t (r := (0 : Int32)) (m' := m) ?_ ?_
      · show qc ((1 : Int32) = 0) _ _ _ = _
        rw [qc_f one_ne, qbd_e e2]
        rfl
      refine qbd_t ew ?_
      refine qbd_t (r := (0 : Int32)) (m' := m) rfl ?_
      refine qbd_t q_all_1 ?_
      rfl
    · unfold h_X1_authorize
      exact cs _ _ _ (hisK_i (hbnd_i (serviceAt_f hc (by omega) (hx_1 (hrt_i hP)))))
  rcases q_service_x d m with ⟨au, hau, rfl, e3⟩ | ⟨hd, e3⟩
  rotate_left
  · refine OpA.bad h hI 1 (by decide) ?_ fun P X hP => c1 P X ?_
    · unfold q_authorize
      rw [qbd_e e1]
      refine qbd_t (r := (0 : Int32)) (m' := m) ?_ ?_
      · show qc ((1 : Int32) = 0) _ _ _ = _
        rw [qc_f one_ne, qbd_e e2, qc_f one_ne, qbd_e e3]
        rfl
      refine qbd_t ew ?_
      refine qbd_t (r := (0 : Int32)) (m' := m) rfl ?_
      refine qbd_t q_all_1 ?_
      rfl
    · unfold h_X1_authorize
      exact cs _ _ _ (hisK_i (hbnd_i (c_serviceAt h.1 hcl (hbnd_i (serviceAt_f hd (by omega) (hx_1 (hrt_i hP)))))))
  have eu : ∀ (out : Option (Int32 × Mst)) (k : Int32 → PM Int32), k 1 m = out → (qbd (α := Int32) (qjo (σ := Unit) (fun _ => qrt (0 : Int32)) fun j70 => qc ((1 : Int32) = 0) (j70 ()) (qbd (q_isService (nI cl)) (fun v72 => qc (v72 = 0) (j70 ()) (qbd (q_isService (nI au)) (fun v74 => qc (v74 = 0) (j70 ()) (qrt (1 : Int32))))))) k) m = out := fun out k hk => by
    refine qbd_t (r := (1 : Int32)) (m' := m) ?_ hk
    show qc ((1 : Int32) = 0) _ _ _ = _
    rw [qc_f one_ne, qbd_e e2, qc_f one_ne, qbd_e e3, qc_f one_ne]
    rfl
  by_cases hsc : e < 1 ∨ 15 < e
  · have ew0 : q_isIn e 1 15 m = some (0, m) := q_isIn_f hsc
    refine OpA.bad h hI 2 (by decide) ?_ fun P X hP => c1 P X ?_
    · unfold q_authorize
      rw [qbd_e e1]
      refine eu _ _ ?_
      refine qbd_t ew0 ?_
      by_cases q : m 35 s = 0
      · refine qbd_t (r := (0 : Int32)) (m' := m) ?_ ?_
        · show qc ((1 : Int32) = 0) _ _ _ = _
          rw [qc_f one_ne, qa_e rfl (by omega) (by decide), qc_t q]; rfl
        · refine qbd_t (q_all_2 one_ne) ?_
          rfl
      · refine qbd_t (r := (1 : Int32)) (m' := m) ?_ ?_
        · show qc ((1 : Int32) = 0) _ _ _ = _
          rw [qc_f one_ne, qa_e rfl (by omega) (by decide), qc_f q, qI_d, qc_f (by rw [k1, l60]; exact nI_ge (by omega) (by decide))]; rfl
        · refine qbd_t (q_all_2 one_ne) ?_
          rfl
    · unfold h_X1_authorize
      exact cs _ _ _ (hisK_i (hbnd_i (c_serviceAt h.1 hcl (hbnd_i (c_serviceAt h.1 hau (hbnd_i (c_fit_f hsc (by omega) (hx_s (by decide) (hx_1 (hrt_i hP))))))))))
  have ew1 : q_isIn e 1 15 m = some (1, m) := q_isIn_t (fun t => hsc (Or.inl t)) fun t => hsc (Or.inr t)
  have hfit : ¬ e < 1 ∧ e ≤ 15 := ⟨fun t => hsc (Or.inl t), Int32.not_lt.mp fun t => hsc (Or.inr t)⟩
  have f35 : vM v 8 s 5 = m 35 s := h.1.1.f 8 5 35 (by decide) hs
  by_cases q0 : m 35 s = 0
  · refine OpA.bad h hI 3 (by decide) ?_ fun P X hP => c1 P X ?_
    · unfold q_authorize
      rw [qbd_e e1]
      refine eu _ _ ?_
      refine qbd_t ew1 ?_
      refine qbd_t (r := (0 : Int32)) (m' := m) ?_ ?_
      · show qc ((1 : Int32) = 0) _ _ _ = _
        rw [qc_f one_ne, qa_e rfl (by omega) (by decide), qc_t q0]; rfl
      · refine qbd_t (q_all_3 one_ne one_ne) ?_
        rfl
    · unfold h_X1_authorize
      exact cs _ _ _ (hisK_i (hbnd_i (c_serviceAt h.1 hcl (hbnd_i (c_serviceAt h.1 hau (hbnd_i (c_fit_t hfit.1 hfit.2 (hgI_e f35 (hbnd_i (hjo_i (hcnd_t q0 (hrt_i (hbnd_i (c_can_f (by omega) (hx_s (by decide) (hx_s (by decide) (hx_1 (hrt_i hP))))))))))))))))))
  · obtain ⟨ps, hps, eps, m1, m2, m3⟩ := ses_facts h.1 hI hs (by omega)
    obtain ⟨p1, p2, p3, p4, p5, p6, p7, p8, p9⟩ := h.1.1.hPe ps hps
    obtain ⟨l1, l2, l3⟩ := h.1.1.hLn.2.2.2.2.2.2.2 ps hps
    have hL0 := h.1.1.hLn.2.2.2.1
    have hI1 : Inv (up2 (up2 m 82 0 0) 33 s (m 0 0)) T := hI
    have hc1 : CC (uM v 8 s 4 (m 0 0)) (up2 (up2 m 82 0 0) 33 s (m 0 0)) m (z + 1, x) (b + 40000) T := ⟨(h.1.1.m82 0).used s _, h.1.2.1.oM rfl, h.1.2.2⟩
    have g82 : up2 (up2 m 82 0 0) 33 s (m 0 0) 82 0 = 0 := rfl
    have g37 : up2 (up2 m 82 0 0) 33 s (m 0 0) 37 = m 37 := rfl
    have g31 : up2 (up2 m 82 0 0) 33 s (m 0 0) 31 s = nI ps := eps
    have hq : ∀ (out : Option (Int32 × Mst)), (qa 31 60 (nI s) fun v15 => qa 37 28 (((4 : Int32) * v15) + nI cl) fun v18 => qa 37 28 ((24 : Int32) + nI cl) fun v22 => qc ((e &&& ((v18 ||| v22) ^^^ (-1 : Int32))) = 0) (qbd (q_levelNow (nI s)) (fun v24 => qa 38 4 (nI au) fun v28 => qc (v28 ≤ v24) (qI 39 fun v31 => qw 40 60 v31 (nI s) <| qI 39 fun v35 => qw 41 60 v35 (nI cl) <| qI 39 fun v39 => qw 42 60 v39 (nI au) <| qI 39 fun v43 => qw 43 60 v43 e <| qI 39 fun v47 => qI 0 fun v48 => qw 44 60 v47 v48 <| qI 39 fun v52 => qw 45 60 v52 (-1 : Int32) <| qI 39 fun v55 => qW 39 (v55 + (1 : Int32)) <| qI 39 fun v56 => qrt (v56 - (1 : Int32))) (qrt (-2 : Int32)))) (qrt (-3 : Int32))) (up2 (up2 m 82 0 0) 33 s (m 0 0)) = out → q_authorize (nI s) (nI cl) (nI au) e m = out := fun out ho => by
      unfold q_authorize
      rw [qbd_e e1]
      refine eu _ _ ?_
      refine qbd_t ew1 ?_
      refine qbd_t (r := (1 : Int32)) (m' := m) ?_ ?_
      · show qc ((1 : Int32) = 0) _ _ _ = _
        rw [qc_f one_ne, qa_e rfl (by omega) (by decide), qc_f q0, qI_d, qc_f (by rw [k1, l60]; exact nI_ge (by omega) (by decide))]; rfl
      · refine qbd_t (q_all_0 one_ne one_ne one_ne) ?_
        rw [qc_f one_ne, qI_d, qw_e rfl (by omega) (by decide)]
        exact ho
    have hcq : ∀ (P : Int32 → Vw → Prop) (X : String → Vw → Prop), (hcnd ((e &&& ((m 37 (4 * ps + cl) ||| m 37 (24 + cl)) ^^^ (-1 : Int32))) = 0) (hbn0 (h_X9_level s) (fun v24 => hisK 3 (idc 3 au) fun i25 => hgI 3 i25 5 fun v27 => hcnd (v27 ≤ v24) (hgR 0 0 5 fun v29 => hnw 9 6 fun i30 => hgI 0 0 16 fun v31 => hbn0 (h_X10_init i30 (idc 8 s) (nI cl) (nI au) e v31) (fun _ => hisK 13 v29 fun i33 => hbn0 (h_J2_add i33 (idc 9 i30)) (fun v35 => hgR 0 0 5 fun v36 => hisK 13 v36 fun i37 => hbn0 (h_J2_size i37) (fun v39 => hrt (ρ := Int32) (v39 - (1 : Int32)))))) (hrt (-2 : Int32)))) (hrt (-3 : Int32))) (fun r v' => (hbJ z r.toInt64 <| hrt (0 : Int32)) P X v') (fun E v' => (hhsel [("java/lang/IndexOutOfBoundsException", hrt (1 : Int32)), ("java/lang/IllegalArgumentException", hrt (2 : Int32)), ("java/lang/IllegalStateException", hrt (3 : Int32))] E : PV Int32) P X v') (uM v 8 s 4 (m 0 0)) → h_X0_authorize (idc 0 0) (nI s) (nI cl) (nI au) e z P X v := fun P X hk => by
      refine c1 P X ?_
      unfold h_X1_authorize
      refine cs _ _ _ (hisK_i (hbnd_i (c_serviceAt h.1 hcl (hbnd_i (c_serviceAt h.1 hau (hbnd_i (c_fit_t hfit.1 hfit.2 (hgI_e f35 (hbnd_i (hjo_i (hcnd_f q0 (hgR_e h.1.1.s5 (hisK_i (hbn0_i (J2sz (h.1.1.lt13 (by decide)) h.1.1.hL4.1 (hcnd_f (by rw [l60]; exact nI_ge (by omega) (by decide)) (hrt_i (hbnd_i (c_can_t one_ne (hgI_e h.1.1.g16 (hpI_i ?_)))))))))))))))))))))
      exact hgR_e (x := idc 2 ps) m1 (hisK_i (hgR_e (x := idc 32 (6 + 3 * ps)) p6 (hisK_i (haI_e (y := m 37 (4 * ps + cl)) rfl (show cl < vL v 32 (6 + 3 * ps) by rw [l3]; exact hcl) (by omega) (show vM v 32 (6 + 3 * ps) cl = m 37 (4 * ps + cl) from (h.1.1.hAr.2.2.2.2 ps hps).2.2 cl hcl) (hgR_e (x := idc 32 0) h.1.1.s10 (hisK_i (haI_e (y := m 37 (24 + cl)) rfl (show cl < vL v 32 0 by rw [hL0]; exact hcl) (by omega) (show vM v 32 0 cl = m 37 (24 + cl) from h.1.1.hAr.1 cl hcl) hk)))))))
    have x24 : ((24 : Int32) + nI cl) = nI (24 + cl) := by rw [show (24 : Int32) = nI 24 from by decide +kernel, nI_add]
    have n30 : nn (up2 (up2 m 82 0 0) 33 s (m 0 0)) 30 = nn m 30 := rfl
    have n39 : nn (up2 (up2 m 82 0 0) 33 s (m 0 0)) 39 = nn m 39 := rfl
    have k39 : up2 (up2 m 82 0 0) 33 s (m 0 0) 39 0 = nI (nn m 39) := k1
    have hfc : ∀ f, f < nn (up2 (up2 m 82 0 0) 33 s (m 0 0)) 46 → (up2 (up2 m 82 0 0) 33 s (m 0 0) 47 f).toNatClampNeg < nn (up2 (up2 m 82 0 0) 33 s (m 0 0)) 39 := fun f hf => by
      obtain ⟨k, h1, h2⟩ := (hI1.pFa f hf).1
      rw [h2, nI_clamp (by omega)]; exact h1
    generalize up2 (up2 m 82 0 0) 33 s (m 0 0) = M1 at hI1 hc1 g82 g37 g31 hq n30 n39 k39 hfc
    generalize uM v 8 s 4 (m 0 0) = v1 at hc1 hcq
    have hs1 : s < nn M1 30 := by omega
    rw [← n39] at k39
    by_cases A : (e &&& ((m 37 (4 * ps + cl) ||| m 37 (24 + cl)) ^^^ (-1 : Int32))) = 0
    · by_cases B : M1 38 au ≤ lv M1 s
      · refine OpA.ok (r := nI (nn M1 39)) (m1 := mCd M1 s (nI cl) (nI au) e) (hq _ ?_) (hI1.cd hT hs1 hcl hau) ?_ fun P X hP => hcq P X ?_
        · rw [qa_e rfl (by omega) (by decide), g31, qa_e ix4p (by omega) (by decide), qa_e x24 (by omega) (by decide), g37, qc_t A, qbd_e (q_levelNow_eq (by omega)), qa_e rfl hau (by decide), qc_t B]
          exact q_codeTail k39 (by omega)
        · unfold mCd
          rw [up2_o (by decide), up2_o (by decide), up2_o (by decide), up2_o (by decide), up2_o (by decide), up2_o (by decide), up2_o (by decide)]
          exact g82
        · refine hcnd_t A (hbn0_i (c_level hc1 hs1 (hisK_i (hgI_e (hc1.1.f 3 5 38 (by decide) hau) (hcnd_t B ?_)))))
          exact c_codeTail (hc1.less (b' := b + 39000 + 100) (by omega) (Nat.le_refl _)) (by omega) (by omega) hfc fun v' hv => hP v' 39000 T (by omega) hv
      · refine OpA.ok (r := -2) (m1 := M1) (hq _ ?_) hI1.up g82 fun P X hP => hcq P X ?_
        · rw [qa_e rfl (by omega) (by decide), g31, qa_e ix4p (by omega) (by decide), qa_e x24 (by omega) (by decide), g37, qc_t A, qbd_e (q_levelNow_eq (by omega)), qa_e rfl hau (by decide), qc_f B]
          rfl
        · exact hcnd_t A (hbn0_i (c_level hc1 hs1 (hisK_i (hgI_e (hc1.1.f 3 5 38 (by decide) hau) (hcnd_f B (hrt_i (hP v1 40000 T (by omega) hc1)))))))
    · refine OpA.ok (r := -3) (m1 := M1) (hq _ ?_) hI1.up g82 fun P X hP => hcq P X ?_
      · rw [qa_e rfl (by omega) (by decide), g31, qa_e ix4p (by omega) (by decide), qa_e x24 (by omega) (by decide), g37, qc_f A]
        rfl
      · exact hcnd_f A (hrt_i (hP v1 40000 T (by omega) hc1))
