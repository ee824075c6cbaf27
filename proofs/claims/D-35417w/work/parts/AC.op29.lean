/-! ===== operations (29): stepUp ===== -/
theorem op_stepUp (a1 a2 a3 a4 : Int32) (h3 : a3 = 0 ∨ a3 = 1) : OpV (fun z => h_X0_stepUp (idc 0 0) a1 a2 a3 a4 z) (q_stepUp a1 a2 a3 a4) := by
  intro v m T b z x h hI hT
  show OpA (fun z => h_X0_stepUp (idc 0 0) a1 a2 a3 a4 z) (q_stepUp a1 a2 a3 a4) v m T b z x
  have hb := h.vb
  obtain ⟨d1, d2⟩ := hI.c30 hT
  have c0 : ∀ (P : Int32 → Vw → Prop) (X : String → Vw → Prop), h_X1_stepUp 0 a1 a2 a3 a4 (fun r v' => (hbJ z r.toInt64 <| hrt (0 : Int32)) P X v') (fun E v' => (hhsel [("java/lang/IndexOutOfBoundsException", hrt (1 : Int32)), ("java/lang/IllegalArgumentException", hrt (2 : Int32)), ("java/lang/IllegalStateException", hrt (3 : Int32))] E : PV Int32) P X v') v → h_X0_stepUp (idc 0 0) a1 a2 a3 a4 z P X v := fun P X q => by
    unfold h_X0_stepUp
    exact hisK_i (htry_i q)
  obtain ⟨y2, ey2, hy2⟩ : ∃ y, q_isFactor a2 m = some (y, m) ∧ (y = 0 ∨ y = 1) := by
    rcases q_factor_x a2 m with ⟨k, hk, rfl, e⟩ | ⟨_, e⟩
    · exact ⟨_, e, Or.inr rfl⟩
    · exact ⟨_, e, Or.inl rfl⟩
  have hu3 : ∀ y : Int32, ∃ r : Int32, (qjo (σ := Unit) (fun _ => qrt (0 : Int32)) fun j39 => qc (y = 0) (j39 ()) (qbd (q_isIn a4 (0 : Int32) (9999 : Int32)) (fun v41 => qc (v41 = 0) (j39 ()) (qrt (1 : Int32))))) m = some (r, m) ∧ (r ≠ 0 ↔ y ≠ 0 ∧ ¬ (a4 < 0 ∨ 9999 < a4)) := fun y => by
    show ∃ r : Int32, qc (y = 0) _ _ _ = _ ∧ _
    by_cases q : y = 0
    · rw [qc_t q]; exact ⟨0, rfl, fun t => absurd rfl t, fun t => absurd q t.1⟩
    · rw [qc_f q]
      by_cases q2 : a4 < 0 ∨ 9999 < a4
      · rw [qbd_e (q_isIn_f q2)]; exact ⟨0, rfl, fun t => absurd rfl t, fun t => absurd q2 t.2⟩
      · rw [qbd_e (q_isIn_t (fun t => q2 (Or.inl t)) (fun t => q2 (Or.inr t)))]; exact ⟨1, rfl, fun _ => ⟨q, q2⟩, fun _ => one_ne⟩
  rcases ix3 a1 (n := nn m 30) (by omega) with ha | ⟨s, hs, rfl⟩
  · refine OpA.bad h hI 1 (by decide) ?_ fun P X hP => c0 P X ?_
    · obtain ⟨r, er, -⟩ := hu3 y2
      unfold q_stepUp
      rw [qbd_e (q_Session_f d1 (by omega) ha), qbd_e ey2]
      refine qbd_t er ?_
      refine qbd_t (r := (0 : Int32)) (m' := m) rfl ?_
      refine qbd_t q_all_1 ?_
      rfl
    · unfold h_X1_stepUp
      exact hgR_e h.1.1.s4 (hbnd_i (c_at_f (h.1.1.lt13 (by decide)) h.1.1.hL3.1 ha (by omega) (hx_1 (hrt_i hP))))
  have e1 : q_isSession (nI s) m = some (1, m) := q_Session_t d1 (by omega) hs
  have cs : ∀ (kk : Nat → PV Int32) (P : Int32 → Vw → Prop) (X : String → Vw → Prop), kk (idc 8 s) P X v → (hgR 0 0 4 fun v1 => hbnd (ρ := Int32) (h_X1_at v1 (nI s)) kk) P X v := fun kk P X hk => hgR_e h.1.1.s4 (hbnd_i (c_at (h.1.1.lt13 (by decide)) h.1.1.hL3.1 (by omega) hs (h.1.1.hL3.2 s hs) hk))
  obtain ⟨⟨p, hp, e31⟩, how⟩ := hI.pSe s hs
  have n34 : rf 8 (m 34 s) = nul ↔ m 34 s = -1 := by
    rcases how with r | ⟨o, o1, o2, _⟩
    · rw [r]; exact ⟨fun _ => rfl, fun _ => rf_m1⟩
    · rw [o2, rf_ix (by omega)]
      exact ⟨fun r => by unfold idc nul at r; omega, fun r => absurd r (nI_nm (by omega))⟩
  have f35 : vM v 8 s 5 = m 35 s := h.1.1.f 8 5 35 (by decide) hs
  have N2 : vN v 8 s 2 = rf 8 (m 34 s) := h.1.1.hR82 s hs
  obtain ⟨u4, eu4, hu4⟩ : ∃ w : Int32, (qjo (σ := Unit) (fun _ => qrt (0 : Int32)) fun j25 => qc ((1 : Int32) = 0) (j25 ()) (qa 35 60 (nI s) fun v30 => qc (v30 = 0) (j25 ()) (qa 34 60 (nI s) fun v35 => qc (v35 = (-1 : Int32)) (qrt (1 : Int32)) (j25 ())))) m = some (w, m) ∧ (w ≠ 0 ↔ m 35 s ≠ 0 ∧ m 34 s = -1) := by
    show ∃ w : Int32, qc ((1 : Int32) = 0) _ _ _ = _ ∧ _
    rw [qc_f one_ne, qa_e rfl (by omega) (by decide)]
    by_cases q1 : m 35 s = 0
    · rw [qc_t q1]; exact ⟨0, rfl, fun t => absurd rfl t, fun t => absurd q1 t.1⟩
    · rw [qc_f q1, qa_e rfl (by omega) (by decide)]
      by_cases q2 : m 34 s = -1
      · rw [qc_t q2]; exact ⟨1, rfl, fun _ => ⟨q1, q2⟩, fun _ => one_ne⟩
      · rw [qc_f q2]; exact ⟨0, rfl, fun t => absurd rfl t, fun t => absurd t.2 q2⟩
  rcases q_factor_x a2 m with ⟨k, hk, rfl, e2⟩ | ⟨hf, e2⟩
  rotate_left
  · refine OpA.bad h hI 2 (by decide) ?_ fun P X hP => c0 P X ?_
    · unfold q_stepUp
      rw [qbd_e e1, qbd_e e2]
      refine qbd_t (r := (0 : Int32)) (m' := m) rfl ?_
      refine qbd_t eu4 ?_
      refine qbd_t (q_all_2 one_ne) ?_
      rfl
    · unfold h_X1_stepUp
      exact cs _ _ _ (hisK_i (hbnd_i (fitFactor_f hf (by omega) (hx_s (by decide) (hx_1 (hrt_i hP))))))
  obtain ⟨u3, eu3, hu3'⟩ := hu3 1
  by_cases N : a4 < 0 ∨ 9999 < a4
  · have z3 : u3 = 0 := Classical.byContradiction fun t => (hu3'.mp t).2 N
    refine OpA.bad h hI 2 (by decide) ?_ fun P X hP => c0 P X ?_
    · unfold q_stepUp
      rw [qbd_e e1, qbd_e e2]
      refine qbd_t eu3 ?_
      refine qbd_t eu4 ?_
      rw [z3]
      refine qbd_t (q_all_2 one_ne) ?_
      rfl
    · unfold h_X1_stepUp
      exact cs _ _ _ (hisK_i (hbnd_i (fitFactor_t hk (hbnd_i (c_fit_f N (by omega) (hx_s (by decide) (hx_1 (hrt_i hP))))))))
  have z3 : u3 ≠ 0 := hu3'.mpr ⟨one_ne, N⟩
  have cfit : ∀ (kk : Unit → PV Int32) (P : Int32 → Vw → Prop) (X : String → Vw → Prop), kk () P X v → (hbnd (h_X1_fit a4 (0 : Int32) (9999 : Int32)) kk) P X v := fun kk P X hk => hbnd_i (c_fit_t (fun t => N (Or.inl t)) (Int32.not_lt.mp fun t => N (Or.inr t)) hk)
  have c4 : ∀ (kk : Int32 → PV Int32) (P : Int32 → Vw → Prop) (X : String → Vw → Prop), (∀ y : Int32, (¬ y = 0 ↔ m 35 s ≠ 0 ∧ m 34 s = -1) → kk y P X v) → (hgI 8 s 5 fun v7 => hbnd (ρ := Int32) (α := Int32) (hjo (σ := Unit) (fun _ => hrt (0 : Int32)) fun j21 => hcnd (v7 = 0) (j21 ()) (hgR 8 s 2 fun v23 => hcnd (v23 = nul) (hrt (1 : Int32)) (j21 ()))) kk) P X v := fun kk P X hk => by
    refine hgI_e f35 (hbnd_i (hjo_i (hcnd_i (fun q => hrt_i (hk 0 ⟨fun t => absurd rfl t, fun t => absurd q t.1⟩)) fun q => hgR_e N2 (hcnd_i (fun q2 => hrt_i (hk 1 ⟨fun _ => ⟨q, n34.mp q2⟩, fun _ => one_ne⟩)) fun q2 => hrt_i (hk 0 ⟨fun t => absurd rfl t, fun t => absurd (n34.mpr t.2) q2⟩)))))
  by_cases L : m 35 s ≠ 0 ∧ m 34 s = -1
  rotate_left
  · have z4 : u4 = 0 := Classical.byContradiction fun t => L (hu4.mp t)
    refine OpA.bad h hI 3 (by decide) ?_ fun P X hP => c0 P X ?_
    · unfold q_stepUp
      rw [qbd_e e1, qbd_e e2]
      refine qbd_t eu3 ?_
      refine qbd_t eu4 ?_
      rw [z4]
      refine qbd_t (q_all_3 one_ne z3) ?_
      rfl
    · unfold h_X1_stepUp
      refine cs _ _ _ (hisK_i (hbnd_i (fitFactor_t hk (cfit _ _ _ (c4 _ _ _ fun y hy => hbnd_i ?_)))))
      have y0 : y = 0 := Classical.byContradiction fun t => L (hy.mp t)
      rw [y0]
      exact c_can_f (by omega) (hx_s (by decide) (hx_s (by decide) (hx_1 (hrt_i hP))))
  have z4 : u4 ≠ 0 := hu4.mpr L
  have h1 := h.m82 0
  have hI1 := hI.m82 0
  have g82 : up2 m 82 0 0 82 0 = 0 := up2_s
  have hmay : q_mayAll 1 u3 u4 m = some (1, up2 m 82 0 0) := q_all_0 one_ne z3 z4
  have g31 : up2 m 82 0 0 31 s = nI p := e31
  have g30 : nn (up2 m 82 0 0) 30 = nn m 30 := rfl
  have g0 : up2 m 82 0 0 0 0 = m 0 0 := rfl
  generalize up2 m 82 0 0 = m1 at h1 hI1 g82 hmay g31 g30 g0
  have rel0 : CC (uM v 8 s 4 (m1 0 0)) (up2 m1 33 s (m1 0 0)) m (z + 1, x) (b + 40000) T := ⟨h1.1.1.used s (m1 0 0), h1.1.2.1.oM rfl, h1.1.2.2⟩
  have hI2 : Inv (up2 m1 33 s (m1 0 0)) (T + 1) := hI1.up
  have hpt := hI1.pPt
  have k31 : up2 m1 33 s (m1 0 0) 31 s = nI p := g31
  have k30 : nn (up2 m1 33 s (m1 0 0)) 30 = nn m 30 := g30
  have k82 : up2 m1 33 s (m1 0 0) 82 0 = 0 := g82
  obtain ⟨r, M', gq, gr, ⟨gI, -, gf⟩, gc⟩ := ans_do (m := up2 m1 33 s (m1 0 0)) (m0 := m) (o := (z + 1, x)) (T := T + 1) (T' := T) (p := p) (k := k) (ok := a3) (n := a4) hI2 (by omega) (by omega) hp hk h3 (show nn m1 77 + 1 + pt m1 ≤ 4 * (T + 1) by omega)
  have q30 : nn M' 30 = nn m 30 := (congrArg (fun r => (r 0).toNatClampNeg) (gf 30 (by decide) (by decide))).trans k30
  have q82 : M' 82 0 = 0 := (congrArg (fun r => r 0) (gf 82 (by decide) (by decide))).trans k82
  have hq : ∀ out, (qbd (α := Unit) (qc (r = 0) (qrt ()) (qI 0 fun v20 => qw 36 180 (((3 : Int32) * nI s) + nI k) v20 <| qrt ())) (fun _ => qbd (q_levelNow (nI s)) (fun v16 => qrt v16))) M' = out → q_stepUp (nI s) (nI k) a3 a4 m = out := fun out ho => by
    unfold q_stepUp
    rw [qbd_e e1, qbd_e e2]
    refine qbd_t eu3 ?_
    refine qbd_t eu4 ?_
    refine qbd_t hmay ?_
    rw [qc_f one_ne]
    show qw 33 60 (nI s) (m1 0 0) _ m1 = _
    rw [qw_e rfl (by omega) (by decide), qa_e rfl (by omega) (by decide), k31]
    refine qbd_t gq ?_
    exact ho
  have hco : ∀ (P : Int32 → Vw → Prop) (X : String → Vw → Prop), (∀ v', CC v' M' m (z + 1, x) (b + 39000) (T + 1) → (hbnd (ρ := Int32) (α := Unit) (hcnd (r = 0) (hrt ()) (hbn0 (h_X9_show s (nI k)) (fun _ => hrt ()))) (fun _ => hbn0 (h_X9_level s) (fun v15 => hrt v15))) P X v') → h_X1_stepUp 0 (nI s) (nI k) a3 a4 P X v := fun P X hP => by
    unfold h_X1_stepUp
    refine cs _ _ _ (hisK_i (hbnd_i (fitFactor_t hk (cfit _ _ _ (c4 _ _ _ fun y hy => hbnd_i (c_can_t (hy.mpr L) (hgI_e (x := m1 0 0) h1.1.1.g16 (hpI_i ?_))))))))
    have n1 : vN (uM v 8 s 4 (m1 0 0)) 8 s 1 = idc 2 p := by
      have := rel0.1.hR81 s (by omega)
      rw [k31, rf_ix (by omega)] at this
      exact this
    refine hgR_e n1 (hisK_i (hbn0_i ?_))
    exact gc (b + 39000) _ _ _ (rel0.less (by omega) (Nat.le_refl _)) fun v' hv => hP v' hv
  by_cases r0 : r = 0
  · refine OpA.ok (r := lv M' s) (m1 := M') (hq _ ?_) gI q82 fun P X hP => c0 P X (hco _ _ fun v' hv => ?_)
    · refine qbd_t (r := ()) (m' := M') (by rw [qc_t r0]; rfl) ?_
      show qbd (q_levelNow (nI s)) _ _ = _
      rw [qbd_e (q_levelNow_eq (by omega))]
      rfl
    · exact hbnd_i (hcnd_t r0 (hrt_i (hbn0_i (c_level hv (by omega) (hrt_i (hP v' 39000 (T + 1) (Nat.le_refl _) hv))))))
  · have e82 : up2 M' 36 (3 * s + k) (M' 0 0) 82 0 = 0 := q82
    refine OpA.ok (r := lv (up2 M' 36 (3 * s + k) (M' 0 0)) s) (m1 := up2 M' 36 (3 * s + k) (M' 0 0)) (hq _ ?_) gI e82 fun P X hP => c0 P X (hco _ _ fun v' hv => ?_)
    · refine qbd_t (r := ()) (m' := up2 M' 36 (3 * s + k) (M' 0 0)) (by rw [qc_f r0, qI_d, qw_e ix3p (by omega) (by decide)]; rfl) ?_
      show qbd (q_levelNow (nI s)) _ _ = _
      rw [qbd_e (q_levelNow_eq (by omega))]
      rfl
    · obtain ⟨y1, y2, y3, y4, y5, y6⟩ := hv.1.hSs s (by omega)
      have n8 : vN v' 8 s 8 = idc 0 0 := hv.1.hT8 s (by omega)
      have hn : M' 0 0 ≠ -1 := by
        obtain ⟨c, c1, c2⟩ := gI.pTm.1
        rw [c2]; exact nI_nm (by omega)
      have rel := hv.1.showS (s := s) (k := k) (now := M' 0 0) (set := vM v' 8 s 7 ||| ((1 : Int32) <<< (nI k &&& 31))) (by omega) hk y1 hn rfl
      have rel2 : CC _ (up2 M' 36 (3 * s + k) (M' 0 0)) m (z + 1, x) (b + 39000) (T + 1) := ⟨rel, (hv.2.1.oM rfl).oM (by
        have y2 : 79 ≤ vN v' 8 s 6 / 64 := y2
        unfold mcl
        rw [decide_eq_false (show ¬ vN v' 8 s 6 / 64 < 79 by omega)]
        simp), hv.2.2⟩
      refine hbnd_i (hcnd_f r0 (hbn0_i ?_))
      unfold h_X9_show
      refine hgI_e rfl (hpI_i (hgR_e y1 (hgR_e n8 (hisK_i (hgI_e hv.1.g16 (hisK_i (hbI_e rfl ?_ (by omega) (hrt_i (hrt_i (hbn0_i (c_level rel2 (show s < nn M' 30 by omega) (hrt_i (hP _ 39000 (T + 1) (Nat.le_refl _) rel2)))))))))))))
      show k < vL v' 32 (vN v' 8 s 6 / 64)
      have y4 : vL v' 32 (vN v' 8 s 6 / 64) = 3 := y4
      rw [y4]; exact hk
