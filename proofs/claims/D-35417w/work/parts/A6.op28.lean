/-! ===== operations (28): begin ===== -/
def mBg (m : Mst) (a p d l j : Nat) : Mst := up2 (up2 (up2 (up2 (up2 (up2 (up2 (up2 (up2 (up2 m 20 a (nI p)) 21 a (nI d)) 22 a (nI l)) 23 a (nI j)) 25 a 0) 28 a (-1)) 29 (3 * a) (-1)) 29 (3 * a + 1) (-1)) 29 (3 * a + 2) (-1)) 19 0 (nI (a + 1))
theorem mBg_o {m : Mst} {a p d l j F : Nat} (h : F ≠ 19 ∧ F ≠ 20 ∧ F ≠ 21 ∧ F ≠ 22 ∧ F ≠ 23) (h2 : F ≠ 25 ∧ F ≠ 28 ∧ F ≠ 29) : mBg m a p d l j F = m F := by
  unfold mBg
  rw [up2_o h.1, up2_o h2.2.2, up2_o h2.2.2, up2_o h2.2.2, up2_o h2.2.1, up2_o h2.1, up2_o h.2.2.2.2, up2_o h.2.2.2.1, up2_o h.2.2.1, up2_o h.2.1]
def bgF (v6 : Int32) : (Int32 → PM Unit) → Int32 → PM Unit := fun r27 => fun u26 => qc ((3 : Int32) ≤ u26) (qrt ()) (qw 29 180 (((3 : Int32) * v6) + u26) (-1 : Int32) <| r27 (u26 + (1 : Int32)))
theorem q_bgLoop {W : Mst} {a : Nat} (ha : a < 60) : qlp (σ := Int32) (bgF (nI a)) (0 : Int32) W = some ((), up2 (up2 (up2 W 29 (3 * a) (-1)) 29 (3 * a + 1) (-1)) 29 (3 * a + 2) (-1)) := by
  have ei : ∀ k, ((3 : Int32) * nI a) + nI k = nI (3 * a + k) := fun k => ix3p
  show bgF (nI a) (qlN (bgF (nI a)) 99999) 0 W = _
  show qc ((3 : Int32) ≤ 0) _ _ W = _
  rw [qc_f (by decide), show (0 : Int32) = nI 0 from nI_0.symm, qw_e (ei 0) (by omega) (by decide)]
  show bgF (nI a) (qlN (bgF (nI a)) 99998) (nI 0 + 1) _ = _
  show qc ((3 : Int32) ≤ nI 0 + 1) _ _ _ = _
  rw [qc_f (by decide +kernel), show nI 0 + 1 = nI 1 from nI_1 0, qw_e (ei 1) (by omega) (by decide)]
  show bgF (nI a) (qlN (bgF (nI a)) 99997) (nI 1 + 1) _ = _
  show qc ((3 : Int32) ≤ nI 1 + 1) _ _ _ = _
  rw [qc_f (by decide +kernel), show nI 1 + 1 = nI 2 from nI_1 1, qw_e (ei 2) (by omega) (by decide)]
  show bgF (nI a) (qlN (bgF (nI a)) 99996) (nI 2 + 1) _ = _
  show qc ((3 : Int32) ≤ nI 2 + 1) _ _ _ = _
  rw [qc_t (by decide +kernel)]
  rfl
theorem Inv.bg {m : Mst} {T p d l j : Nat} (h : Inv m T) (hT : T < 24) (hp : p < 6) (hd : d < 6) (hl : l < 6) (hj : j < nn m 9) : Inv (up2 (up2 (mBg m (nn m 19) p d l j) 24 (nn m 19) (-1)) 25 (nn m 19) 2) (T + 1) ∧ nn (mBg m (nn m 19) p d l j) 19 = nn m 19 + 1 := by
  have q19 : m 19 0 = nI (nn m 19) ∧ nn m 19 ≤ T := ix_nn h.2.1.1 (by omega)
  have n19 : nn (mBg m (nn m 19) p d l j) 19 = nn m 19 + 1 := by
    show (nI (nn m 19 + 1)).toNatClampNeg = _
    exact nI_clamp (by omega)
  refine ⟨?_, n19⟩
  generalize nn m 19 = a at q19 n19 ⊢
  have e20 : up2 (up2 (mBg m a p d l j) 24 a (-1)) 25 a 2 20 = up1 (m 20) a (nI p) := by
    unfold mBg
    rw [up2_o (by decide), up2_o (by decide), up2_o (by decide), up2_o (by decide), up2_o (by decide), up2_o (by decide), up2_o (by decide), up2_o (by decide), up2_o (by decide), up2_o (by decide), up2_o (by decide), up2_r]
  have e21 : up2 (up2 (mBg m a p d l j) 24 a (-1)) 25 a 2 21 = up1 (m 21) a (nI d) := by
    unfold mBg
    rw [up2_o (by decide), up2_o (by decide), up2_o (by decide), up2_o (by decide), up2_o (by decide), up2_o (by decide), up2_o (by decide), up2_o (by decide), up2_o (by decide), up2_o (by decide), up2_r, up2_o (by decide)]
  have e22 : up2 (up2 (mBg m a p d l j) 24 a (-1)) 25 a 2 22 = up1 (m 22) a (nI l) := by
    unfold mBg
    rw [up2_o (by decide), up2_o (by decide), up2_o (by decide), up2_o (by decide), up2_o (by decide), up2_o (by decide), up2_o (by decide), up2_o (by decide), up2_o (by decide), up2_r, up2_o (by decide), up2_o (by decide)]
  have e23 : up2 (up2 (mBg m a p d l j) 24 a (-1)) 25 a 2 23 = up1 (m 23) a (nI j) := by
    unfold mBg
    rw [up2_o (by decide), up2_o (by decide), up2_o (by decide), up2_o (by decide), up2_o (by decide), up2_o (by decide), up2_o (by decide), up2_o (by decide), up2_r, up2_o (by decide), up2_o (by decide), up2_o (by decide)]
  have e24 : up2 (up2 (mBg m a p d l j) 24 a (-1)) 25 a 2 24 = up1 (m 24) a (-1) := by
    unfold mBg
    rw [up2_o (by decide), up2_r, up2_o (by decide), up2_o (by decide), up2_o (by decide), up2_o (by decide), up2_o (by decide), up2_o (by decide), up2_o (by decide), up2_o (by decide), up2_o (by decide), up2_o (by decide)]
  have e25 : ∀ i, i ≠ a → up2 (up2 (mBg m a p d l j) 24 a (-1)) 25 a 2 25 i = m 25 i := fun i hi => by
    unfold mBg
    rw [up2_n (fun t => hi t.2), up2_o (by decide), up2_o (by decide), up2_o (by decide), up2_o (by decide), up2_o (by decide), up2_o (by decide), up2_n (fun t => hi t.2), up2_o (by decide), up2_o (by decide), up2_o (by decide), up2_o (by decide)]
  have e25a : up2 (up2 (mBg m a p d l j) 24 a (-1)) 25 a 2 25 a = 2 := up2_s
  have h := h.up
  obtain ⟨i1, i2, i3, b5, b6, b7, b8, b35, b51, b64, b66, b69, b73, iK, iA, iS, iC, iFm, iz, iT, iR, iRz, iL, iE, iV, iAz⟩ := h
  obtain ⟨a1, a2, a3, a4, a5, a6, a7⟩ := i2
  refine ⟨i1, ⟨⟨a + 1, by omega, rfl⟩, a2, a3, a4, a5, a6, a7⟩, i3, b5, b6, b7, b8, b35, b51, b64, b66, b69, b73, iK, ?_, iS, iC, iFm, iz, iT, iR, iRz, iL, iE, iV, ?_⟩
  · show iAt (nn (mBg m a p d l j) 19) (nn m 9) (m 10) (m 11) (up2 (up2 (mBg m a p d l j) 24 a (-1)) 25 a 2 20) (up2 (up2 (mBg m a p d l j) 24 a (-1)) 25 a 2 21) (up2 (up2 (mBg m a p d l j) 24 a (-1)) 25 a 2 22) (up2 (up2 (mBg m a p d l j) 24 a (-1)) 25 a 2 23) (up2 (up2 (mBg m a p d l j) 24 a (-1)) 25 a 2 24) (up2 (up2 (mBg m a p d l j) 24 a (-1)) 25 a 2 25)
    rw [n19, e20, e21, e22, e23, e24]
    intro i hi
    by_cases q : i = a
    · subst q
      rw [up1_s, up1_s, up1_s, up1_s, up1_s, e25a]
      exact ⟨⟨p, hp, rfl⟩, ⟨d, hd, rfl⟩, ⟨l, hl, rfl⟩, ⟨j, hj, rfl⟩, Or.inl rfl, fun t => absurd t (by decide)⟩
    · rw [up1_n q, up1_n q, up1_n q, up1_n q, up1_n q, e25 i q]
      refine iA i ?_
      have : nn m 19 = a := nIx q19.1 (by omega)
      omega
  · show iA0 (nn (mBg m a p d l j) 19) _ (m 27)
    rw [n19]
    intro i hi
    refine iAz i ?_
    have : nn m 19 = a := nIx q19.1 (by omega)
    omega
theorem op_begin (a1 a2 a3 : Int32) : OpV (fun z => h_X0_begin (idc 0 0) a1 a2 a3 z) (q_begin a1 a2 a3) := by
  intro v m T b z x h hI hT
  show OpA (fun z => h_X0_begin (idc 0 0) a1 a2 a3 z) (q_begin a1 a2 a3) v m T b z x
  have hb := h.vb
  have l6 : (6 : Int32) = nI 6 := by decide +kernel
  have l60 : (60 : Int32) = nI 60 := by decide +kernel
  have q19 : m 19 0 = nI (nn m 19) ∧ nn m 19 ≤ T := ix_nn hI.2.1.1 (by omega)
  obtain ⟨⟨K9, k91, k92⟩, -, -, vv⟩ := hI.pVe
  have n9 : nn m 9 = K9 := nIx k92 (by omega)
  have z1 : vZ v 1 = K9 := by
    obtain ⟨f1, f2, f3, f4, f5, f6⟩ := h.1.1.hFl
    exact ((nI_eq (by omega) (by omega)).mp (f4.symm.trans k92))
  have c0 : ∀ (P : Int32 → Vw → Prop) (X : String → Vw → Prop), h_X1_begin 0 a1 a2 a3 (fun r v' => (hbJ z r.toInt64 <| hrt (0 : Int32)) P X v') (fun E v' => (hhsel [("java/lang/IndexOutOfBoundsException", hrt (1 : Int32)), ("java/lang/IllegalStateException", hrt (2 : Int32))] E : PV Int32) P X v') v → h_X0_begin (idc 0 0) a1 a2 a3 z P X v := fun P X q => by
    unfold h_X0_begin
    exact hisK_i (htry_i q)
  rcases q_six_x a1 m with ⟨p, hp, rfl, e1⟩ | ⟨ha, e1⟩
  rotate_left
  · refine OpA.bad h hI 1 (by decide) ?_ fun P X hP => c0 P X ?_
    · unfold q_begin
      rw [qbd_e e1]
      refine qbd_t (r := (0 : Int32)) (m' := m) rfl ?_
      refine qbd_t (r := (0 : Int32)) (m' := m) rfl ?_
      refine qbd_t q_both_1 ?_
      rfl
    · unfold h_X1_begin
      exact hbnd_i (personAt_f ha (by omega) (hx_1 (hrt_i hP)))
  rcases q_six_x a2 m with ⟨d, hd, rfl, e2⟩ | ⟨ha, e2⟩
  rotate_left
  · refine OpA.bad h hI 1 (by decide) ?_ fun P X hP => c0 P X ?_
    · unfold q_begin
      rw [qbd_e e1]
      refine qbd_t (r := (0 : Int32)) (m' := m) ?_ ?_
      · show qc ((1 : Int32) = 0) _ _ _ = _
        rw [qc_f one_ne, qbd_e e2]
        rfl
      refine qbd_t (r := (0 : Int32)) (m' := m) rfl ?_
      refine qbd_t q_both_1 ?_
      rfl
    · unfold h_X1_begin
      exact hbnd_i (c_personAt h.1 hp (hbnd_i (c_there_f (by rw [l6]; exact ha) (by omega) (hx_1 (hrt_i hP)))))
  rcases q_six_x a3 m with ⟨l, hl, rfl, e3⟩ | ⟨ha, e3⟩
  rotate_left
  · refine OpA.bad h hI 1 (by decide) ?_ fun P X hP => c0 P X ?_
    · unfold q_begin
      rw [qbd_e e1]
      refine qbd_t (r := (0 : Int32)) (m' := m) ?_ ?_
      · show qc ((1 : Int32) = 0) _ _ _ = _
        rw [qc_f one_ne, qbd_e e2, qc_f one_ne, qbd_e e3]
        rfl
      refine qbd_t (r := (0 : Int32)) (m' := m) rfl ?_
      refine qbd_t q_both_1 ?_
      rfl
    · unfold h_X1_begin
      exact hbnd_i (c_personAt h.1 hp (hbnd_i (c_there_t (nI_pos (by omega)) (by rw [l6]; exact nI_lt hd (by decide)) (hbnd_i (c_there_f (by rw [l6]; exact ha) (by omega) (hx_1 (hrt_i hP)))))))
  have hu2 : ∀ (kk : Int32 → PM Int32) (out : Option (Int32 × Mst)), kk 1 m = out → (qbd (α := Int32) (qjo (σ := Unit) (fun _ => qrt (0 : Int32)) fun j50 => qc ((1 : Int32) = 0) (j50 ()) (qbd (q_isSix (nI d)) (fun v52 => qc (v52 = 0) (j50 ()) (qbd (q_isSix (nI l)) (fun v54 => qc (v54 = 0) (j50 ()) (qrt (1 : Int32))))))) kk) m = out := fun kk out ho => by
    refine qbd_t (r := (1 : Int32)) (m' := m) ?_ ho
    show qc ((1 : Int32) = 0) _ _ _ = _
    rw [qc_f one_ne, qbd_e e2, qc_f one_ne, qbd_e e3, qc_f one_ne]
    rfl
  have f7 : vM v 2 p 4 = m 7 p := h.1.1.f 2 4 7 (by decide) hp
  have cp : ∀ (kk : Int32 → PV Int32) (P : Int32 → Vw → Prop) (X : String → Vw → Prop), (∀ y : Int32, (¬ y = 0 ↔ 1 ≤ K9 ∧ m 7 p = 0) → kk y P X v) → (hbnd (ρ := Int32) (α := Int32) (hjo (σ := Unit) (fun _ => hrt (0 : Int32)) fun j32 => hcnd ((if vZ v 1 = 0 then (1 : Int32) else 0) = 0) (hisK 2 (idc 2 p) fun i34 => hgI 2 i34 4 fun v36 => hcnd (v36 = 0) (hgR 0 0 3 fun v38 => hisK 13 v38 fun i39 => hbn0 (h_J2_size i39) (fun v41 => hcnd ((60 : Int32) ≤ v41) (j32 ()) (hrt (1 : Int32)))) (j32 ())) (j32 ())) kk) P X v := fun kk P X hk => by
    refine hbnd_i (hjo_i (hcnd_i (fun q1 => hisK_i (hgI_e f7 (hcnd_i (fun q2 => hgR_e h.1.1.s3 (hisK_i (hbn0_i (J2sz (h.1.1.lt13 (by decide)) h.1.1.hLa.1 (hcnd_f (by rw [l60]; exact nI_ge (by omega) (by decide)) (hrt_i (hk 1 ⟨fun _ => ⟨?_, q2⟩, fun _ => one_ne⟩))))))) fun q2 => hrt_i (hk 0 ⟨fun t => absurd rfl t, fun t => absurd t.2 q2⟩)))) fun q1 => hrt_i (hk 0 ⟨fun t => absurd rfl t, fun t => ?_⟩)))
    · by_cases q : vZ v 1 = 0
      · rw [if_pos q] at q1; exact absurd q1 one_ne
      · omega
    · by_cases q : vZ v 1 = 0
      · omega
      · rw [if_neg q] at q1; exact absurd rfl q1
  have cpre : ∀ (P : Int32 → Vw → Prop) (X : String → Vw → Prop) (kk : Int32 → PV Int32), (∀ y : Int32, (¬ y = 0 ↔ 1 ≤ K9 ∧ m 7 p = 0) → kk y P X v) → (hgR 0 0 2 fun v4 => hisK 13 v4 fun i5 => hbn0 (h_J2_isEmpty i5) (fun v7 => hbnd (ρ := Int32) (α := Int32) (hjo (σ := Unit) (fun _ => hrt (0 : Int32)) fun j32 => hcnd (v7 = 0) (hisK 2 (idc 2 p) fun i34 => hgI 2 i34 4 fun v36 => hcnd (v36 = 0) (hgR 0 0 3 fun v38 => hisK 13 v38 fun i39 => hbn0 (h_J2_size i39) (fun v41 => hcnd ((60 : Int32) ≤ v41) (j32 ()) (hrt (1 : Int32)))) (j32 ())) (j32 ())) kk)) P X v := fun P X kk hk => hgR_e h.1.1.s2 (hisK_i (hbn0_i ⟨h.1.1.lt13 (by decide), cp kk P X hk⟩))
  have l0 : (0 : Int32) = nI 0 := nI_0.symm
  by_cases C : 1 ≤ K9 ∧ m 7 p = 0
  rotate_left
  · refine OpA.bad h hI 2 (by decide) ?_ fun P X hP => c0 P X ?_
    · unfold q_begin
      rw [qbd_e e1]
      refine hu2 _ _ ?_
      refine qbd_t (r := (0 : Int32)) (m' := m) ?_ ?_
      · show qc ((1 : Int32) = 0) _ _ _ = _
        rw [qc_f one_ne, qI_d]
        by_cases q1 : m 9 0 ≤ 0
        · rw [qc_t q1]; rfl
        · rw [qc_f q1, qa_e rfl hp (by decide)]
          have h9 : 1 ≤ K9 := by
            refine Classical.byContradiction fun t => q1 ?_
            rw [k92, show K9 = 0 by omega, l0]
            exact nI_le (by omega) (by omega)
          rw [qc_f (fun t => C ⟨h9, t⟩)]
          rfl
      refine qbd_t (q_both_2 one_ne) ?_
      rfl
    · unfold h_X1_begin
      refine hbnd_i (c_personAt h.1 hp (hbnd_i (c_there_t (nI_pos (by omega)) (by rw [l6]; exact nI_lt hd (by decide)) (hbnd_i (c_there_t (nI_pos (by omega)) (by rw [l6]; exact nI_lt hl (by decide)) (cpre _ _ _ fun y hy => hbnd_i ?_))))))
      have y0 : y = 0 := Classical.byContradiction fun t => C (hy.mp t)
      rw [y0]
      exact c_can_f (by omega) (hx_s (by decide) (hx_1 (hrt_i hP)))
  obtain ⟨C1, C2⟩ := C
  have h1 := h.m82 0
  have hI1 := hI.m82 0
  have g82 : up2 m 82 0 0 82 0 = 0 := up2_s
  have g19 : up2 m 82 0 0 19 0 = nI (nn (up2 m 82 0 0) 19) := q19.1
  have n19 : nn (up2 m 82 0 0) 19 = nn m 19 := rfl
  have g9 : up2 m 82 0 0 9 0 = nI K9 := k92
  have g10 : up2 m 82 0 0 10 = m 10 := rfl
  have gn9 : nn (up2 m 82 0 0) 9 = K9 := n9
  have g30 : nn (up2 m 82 0 0) 30 = nn m 30 := rfl
  have gpt : nn (up2 m 82 0 0) 77 + pt (up2 m 82 0 0) ≤ 4 * T := hI.pPt
  have h30 := (hI.c30 hT).2
  have h30T : nn m 30 ≤ T := (ix_nn hI.2.1.2.1 (by omega)).2
  have hA0 : up2 m 82 0 0 27 (nn m 19) = 0 := hI.pA0 _ (Nat.le_refl _)
  have hmay : q_mayBoth 1 1 m = some (1, up2 m 82 0 0) := q_both_0 one_ne one_ne
  have hq : ∀ out, (qI 19 fun v6 => qw 20 60 v6 (nI p) <| qw 21 60 v6 (nI d) <| qw 22 60 v6 (nI l) <| qI 9 fun v17 => qw 23 60 v6 (v17 - (1 : Int32)) <| qw 25 60 v6 (0 : Int32) <| qw 28 60 v6 (-1 : Int32) <| qbd (qlp (σ := Int32) (bgF v6) (0 : Int32)) (fun _ => qI 19 fun v33 => qW 19 (v33 + (1 : Int32)) <| qbd (q_go v6 (0 : Int32)) (fun _ => qrt v6))) (up2 m 82 0 0) = out → q_begin (nI p) (nI d) (nI l) m = out := fun out ho => by
    unfold q_begin
    rw [qbd_e e1]
    refine hu2 _ _ ?_
    refine qbd_t (r := (1 : Int32)) (m' := m) ?_ ?_
    · show qc ((1 : Int32) = 0) _ _ _ = _
      rw [qc_f one_ne, qI_d, qc_f (by rw [k92, l0]; exact nI_ge (by omega) (by omega)), qa_e rfl hp (by decide), qc_t C2, qI_d, qc_f (by rw [q19.1, l60]; exact nI_ge (by omega) (by decide))]
      rfl
    refine qbd_t hmay ?_
    rw [qc_f one_ne]
    exact ho
  generalize up2 m 82 0 0 = m1 at h1 hI1 g82 g19 n19 g9 g10 gn9 g30 gpt hA0 hmay hq
  obtain ⟨j, rfl⟩ : ∃ j, K9 = j + 1 := ⟨K9 - 1, by omega⟩
  obtain ⟨n, n1, n2, e10, hst, hpu⟩ := vv j (by rw [k92, nI_clamp (by omega)]; omega)
  obtain ⟨hIb, nb19⟩ := hI1.bg (p := p) (d := d) (l := l) (j := j) hT hp hd hl (by omega)
  have fb := fun F q1 q2 => mBg_o (m := m1) (a := nn m1 19) (p := p) (d := d) (l := l) (j := j) (F := F) q1 q2
  have b25 : mBg m1 (nn m1 19) p d l j 25 (nn m1 19) = 0 := by
    unfold mBg
    rw [up2_o (by decide), up2_o (by decide), up2_o (by decide), up2_o (by decide), up2_o (by decide), up2_s]
  have b23 : mBg m1 (nn m1 19) p d l j 23 (nn m1 19) = nI j := by
    unfold mBg
    rw [up2_o (by decide), up2_o (by decide), up2_o (by decide), up2_o (by decide), up2_o (by decide), up2_o (by decide), up2_s]
  have bn : ∀ F, (F ≠ 19 ∧ F ≠ 20 ∧ F ≠ 21 ∧ F ≠ 22 ∧ F ≠ 23) → (F ≠ 25 ∧ F ≠ 28 ∧ F ≠ 29) → nn (mBg m1 (nn m1 19) p d l j) F = nn m1 F := fun F q1 q2 => congrArg (fun r => (r 0).toNatClampNeg) (fb F q1 q2)
  have bpt : pt (mBg m1 (nn m1 19) p d l j) = pt m1 := by
    unfold pt
    rw [fb 35 (by decide) (by decide), bn 30 (by decide) (by decide), fb 51 (by decide) (by decide), bn 46 (by decide) (by decide), fb 62 (by decide) (by decide)]
  obtain ⟨M', gq, gI, gf, gc⟩ := go_do (m := mBg m1 (nn m1 19) p d l j) (m0 := m) (o := (z + 1, x)) (T := T + 1) (T' := T) (a := nn m1 19) (x := -1) (y := 0) (u := 0) (by omega) hIb (by omega) b25 (by rw [bn 30 (by decide) (by decide)]; omega) (by rw [bn 77 (by decide) (by decide), bpt]; omega) (by
    rw [b23, fb 10 (by decide) (by decide), nI_clamp (by omega), g10, e10, nI_clamp (by omega)]
    exact Or.inr ⟨0, by omega, l0⟩)
  have fr : ∀ F, (F ≠ 77 ∧ F ≠ 78 ∧ F ≠ 79 ∧ F ≠ 80 ∧ F ≠ 81) → (F ≠ 30 ∧ F ≠ 31 ∧ F ≠ 32 ∧ F ≠ 33 ∧ F ≠ 34) → (F ≠ 35 ∧ F ≠ 36) → (F ≠ 5 ∧ F ≠ 6 ∧ F ≠ 28) → (F ≠ 24 ∧ F ≠ 25 ∧ F ≠ 26) → (F ≠ 19 ∧ F ≠ 20 ∧ F ≠ 21 ∧ F ≠ 22 ∧ F ≠ 23) → (F ≠ 25 ∧ F ≠ 28 ∧ F ≠ 29) → M' F = m1 F := fun F q1 q2 q3 q4 q5 q6 q7 => (gf F q1 q2 q3 q4 q5).trans (fb F q6 q7)
  refine OpA.ok (r := nI (nn m1 19)) (m1 := M') (hq _ ?_) gI (by rw [fr 82 (by decide) (by decide) (by decide) (by decide) (by decide) (by decide) (by decide)]; exact g82) fun P X hP => c0 P X ?_
  · show qw 20 60 (m1 19 0) (nI p) _ m1 = _
    rw [g19, qw_e rfl (by omega) (by decide), qw_e rfl (by omega) (by decide), qw_e rfl (by omega) (by decide)]
    show qw 23 60 (nI (nn m1 19)) (m1 9 0 - 1) _ _ = _
    rw [g9, nI_pred, qw_e rfl (by omega) (by decide), qw_e rfl (by omega) (by decide), qw_e rfl (by omega) (by decide)]
    refine qbd_t (q_bgLoop (by omega)) ?_
    show qbd (q_go (nI (nn m1 19)) 0) _ (up2 _ 19 0 (m1 19 0 + 1)) = _
    rw [g19, nI_1]
    refine qbd_t gq ?_
    rfl
  · unfold h_X1_begin
    have e7 : vK v 7 = nn m1 19 := h.1.1.hCt.2.1.trans n19.symm
    have hZ2 : vZ v 2 = nn m1 19 := h.1.1.hLa.1.trans n19.symm
    have c13 : 2 < vK v 13 := h.1.1.lt13 (by decide)
    have c13b : 1 < vK v 13 := h.1.1.lt13 (by decide)
    obtain ⟨f1, f2, f3, f4, f5, f6⟩ := h.1.1.hFl
    obtain ⟨w, w1, w2, -⟩ := f6 j (by omega)
    have rel0 := (h1.1.1.less (b' := b + 39000 + 100) (by omega) (Nat.le_refl _)).attempt (p := p) (d := d) (l := l) (j := j) (w := w) hp (by omega) (by rw [n19]; exact hA0) w1 (by omega)
    refine hbnd_i (c_personAt h.1 hp (hbnd_i (c_there_t (nI_pos (by omega)) (by rw [l6]; exact nI_lt hd (by decide)) (hbnd_i (c_there_t (nI_pos (by omega)) (by rw [l6]; exact nI_lt hl (by decide)) (cpre _ _ _ fun y hy => hbnd_i (c_can_t (hy.mpr ⟨C1, C2⟩) (hgR_e h.1.1.s3 (hnw_i (by omega) ?_)))))))))
    rw [e7]
    refine hgR_e (x := idc 13 1) h.1.1.s2 (hgR_e (x := idc 13 1) h.1.1.s2 (hisK_i (hbn0_i (J2sz (n := j + 1) c13b z1 (hisK_i (hbn0_i ?_))))))
    rw [nI_pred]
    refine J2get (n := j) c13b rfl (by omega) (show j < vZ v 1 by omega) w1 (hisK_i (hbn0_i ?_))
    unfold h_X8_init
    refine hpR_i (hpI_i ⟨⟨by decide, by decide, (show 3 + 1 ≤ vb v - (12 + 1) by omega)⟩, ?_⟩)
    have k32 : up1 (vK v) 7 (vK v 7 + 1) 32 = vK v 32 := up1_n (by decide)
    have eM : up2 (up2 (mBg m1 (nn m1 19) p d l j) 24 (nn m1 19) (-1)) 26 (nn m1 19) 0 = up2 (up2 (up2 (up2 (up2 (up2 (up2 (up2 (up2 (up2 (up2 (up2 m1 20 (nn m1 19) (nI p)) 21 (nn m1 19) (nI d)) 22 (nn m1 19) (nI l)) 23 (nn m1 19) (nI j)) 25 (nn m1 19) 0) 28 (nn m1 19) (-1)) 29 (3 * nn m1 19) (-1)) 29 (3 * nn m1 19 + 1) (-1)) 29 (3 * nn m1 19 + 2) (-1)) 24 (nn m1 19) (-1)) 26 (nn m1 19) 0) 19 0 (nI (nn m1 19 + 1)) := by
      unfold mBg
      rw [up2_cm (F := 19) (F' := 24) (by decide), up2_cm (F := 19) (F' := 26) (by decide)]
    have hmr := h.1.2.1
    show hpR 7 (nn m1 19) 8 (idc 32 (up1 (vK v) 7 (vK v 7 + 1) 32)) _ _ _ (uK (uM (uN (uK v 7 12) 7 (nn m1 19) 11 (idc 0 0)) 7 (nn m1 19) 7 0) 32 3)
    rw [k32]
    refine hpR_i (hpI_i (hpR_i (hpI_i (hpI_i (hpR_i (hbn0_i ?_))))))
    have h79 : 79 ≤ vK v 32 := h.1.1.hCt.2.2.2.2.2.2.2.2.2.2.2
    have hm7 : MR (uM (uN (uK v 7 12) 7 (nn m1 19) 11 (idc 0 0)) 7 (nn m1 19) 7 0) m := ((hmr.oK (K := 7) (n := 12) (Or.inl ⟨by decide, by decide, by decide⟩)).oN (by decide)).oM rfl
    have hm9 : MR (uK (uM (uN (uK v 7 12) 7 (nn m1 19) 11 (idc 0 0)) 7 (nn m1 19) 7 0) 32 3) m := hm7.oK (Or.inr ⟨rfl, by show 79 ≤ up1 (vK v) 7 (vK v 7 + 1) 32; rw [k32]; exact h79⟩)
    have rel1 := (⟨rel0.eqv rfl eM, (by
      repeat' first | with_reducible exact hm9 | with_reducible refine MR.oM ?_ ?_ | with_reducible refine MR.oN ?_ ?_ | rfl | decide), h.1.2.2⟩ : CCh _ _ _ (up2 (up2 (mBg m1 (nn m1 19) p d l j) 24 (nn m1 19) (-1)) 26 (nn m1 19) 0) m (z + 1, x) (b + 39000) T)
    refine gc _ _ (b + 38000) _ _ _ (CCh.less rel1 (by omega) (Nat.le_refl _)) fun v' hv => hrt_i ?_
    have hZ' : vZ v' 2 = nn m1 19 := hv.1.hLa.1
    have hb' := hv.1.bud
    have n19' : nn M' 19 = nn m1 19 + 1 := (congrArg (fun r => (r 0).toNatClampNeg) (gf 19 (by decide) (by decide) (by decide) (by decide) (by decide))).trans nb19
    have rel2 := (hv.less (b' := b + 37000 + (2 * nn m1 19 + 12)) (by omega) (Nat.le_refl _)).1.addL
    have rel3 : CC (uA v' 2 (idc 7 (nn m1 19))) M' m (z + 1, x) (b + 37000) T := by
      refine ⟨?_, MR.oA hv.2.1, hv.2.2⟩
      rw [n19']
      refine rel2.mapU fun hU => ?_
      have e46 : nn M' 46 = nn m1 46 := congrArg (fun r => (r 0).toNatClampNeg) (fr 46 (by decide) (by decide) (by decide) (by decide) (by decide) (by decide) (by decide))
      have e52 : nn M' 52 = nn m1 52 := congrArg (fun r => (r 0).toNatClampNeg) (fr 52 (by decide) (by decide) (by decide) (by decide) (by decide) (by decide) (by decide))
      show gUn _ (M' 51) (M' 69) (nn M' 46) (M' 57) (M' 54) (nn M' 52)
      rw [fr 51 (by decide) (by decide) (by decide) (by decide) (by decide) (by decide) (by decide), fr 69 (by decide) (by decide) (by decide) (by decide) (by decide) (by decide) (by decide), fr 57 (by decide) (by decide) (by decide) (by decide) (by decide) (by decide) (by decide), fr 54 (by decide) (by decide) (by decide) (by decide) (by decide) (by decide) (by decide), e46, e52]
      exact hU
    refine hisK_i (hbn0_i (J2add (hv.1.lt13 (by decide)) (by rw [idc_mod (by decide)]; decide) (by omega) (by omega) ?_))
    refine hgR_e (x := idc 13 2) rel3.1.s3 (hisK_i (hbn0_i (J2sz (rel3.1.lt13 (by decide)) rel3.1.hLa.1 (hrt_i ?_))))
    rw [n19', nI_pred]
    exact hP _ 37000 T (by omega) rel3
