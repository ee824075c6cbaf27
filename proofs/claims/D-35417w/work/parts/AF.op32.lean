/-! ===== operations (32): answer, joined ===== -/
theorem op_answer (a1 a2 a3 : Int32) (h2 : a2 = 0 ∨ a2 = 1) : OpV (fun z => h_X0_answer (idc 0 0) a1 a2 a3 z) (q_answer a1 a2 a3) := by
  intro v m T b z x h hI hT
  show OpA (fun z => h_X0_answer (idc 0 0) a1 a2 a3 z) (q_answer a1 a2 a3) v m T b z x
  have hb := h.vb
  obtain ⟨c1, c2⟩ := hI.c19 hT
  have c0 : ∀ (P : Int32 → Vw → Prop) (X : String → Vw → Prop), h_X1_answer 0 a1 a2 a3 (fun r v' => (hbJ z r.toInt64 <| hrt (0 : Int32)) P X v') (fun E v' => (hhsel [("java/lang/IndexOutOfBoundsException", hrt (1 : Int32)), ("java/lang/IllegalArgumentException", hrt (2 : Int32)), ("java/lang/IllegalStateException", hrt (3 : Int32))] E : PV Int32) P X v') v → h_X0_answer (idc 0 0) a1 a2 a3 z P X v := fun P X q => by
    unfold h_X0_answer
    exact hisK_i (htry_i q)
  obtain ⟨y2, ey2, hy2⟩ : ∃ y : Int32, q_isIn a3 (0 : Int32) (9999 : Int32) m = some (y, m) ∧ (y ≠ 0 ↔ ¬ (a3 < 0 ∨ 9999 < a3)) := by
    by_cases q2 : a3 < 0 ∨ 9999 < a3
    · exact ⟨0, q_isIn_f q2, fun t => absurd rfl t, fun t => absurd q2 t⟩
    · exact ⟨1, q_isIn_t (fun t => q2 (Or.inl t)) (fun t => q2 (Or.inr t)), fun _ => q2, fun _ => one_ne⟩
  rcases ix3 a1 (n := nn m 19) (by omega) with ha | ⟨a, hk, rfl⟩
  · refine OpA.bad h hI 1 (by decide) ?_ fun P X hP => c0 P X ?_
    · unfold q_answer
      rw [qbd_e (q_Attempt_f c1 (by omega) ha), qbd_e ey2]
      refine qbd_t (r := (0 : Int32)) (m' := m) rfl ?_
      refine qbd_t q_all_1 ?_
      rfl
    · unfold h_X1_answer
      exact hgR_e h.1.1.s3 (hbnd_i (c_at_f (h.1.1.lt13 (by decide)) h.1.1.hLa.1 ha (by omega) (hx_1 (hrt_i hP))))
  have e1 : q_isAttempt (nI a) m = some (1, m) := q_Attempt_t c1 (by omega) hk
  have cs : ∀ (kk : Nat → PV Int32) (P : Int32 → Vw → Prop) (X : String → Vw → Prop), kk (idc 7 a) P X v → (hgR 0 0 3 fun v1 => hbnd (ρ := Int32) (h_X1_at v1 (nI a)) kk) P X v := fun kk P X hk2 => hgR_e h.1.1.s3 (hbnd_i (c_at (h.1.1.lt13 (by decide)) h.1.1.hLa.1 (by omega) hk (h.1.1.hLa.2 a hk) hk2))
  obtain ⟨u3, eu3, hu3⟩ : ∃ w : Int32, (qjo (σ := Unit) (fun _ => qrt (0 : Int32)) fun j87 => qc ((1 : Int32) = 0) (j87 ()) (qa 25 60 (nI a) fun v92 => qc (v92 = 0) (qrt (1 : Int32)) (j87 ()))) m = some (w, m) ∧ (w ≠ 0 ↔ m 25 a = 0) := by
    show ∃ w : Int32, qc ((1 : Int32) = 0) _ _ _ = _ ∧ _
    rw [qc_f one_ne, qa_e rfl (by omega) (by decide)]
    by_cases q1 : m 25 a = 0
    · rw [qc_t q1]; exact ⟨1, rfl, fun _ => q1, fun _ => one_ne⟩
    · rw [qc_f q1]; exact ⟨0, rfl, fun t => absurd rfl t, fun t => absurd t q1⟩
  have f25 : vM v 7 a 7 = m 25 a := h.1.1.f 7 7 25 (by decide) hk
  by_cases N : a3 < 0 ∨ 9999 < a3
  · have z2 : y2 = 0 := Classical.byContradiction fun t => (hy2.mp t) N
    refine OpA.bad h hI 2 (by decide) ?_ fun P X hP => c0 P X ?_
    · unfold q_answer
      rw [qbd_e e1, qbd_e ey2]
      refine qbd_t eu3 ?_
      rw [z2]
      refine qbd_t (q_all_2 one_ne) ?_
      rfl
    · unfold h_X1_answer
      exact cs _ _ _ (hisK_i (hbnd_i (c_fit_f N (by omega) (hx_s (by decide) (hx_1 (hrt_i hP))))))
  have z2 : y2 ≠ 0 := hy2.mpr N
  have cfit : ∀ (kk : Unit → PV Int32) (P : Int32 → Vw → Prop) (X : String → Vw → Prop), kk () P X v → (hbnd (h_X1_fit a3 (0 : Int32) (9999 : Int32)) kk) P X v := fun kk P X hk2 => hbnd_i (c_fit_t (fun t => N (Or.inl t)) (Int32.not_lt.mp fun t => N (Or.inr t)) hk2)
  by_cases S : m 25 a = 0
  rotate_left
  · have z3 : u3 = 0 := Classical.byContradiction fun t => S (hu3.mp t)
    refine OpA.bad h hI 3 (by decide) ?_ fun P X hP => c0 P X ?_
    · unfold q_answer
      rw [qbd_e e1, qbd_e ey2]
      refine qbd_t eu3 ?_
      rw [z3]
      refine qbd_t (q_all_3 one_ne z2) ?_
      rfl
    · unfold h_X1_answer
      exact cs _ _ _ (hisK_i (cfit _ _ _ (hgI_e f25 (hbnd_i (hcnd_f S (hrt_i (hbnd_i (c_can_f (by omega) (hx_s (by decide) (hx_s (by decide) (hx_1 (hrt_i hP)))))))))))) 
  have z3 : u3 ≠ 0 := hu3.mpr S
  obtain ⟨⟨p, hp, e20⟩, -, -, -, jn, jS⟩ := hI.pAt a hk
  obtain ⟨h24, k11⟩ := jS S
  obtain ⟨V, j, q, hV, hj, e23, e24, N4, -, eM0, eM1, -, -, -⟩ := att_step h.1 hI hk h24
  obtain ⟨⟨v9, v91, v92⟩, -, -, vv⟩ := hI.pVe
  have hV9 : V < nn m 9 := by
    obtain ⟨V', w1, w2⟩ := (hI.pAt a hk).2.2.2.1
    have : V = V' := (nI_eq (by omega) (by have := nIx v92 (show v9 < 2 ^ 31 by omega); omega)).mp (e23.symm.trans w2)
    omega
  obtain ⟨n, n1, n2, h10, hst, hpu, -⟩ := vv V hV9
  rw [e23, e24, nI_clamp (by omega), nI_clamp (by omega)] at k11
  have hjn : j < n := by
    rcases jn with r | ⟨j', j1, j2⟩
    · exact absurd r h24
    · rw [e23, nI_clamp (by omega), h10, nI_clamp (by omega)] at j1
      have : j = j' := (nI_eq (by omega) (by omega)).mp (e24.symm.trans j2)
      omega
  obtain ⟨k, hk3, ek⟩ := (hst j hjn).2.2.1 (Or.inl k11)
  obtain ⟨h14, h15⟩ := hpu j hjn (by rw [k11]; decide)
  have ix12 : ((12 : Int32) * nI V) + nI j = nI (12 * V + j) := ix12p
  have h1 := h.m82 0
  have hI1 := hI.m82 0
  have hmay : q_mayAll 1 y2 u3 m = some (1, up2 m 82 0 0) := q_all_0 one_ne z2 z3
  have rel0 : CC (uM v 7 a 6 (m 27 a + 1)) (up2 (up2 m 82 0 0) 27 a (m 27 a + 1)) m (z + 1, x) (b + 40000) T := CCh.aan h1.1 a (m 27 a + 1)
  have hI2 : Inv (up2 (up2 m 82 0 0) 27 a (m 27 a + 1)) (T + 1) := by
    have hI1 := hI1.up
    obtain ⟨i1, i2, i3, b5, b6, b7, b8, b35, b51, b64, b66, b69, b73, iK, iA, iS, iC, iFm, iz, iT, iR, iRz, iL, iE, iV, iAz⟩ := hI1
    refine ⟨i1, i2, i3, b5, b6, b7, b8, b35, b51, b64, b66, b69, b73, iK, iA, iS, iC, iFm, iz, iT, iR, iRz, iL, iE, iV, ?_⟩
    intro i hi
    have hi : nn m 19 ≤ i := hi
    show up2 (up2 m 82 0 0) 27 a (m 27 a + 1) 27 i = 0
    rw [up2_n (fun t => by omega)]
    exact iAz i hi
  have hpt := hI.pPt
  have h30T : nn m 30 ≤ T := (ix_nn hI.2.1.2.1 (by omega)).2
  obtain ⟨r, M1, gq, gr, ⟨gI, gb, gf⟩, gc⟩ := ans_do (m := up2 (up2 m 82 0 0) 27 a (m 27 a + 1)) (m0 := m) (o := (z + 1, x)) (T := T + 1) (T' := T) (p := p) (k := k) (ok := a2) (n := a3) hI2 (by omega) (by omega) hp hk3 h2 (show nn m 77 + 1 + pt m ≤ 4 * (T + 1) by omega)
  have gb : nn M1 77 + pt M1 ≤ nn m 77 + pt m + 1 := gb
  have w : ∀ F, (F ≠ 77 ∧ F ≠ 78 ∧ F ≠ 79 ∧ F ≠ 80 ∧ F ≠ 81) → (F ≠ 1 ∧ F ≠ 2 ∧ F ≠ 3 ∧ F ≠ 4) → F ≠ 82 → F ≠ 27 → M1 F = m F := fun F q1 q2 q3 q4 => (gf F q1 q2).trans (by rw [up2_o q4, up2_o q3])
  have w82 : M1 82 0 = 0 := (congrFun (gf 82 (by decide) (by decide)) 0).trans rfl
  have wn : ∀ F, (F ≠ 77 ∧ F ≠ 78 ∧ F ≠ 79 ∧ F ≠ 80 ∧ F ≠ 81) → (F ≠ 1 ∧ F ≠ 2 ∧ F ≠ 3 ∧ F ≠ 4) → F ≠ 82 → F ≠ 27 → nn M1 F = nn m F := fun F q1 q2 q3 q4 => congrArg (fun r => (r 0).toNatClampNeg) (w F q1 q2 q3 q4)
  have w19 := wn 19 (by decide) (by decide) (by decide) (by decide)
  obtain ⟨M3, mq, mI, m82, m27, m19, mc⟩ := an_mid (m := M1) (m0 := m) (o := (z + 1, x)) (T := T + 1) (T' := T + 1) (a := a) (V := V) (j := j) (k := k) (n := n) (r := r) (by omega) gI (by omega) (by rw [w 25 (by decide) (by decide) (by decide) (by decide)]; exact S) (by rw [wn 30 (by decide) (by decide) (by decide) (by decide)]; omega) (by omega) (by rw [w 23 (by decide) (by decide) (by decide) (by decide)]; exact e23) hV (by rw [w 24 (by decide) (by decide) (by decide) (by decide)]; exact e24) hj (by rw [w 10 (by decide) (by decide) (by decide) (by decide)]; exact h10) n2 (by rw [w 12 (by decide) (by decide) (by decide) (by decide)]; exact ek) hk3 (by rw [w 14 (by decide) (by decide) (by decide) (by decide)]; exact h14) (by rw [w 15 (by decide) (by decide) (by decide) (by decide)]; exact h15)
  have z82 : M3 82 0 = 0 := (congrFun m82 0).trans w82
  have hq : ∀ out, (qa 25 60 (nI a) fun v30 => qc (v30 = 0) (qa 27 60 (nI a) fun v35 => qc (v35 = (12 : Int32)) (qw 25 60 (nI a) (2 : Int32) <| qa 25 60 (nI a) fun v43 => qrt v43) (qa 25 60 (nI a) fun v47 => qrt v47)) (qa 25 60 (nI a) fun v51 => qrt v51)) M3 = out → q_answer (nI a) a2 a3 m = out := fun out ho => by
    unfold q_answer
    rw [qbd_e e1, qbd_e ey2]
    refine qbd_t eu3 ?_
    refine qbd_t hmay ?_
    rw [qc_f one_ne, qa_e rfl (by omega) (by decide), show up2 m 82 0 0 23 a = nI V from e23, qa_e rfl (by omega) (by decide), show up2 m 82 0 0 24 a = nI j from e24, qa_e rfl (by omega) (by decide), show up2 m 82 0 0 27 a = m 27 a from rfl, qw_e rfl (by omega) (by decide), qa_e rfl (by omega) (by decide), show up2 (up2 m 82 0 0) 27 a (m 27 a + 1) 20 a = nI p from e20, qa_e ix12 (by omega) (by decide), show up2 (up2 m 82 0 0) 27 a (m 27 a + 1) 12 (12 * V + j) = nI k from ek]
    refine qbd_t gq ?_
    refine qbd_t mq ?_
    exact ho
  have hco : ∀ (P : Int32 → Vw → Prop) (X : String → Vw → Prop), (∀ v', CC v' M3 m (z + 1, x) (b + 38000) (T + 1) → (hgI 7 a 7 fun v10 => hbnd (ρ := Int32) (α := Int32) (hjo (σ := Unit) (fun _ => hgI 7 a 7 fun v14 => hrt v14) fun j16 => hcnd (v10 = 0) (hgI 7 a 6 fun v18 => hcnd (v18 = (12 : Int32)) (hrt (2 : Int32)) (j16 ())) (j16 ())) (fun u11 => hpI 7 a 7 u11 <| hgI 7 a 7 fun v12 => hrt v12)) P (fun _ _ => False) v') → h_X1_answer 0 (nI a) a2 a3 P X v := fun P X hP => by
    unfold h_X1_answer
    refine cs _ _ _ (hisK_i (cfit _ _ _ (hgI_e f25 (hbnd_i (hcnd_t S (hrt_i (hbnd_i (c_can_t one_ne (hbn0_i ?_)))))))))
    have n0 : vN (uM v 7 a 6 (m 27 a + 1)) 7 a 0 = idc 2 p := by
      have := h.1.1.hR70 a hk
      rw [e20, rf_ix (by omega)] at this
      exact this
    unfold h_X8_answer
    refine hgR_e N4 (hisK_i (hgI_e (eM1.trans ek) (hgI_e (h.1.1.f 7 6 27 (by decide) hk) (hpI_i (hgR_e n0 (hisK_i (hbn0_i ?_)))))))
    refine gc (b + 39000) _ _ _ (rel0.less (by omega) (Nat.le_refl _)) fun v' hv => ?_
    refine hbnd_i ?_
    exact mc (b + 38000) v' _ _ (hv.less (by omega) (Nat.le_refl _)) fun v2 hv2 => hP v2 hv2
  have ha3 : a < nn M3 19 := by omega
  by_cases F : M3 25 a = 0 ∧ M3 27 a = 12
  · have e82 : up2 M3 25 a 2 82 0 = 0 := z82
    refine OpA.ok (r := 2) (m1 := up2 M3 25 a 2) (hq _ ?_) mI.st2 e82 fun P X hP => c0 P X (hco _ _ fun v' hv => ?_)
    · rw [qa_e rfl (by omega) (by decide), qc_t F.1, qa_e rfl (by omega) (by decide), qc_t F.2, qw_e rfl (by omega) (by decide), qa_e rfl (by omega) (by decide), up2_s]
      rfl
    · exact hgI_e (hv.1.f 7 7 25 (by decide) ha3) (hbnd_i (hjo_i (hcnd_t F.1 (hgI_e (hv.1.f 7 6 27 (by decide) ha3) (hcnd_t F.2 (hrt_i (hpI_i (hgI_e (x := 2) up3_s (hrt_i (hrt_i (X := X) (hP _ 38000 (T + 1) (Nat.le_refl _) (CCh.ast hv a 2))))))))))))
  · refine OpA.ok (r := M3 25 a) (m1 := M3) (hq _ ?_) mI z82 fun P X hP => c0 P X (hco _ _ fun v' hv => ?_)
    · rw [qa_e rfl (by omega) (by decide)]
      by_cases q1 : M3 25 a = 0
      · rw [qc_t q1, qa_e rfl (by omega) (by decide), qc_f (fun t => F ⟨q1, t⟩), qa_e rfl (by omega) (by decide)]
        rfl
      · rw [qc_f q1, qa_e rfl (by omega) (by decide)]
        rfl
    · have f7 : vM v' 7 a 7 = M3 25 a := hv.1.f 7 7 25 (by decide) ha3
      have fin : (hpI 7 a 7 (M3 25 a) <| hgI 7 a 7 fun v12 => (hrt v12 : PV Int32)) (fun r v'' => (hrt r : PV Int32) (fun r v' => (hbJ z r.toInt64 <| hrt (0 : Int32)) P X v') (fun E v' => (hhsel [("java/lang/IndexOutOfBoundsException", hrt (1 : Int32)), ("java/lang/IllegalArgumentException", hrt (2 : Int32)), ("java/lang/IllegalStateException", hrt (3 : Int32))] E : PV Int32) P X v') v'') (fun _ _ => False) v' := by
        have t := CCh.ast hv a (M3 25 a)
        rw [up2_eta] at t
        exact hpI_i (hgI_e (x := M3 25 a) up3_s (hrt_i (hrt_i (X := X) (hP _ 38000 (T + 1) (Nat.le_refl _) t))))
      refine hgI_e f7 (hbnd_i (hjo_i (hcnd_i (fun q1 => hgI_e (hv.1.f 7 6 27 (by decide) ha3) (hcnd_f (fun t => F ⟨q1, t⟩) (hgI_e f7 (hrt_i ?_)))) fun q1 => hgI_e f7 (hrt_i ?_))))
      · exact fin
      · exact fin
