/-! ===== operations (7): link ===== -/
theorem CRh.account {U : (Nat → List Nat) → Prop} {nL : Nat} {v : Vw} {m : Mst} {b T : Nat} (h : CRh U nL v m (b) (T)) (a : Nat) (x : Int32)  : CRh U nL (uN v 36 1 a (rf 2 x)) (up2 m 76 a x) (b) (T) := by
  obtain ⟨hF, hSt, hPe, hSe, hLn, hCt, hL3, hL4, hL5, hL6, hL7, hL8, hAr, hDv, hTo, hPu, hCa, hAu, hPp, hOw, hWr, hUn, hFl, hAt, hSa, hSs, hOs, hR70, hR81, hR82, hR90, hR95, hRt, hRr, hRa, hT7, hT8, hT10, hT12, hN8, hN10, hFa, hTu, hBu, hLa⟩ := h
  refine ⟨(hF.om (F := 76) rfl a x), (by first | exact hSt | (simp (config := { decide := true }) only [vM_uMk, vN_uNk]; exact hSt)), (by first | exact hPe | (simp (config := { decide := true }) only [vM_uMk, vN_uNk]; exact hPe)), (by first | exact hSe | (simp (config := { decide := true }) only [vM_uMk, vN_uNk]; exact hSe)), (by first | exact hLn | (simp (config := { decide := true }) only [vM_uMk, vN_uNk]; exact hLn)), (by first | exact hCt | (simp (config := { decide := true }) only [vM_uMk, vN_uNk]; exact hCt)), (by first | exact hL3 | (simp (config := { decide := true }) only [vM_uMk, vN_uNk]; exact hL3)), (by first | exact hL4 | (simp (config := { decide := true }) only [vM_uMk, vN_uNk]; exact hL4)), (by first | exact hL5 | (simp (config := { decide := true }) only [vM_uMk, vN_uNk]; exact hL5)), (by first | exact hL6 | (simp (config := { decide := true }) only [vM_uMk, vN_uNk]; exact hL6)), (by first | exact hL7 | (simp (config := { decide := true }) only [vM_uMk, vN_uNk]; exact hL7)), (by first | exact hL8 | (simp (config := { decide := true }) only [vM_uMk, vN_uNk]; exact hL8)), (by first | exact hAr | (simp (config := { decide := true }) only [vM_uMk, vN_uNk]; exact hAr)), (by first | exact hDv | (simp (config := { decide := true }) only [vM_uMk, vN_uNk]; exact hDv)), (by first | exact hTo | (simp (config := { decide := true }) only [vM_uMk, vN_uNk]; exact hTo)), (by first | exact hPu | (simp (config := { decide := true }) only [vM_uMk, vN_uNk]; exact hPu)), (by first | exact hCa | (simp (config := { decide := true }) only [vM_uMk, vN_uNk]; exact hCa)), (by first | exact hAu | (simp (config := { decide := true }) only [vM_uMk, vN_uNk]; exact hAu)), (by first | exact hPp | (simp (config := { decide := true }) only [vM_uMk, vN_uNk]; exact hPp)), (by first | exact hOw | (simp (config := { decide := true }) only [vM_uMk, vN_uNk]; exact hOw)), (by first | exact hWr | (simp (config := { decide := true }) only [vM_uMk, vN_uNk]; exact hWr)), (by first | exact hUn | (simp (config := { decide := true }) only [vM_uMk, vN_uNk]; exact hUn)), (by first | exact hFl | (simp (config := { decide := true }) only [vM_uMk, vN_uNk]; exact hFl)), (by first | exact hAt | (simp (config := { decide := true }) only [vM_uMk, vN_uNk]; exact hAt)), (by first | exact hSa | (simp (config := { decide := true }) only [vM_uMk, vN_uNk]; exact hSa)), (by first | exact hSs | (simp (config := { decide := true }) only [vM_uMk, vN_uNk]; exact hSs)), (by first | exact hOs | (simp (config := { decide := true }) only [vM_uMk, vN_uNk]; exact hOs)), (by first | exact hR70 | (simp (config := { decide := true }) only [vM_uMk, vN_uNk]; exact hR70)), (by first | exact hR81 | (simp (config := { decide := true }) only [vM_uMk, vN_uNk]; exact hR81)), (by first | exact hR82 | (simp (config := { decide := true }) only [vM_uMk, vN_uNk]; exact hR82)), (by first | exact hR90 | (simp (config := { decide := true }) only [vM_uMk, vN_uNk]; exact hR90)), (by first | exact hR95 | (simp (config := { decide := true }) only [vM_uMk, vN_uNk]; exact hR95)), (by first | exact hRt | (simp (config := { decide := true }) only [vM_uMk, vN_uNk]; exact hRt)), (by first | exact hRr | (simp (config := { decide := true }) only [vM_uMk, vN_uNk]; exact hRr)), ?_, (by first | exact hT7 | (simp (config := { decide := true }) only [vM_uMk, vN_uNk]; exact hT7)), (by first | exact hT8 | (simp (config := { decide := true }) only [vM_uMk, vN_uNk]; exact hT8)), (by first | exact hT10 | (simp (config := { decide := true }) only [vM_uMk, vN_uNk]; exact hT10)), (by first | exact hT12 | (simp (config := { decide := true }) only [vM_uMk, vN_uNk]; exact hT12)), (by first | exact hN8 | (simp (config := { decide := true }) only [vM_uMk, vN_uNk]; exact hN8)), (by first | exact hN10 | (simp (config := { decide := true }) only [vM_uMk, vN_uNk]; exact hN10)), (by first | exact hFa | (simp (config := { decide := true }) only [vM_uMk, vN_uNk]; exact hFa)), (by first | exact hTu | (simp (config := { decide := true }) only [vM_uMk, vN_uNk]; exact hTu)), (by first | exact hBu | (simp (config := { decide := true }) only [vM_uMk, vN_uNk]; exact hBu)), (by first | exact hLa | (simp (config := { decide := true }) only [vM_uMk, vN_uNk]; exact hLa))⟩
  · intro i hi
    show up3 (vN v) 36 1 a (rf 2 x) 36 1 i = rf 2 (up2 m 76 a x 76 i)
    by_cases q : i = a
    · subst q; rw [up3_s, up2_s]
    · rw [up3_x (fun s => q s.2.2), up2_n (fun s => q s.2)]; exact hRa i hi
theorem rf_m1 {K : Nat} : rf K (-1) = nul := by unfold rf; rw [if_pos rfl]
theorem nI_nm {k : Nat} (h : k < 2 ^ 31) : ¬ nI k = -1 := fun r => nI_pos h (by rw [r]; decide)
theorem idc2_nul {k : Nat} (h : k < 60) : ¬ idc 2 k = nul := by unfold idc nul; omega
theorem rf2_nul {x : Int32} (h : ixn x 6) : rf 2 x = nul ↔ x = -1 := by
  rcases h with rfl | ⟨k, hk, rfl⟩
  · exact ⟨fun _ => rfl, fun _ => rf_m1⟩
  · rw [rf_ix (by omega)]; exact ⟨fun q => absurd q (idc2_nul (by omega)), fun q => absurd q (nI_nm (by omega))⟩
theorem rf2_inj {x y : Int32} (h : ixn x 6) (h' : ixn y 6) : rf 2 x = rf 2 y ↔ x = y := by
  refine ⟨fun q => ?_, fun q => by rw [q]⟩
  rcases h with rfl | ⟨k, hk, rfl⟩
  · rw [rf_m1] at q
    exact ((rf2_nul h').mp q.symm).symm
  · rcases h' with rfl | ⟨j, hj, rfl⟩
    · rw [rf_m1] at q
      exact (rf2_nul (Or.inr ⟨k, hk, rfl⟩)).mp q
    · rw [rf_ix (by omega), rf_ix (by omega)] at q
      unfold idc at q
      rw [show k = j by omega]
theorem Inv.acc {m : Mst} {T a : Nat} {x : Int32} (h : Inv m T) (hx : ixn x 6) : Inv (up2 m 76 a x) T := by
  obtain ⟨i1, i2, i3, i4, i5, i6, i7, i8, i9, i10, i11, i12, i13, i14, i15, i16, i17, i18, i19, i20, i21, i22, i23, i24⟩ := h
  refine ⟨i1, i2, i3, i4, i5, i6, i7, i8, i9, i10, i11, i12, i13, i14, i15, i16, i17, i18, i19, i20, i21, i22, ?_, i24⟩
  intro i hi
  rw [up2_r]
  by_cases q : i = a
  · subst q; rw [up1_s]; exact hx
  · rw [up1_n q]; exact i23 i hi
theorem op_link (a c : Int32) : OpV (fun z => h_X0_link (idc 0 0) a c z) (q_link a c) := by
  intro v m T b z x h hI hT
  have hb := h.vb
  have l6 : (6 : Int32) = nI 6 := by decide +kernel
  have bad : ∀ e : Int32, e ≠ 0 → q_link a c m = some (0, up2 m 82 0 e) → (∀ (P : Int32 → Vw → Prop) (X : String → Vw → Prop), P e (ub v 7) → h_X0_link (idc 0 0) a c z P X v) → ∃ r m', q_link a c m = some (r, m') ∧ Inv m' (T + 1) ∧ ∀ (P : Int32 → Vw → Prop) (X : String → Vw → Prop), (∀ v' y, KK v' m' m (z + 1, y) b (T + 1) → (m' 82 0 = 0 → y = r.toInt64) → P (m' 82 0) v') → h_X0_link (idc 0 0) a c z P X v := fun e he q0 q1 => ⟨0, up2 m 82 0 e, q0, (hI.m82 e).up, fun P X hP => q1 P X (by
    have := hP (ub v 7) x (h.th e) (thX he)
    rw [up2_s] at this
    exact this)⟩
  have c1 : ∀ (P : Int32 → Vw → Prop) (X : String → Vw → Prop), h_X1_link 0 a c (fun r v' => (hbJ z r.toInt64 <| hrt (0 : Int32)) P X v') (fun E v' => (hhsel [("java/lang/IndexOutOfBoundsException", hrt (1 : Int32)), ("java/lang/IllegalStateException", hrt (2 : Int32))] E : PV Int32) P X v') v → h_X0_link (idc 0 0) a c z P X v := fun P X q => by
    unfold h_X0_link
    exact hisK_i (htry_i q)
  rcases q_six_x a m with ⟨p, hp, rfl, e1⟩ | ⟨ha, e1⟩
  · have th : ∀ (kk : Unit → PV Int32) (P : Int32 → Vw → Prop) (X : String → Vw → Prop), kk () P X v → (hbnd (ρ := Int32) (h_X1_there (nI p) (6 : Int32)) kk) P X v := fun kk P X hk => hbnd_i (c_there_t (nI_pos (by omega)) (by rw [l6]; exact nI_lt hp (by decide)) hk)
    rcases cons_x c with ⟨hc, hc1, hc2⟩ | hgood
    · refine bad 1 (by decide) ?_ fun P X hP => c1 P X ?_
      · unfold q_link
        rw [qbd_e e1, qbd_e (qJ_2 one_ne (q_isIn_f hc))]
        have e : ∀ g : PM Int32, (qjo (σ := Unit) (fun _ => qrt (0 : Int32)) fun j15 => qc ((0 : Int32) = 0) (j15 ()) g) m = some (0, m) := fun _ => rfl
        rfl
      · unfold h_X1_link
        exact th _ _ _ (hbnd_i (hcnd_f hc1 (hbnd_i (personAt_f hc2 (by omega) (hx_1 (hrt_i hP))))))
    · have hcx : ixn c 6 ∧ q_isIn c (-1) 5 m = some (1, m) ∧ ∀ (kk : Nat → PV Int32) (P : Int32 → Vw → Prop) (X : String → Vw → Prop), kk (rf 2 c) P X v → (hbnd (ρ := Int32) (α := Nat) (hcnd (c = (-1 : Int32)) (hrt nul) (hbnd (h_X1_personAt 0 c) (fun v25 => hrt v25))) kk) P X v := by
        rcases hgood with q | ⟨j, hj, ec, q1, q2, q3⟩
        · subst q
          refine ⟨Or.inl rfl, q_isIn_t (by decide) (by decide), fun kk P X hk => hbnd_i (hcnd_t rfl (hrt_i ?_))⟩
          rw [rf_m1] at hk
          exact hk
        · refine ⟨Or.inr ⟨j, hj, ec⟩, q_isIn_t q2 q3, fun kk P X hk => ?_⟩
          rw [ec, rf_ix (by omega)] at hk
          refine hbnd_i (hcnd_f q1 (hbnd_i ?_))
          rw [ec]
          exact c_personAt h.1 hj (hrt_i hk)
      obtain ⟨hc6, hin, hN⟩ := hcx
      have h76 : ixn (m 76 p) 6 := hI.2.2.2.2.2.2.2.2.2.2.2.2.2.2.2.2.2.2.2.2.2.2.1 p hp
      have e76 : vN v 36 1 p = rf 2 (m 76 p) := h.1.1.hRa p hp
      have l36 : p < vL v 36 1 := by rw [h.1.1.hLn.2.1]; exact hp
      obtain ⟨u, hu, eu⟩ : ∃ u : Int32, (¬ u = 0 ↔ (c = -1 ∨ m 76 p = -1 ∨ m 76 p = c)) ∧ (qjo (σ := Unit) (fun _ => qrt (0 : Int32)) fun j15 => qc ((1 : Int32) = 0) (j15 ()) (qc (c = (-1 : Int32)) (qrt (1 : Int32)) (qa 76 6 (nI p) fun v21 => qc (v21 = (-1 : Int32)) (qrt (1 : Int32)) (qa 76 6 (nI p) fun v26 => qc (v26 = c) (qrt (1 : Int32)) (j15 ()))))) m = some (u, m) := by
        show ∃ u : Int32, _ ∧ qc ((1 : Int32) = 0) _ _ _ = _
        rw [qc_f one_ne]
        by_cases q1 : c = -1
        · rw [qc_t q1]; exact ⟨1, ⟨fun _ => Or.inl q1, fun _ => one_ne⟩, rfl⟩
        · rw [qc_f q1, qa_e rfl hp (by decide)]
          by_cases q2 : m 76 p = -1
          · rw [qc_t q2]; exact ⟨1, ⟨fun _ => Or.inr (Or.inl q2), fun _ => one_ne⟩, rfl⟩
          · rw [qc_f q2, qa_e rfl hp (by decide)]
            by_cases q3 : m 76 p = c
            · rw [qc_t q3]; exact ⟨1, ⟨fun _ => Or.inr (Or.inr q3), fun _ => one_ne⟩, rfl⟩
            · rw [qc_f q3]; exact ⟨0, ⟨fun r => absurd rfl r, fun r => (r.elim q1 fun r => r.elim q2 q3).elim⟩, rfl⟩
      have cu : ∀ (kk : Int32 → PV Int32) (P : Int32 → Vw → Prop) (X : String → Vw → Prop), (∀ w : Int32, (w = 0 ↔ u = 0) → kk w P X v) → (hbnd (ρ := Int32) (α := Int32) (hjo (σ := Unit) (fun _ => hrt (1 : Int32)) fun j19 => hcnd (rf 2 c = nul) (j19 ()) (hcnd (rf 2 (m 76 p) = nul) (j19 ()) (hasr ((cmpN (rf 2 (m 76 p))) ∧ (cmpN (rf 2 c))) (hcnd (rf 2 (m 76 p) = rf 2 c) (j19 ()) (hrt (0 : Int32)))))) kk) P X v := fun kk P X hk => by
        have k1 : (c = -1 ∨ m 76 p = -1 ∨ m 76 p = c) → kk 1 P X v := fun q => hk 1 ⟨fun r => absurd r one_ne, fun r => absurd r (hu.mpr q)⟩
        have k0 : ¬ (c = -1 ∨ m 76 p = -1 ∨ m 76 p = c) → kk 0 P X v := fun q => hk 0 ⟨fun _ => Classical.byContradiction fun r => q (hu.mp r), fun _ => rfl⟩
        refine hbnd_i (hjo_i (hcnd_i (fun q1 => hrt_i (k1 (Or.inl ((rf2_nul hc6).mp q1)))) fun q1 => hcnd_i (fun q2 => hrt_i (k1 (Or.inr (Or.inl ((rf2_nul h76).mp q2))))) fun q2 => hasr_i ⟨cmp_rf (by decide), cmp_rf (by decide)⟩ (hcnd_i (fun q3 => hrt_i (k1 (Or.inr (Or.inr ((rf2_inj h76 hc6).mp q3))))) fun q3 => hrt_i (k0 fun r => ?_))))
        exact r.elim (fun r => q1 ((rf2_nul hc6).mpr r)) fun r => r.elim (fun r => q2 ((rf2_nul h76).mpr r)) fun r => q3 ((rf2_inj h76 hc6).mpr r)
      by_cases hz : u = 0
      · refine bad 2 (by decide) ?_ fun P X hP => c1 P X ?_
        · unfold q_link
          rw [qbd_e e1, qbd_e (qJ_1 one_ne hin), qbd_e eu, hz, qbd_e (q_both_2 one_ne)]; rfl
        · unfold h_X1_link
          refine th _ _ _ (hN _ _ _ (hgR_e h.1.1.s11 (hisK_i (haR_e rfl l36 (by omega) e76 (cu _ _ _ fun w hw => hbnd_i ?_)))))
          rw [hw.mpr hz]
          exact c_can_f (by omega) (hx_s (by decide) (hx_1 (hrt_i hP)))
      · refine ⟨m 76 p, up2 (up2 m 82 0 0) 76 p c, ?_, ((hI.m82 0).acc hc6).up, fun P X hP => c1 P X ?_⟩
        · unfold q_link
          rw [qbd_e e1, qbd_e (qJ_1 one_ne hin), qbd_e eu, qbd_e (q_both_0 one_ne hz), qc_f one_ne, qa_e rfl hp (by decide), qw_e rfl hp (by decide)]
          rfl
        · unfold h_X1_link
          refine th _ _ _ (hN _ _ _ (hgR_e h.1.1.s11 (hisK_i (haR_e rfl l36 (by omega) e76 (cu _ _ _ fun w hw => hbnd_i (c_can_t (fun r => hz (hw.mp r)) (hgR_e h.1.1.s11 (hisK_i (hasr_i ?_ (hbR_e rfl l36 (by omega) ?_))))))))))
          · rcases hc6 with r | ⟨j, hj, r⟩
            · left; rw [r, rf_m1]
            · right; rw [r, rf_ix (by omega)]; exact idc_mod (by decide)
          · have fin : ∀ r : Int32, r = m 76 p → (hbJ z r.toInt64 <| hrt (0 : Int32)) P X (uN v 36 1 p (rf 2 c)) := fun r er => by
              rw [er]
              exact KK.ans (m := m) (o := (0, 0)) (m1 := up2 (up2 m 82 0 0) 76 p c) ⟨(h.1.1.m82 0).account p c, h.1.2.1.oN (by decide), h.1.2.2⟩ rfl hP
            rcases h76 with r | ⟨j, hj, r⟩
            · rw [r, rf_m1]
              exact hcnd_t rfl (hrt_i (fin _ r.symm))
            · rw [r, rf_ix (by omega)]
              exact hcnd_f (idc2_nul (by omega)) (hisK_i (hgI_e (x := nI j) ((h.1.1.hPe j hj).2.2.2.2.2.2.2.2) (hrt_i (fin _ r.symm))))
  · refine bad 1 (by decide) ?_ fun P X hP => c1 P X ?_
    · unfold q_link
      rw [qbd_e e1, qbd_e qJ_0]
      rfl
    · unfold h_X1_link
      exact hbnd_i (c_there_f (by rw [l6]; exact ha) (by omega) (hx_1 (hrt_i hP)))
