/-! ===== operations (8): foreign ===== -/
theorem CRh.nw32 {U : (Nat → List Nat) → Prop} {nL : Nat} {v : Vw} {m : Mst} {b T : Nat} (h : CRh U nL v m (b + 4) (T))   : CRh U nL (uK v 32 3) (m) (b) (T) := by
  obtain ⟨hF, hSt, hPe, hSe, hLn, hCt, hL3, hL4, hL5, hL6, hL7, hL8, hAr, hDv, hTo, hPu, hCa, hAu, hPp, hOw, hWr, hUn, hFl, hAt, hSa, hSs, hOs, hR70, hR81, hR82, hR90, hR95, hRt, hRr, hRa, hT7, hT8, hT10, hT12, hN8, hN10, hFa, hTu, hBu, hLa⟩ := h
  have h79 : 79 ≤ vK v 32 := hCt.2.2.2.2.2.2.2.2.2.2.2
  refine ⟨(hF.bR (K := 32) (i := vK v 32) (show cn m 32 ≤ vK v 32 from Nat.zero_le _) (fun _ => 0)), (by first | exact hSt | (simp (config := { decide := true }) only [vM_uMk, vN_uNk]; exact hSt)), (by first | exact hPe | (simp (config := { decide := true }) only [vM_uMk, vN_uNk]; exact hPe)), (by first | exact hSe | (simp (config := { decide := true }) only [vM_uMk, vN_uNk]; exact hSe)), (hLn.cg (by show up2 (vL v) 32 (vK v 32) 3 36 = vL v 36; exact up2_o (by decide)) (by show up2 (vL v) 32 (vK v 32) 3 37 = vL v 37; exact up2_o (by decide)) (fun z hz => by show up2 (vL v) 32 (vK v 32) 3 32 z = vL v 32 z; exact up2_n (fun s => by omega))), ?_, (by first | exact hL3 | (simp (config := { decide := true }) only [vM_uMk, vN_uNk]; exact hL3)), (by first | exact hL4 | (simp (config := { decide := true }) only [vM_uMk, vN_uNk]; exact hL4)), (by first | exact hL5 | (simp (config := { decide := true }) only [vM_uMk, vN_uNk]; exact hL5)), (by first | exact hL6 | (simp (config := { decide := true }) only [vM_uMk, vN_uNk]; exact hL6)), (by first | exact hL7 | (simp (config := { decide := true }) only [vM_uMk, vN_uNk]; exact hL7)), (by first | exact hL8 | (simp (config := { decide := true }) only [vM_uMk, vN_uNk]; exact hL8)), (hAr.cg (fun z hz => by show row3 (vM v) 32 (vK v 32) (fun _ => 0) 32 z = vM v 32 z; exact row3_n (fun s => by omega))), (by first | exact hDv | (simp (config := { decide := true }) only [vM_uMk, vN_uNk]; exact hDv)), (by first | exact hTo | (simp (config := { decide := true }) only [vM_uMk, vN_uNk]; exact hTo)), (by first | exact hPu | (simp (config := { decide := true }) only [vM_uMk, vN_uNk]; exact hPu)), (by first | exact hCa | (simp (config := { decide := true }) only [vM_uMk, vN_uNk]; exact hCa)), (by first | exact hAu | (simp (config := { decide := true }) only [vM_uMk, vN_uNk]; exact hAu)), (by first | exact hPp | (simp (config := { decide := true }) only [vM_uMk, vN_uNk]; exact hPp)), (by first | exact hOw | (simp (config := { decide := true }) only [vM_uMk, vN_uNk]; exact hOw)), (by first | exact hWr | (simp (config := { decide := true }) only [vM_uMk, vN_uNk]; exact hWr)), (by first | exact hUn | (simp (config := { decide := true }) only [vM_uMk, vN_uNk]; exact hUn)), (by first | exact hFl | (simp (config := { decide := true }) only [vM_uMk, vN_uNk]; exact hFl)), (by first | exact hAt | (simp (config := { decide := true }) only [vM_uMk, vN_uNk]; exact hAt)), (hSa.cg (by show vK v 32 ≤ up1 (vK v) 32 (vK v 32 + 1) 32; rw [up1_s]; omega) (fun i hi => rfl) (fun i hi => rfl) (fun z hz => by show row3 (vM v) 32 (vK v 32) (fun _ => 0) 32 z = vM v 32 z; exact row3_n (fun s => by omega)) (fun z hz => by show up2 (vL v) 32 (vK v 32) 3 32 z = vL v 32 z; exact up2_n (fun s => by omega))), (hSs.cg (by show vK v 32 ≤ up1 (vK v) 32 (vK v 32 + 1) 32; rw [up1_s]; omega) (fun i hi => rfl) (fun i hi => rfl) (fun z hz => by show row3 (vM v) 32 (vK v 32) (fun _ => 0) 32 z = vM v 32 z; exact row3_n (fun s => by omega)) (fun z hz => by show up2 (vL v) 32 (vK v 32) 3 32 z = vL v 32 z; exact up2_n (fun s => by omega))), (by first | exact hOs | (simp (config := { decide := true }) only [vM_uMk, vN_uNk]; exact hOs)), (by first | exact hR70 | (simp (config := { decide := true }) only [vM_uMk, vN_uNk]; exact hR70)), (by first | exact hR81 | (simp (config := { decide := true }) only [vM_uMk, vN_uNk]; exact hR81)), (by first | exact hR82 | (simp (config := { decide := true }) only [vM_uMk, vN_uNk]; exact hR82)), (by first | exact hR90 | (simp (config := { decide := true }) only [vM_uMk, vN_uNk]; exact hR90)), (by first | exact hR95 | (simp (config := { decide := true }) only [vM_uMk, vN_uNk]; exact hR95)), (by first | exact hRt | (simp (config := { decide := true }) only [vM_uMk, vN_uNk]; exact hRt)), (by first | exact hRr | (simp (config := { decide := true }) only [vM_uMk, vN_uNk]; exact hRr)), (by first | exact hRa | (simp (config := { decide := true }) only [vM_uMk, vN_uNk]; exact hRa)), (by first | exact hT7 | (simp (config := { decide := true }) only [vM_uMk, vN_uNk]; exact hT7)), (by first | exact hT8 | (simp (config := { decide := true }) only [vM_uMk, vN_uNk]; exact hT8)), (by first | exact hT10 | (simp (config := { decide := true }) only [vM_uMk, vN_uNk]; exact hT10)), (by first | exact hT12 | (simp (config := { decide := true }) only [vM_uMk, vN_uNk]; exact hT12)), (by first | exact hN8 | (simp (config := { decide := true }) only [vM_uMk, vN_uNk]; exact hN8)), (by first | exact hN10 | (simp (config := { decide := true }) only [vM_uMk, vN_uNk]; exact hN10)), (by first | exact hFa | (simp (config := { decide := true }) only [vM_uMk, vN_uNk]; exact hFa)), (by first | exact hTu | (simp (config := { decide := true }) only [vM_uMk, vN_uNk]; exact hTu)), (hBu.sp (d := 3 + 1) (Nat.le_refl _)), (by first | exact hLa | (simp (config := { decide := true }) only [vM_uMk, vN_uNk]; exact hLa))⟩
  · obtain ⟨c1, c2, c3, c4, c5, c6, c7, c8, c9, c10, c11, c12⟩ := hCt
    refine ⟨c1, c2, c3, c4, c5, c6, c7, c8, c9, c10, c11, ?_⟩
    show 79 ≤ up1 (vK v) 32 (vK v 32 + 1) 32
    rw [up1_s]; omega
theorem CC.ns {v' : Vw} {m m0 : Mst} {o : Nat × Int64} {b T : Nat} {p w a b' c n : Int32} (hv : CCh (fun W => gUn W (m 51) (m 69) (nn m 46) (m 57) (m 54) (nn m 52)) (nn m 19) v' (mW (mNS m p w a b' c) 0 n) m0 o b T) : CC v' (mW (mNS m p w a b' c) 0 n) m0 o b T := by
  have e : ∀ F, (F ≠ 30 ∧ F ≠ 31 ∧ F ≠ 32 ∧ F ≠ 33 ∧ F ≠ 34) → (F ≠ 35 ∧ F ≠ 36) → (F ≠ 77 ∧ F ≠ 78 ∧ F ≠ 79 ∧ F ≠ 80 ∧ F ≠ 81) → mW (mNS m p w a b' c) 0 n F = m F := fun F q1 q2 q3 => by rw [mW_o (by simpa only [ne_eq] using q3), mNS_o q1 q2]
  have en : ∀ F, (F ≠ 30 ∧ F ≠ 31 ∧ F ≠ 32 ∧ F ≠ 33 ∧ F ≠ 34) → (F ≠ 35 ∧ F ≠ 36) → (F ≠ 77 ∧ F ≠ 78 ∧ F ≠ 79 ∧ F ≠ 80 ∧ F ≠ 81) → nn (mW (mNS m p w a b' c) 0 n) F = nn m F := fun F q1 q2 q3 => by unfold nn; rw [e F q1 q2 q3]
  show CCh (fun W => gUn W (mW (mNS m p w a b' c) 0 n 51) (mW (mNS m p w a b' c) 0 n 69) (nn (mW (mNS m p w a b' c) 0 n) 46) (mW (mNS m p w a b' c) 0 n 57) (mW (mNS m p w a b' c) 0 n 54) (nn (mW (mNS m p w a b' c) 0 n) 52)) (nn (mW (mNS m p w a b' c) 0 n) 19) v' (mW (mNS m p w a b' c) 0 n) m0 o b T
  rw [e 51 (by decide) (by decide) (by decide), e 69 (by decide) (by decide) (by decide), e 57 (by decide) (by decide) (by decide), e 54 (by decide) (by decide) (by decide), en 46 (by decide) (by decide) (by decide), en 52 (by decide) (by decide) (by decide), en 19 (by decide) (by decide) (by decide)]
  exact hv
theorem KK.ans2 {v' : Vw} {m0 m1 : Mst} {x : Int64} {b d T z : Nat} (hv : CC v' m1 m0 (z + 1, x) (b + d) T) (e82 : m1 82 0 = 0) {r : Int32} {P : Int32 → Vw → Prop} {X : String → Vw → Prop} (hP : ∀ v'' y, KK v'' m1 m0 (z + 1, y) b (T + 1) → (m1 82 0 = 0 → y = r.toInt64) → P (m1 82 0) v'') : (hbJ z r.toInt64 <| hrt (0 : Int32)) P X v' := by
  refine hbJ_i (by rw [hv.2.2]) (hrt_i ?_)
  have := hP (uO v' z r.toInt64) _ ((KK.less ⟨hv, trivial⟩ (by omega) (by omega)).long z _) (fun _ => rfl)
  rw [e82] at this
  exact this
theorem op_foreign (a : Int32) : OpV (fun z => h_X0_foreign (idc 0 0) a z) (q_foreign a) := by
  intro v m T b z x h hI hT
  have hb := h.vb
  have l6 : (6 : Int32) = nI 6 := by decide +kernel
  have bad : ∀ e : Int32, e ≠ 0 → q_foreign a m = some (0, up2 m 82 0 e) → (∀ (P : Int32 → Vw → Prop) (X : String → Vw → Prop), P e (ub v 7) → h_X0_foreign (idc 0 0) a z P X v) → ∃ r m', q_foreign a m = some (r, m') ∧ Inv m' (T + 1) ∧ ∀ (P : Int32 → Vw → Prop) (X : String → Vw → Prop), (∀ v' y, KK v' m' m (z + 1, y) b (T + 1) → (m' 82 0 = 0 → y = r.toInt64) → P (m' 82 0) v') → h_X0_foreign (idc 0 0) a z P X v := fun e he q0 q1 => ⟨0, up2 m 82 0 e, q0, (hI.m82 e).up, fun P X hP => q1 P X (by
    have := hP (ub v 7) x (h.th e) (thX he)
    rw [up2_s] at this
    exact this)⟩
  have c1 : ∀ (P : Int32 → Vw → Prop) (X : String → Vw → Prop), h_X1_foreign 0 a (fun r v' => (hbJ z r.toInt64 <| hrt (0 : Int32)) P X v') (fun E v' => (hhsel [("java/lang/IndexOutOfBoundsException", hrt (1 : Int32)), ("java/lang/IllegalStateException", hrt (2 : Int32))] E : PV Int32) P X v') v → h_X0_foreign (idc 0 0) a z P X v := fun P X q => by
    unfold h_X0_foreign
    exact hisK_i (htry_i q)
  obtain ⟨d1, d2⟩ := hI.c30 hT
  rcases q_six_x a m with ⟨p, hp, rfl, e1⟩ | ⟨ha, e1⟩
  · have h76 : ixn (m 76 p) 6 := hI.2.2.2.2.2.2.2.2.2.2.2.2.2.2.2.2.2.2.2.2.2.2.1 p hp
    have e76 : vN v 36 1 p = rf 2 (m 76 p) := h.1.1.hRa p hp
    have l36 : p < vL v 36 1 := by rw [h.1.1.hLn.2.1]; exact hp
    -- the state in which it may be done
    obtain ⟨u, hu, eu⟩ : ∃ u : Int32, (¬ u = 0 ↔ ∃ j, j < 6 ∧ m 76 p = nI j ∧ m 7 j = 0) ∧ (qjo (σ := Unit) (fun _ => qrt (0 : Int32)) fun j12 => qc ((1 : Int32) = 0) (j12 ()) (qa 76 6 (nI p) fun v17 => qc (v17 = (-1 : Int32)) (j12 ()) (qa 76 6 (nI p) fun v23 => qa 7 6 v23 fun v26 => qc (v26 = 0) (qI 30 fun v28 => qc ((60 : Int32) ≤ v28) (j12 ()) (qrt (1 : Int32))) (j12 ())))) m = some (u, m) := by
      show ∃ u : Int32, _ ∧ qc ((1 : Int32) = 0) _ _ _ = _
      rw [qc_f one_ne, qa_e rfl hp (by decide)]
      rcases h76 with q | ⟨j, hj, q⟩
      · rw [qc_t q]
        exact ⟨0, ⟨fun r => absurd rfl r, fun ⟨j, j1, j2, _⟩ => absurd (j2.symm.trans q) (nI_nm (by omega))⟩, rfl⟩
      · rw [qc_f (by rw [q]; exact nI_nm (by omega)), qa_e rfl hp (by decide), qa_e q hj (by decide)]
        by_cases q2 : m 7 j = 0
        · rw [qc_t q2, qI_d, qc_f (by rw [d1, show (60 : Int32) = nI 60 from by decide +kernel]; exact nI_ge (by omega) (by decide))]
          exact ⟨1, ⟨fun _ => ⟨j, hj, q, q2⟩, fun _ => one_ne⟩, rfl⟩
        · rw [qc_f q2]
          refine ⟨0, ⟨fun r => absurd rfl r, fun ⟨i, i1, i2, i3⟩ => ?_⟩, rfl⟩
          have : i = j := (nI_eq (by omega) (by omega)).mp (i2.symm.trans q)
          rw [this] at i3
          exact absurd i3 q2
    have cu : ∀ (kk : Int32 → PV Int32) (P : Int32 → Vw → Prop) (X : String → Vw → Prop), (∀ w : Int32, (w = 0 ↔ u = 0) → kk w P X v) → (hbnd (ρ := Int32) (α := Int32) (hjo (σ := Unit) (fun _ => hrt (0 : Int32)) fun j12 => hcnd (rf 2 (m 76 p) = nul) (j12 ()) (hisK 2 (rf 2 (m 76 p)) fun i14 => hgI 2 i14 4 fun v16 => hcnd (v16 = 0) (hgR 0 0 4 fun v18 => hisK 13 v18 fun i19 => hbn0 (h_J2_size i19) (fun v21 => hcnd ((60 : Int32) ≤ v21) (j12 ()) (hrt (1 : Int32)))) (j12 ()))) kk) P X v := fun kk P X hk => by
      have k1 : (∃ j, j < 6 ∧ m 76 p = nI j ∧ m 7 j = 0) → kk 1 P X v := fun q => hk 1 ⟨fun r => absurd r one_ne, fun r => absurd r (hu.mpr q)⟩
      have k0 : ¬ (∃ j, j < 6 ∧ m 76 p = nI j ∧ m 7 j = 0) → kk 0 P X v := fun q => hk 0 ⟨fun _ => Classical.byContradiction fun r => q (hu.mp r), fun _ => rfl⟩
      rcases h76 with q | ⟨j, hj, q⟩
      · refine hbnd_i (hjo_i (hcnd_t (by rw [q, rf_m1]) (hrt_i (k0 fun ⟨j, j1, j2, _⟩ => absurd (j2.symm.trans q) (nI_nm (by omega))))))
      · have er : rf 2 (m 76 p) = idc 2 j := by rw [q, rf_ix (by omega)]
        rw [er]
        refine hbnd_i (hjo_i (hcnd_f (idc2_nul (by omega)) (hisK_i (hgI_e (h.1.1.f 2 4 7 (by decide) hj) (hcnd_i (fun q2 => hgR_e h.1.1.s4 (hisK_i (hbn0_i (J2sz (h.1.1.lt13 (by decide)) h.1.1.hL3.1 (hcnd_f ?_ (hrt_i (k1 ⟨j, hj, q, q2⟩))))))) fun q2 => hrt_i (k0 fun ⟨i, i1, i2, i3⟩ => ?_))))))
        · rw [show (60 : Int32) = nI 60 from by decide +kernel]; exact nI_ge (by omega) (by decide)
        · have : i = j := (nI_eq (by omega) (by omega)).mp (i2.symm.trans q)
          rw [this] at i3
          exact absurd i3 q2
    by_cases hz : u = 0
    · refine bad 2 (by decide) ?_ fun P X hP => c1 P X ?_
      · unfold q_foreign
        rw [qbd_e e1, qbd_e eu, hz, qbd_e (q_both_2 one_ne)]; rfl
      · unfold h_X1_foreign
        refine hbnd_i (c_there_t (nI_pos (by omega)) (by rw [l6]; exact nI_lt hp (by decide)) (hgR_e h.1.1.s11 (hisK_i (haR_e rfl l36 (by omega) e76 (cu _ _ _ fun w hw => hbnd_i ?_)))))
        rw [hw.mpr hz]
        exact c_can_f (by omega) (hx_s (by decide) (hx_1 (hrt_i hP)))
    · obtain ⟨j, hj, q, q2⟩ := hu.mp hz
      have h1 := h.m82 0
      have hI1 := hI.m82 0
      have g76 : up2 m 82 0 0 76 p = m 76 p := rfl
      have g82 : up2 m 82 0 0 82 0 = 0 := up2_s
      have eb : q_mayBoth 1 u m = some (1, up2 m 82 0 0) := q_both_0 one_ne hz
      generalize hm1 : up2 m 82 0 0 = m1 at h1 hI1 g76 g82 eb
      obtain ⟨d3, d4⟩ := hI1.c30 hT
      refine ⟨nI (nn m1 30), mW (mNS m1 (m 76 p) (-1) (-1) (-1) (-1)) 0 (nI (nn m1 30)), ?_, hI1.ns hT (by rw [q]; exact ⟨j, hj, rfl⟩) (Or.inl rfl), fun P X hP => c1 P X ?_⟩
      · unfold q_foreign
        rw [qbd_e e1, qbd_e eu, qbd_e eb, qc_f one_ne, qa_e rfl hp (by decide), g76, qbd_e (q_newSession_eq (hI1.w hT) d3 (by omega)), d3]
        rfl
      · unfold h_X1_foreign
        refine hbnd_i (c_there_t (nI_pos (by omega)) (by rw [l6]; exact nI_lt hp (by decide)) (hgR_e h.1.1.s11 (hisK_i (haR_e rfl l36 (by omega) e76 (cu _ _ _ fun w hw => hbnd_i (c_can_t (fun r => hz (hw.mp r)) ⟨⟨by decide, by decide, ?_⟩, ?_⟩))))))
        · show 3 + 1 ≤ vb v
          omega
        · have h79 : 79 ≤ vK v 32 := h.1.1.hCt.2.2.2.2.2.2.2.2.2.2.2
          have h2 : CC (uK v 32 3) m1 m (z + 1, x) (b + 39000) T := ⟨((h1.less (b' := b + 39000 + 4) (by omega) (Nat.le_refl _)).1.1).nw32, h1.1.2.1.oK (Or.inr ⟨rfl, h79⟩), h1.1.2.2⟩
          have h3 : CC (uK v 32 3) m1 m (z + 1, x) ((b + 38000) + 260 + 300 + 100) T := h2.less (by omega) (Nat.le_refl _)
          refine hbn0_i (c_begin (a := -1) (b' := -1) (c := -1) (w := -1) h3 (hI1.w hT) (by omega) rfl rf_m1.symm (by decide) ?_ ⟨fun r => absurd rfl r, fun r => absurd rfl r, fun r => absurd rfl r⟩ fun v' hv => hrt_i ?_)
          · exact up2_s
          · refine KK.ans2 (d := 38000) (CC.ns hv) ?_ hP
            rw [mW_o (by decide), mNS_o (by decide) (by decide)]
            exact g82
  · refine bad 1 (by decide) ?_ fun P X hP => c1 P X ?_
    · unfold q_foreign
      rw [qbd_e e1]
      rfl
    · unfold h_X1_foreign
      exact hbnd_i (c_there_f (by rw [l6]; exact ha) (by omega) (hx_1 (hrt_i hP)))
