/-! ===== operations (14): emergency ===== -/
theorem Inv.emer {m : Mst} {T K s w : Nat} (h : Inv m T) (hT : T < 24) (k1 : m 60 0 = nI K) (k2 : m 61 0 = nI s) (hK' : Nat) (hKK : K ≤ hK') (hK20 : hK' ≤ 20) (hw : w < hK') (hws : w ≠ s) (h65 : m 65 w = -1) (h64 : m 64 w = 0) (hs : s < K) : Inv (mW (up2 (up2 (up2 (up2 m 64 s 1) 60 0 (nI hK')) 61 0 (nI w)) 62 0 (-1)) 5 (nI w)) (T + 1) := by
  have i3' := h.2.2.1
  obtain ⟨K0, s0, j1, j2, j3, j4, j5, j6, j7, j8, j9⟩ : iKe (m 0 0) (m 60 0) (m 61 0) (m 62 0) (m 63 0) (m 64) (m 65) := h.2.2.2.2.2.2.2.2.2.2.2.2.2.1
  have eK : K0 = K := (nI_eq (by omega) (by omega)).mp (j1.symm.trans k1)
  have es : s0 = s := (nI_eq (by omega) (by omega)).mp (j2.symm.trans k2)
  subst eK; subst es
  have hA : Inv (up2 (up2 (up2 (up2 m 64 s0 1) 60 0 (nI hK')) 61 0 (nI w)) 62 0 (-1)) (T + 1) := by
    obtain ⟨i1, i2, i3, b5, b6, b7, b8, b35, b51, b64, b66, b69, b73, iK, iA, iS, iC, iFm, iz, iT, iR, iRz, iL, iE, iV, iAz⟩ := h.up
    refine ⟨i1, i2, ?_, b5, b6, b7, b8, b35, b51, ?_, b66, b69, b73, ?_, iA, iS, iC, iFm, iz, ?_, iR, iRz, iL, iE, iV, iAz⟩
    · show nn m 77 + (cnt (m 35) (nn m 30) + cnt (m 51) (nn m 46) + (if (-1 : Int32) = -1 then 0 else 1)) ≤ 4 * (T + 1)
      unfold pt at i3'
      rw [if_pos rfl]
      omega
    · show iBo (up2 m 64 s0 1 64)
      rw [up2_r]
      exact b64.up s0 (Or.inr rfl)
    · show iKe (m 0 0) (nI hK') (nI w) (-1) (m 63 0) (up2 m 64 s0 1 64) (m 65)
      rw [up2_r]
      refine ⟨hK', w, rfl, rfl, hw, hK20, h65, by rw [up1_n hws]; exact h64, j7, fun k hk hk2 => ?_, Or.inl rfl⟩
      obtain ⟨r1, r2⟩ := j8 k (by omega) hk2
      exact ⟨r1, by rw [up1_n (by omega)]; exact r2⟩
    · intro t ht
      obtain ⟨a1, a2, a3, a4, a5⟩ := iT t ht
      refine ⟨a1, a2, a3, ?_, a5⟩
      show ix (m 58 t) (nI hK').toNatClampNeg
      rw [k1, nI_clamp (by omega)] at a4
      rw [nI_clamp (by omega)]
      exact a4.mono (by omega)
  refine hA.wr (by omega) ⟨5, by decide, by decide +kernel⟩ ⟨w, by omega, rfl⟩ ?_
  show nn m 77 + 1 + (cnt (m 35) (nn m 30) + cnt (m 51) (nn m 46) + (if (-1 : Int32) = -1 then 0 else 1)) ≤ 4 * (T + 1)
  unfold pt at i3'
  rw [if_pos rfl]
  omega
/-- the court signs with a key, then nothing waits -/
theorem c_sign {v : Vw} {m m0 : Mst} {o : Nat × Int64} {b T w : Nat} (h : CC v m m0 o (b + 260) T) (hw : wOK m) (hn : w ≤ 65535) {P : Int32 → Vw → Prop} {X : String → Vw → Prop} (hP : ∀ v', CC v' (mW (up2 (up2 m 61 0 (nI w)) 62 0 (-1)) 5 (nI w)) m0 o b T → P (nI w) v') : (hbn0 (h_X1_sign 0 (nI w)) (fun _ => hpI 0 0 21 (-1 : Int32) <| hgI 0 0 20 fun v12 => hrt (ρ := Int32) v12)) P X v := by
  refine hbn0_i ?_
  unfold h_X1_sign
  have h3 : CC (uM v 0 0 20 (nI w)) (up2 m 61 0 (nI w)) m0 o (b + 260) T := ⟨h.1.signing _, h.2.1.oM rfl, h.2.2⟩
  refine hpI_i (hbn0_i (c_write (k := (5 : Int32)) (n := nI w) h3 (hw.o (by decide)) ⟨5, by decide, by decide +kernel⟩ ⟨w, hn, rfl⟩ fun v4 h4 => hrt_i ?_))
  have h5 : CC v4 (mW (up2 m 61 0 (nI w)) 5 (nI w)) m0 o b T := h4
  have h6 : CC (uM v4 0 0 21 (-1)) (up2 (mW (up2 m 61 0 (nI w)) 5 (nI w)) 62 0 (-1)) m0 o b T := ⟨h5.1.unwait, h5.2.1.oM rfl, h5.2.2⟩
  rw [← mW_cm (by decide) (by decide)] at h6
  exact hpI_i (hgI_e (x := nI w) ((vM_uMk (by decide)).trans h5.1.g20) (hrt_i (hP _ h6)))
theorem op_emergency : OpV (fun z => h_X0_emergency (idc 0 0) z) q_emergency := by
  intro v m T b z x h hI hT
  show OpA (fun z => h_X0_emergency (idc 0 0) z) q_emergency v m T b z x
  have hb := h.vb
  have l20 : (20 : Int32) = nI 20 := by decide +kernel
  obtain ⟨K, s, k1, k2, k3, k4, k5, k6, k7, k8, k9⟩ : iKe (m 0 0) (m 60 0) (m 61 0) (m 62 0) (m 63 0) (m 64) (m 65) := hI.2.2.2.2.2.2.2.2.2.2.2.2.2.1
  have f21 : vM v 0 0 21 = m 62 0 := h.1.1.g21
  have f19 : vM v 0 0 19 = m 60 0 := h.1.1.g19
  have f20 : vM v 0 0 20 = m 61 0 := h.1.1.g20
  have h14 := h.1.1.hCt.2.2.2.2.2.2.2.2.2.1
  obtain ⟨u, hub, hu, eu⟩ : ∃ u : Int32, (u = 0 ∨ u = 1) ∧ (¬ u = 0 ↔ (m 62 0 ≠ -1 ∨ K < 20)) ∧ (qjo (σ := Unit) (fun _ => qrt (1 : Int32)) fun j20 => qc (m 62 0 = (-1 : Int32)) (qI 60 fun v22 => qc ((20 : Int32) ≤ v22) (qrt (0 : Int32)) (j20 ())) (j20 ())) m = some (u, m) := by
    show ∃ u : Int32, _ ∧ _ ∧ qc (m 62 0 = (-1 : Int32)) _ _ _ = _
    by_cases q1 : m 62 0 = -1
    · rw [qc_t q1, qI_d, k1, l20]
      by_cases q2 : K < 20
      · rw [qc_f (nI_ge q2 (by decide))]; exact ⟨1, Or.inr rfl, ⟨fun _ => Or.inr q2, fun _ => one_ne⟩, rfl⟩
      · rw [qc_t (nI_le (by omega) (by omega))]; exact ⟨0, Or.inl rfl, ⟨fun r => absurd rfl r, fun r => (r.elim (fun r => r q1) q2).elim⟩, rfl⟩
    · rw [qc_f q1]; exact ⟨1, Or.inr rfl, ⟨fun _ => Or.inl q1, fun _ => one_ne⟩, rfl⟩
  have cu : ∀ (kk : Int32 → PV Int32) (P : Int32 → Vw → Prop) (X : String → Vw → Prop), (∀ w : Int32, (w = 0 ↔ u = 0) → kk w P X v) → (hbnd (ρ := Int32) (α := Int32) (hjo (σ := Unit) (fun _ => hrt (1 : Int32)) fun j19 => hcnd (m 62 0 = (-1 : Int32)) (hgI 0 0 19 fun v21 => hcnd ((20 : Int32) ≤ v21) (hrt (0 : Int32)) (j19 ())) (j19 ())) kk) P X v := fun kk P X hk => by
    have k1' : (m 62 0 ≠ -1 ∨ K < 20) → kk 1 P X v := fun q => hk 1 ⟨fun r => absurd r one_ne, fun r => absurd r (hu.mpr q)⟩
    have k0 : ¬ (m 62 0 ≠ -1 ∨ K < 20) → kk 0 P X v := fun q => hk 0 ⟨fun _ => Classical.byContradiction fun r => q (hu.mp r), fun _ => rfl⟩
    refine hbnd_i (hjo_i (hcnd_i (fun q1 => hgI_e (f19.trans k1) (hcnd_i (fun q2 => hrt_i (k0 fun r => ?_)) fun q2 => hrt_i (k1' (Or.inr ?_)))) fun q1 => hrt_i (k1' (Or.inl q1))))
    · rw [l20] at q2
      exact r.elim (fun r => r q1) fun r => nI_ge r (by decide) q2
    · exact Classical.byContradiction fun r => q2 (by rw [l20]; exact nI_le (by omega) (by omega))
  by_cases hz : u = 0
  · refine OpA.bad h hI 1 (by decide) ?_ fun P X hP => ?_
    · show qbd _ _ m = _
      rw [qbd_e eu, hz, qbd_e q_may_f]; rfl
    · show h_X0_emergency (idc 0 0) z P X v
      unfold h_X0_emergency
      refine hisK_i (htry_i ?_)
      unfold h_X1_emergency
      refine hgI_e f21 (cu _ _ _ fun w hw => hbnd_i ?_)
      rw [hw.mpr hz]
      exact c_can_f (by omega) (hx_1 (hrt_i hP))
  · have hu1 := hu.mp hz
    have hmay : q_may u m = some (1, up2 m 82 0 0) := by
      rw [(hub.resolve_left hz)]; exact q_may_t
    have h1 := h.m82 0
    have hI1 := hI.m82 0
    have g82 : up2 m 82 0 0 82 0 = 0 := up2_s
    have g60 : up2 m 82 0 0 60 0 = nI K := k1
    have g61 : up2 m 82 0 0 61 0 = nI s := k2
    have g62 : up2 m 82 0 0 62 0 = m 62 0 := rfl
    have g64 : up2 m 82 0 0 64 = m 64 := rfl
    have g65 : up2 m 82 0 0 65 = m 65 := rfl
    generalize hm1 : up2 m 82 0 0 = m1 at h1 hI1 g82 g60 g61 g62 g64 g65 hmay
    have hc1 : CC (uBs v 0 (up1 (vB v 0) s false) 0) (up2 m1 64 s 1) m (z + 1, x) (b + 40000) T := ⟨h1.1.1.clearKey s, h1.1.2.1, h1.1.2.2⟩
    have wk : wOK m1 := hI1.w hT
    by_cases q1 : m 62 0 = -1
    · have q2 : K < 20 := hu1.resolve_left fun r => r q1
      obtain ⟨r65, r64⟩ := k8 K (Nat.le_refl _) q2
      refine OpA.ok (r := nI K) (m1 := mW (up2 (up2 (up2 (up2 m1 64 s 1) 60 0 (nI (K + 1))) 61 0 (nI K)) 62 0 (-1)) 5 (nI K)) ?_ (hI1.emer hT g60 g61 (K + 1) (by omega) (by omega) (by omega) (by omega) (by rw [g65]; exact r65) (by rw [g64]; exact r64) k3) (by rw [mW_o (by decide), up2_o (by decide), up2_o (by decide), up2_o (by decide), up2_o (by decide)]; exact g82) fun P X hP => ?_
      · show qbd _ _ m = _
        rw [qbd_e eu, qbd_e hmay, qc_f one_ne, qI_d, qz_e g61 (by omega) (by decide) (Or.inr rfl), qI_d]
        have e : (qc (up2 m1 64 s 1 62 0 = (-1 : Int32)) (qI 60 fun v16 => qW 62 v16 <| qI 60 fun v17 => qW 60 (v17 + (1 : Int32)) <| qrt ()) (qrt ())) (up2 m1 64 s 1) = some ((), up2 (up2 (up2 m1 64 s 1) 62 0 (nI K)) 60 0 (nI (K + 1))) := by
          have e60 : up2 m1 64 s 1 60 0 = nI K := g60
          have e62 : up2 m1 64 s 1 62 0 = -1 := g62.trans q1
          rw [qc_t e62, qI_d, qW_d, qI_d, qW_d, e60, up2_o (a := 62) (x := 60) (by decide), e60, nI_1]
          rfl
        rw [qbd_e e, qI_d, qW_d, qW_d, qI_d]
        have e2 : up2 (up2 (up2 m1 64 s 1) 62 0 (nI K)) 60 0 (nI (K + 1)) 62 0 = nI K := by rw [up2_o (by decide), up2_s]
        rw [e2, up2_o (a := 62) (x := 61) (by decide), up2_s, up2_cm (F := 62) (F' := 60) (by decide), up2_cm (F := 62) (F' := 61) (by decide), up2_w, qbd_e (q_write_eq ((((wk.o (by decide)).o (by decide)).o (by decide)).o (by decide)))]
        rfl
      · show h_X0_emergency (idc 0 0) z P X v
        unfold h_X0_emergency
        refine hisK_i (htry_i ?_)
        unfold h_X1_emergency
        refine hgI_e f21 (cu _ _ _ fun y hy => hbnd_i (c_can_t (fun r => hz (hy.mp r)) (hgR_e h.1.1.s17 (hgI_e (f20.trans k2) (hisK_i (hbn0_i ⟨s, ⟨rfl, by omega, by omega⟩, ?_⟩))))))
        have h14' : 21 ≤ vK (uBs v 0 (up1 (vB v 0) s false) 0) 14 := h14
        generalize uBs v 0 (up1 (vB v 0) s false) 0 = v1 at hc1 h14' ⊢
        have hbv := hc1.1.bud
        have k60 : up2 m1 64 s 1 60 0 = nI K := g60
        refine hgI_e hc1.1.g21 (hbnd_i (hcnd_t (g62.trans q1) (hbn0_i ?_)))
        unfold h_X1_publishKey
        refine hgR_e hc1.1.s17 (hgI_e (hc1.1.g19.trans k60) (hisK_i (hbn0_i ⟨K, ⟨rfl, by omega, by omega, by omega⟩, ?_⟩)))
        refine hgI_e (hc1.1.g19.trans k60) (hpI_i ?_)
        rw [nI_1]
        have hc2 : CC (uM (uBs v1 0 (up1 (vB v1 0) K true) 3) 0 0 19 (nI (K + 1))) (up2 (up2 m1 64 s 1) 60 0 (nI (K + 1))) m (z + 1, x) (b + 39000 + 260) T := ⟨(hc1.1.less (b' := b + 39000 + 260 + 3) (by omega) (Nat.le_refl _)).keyOnly k60 q2 (by rw [up2_r, up1_n (by omega), g64]; exact r64) (by rw [up2_o (by decide), g65]; exact r65), MR.oM hc1.2.1 rfl, hc1.2.2⟩
        generalize uM (uBs v1 0 (up1 (vB v1 0) K true) 3) 0 0 19 (nI (K + 1)) = v2 at hc2 ⊢
        refine hgI_e (x := nI (K + 1)) hc2.1.g19 (hrt_i (hrt_i ?_))
        rw [nI_pred]
        exact c_sign hc2 ((wk.o (by decide)).o (by decide)) (by omega) fun v' hv => hP v' 39000 T (by omega) hv
    · rcases k9 with r | ⟨w, w1, w2, w3, w4, w5, -⟩
      · exact absurd r q1
      · have e60 : up2 (up2 m1 64 s 1) 60 0 (nI K) = up2 m1 64 s 1 := by
          rw [show nI K = up2 m1 64 s 1 60 0 from g60.symm]; exact up2_e
        have hE := hI1.emer (w := w) hT g60 g61 K (by omega) (by omega) w2 w3 (by rw [g65]; exact w4) (by rw [g64]; exact w5) k3
        rw [e60] at hE
        refine OpA.ok (r := nI w) (m1 := mW (up2 (up2 (up2 m1 64 s 1) 61 0 (nI w)) 62 0 (-1)) 5 (nI w)) ?_ hE (by rw [mW_o (by decide), up2_o (by decide), up2_o (by decide), up2_o (by decide)]; exact g82) fun P X hP => ?_
        · show qbd _ _ m = _
          rw [qbd_e eu, qbd_e hmay, qc_f one_ne, qI_d, qz_e g61 (by omega) (by decide) (Or.inr rfl), qI_d]
          have e : (qc (up2 m1 64 s 1 62 0 = (-1 : Int32)) (qI 60 fun v16 => qW 62 v16 <| qI 60 fun v17 => qW 60 (v17 + (1 : Int32)) <| qrt ()) (qrt ())) (up2 m1 64 s 1) = some ((), up2 m1 64 s 1) := by
            rw [qc_f (show ¬ up2 m1 64 s 1 62 0 = -1 from fun r => q1 (g62.symm.trans r))]
            rfl
          have e2 : up2 m1 64 s 1 62 0 = nI w := g62.trans w1
          rw [qbd_e e, qI_d, qW_d, qW_d, qI_d, e2, up2_o (a := 62) (x := 61) (by decide), up2_s, qbd_e (q_write_eq (((wk.o (by decide)).o (by decide)).o (by decide)))]
          rfl
        · show h_X0_emergency (idc 0 0) z P X v
          unfold h_X0_emergency
          refine hisK_i (htry_i ?_)
          unfold h_X1_emergency
          refine hgI_e f21 (cu _ _ _ fun y hy => hbnd_i (c_can_t (fun r => hz (hy.mp r)) (hgR_e h.1.1.s17 (hgI_e (f20.trans k2) (hisK_i (hbn0_i ⟨s, ⟨rfl, by omega, by omega⟩, ?_⟩))))))
          generalize uBs v 0 (up1 (vB v 0) s false) 0 = v1 at hc1 ⊢
          have e62 : up2 m1 64 s 1 62 0 = nI w := g62.trans w1
          refine hgI_e (hc1.1.g21.trans e62) (hbnd_i (hcnd_f (nI_nm (by omega)) (hgI_e (hc1.1.g21.trans e62) (hrt_i ?_))))
          exact c_sign (hc1.less (b' := b + 39000 + 260) (by omega) (Nat.le_refl _)) (wk.o (by decide)) (by omega) fun v' hv => hP v' 39000 T (by omega) hv
