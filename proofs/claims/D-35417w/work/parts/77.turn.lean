/-! ===== operations (12): turn ===== -/
theorem op_turn : OpV (fun z => h_X0_turn (idc 0 0) z) q_turn := by
  intro v m T b z x h hI hT
  have hb := h.vb
  have l20 : (20 : Int32) = nI 20 := by decide +kernel
  obtain ⟨K, s, k1, k2, k3, k4, k5, k6, k7, k8, k9⟩ : iKe (m 0 0) (m 60 0) (m 61 0) (m 62 0) (m 63 0) (m 64) (m 65) := hI.2.2.2.2.2.2.2.2.2.2.2.2.2.1
  have f21 : vM v 0 0 21 = m 62 0 := h.1.1.f 0 21 62 (by decide) (by show 0 < 1; decide)
  have f19 : vM v 0 0 19 = m 60 0 := h.1.1.f 0 19 60 (by decide) (by show 0 < 1; decide)
  have f16 : vM v 0 0 16 = m 0 0 := h.1.1.f 0 16 0 (by decide) (by show 0 < 1; decide)
  obtain ⟨u, hub, hu, eu⟩ : ∃ u : Int32, (u = 0 ∨ u = 1) ∧ (¬ u = 0 ↔ (m 62 0 = -1 ∧ K < 20)) ∧ (qjo (σ := Unit) (fun _ => qrt (0 : Int32)) fun j11 => qc (m 62 0 = (-1 : Int32)) (qI 60 fun v13 => qc ((20 : Int32) ≤ v13) (j11 ()) (qrt (1 : Int32))) (j11 ())) m = some (u, m) := by
    show ∃ u : Int32, _ ∧ _ ∧ qc (m 62 0 = (-1 : Int32)) _ _ _ = _
    by_cases q1 : m 62 0 = -1
    · rw [qc_t q1, qI_d, k1, l20]
      by_cases q2 : K < 20
      · rw [qc_f (nI_ge q2 (by decide))]; exact ⟨1, Or.inr rfl, ⟨fun _ => ⟨q1, q2⟩, fun _ => one_ne⟩, rfl⟩
      · rw [qc_t (nI_le (by omega) (by omega))]; exact ⟨0, Or.inl rfl, ⟨fun r => absurd rfl r, fun r => absurd r.2 q2⟩, rfl⟩
    · rw [qc_f q1]; exact ⟨0, Or.inl rfl, ⟨fun r => absurd rfl r, fun r => absurd r.1 q1⟩, rfl⟩
  have cu : ∀ (kk : Int32 → PV Int32) (P : Int32 → Vw → Prop) (X : String → Vw → Prop), (∀ w : Int32, (w = 0 ↔ u = 0) → kk w P X v) → (hbnd (ρ := Int32) (α := Int32) (hjo (σ := Unit) (fun _ => hrt (0 : Int32)) fun j9 => hcnd (m 62 0 = (-1 : Int32)) (hgI 0 0 19 fun v11 => hcnd ((20 : Int32) ≤ v11) (j9 ()) (hrt (1 : Int32))) (j9 ())) kk) P X v := fun kk P X hk => by
    have k1' : (m 62 0 = -1 ∧ K < 20) → kk 1 P X v := fun q => hk 1 ⟨fun r => absurd r one_ne, fun r => absurd r (hu.mpr q)⟩
    have k0 : ¬ (m 62 0 = -1 ∧ K < 20) → kk 0 P X v := fun q => hk 0 ⟨fun _ => Classical.byContradiction fun r => q (hu.mp r), fun _ => rfl⟩
    refine hbnd_i (hjo_i (hcnd_i (fun q1 => hgI_e (f19.trans k1) (hcnd_i (fun q2 => hrt_i (k0 fun r => ?_)) fun q2 => hrt_i (k1' ⟨q1, ?_⟩))) fun q1 => hrt_i (k0 fun r => q1 r.1)))
    · rw [l20] at q2; exact nI_ge r.2 (by decide) q2
    · exact Classical.byContradiction fun r => q2 (by rw [l20]; exact nI_le (by omega) (by omega))
  by_cases hz : u = 0
  · refine ⟨0, up2 m 82 0 1, ?_, (hI.m82 1).up, fun P X hP => ?_⟩
    · show qbd _ _ m = _
      rw [qbd_e eu, hz, qbd_e q_may_f]; rfl
    · unfold h_X0_turn
      refine hisK_i (htry_i ?_)
      unfold h_X1_turn
      refine hgI_e f21 (cu _ _ _ fun w hw => hbnd_i ?_)
      rw [hw.mpr hz]
      exact c_can_f (by omega) (hx_1 (hrt_i (hP (ub v 7) x (h.th 1) (thX (by decide)))))
  · obtain ⟨q1, q2⟩ := hu.mp hz
    obtain ⟨y, hy⟩ : ∃ y : Int32, y = m 0 0 + 5 := ⟨_, rfl⟩
    have hmay : q_may u m = some (1, up2 m 82 0 0) := by
      rw [(hub.resolve_left hz)]; exact q_may_t
    refine ⟨nI K, up2 (up2 (up2 (up2 m 82 0 0) 60 0 (nI (K + 1))) 62 0 (nI K)) 63 0 y, ?_, ?_, fun P X hP => ?_⟩
    · show qbd _ _ m = _
      rw [qbd_e eu, qbd_e hmay, qc_f one_ne, hy]
      show some (up2 (up2 (up2 (up2 m 82 0 0) 62 0 (m 60 0)) 63 0 (m 0 0 + 5)) 60 0 (m 60 0 + 1) 62 0, up2 (up2 (up2 (up2 m 82 0 0) 62 0 (m 60 0)) 63 0 (m 0 0 + 5)) 60 0 (m 60 0 + 1)) = _
      rw [k1, nI_1, up2_cm (F := 63) (F' := 60) (by decide), up2_cm (F := 62) (F' := 60) (by decide)]
      rfl
    · have i3' := hI.2.2.1
      obtain ⟨⟨c, hc, ec⟩, _⟩ := hI.1
      obtain ⟨i1, i2, i3, b5, b6, b7, b8, b35, b51, b64, b66, b69, b73, iK, iA, iS, iC, iFm, iz, iT, iR, iRz, iL, iE, iV, iAz⟩ := hI.up
      refine ⟨i1, i2, ?_, b5, b6, b7, b8, b35, b51, b64, b66, b69, b73, ?_, iA, iS, iC, iFm, iz, ?_, iR, iRz, iL, iE, iV, iAz⟩
      · show nn m 77 + (cnt (m 35) (nn m 30) + cnt (m 51) (nn m 46) + (if nI K = -1 then 0 else 1)) ≤ 4 * (T + 1)
        unfold pt at i3'
        rw [if_pos q1] at i3'
        split <;> omega
      · refine ⟨K + 1, s, rfl, k2, by omega, by omega, k5, k6, k7, fun k hk hk2 => k8 k (by omega) hk2, Or.inr ⟨K, rfl, by omega, by omega, (k8 K (Nat.le_refl _) q2).1, (k8 K (Nat.le_refl _) q2).2, c + 5, by omega, ?_, ?_⟩⟩
        · show y = _
          rw [hy, ec, show (5 : Int32) = nI 5 from by decide +kernel, nI_add]
        · show (m 0 0).toNatClampNeg < c + 5
          rw [ec, nI_clamp (by omega)]; omega
      · intro t ht
        obtain ⟨a1, a2, a3, a4, a5⟩ := iT t ht
        refine ⟨a1, a2, a3, ?_, a5⟩
        show ix (m 58 t) (nI (K + 1)).toNatClampNeg
        rw [k1, nI_clamp (by omega)] at a4
        rw [nI_clamp (by omega)]
        exact a4.mono (by omega)
    · unfold h_X0_turn
      refine hisK_i (htry_i ?_)
      unfold h_X1_turn
      refine hgI_e f21 (cu _ _ _ fun w hw => hbnd_i (c_can_t (fun r => hz (hw.mp r)) (hbn0_i ?_)))
      unfold h_X1_publishKey
      have h14 := h.1.1.hCt.2.2.2.2.2.2.2.2.2.1
      refine hgR_e h.1.1.s17 (hgI_e (f19.trans k1) (hisK_i (hbn0_i ⟨K, ⟨rfl, by omega, by omega, by omega⟩, hgI_e (f19.trans k1) (hpI_i (hgI_e (x := nI (K + 1)) ?_ (hrt_i (hpI_i (hgI_e (x := m 0 0) f16 (hpI_i (hgI_e (x := nI K) ?_ (hrt_i ?_)))))))) ⟩)))
      · show up3 (vM v) 0 0 19 (nI K + 1) 0 0 19 = _
        rw [up3_s, nI_1]
      · show up3 (up3 (up3 (vM v) 0 0 19 (nI K + 1)) 0 0 21 (nI (K + 1) - 1)) 0 0 22 (m 0 0 + 5) 0 0 21 = _
        rw [up3_k (by decide), up3_s, nI_pred]
      · rw [nI_1, nI_pred, ← hy]
        exact KK.ans2 (d := 39000) ⟨((h.1.1.m82 0).less (b' := b + 39000 + 303) (by omega) (Nat.le_refl _)).newKey k1 q2 ((k8 K (Nat.le_refl _) q2).2) ((k8 K (Nat.le_refl _) q2).1) q1 y, (((h.1.2.1.oM rfl).oM rfl).oM rfl), h.1.2.2⟩ rfl hP
