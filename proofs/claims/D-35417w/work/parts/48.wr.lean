/-! ===== the court's writing into the audit ===== -/
theorem CRh.bud {U : (Nat → List Nat) → Prop} {nL : Nat} {v : Vw} {m : Mst} {b T : Nat} (h : CRh U nL v m b T) : b ≤ vb v := by
  have := h.hBu
  unfold gBu at this
  omega
theorem c_write {U : (Nat → List Nat) → Prop} {nL : Nat} {v : Vw} {m m0 : Mst} {o : Nat × Int64} {b T : Nat} (h : CCh U nL v m m0 o (b + 260) T) (w : wOK m) {k n : Int32} (hk : sml k 6) (hn : sml n 65535) {P : Unit → Vw → Prop} {X : String → Vw → Prop} (hP : ∀ v', CCh U nL v' (mW m k n) m0 o b T → P () v') : h_X1_write 0 k n P X v := by
  obtain ⟨h, hm, ho⟩ := h
  have hb := h.bud
  have hct := h.hCt
  have h8 := h.hL8
  obtain ⟨w1, w2, ⟨sa, w3, w4⟩, ⟨sc, w5, w6⟩⟩ := w
  obtain ⟨kk, k1, k2⟩ := hk
  obtain ⟨kn, n1, n2⟩ := hn
  have ev := h.entry k n (sumq (m 81 0) k n (m 0 0)) (by omega)
  have e5 : vK v 5 = nn m 77 := hct.1
  have hd := hct.2.2.2.2.2.2.2
  unfold h_X1_write
  refine hnw_i (by omega) (hgI_e (x := m 0 0) ?_ (hbn0_i ?_))
  · show row3 (vM v) 5 (vK v 5) (fun _ => 0) 0 0 16 = _
    rw [row3_o (by decide)]; exact h.g16
  rw [e5]
  unfold h_X6_init
  refine hpI_i (hpI_i (hpI_i (hrt_i ?_)))
  refine hgR_e (x := idc 13 8) ?_ (hisK_i (hbn0_i (J2add ?_ ?_ ?_ ?_ ?_)))
  · show row3 (vN v) 5 (vK v 5) (fun _ => nul) 0 0 14 = _
    rw [row3_o (by decide)]; exact h.s14
  · show 8 < up1 (vK v) 5 (vK v 5 + 1) 13
    rw [up1_n (by decide)]; omega
  · rw [idc_mod (by decide)]; decide
  · show vZ v 8 < 4096
    rw [h8.1]; omega
  · show 2 * vZ v 8 + 12 ≤ vb v - (3 + 1)
    rw [h8.1]; omega
  · refine hgI_e (x := m 81 0) ?_ (hbn0_i ?_)
    · show up3 (up3 (up3 (row3 (vM v) 5 (vK v 5) (fun _ => 0)) 5 (nn m 77) 0 k) 5 (nn m 77) 1 n) 5 (nn m 77) 2 (m 0 0) 0 0 15 = _
      rw [up3_o (by decide), up3_o (by decide), up3_o (by decide), row3_o (by decide)]; exact h.g15
    · unfold h_X6_after
      refine hgI_e (x := k) ?_ (hgI_e (x := n) ?_ (hgI_e (x := m 0 0) ?_ (hrt_i (hpI_i (hrt_i ?_)))))
      · show up3 (up3 (up3 (row3 (vM v) 5 (vK v 5) (fun _ => 0)) 5 (nn m 77) 0 k) 5 (nn m 77) 1 n) 5 (nn m 77) 2 (m 0 0) 5 (nn m 77) 0 = _
        rw [up3_k (by decide), up3_k (by decide), up3_s]
      · show up3 (up3 (up3 (row3 (vM v) 5 (vK v 5) (fun _ => 0)) 5 (nn m 77) 0 k) 5 (nn m 77) 1 n) 5 (nn m 77) 2 (m 0 0) 5 (nn m 77) 1 = _
        rw [up3_k (by decide), up3_s]
      · show up3 (up3 (up3 (row3 (vM v) 5 (vK v 5) (fun _ => 0)) 5 (nn m 77) 0 k) 5 (nn m 77) 1 n) 5 (nn m 77) 2 (m 0 0) 5 (nn m 77) 2 = _
        rw [up3_s]
      · have es : sumq (m 81 0) k n (m 0 0) = nI ((31 * sa + 100 * kk + kn + sc) % 65521) := by
          rw [w4, k2, n2, w6]; exact sumq_eq w3 k1 n1 w5
        rw [es] at ev
        rw [w4, k2, n2, w6, suml_eq w3 k1 n1 w5]
        rw [k2, n2, w6] at ev
        refine hP _ ⟨?_, ?_, ho⟩
        · have e : mW m k n = up2 (up2 (up2 (up2 (up2 m 78 (nn m 77) (nI kk)) 79 (nn m 77) (nI kn)) 80 (nn m 77) (nI sc)) 77 0 (nI (nn m 77 + 1))) 81 0 (nI ((31 * sa + 100 * kk + kn + sc) % 65521)) := by
            unfold mW
            rw [es, k2, n2, w6]
          rw [e]; exact ev
        · exact MR.oM (MR.oM (MR.oM (MR.oM (hm.oK (Or.inl ⟨by decide, by decide, by decide⟩)) rfl) rfl) rfl) rfl
