/-! ===== a new draft (printed by gen/evAG.py) ===== -/
theorem CRh.draft {U : (Nat → List Nat) → Prop} {nL : Nat} {v : Vw} {m : Mst} {b T : Nat} (h : CRh U nL v m (b + 20) (T))   : CRh U nL (uN (uN (uL (uK v 1 1) 12) 1 (vK v 1) 0 (idc 13 (vK v 13))) 0 0 1 (idc 1 (vK v 1))) (up2 m 10 8 0) (b) (T) := by
  obtain ⟨hF, hSt, hPe, hSe, hLn, hCt, hL3, hL4, hL5, hL6, hL7, hL8, hAr, hDv, hTo, hPu, hCa, hAu, hPp, hOw, hWr, hUn, hFl, hAt, hSa, hSs, hOs, hR70, hR81, hR82, hR90, hR95, hRt, hRr, hRa, hT7, hT8, hT10, hT12, hN8, hN10, hFa, hTu, hBu, hLa⟩ := h
  have k13 : vK v 13 = 8 + vK v 1 := hCt.2.2.2.2.2.2.2.1
  have k1 : 1 ≤ vK v 1 := hCt.2.2.2.2.2.2.2.2.1
  refine ⟨((hF.bR (K := 1) (i := vK v 1) (show cn m 1 ≤ _ from Nat.zero_le _) (fun _ => 0)).om (F := 10) rfl 8 0), (by first | exact hSt | (simp (config := { decide := true }) only [vM_uMk, vN_uNk]; exact hSt)), (by first | exact hPe | (simp (config := { decide := true }) only [vM_uMk, vN_uNk]; exact hPe)), (by first | exact hSe | (simp (config := { decide := true }) only [vM_uMk, vN_uNk]; exact hSe)), (by first | exact hLn | (simp (config := { decide := true }) only [vM_uMk, vN_uNk]; exact hLn)), ?_, ?_, ?_, ?_, ?_, ?_, ?_, (by first | exact hAr | (simp (config := { decide := true }) only [vM_uMk, vN_uNk]; exact hAr)), (by first | exact hDv | (simp (config := { decide := true }) only [vM_uMk, vN_uNk]; exact hDv)), (by first | exact hTo | (simp (config := { decide := true }) only [vM_uMk, vN_uNk]; exact hTo)), (by first | exact hPu | (simp (config := { decide := true }) only [vM_uMk, vN_uNk]; exact hPu)), (by first | exact hCa | (simp (config := { decide := true }) only [vM_uMk, vN_uNk]; exact hCa)), (by first | exact hAu | (simp (config := { decide := true }) only [vM_uMk, vN_uNk]; exact hAu)), (by first | exact hPp | (simp (config := { decide := true }) only [vM_uMk, vN_uNk]; exact hPp)), (by first | exact hOw | (simp (config := { decide := true }) only [vM_uMk, vN_uNk]; exact hOw)), (by first | exact hWr | (simp (config := { decide := true }) only [vM_uMk, vN_uNk]; exact hWr)), (by first | exact hUn | (simp (config := { decide := true }) only [vM_uMk, vN_uNk]; exact hUn)), ?_, (by first | exact hAt | (simp (config := { decide := true }) only [vM_uMk, vN_uNk]; exact hAt)), (by first | exact hSa | (simp (config := { decide := true }) only [vM_uMk, vN_uNk]; exact hSa)), (by first | exact hSs | (simp (config := { decide := true }) only [vM_uMk, vN_uNk]; exact hSs)), (by first | exact hOs | (simp (config := { decide := true }) only [vM_uMk, vN_uNk]; exact hOs)), (by first | exact hR70 | (simp (config := { decide := true }) only [vM_uMk, vN_uNk]; exact hR70)), (by first | exact hR81 | (simp (config := { decide := true }) only [vM_uMk, vN_uNk]; exact hR81)), (by first | exact hR82 | (simp (config := { decide := true }) only [vM_uMk, vN_uNk]; exact hR82)), (by first | exact hR90 | (simp (config := { decide := true }) only [vM_uMk, vN_uNk]; exact hR90)), (by first | exact hR95 | (simp (config := { decide := true }) only [vM_uMk, vN_uNk]; exact hR95)), (by first | exact hRt | (simp (config := { decide := true }) only [vM_uMk, vN_uNk]; exact hRt)), (by first | exact hRr | (simp (config := { decide := true }) only [vM_uMk, vN_uNk]; exact hRr)), (by first | exact hRa | (simp (config := { decide := true }) only [vM_uMk, vN_uNk]; exact hRa)), (by first | exact hT7 | (simp (config := { decide := true }) only [vM_uMk, vN_uNk]; exact hT7)), (by first | exact hT8 | (simp (config := { decide := true }) only [vM_uMk, vN_uNk]; exact hT8)), (by first | exact hT10 | (simp (config := { decide := true }) only [vM_uMk, vN_uNk]; exact hT10)), (by first | exact hT12 | (simp (config := { decide := true }) only [vM_uMk, vN_uNk]; exact hT12)), (by first | exact hN8 | (simp (config := { decide := true }) only [vM_uMk, vN_uNk]; exact hN8)), (by first | exact hN10 | (simp (config := { decide := true }) only [vM_uMk, vN_uNk]; exact hN10)), (by first | exact hFa | (simp (config := { decide := true }) only [vM_uMk, vN_uNk]; exact hFa)), (by first | exact hTu | (simp (config := { decide := true }) only [vM_uMk, vN_uNk]; exact hTu)), ?_, ?_⟩
  · obtain ⟨c1, c2, c3, c4, c5, c6, c7, c8, c9, c10, c11, c12⟩ := hCt
    refine ⟨c1, c2, c3, c4, c5, c6, c7, ?_, ?_, c10, c11, c12⟩
    · show (up1 (up1 (vK v) 1 (vK v 1 + 1)) 13 (up1 (vK v) 1 (vK v 1 + 1) 13 + 1)) 13 = 8 + (up1 (up1 (vK v) 1 (vK v 1 + 1)) 13 (up1 (vK v) 1 (vK v 1 + 1) 13 + 1)) 1
      rw [up1_s, up1_n (show (13 : Nat) ≠ 1 by decide), up1_n (show (1 : Nat) ≠ 13 by decide), up1_s]; omega
    · show 1 ≤ (up1 (up1 (vK v) 1 (vK v 1 + 1)) 13 (up1 (vK v) 1 (vK v 1 + 1) 13 + 1)) 1
      rw [up1_n (show (1 : Nat) ≠ 13 by decide), up1_s]; omega
  · show gL1 (up1 (vZ v) (vK v 13) 0) (vE v) _ _ _
    exact ⟨(up1_n (by omega)).trans hL3.1, hL3.2⟩
  · show gL1 (up1 (vZ v) (vK v 13) 0) (vE v) _ _ _
    exact ⟨(up1_n (by omega)).trans hL4.1, hL4.2⟩
  · show gL1 (up1 (vZ v) (vK v 13) 0) (vE v) _ _ _
    exact ⟨(up1_n (by omega)).trans hL5.1, hL5.2⟩
  · show gL1 (up1 (vZ v) (vK v 13) 0) (vE v) _ _ _
    exact ⟨(up1_n (by omega)).trans hL6.1, hL6.2⟩
  · show gL1 (up1 (vZ v) (vK v 13) 0) (vE v) _ _ _
    exact ⟨(up1_n (by omega)).trans hL7.1, hL7.2⟩
  · show gL1 (up1 (vZ v) (vK v 13) 0) (vE v) _ _ _
    exact ⟨(up1_n (by omega)).trans hL8.1, hL8.2⟩
  · obtain ⟨f1, f2, f3, f4, f5, f6⟩ := hFl
    have e1 : (up1 (up1 (vK v) 1 (vK v 1 + 1)) 13 (up1 (vK v) 1 (vK v 1 + 1) 13 + 1)) 1 = vK v 1 + 1 := by rw [up1_n (show (1 : Nat) ≠ 13 by decide), up1_s]
    have ef : fl (vK v 1) = vK v 13 := by unfold fl; rw [if_neg (by omega), k13]
    have ez : up1 (vZ v) (vK v 13) 0 1 = vZ v 1 := up1_n (by omega)
    refine ⟨?_, fun i hi => ?_, ?_, ?_, ?_, fun j hj => ?_⟩
    · show (up3 (up3 (row3 (vN v) 1 (vK v 1) (fun _ => nul)) 1 (vK v 1) 0 (idc 13 (vK v 13))) 0 0 1 (idc 1 (vK v 1))) 0 0 1 = idc 1 ((up1 (up1 (vK v) 1 (vK v 1 + 1)) 13 (up1 (vK v) 1 (vK v 1 + 1) 13 + 1)) 1 - 1)
      rw [up3_s, e1, Nat.add_sub_cancel]
    · have hi : i < (up1 (up1 (vK v) 1 (vK v 1 + 1)) 13 (up1 (vK v) 1 (vK v 1 + 1) 13 + 1)) 1 := hi
      rw [e1] at hi
      show (up3 (up3 (row3 (vN v) 1 (vK v 1) (fun _ => nul)) 1 (vK v 1) 0 (idc 13 (vK v 13))) 0 0 1 (idc 1 (vK v 1))) 1 i 0 = idc 13 (fl i)
      rw [up3_o (by decide)]
      by_cases q : i = vK v 1
      · rw [q, up3_s, ef]
      · rw [up3_n (fun t => q t.2), row3_n (fun t => q t.2)]
        exact f2 i (by omega)
    · show gFi (up1 (vZ v) (vK v 13) 0) (vE v) (row3 (vM v) 1 (vK v 1) (fun _ => 0) 6) (vK v 6) (m 11) (m 12) (m 13) (m 14) (m 15) ((up1 (up1 (vK v) 1 (vK v 1 + 1)) 13 (up1 (vK v) 1 (vK v 1 + 1) 13 + 1)) 1 - 1) 96 (up2 m 10 8 0 10 8)
      rw [e1, Nat.add_sub_cancel, up2_s]
      unfold gFi
      rw [ef, up1_s]
      exact ⟨nI_0.symm, by omega, fun k hk => absurd hk (Nat.not_lt_zero _)⟩
    · show m 9 0 = nI (up1 (vZ v) (vK v 13) 0 1)
      rw [ez]; exact f4
    · show up1 (vZ v) (vK v 13) 0 1 ≤ 8
      rw [ez]; exact f5
    · have hj : j < up1 (vZ v) (vK v 13) 0 1 := hj
      rw [ez] at hj
      obtain ⟨w, w1, w2, w3⟩ := f6 j hj
      refine ⟨w, w1, by show w + 1 < (up1 (up1 (vK v) 1 (vK v 1 + 1)) 13 (up1 (vK v) 1 (vK v 1 + 1) 13 + 1)) 1; rw [e1]; omega, ?_⟩
      show gFi (up1 (vZ v) (vK v 13) 0) (vE v) (row3 (vM v) 1 (vK v 1) (fun _ => 0) 6) (vK v 6) (m 11) (m 12) (m 13) (m 14) (m 15) w (12 * j) (up2 m 10 8 0 10 j)
      rw [up2_n (fun t => by omega), row3_o (by decide)]
      unfold gFi at w3 ⊢
      rw [up1_n (show fl w ≠ vK v 13 by unfold fl; split <;> omega)]
      exact w3
  · show gBu (vb v - (1 + 1) - (12 + 5)) b (m 35) (m 51) (nn m 30) (nn m 46) (m 62 0)
    unfold gBu at hBu ⊢
    omega
  · show gL1 (up1 (vZ v) (vK v 13) 0) (vE v) _ _ _
    exact ⟨(up1_n (by omega)).trans hLa.1, hLa.2⟩
