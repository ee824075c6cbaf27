/-! ===== the list of attempts grows (printed by gen/evA5.py) ===== -/
theorem CRh.addL {U : (Nat → List Nat) → Prop} {nL : Nat} {v : Vw} {m : Mst} {b T : Nat} (h : CRh U nL v m (b + (2 * nL + 12)) (T))   : CRh U (nL + 1) (uA v 2 (idc 7 nL)) (m) (b) (T) := by
  obtain ⟨hF, hSt, hPe, hSe, hLn, hCt, hL3, hL4, hL5, hL6, hL7, hL8, hAr, hDv, hTo, hPu, hCa, hAu, hPp, hOw, hWr, hUn, hFl, hAt, hSa, hSs, hOs, hR70, hR81, hR82, hR90, hR95, hRt, hRr, hRa, hT7, hT8, hT10, hT12, hN8, hN10, hFa, hTu, hBu, hLa⟩ := h
  refine ⟨(by first | exact hF | (simp (config := { decide := true }) only [vM_uMk, vN_uNk]; exact hF)), (by first | exact hSt | (simp (config := { decide := true }) only [vM_uMk, vN_uNk]; exact hSt)), (by first | exact hPe | (simp (config := { decide := true }) only [vM_uMk, vN_uNk]; exact hPe)), (by first | exact hSe | (simp (config := { decide := true }) only [vM_uMk, vN_uNk]; exact hSe)), (by first | exact hLn | (simp (config := { decide := true }) only [vM_uMk, vN_uNk]; exact hLn)), (by first | exact hCt | (simp (config := { decide := true }) only [vM_uMk, vN_uNk]; exact hCt)), ?_, ?_, ?_, ?_, ?_, ?_, (by first | exact hAr | (simp (config := { decide := true }) only [vM_uMk, vN_uNk]; exact hAr)), (by first | exact hDv | (simp (config := { decide := true }) only [vM_uMk, vN_uNk]; exact hDv)), (by first | exact hTo | (simp (config := { decide := true }) only [vM_uMk, vN_uNk]; exact hTo)), (by first | exact hPu | (simp (config := { decide := true }) only [vM_uMk, vN_uNk]; exact hPu)), (by first | exact hCa | (simp (config := { decide := true }) only [vM_uMk, vN_uNk]; exact hCa)), (by first | exact hAu | (simp (config := { decide := true }) only [vM_uMk, vN_uNk]; exact hAu)), (by first | exact hPp | (simp (config := { decide := true }) only [vM_uMk, vN_uNk]; exact hPp)), (by first | exact hOw | (simp (config := { decide := true }) only [vM_uMk, vN_uNk]; exact hOw)), (by first | exact hWr | (simp (config := { decide := true }) only [vM_uMk, vN_uNk]; exact hWr)), (by first | exact hUn | (simp (config := { decide := true }) only [vM_uMk, vN_uNk]; exact hUn)), (gFl.ue (by decide) hFl), (gAt.ue (by decide) hAt), (by first | exact hSa | (simp (config := { decide := true }) only [vM_uMk, vN_uNk]; exact hSa)), (by first | exact hSs | (simp (config := { decide := true }) only [vM_uMk, vN_uNk]; exact hSs)), (by first | exact hOs | (simp (config := { decide := true }) only [vM_uMk, vN_uNk]; exact hOs)), (by first | exact hR70 | (simp (config := { decide := true }) only [vM_uMk, vN_uNk]; exact hR70)), (by first | exact hR81 | (simp (config := { decide := true }) only [vM_uMk, vN_uNk]; exact hR81)), (by first | exact hR82 | (simp (config := { decide := true }) only [vM_uMk, vN_uNk]; exact hR82)), (by first | exact hR90 | (simp (config := { decide := true }) only [vM_uMk, vN_uNk]; exact hR90)), (by first | exact hR95 | (simp (config := { decide := true }) only [vM_uMk, vN_uNk]; exact hR95)), (by first | exact hRt | (simp (config := { decide := true }) only [vM_uMk, vN_uNk]; exact hRt)), (by first | exact hRr | (simp (config := { decide := true }) only [vM_uMk, vN_uNk]; exact hRr)), (by first | exact hRa | (simp (config := { decide := true }) only [vM_uMk, vN_uNk]; exact hRa)), (by first | exact hT7 | (simp (config := { decide := true }) only [vM_uMk, vN_uNk]; exact hT7)), (by first | exact hT8 | (simp (config := { decide := true }) only [vM_uMk, vN_uNk]; exact hT8)), (by first | exact hT10 | (simp (config := { decide := true }) only [vM_uMk, vN_uNk]; exact hT10)), (by first | exact hT12 | (simp (config := { decide := true }) only [vM_uMk, vN_uNk]; exact hT12)), (by first | exact hN8 | (simp (config := { decide := true }) only [vM_uMk, vN_uNk]; exact hN8)), (by first | exact hN10 | (simp (config := { decide := true }) only [vM_uMk, vN_uNk]; exact hN10)), (by first | exact hFa | (simp (config := { decide := true }) only [vM_uMk, vN_uNk]; exact hFa)), (by first | exact hTu | (simp (config := { decide := true }) only [vM_uMk, vN_uNk]; exact hTu)), ?_, (hLa.add)⟩
  · show gL1 (up1 (vZ v) 2 (vZ v 2 + 1)) (up2 (vE v) 2 (vZ v 2) (idc 7 nL)) _ _ _
    refine ⟨(up1_n (by decide)).trans hL3.1, fun k hk => ?_⟩
    rw [up2_o (by decide)]
    exact hL3.2 k hk
  · show gL1 (up1 (vZ v) 2 (vZ v 2 + 1)) (up2 (vE v) 2 (vZ v 2) (idc 7 nL)) _ _ _
    refine ⟨(up1_n (by decide)).trans hL4.1, fun k hk => ?_⟩
    rw [up2_o (by decide)]
    exact hL4.2 k hk
  · show gL1 (up1 (vZ v) 2 (vZ v 2 + 1)) (up2 (vE v) 2 (vZ v 2) (idc 7 nL)) _ _ _
    refine ⟨(up1_n (by decide)).trans hL5.1, fun k hk => ?_⟩
    rw [up2_o (by decide)]
    exact hL5.2 k hk
  · show gL1 (up1 (vZ v) 2 (vZ v 2 + 1)) (up2 (vE v) 2 (vZ v 2) (idc 7 nL)) _ _ _
    refine ⟨(up1_n (by decide)).trans hL6.1, fun k hk => ?_⟩
    rw [up2_o (by decide)]
    exact hL6.2 k hk
  · show gL1 (up1 (vZ v) 2 (vZ v 2 + 1)) (up2 (vE v) 2 (vZ v 2) (idc 7 nL)) _ _ _
    refine ⟨(up1_n (by decide)).trans hL7.1, fun k hk => ?_⟩
    rw [up2_o (by decide)]
    exact hL7.2 k hk
  · show gL1 (up1 (vZ v) 2 (vZ v 2 + 1)) (up2 (vE v) 2 (vZ v 2) (idc 7 nL)) _ _ _
    refine ⟨(up1_n (by decide)).trans hL8.1, fun k hk => ?_⟩
    rw [up2_o (by decide)]
    exact hL8.2 k hk
  · show gBu (vb v - (2 * vZ v 2 + 12)) b (m 35) (m 51) (nn m 30) (nn m 46) (m 62 0)
    rw [hLa.1]
    unfold gBu at hBu ⊢
    omega
