/-! ===== the relation's parts by name; the court beside the model's own cells (printed by gen/ev47.py) ===== -/
theorem CRh.hF {U : (Nat → List Nat) → Prop} {nL : Nat} {v : Vw} {m : Mst} {b T : Nat} (h : CRh U nL v m b T) : gF (vM v) m := by
  obtain ⟨hF, hSt, hPe, hSe, hLn, hCt, hL3, hL4, hL5, hL6, hL7, hL8, hAr, hDv, hTo, hPu, hCa, hAu, hPp, hOw, hWr, hUn, hFl, hAt, hSa, hSs, hOs, hR70, hR81, hR82, hR90, hR95, hRt, hRr, hRa, hT7, hT8, hT10, hT12, hN8, hN10, hFa, hTu, hBu, hLa⟩ := h
  exact hF
theorem CRh.hSt {U : (Nat → List Nat) → Prop} {nL : Nat} {v : Vw} {m : Mst} {b T : Nat} (h : CRh U nL v m b T) : gSt (vN v 0 0) := by
  obtain ⟨hF, hSt, hPe, hSe, hLn, hCt, hL3, hL4, hL5, hL6, hL7, hL8, hAr, hDv, hTo, hPu, hCa, hAu, hPp, hOw, hWr, hUn, hFl, hAt, hSa, hSs, hOs, hR70, hR81, hR82, hR90, hR95, hRt, hRr, hRa, hT7, hT8, hT10, hT12, hN8, hN10, hFa, hTu, hBu, hLa⟩ := h
  exact hSt
theorem CRh.hPe {U : (Nat → List Nat) → Prop} {nL : Nat} {v : Vw} {m : Mst} {b T : Nat} (h : CRh U nL v m b T) : gPe (vN v 36 0) (vN v 2) (fun i => vM v 2 i 0) := by
  obtain ⟨hF, hSt, hPe, hSe, hLn, hCt, hL3, hL4, hL5, hL6, hL7, hL8, hAr, hDv, hTo, hPu, hCa, hAu, hPp, hOw, hWr, hUn, hFl, hAt, hSa, hSs, hOs, hR70, hR81, hR82, hR90, hR95, hRt, hRr, hRa, hT7, hT8, hT10, hT12, hN8, hN10, hFa, hTu, hBu, hLa⟩ := h
  exact hPe
theorem CRh.hSe {U : (Nat → List Nat) → Prop} {nL : Nat} {v : Vw} {m : Mst} {b T : Nat} (h : CRh U nL v m b T) : gSe (vN v 37 0) (fun i => vN v 3 i 3) (fun i => vN v 3 i 4) (fun i => vN v 3 i 6) := by
  obtain ⟨hF, hSt, hPe, hSe, hLn, hCt, hL3, hL4, hL5, hL6, hL7, hL8, hAr, hDv, hTo, hPu, hCa, hAu, hPp, hOw, hWr, hUn, hFl, hAt, hSa, hSs, hOs, hR70, hR81, hR82, hR90, hR95, hRt, hRr, hRa, hT7, hT8, hT10, hT12, hN8, hN10, hFa, hTu, hBu, hLa⟩ := h
  exact hSe
theorem CRh.hLn {U : (Nat → List Nat) → Prop} {nL : Nat} {v : Vw} {m : Mst} {b T : Nat} (h : CRh U nL v m b T) : gLn (vL v) := by
  obtain ⟨hF, hSt, hPe, hSe, hLn, hCt, hL3, hL4, hL5, hL6, hL7, hL8, hAr, hDv, hTo, hPu, hCa, hAu, hPp, hOw, hWr, hUn, hFl, hAt, hSa, hSs, hOs, hR70, hR81, hR82, hR90, hR95, hRt, hRr, hRa, hT7, hT8, hT10, hT12, hN8, hN10, hFa, hTu, hBu, hLa⟩ := h
  exact hLn
theorem CRh.hCt {U : (Nat → List Nat) → Prop} {nL : Nat} {v : Vw} {m : Mst} {b T : Nat} (h : CRh U nL v m b T) : gCt (vK v) (nn m 77) (nn m 19) (nn m 30) (nn m 39) (nn m 46) (nn m 52) (nn m 70) := by
  obtain ⟨hF, hSt, hPe, hSe, hLn, hCt, hL3, hL4, hL5, hL6, hL7, hL8, hAr, hDv, hTo, hPu, hCa, hAu, hPp, hOw, hWr, hUn, hFl, hAt, hSa, hSs, hOs, hR70, hR81, hR82, hR90, hR95, hRt, hRr, hRa, hT7, hT8, hT10, hT12, hN8, hN10, hFa, hTu, hBu, hLa⟩ := h
  exact hCt
theorem CRh.hL3 {U : (Nat → List Nat) → Prop} {nL : Nat} {v : Vw} {m : Mst} {b T : Nat} (h : CRh U nL v m b T) : gL1 (vZ v) (vE v) 3 8 (nn m 30) := by
  obtain ⟨hF, hSt, hPe, hSe, hLn, hCt, hL3, hL4, hL5, hL6, hL7, hL8, hAr, hDv, hTo, hPu, hCa, hAu, hPp, hOw, hWr, hUn, hFl, hAt, hSa, hSs, hOs, hR70, hR81, hR82, hR90, hR95, hRt, hRr, hRa, hT7, hT8, hT10, hT12, hN8, hN10, hFa, hTu, hBu, hLa⟩ := h
  exact hL3
theorem CRh.hL4 {U : (Nat → List Nat) → Prop} {nL : Nat} {v : Vw} {m : Mst} {b T : Nat} (h : CRh U nL v m b T) : gL1 (vZ v) (vE v) 4 9 (nn m 39) := by
  obtain ⟨hF, hSt, hPe, hSe, hLn, hCt, hL3, hL4, hL5, hL6, hL7, hL8, hAr, hDv, hTo, hPu, hCa, hAu, hPp, hOw, hWr, hUn, hFl, hAt, hSa, hSs, hOs, hR70, hR81, hR82, hR90, hR95, hRt, hRr, hRa, hT7, hT8, hT10, hT12, hN8, hN10, hFa, hTu, hBu, hLa⟩ := h
  exact hL4
theorem CRh.hL5 {U : (Nat → List Nat) → Prop} {nL : Nat} {v : Vw} {m : Mst} {b T : Nat} (h : CRh U nL v m b T) : gL1 (vZ v) (vE v) 5 10 (nn m 46) := by
  obtain ⟨hF, hSt, hPe, hSe, hLn, hCt, hL3, hL4, hL5, hL6, hL7, hL8, hAr, hDv, hTo, hPu, hCa, hAu, hPp, hOw, hWr, hUn, hFl, hAt, hSa, hSs, hOs, hR70, hR81, hR82, hR90, hR95, hRt, hRr, hRa, hT7, hT8, hT10, hT12, hN8, hN10, hFa, hTu, hBu, hLa⟩ := h
  exact hL5
theorem CRh.hL6 {U : (Nat → List Nat) → Prop} {nL : Nat} {v : Vw} {m : Mst} {b T : Nat} (h : CRh U nL v m b T) : gL1 (vZ v) (vE v) 6 11 (nn m 52) := by
  obtain ⟨hF, hSt, hPe, hSe, hLn, hCt, hL3, hL4, hL5, hL6, hL7, hL8, hAr, hDv, hTo, hPu, hCa, hAu, hPp, hOw, hWr, hUn, hFl, hAt, hSa, hSs, hOs, hR70, hR81, hR82, hR90, hR95, hRt, hRr, hRa, hT7, hT8, hT10, hT12, hN8, hN10, hFa, hTu, hBu, hLa⟩ := h
  exact hL6
theorem CRh.hL7 {U : (Nat → List Nat) → Prop} {nL : Nat} {v : Vw} {m : Mst} {b T : Nat} (h : CRh U nL v m b T) : gL1 (vZ v) (vE v) 7 12 (nn m 70) := by
  obtain ⟨hF, hSt, hPe, hSe, hLn, hCt, hL3, hL4, hL5, hL6, hL7, hL8, hAr, hDv, hTo, hPu, hCa, hAu, hPp, hOw, hWr, hUn, hFl, hAt, hSa, hSs, hOs, hR70, hR81, hR82, hR90, hR95, hRt, hRr, hRa, hT7, hT8, hT10, hT12, hN8, hN10, hFa, hTu, hBu, hLa⟩ := h
  exact hL7
theorem CRh.hL8 {U : (Nat → List Nat) → Prop} {nL : Nat} {v : Vw} {m : Mst} {b T : Nat} (h : CRh U nL v m b T) : gL1 (vZ v) (vE v) 8 5 (nn m 77) := by
  obtain ⟨hF, hSt, hPe, hSe, hLn, hCt, hL3, hL4, hL5, hL6, hL7, hL8, hAr, hDv, hTo, hPu, hCa, hAu, hPp, hOw, hWr, hUn, hFl, hAt, hSa, hSs, hOs, hR70, hR81, hR82, hR90, hR95, hRt, hRr, hRa, hT7, hT8, hT10, hT12, hN8, hN10, hFa, hTu, hBu, hLa⟩ := h
  exact hL8
theorem CRh.hAr {U : (Nat → List Nat) → Prop} {nL : Nat} {v : Vw} {m : Mst} {b T : Nat} (h : CRh U nL v m b T) : gAr (vM v 32) (m 37) (m 17) (m 18) (m 65) (m 1) (m 2) := by
  obtain ⟨hF, hSt, hPe, hSe, hLn, hCt, hL3, hL4, hL5, hL6, hL7, hL8, hAr, hDv, hTo, hPu, hCa, hAu, hPp, hOw, hWr, hUn, hFl, hAt, hSa, hSs, hOs, hR70, hR81, hR82, hR90, hR95, hRt, hRr, hRa, hT7, hT8, hT10, hT12, hN8, hN10, hFa, hTu, hBu, hLa⟩ := h
  exact hAr
theorem CRh.hDv {U : (Nat → List Nat) → Prop} {nL : Nat} {v : Vw} {m : Mst} {b T : Nat} (h : CRh U nL v m b T) : gDv (vB v) (m 5) (m 6) := by
  obtain ⟨hF, hSt, hPe, hSe, hLn, hCt, hL3, hL4, hL5, hL6, hL7, hL8, hAr, hDv, hTo, hPu, hCa, hAu, hPp, hOw, hWr, hUn, hFl, hAt, hSa, hSs, hOs, hR70, hR81, hR82, hR90, hR95, hRt, hRr, hRa, hT7, hT8, hT10, hT12, hN8, hN10, hFa, hTu, hBu, hLa⟩ := h
  exact hDv
theorem CRh.hTo {U : (Nat → List Nat) → Prop} {nL : Nat} {v : Vw} {m : Mst} {b T : Nat} (h : CRh U nL v m b T) : gTo (vB v) (m 69) := by
  obtain ⟨hF, hSt, hPe, hSe, hLn, hCt, hL3, hL4, hL5, hL6, hL7, hL8, hAr, hDv, hTo, hPu, hCa, hAu, hPp, hOw, hWr, hUn, hFl, hAt, hSa, hSs, hOs, hR70, hR81, hR82, hR90, hR95, hRt, hRr, hRa, hT7, hT8, hT10, hT12, hN8, hN10, hFa, hTu, hBu, hLa⟩ := h
  exact hTo
theorem CRh.hPu {U : (Nat → List Nat) → Prop} {nL : Nat} {v : Vw} {m : Mst} {b T : Nat} (h : CRh U nL v m b T) : gPu (vB v 0) (m 0 0) (m 60 0) (m 64) (m 65) := by
  obtain ⟨hF, hSt, hPe, hSe, hLn, hCt, hL3, hL4, hL5, hL6, hL7, hL8, hAr, hDv, hTo, hPu, hCa, hAu, hPp, hOw, hWr, hUn, hFl, hAt, hSa, hSs, hOs, hR70, hR81, hR82, hR90, hR95, hRt, hRr, hRa, hT7, hT8, hT10, hT12, hN8, hN10, hFa, hTu, hBu, hLa⟩ := h
  exact hPu
theorem CRh.hCa {U : (Nat → List Nat) → Prop} {nL : Nat} {v : Vw} {m : Mst} {b T : Nat} (h : CRh U nL v m b T) : gCa (fun i => vN v 3 i 1) (vB v) (vK v 14) (m 67) := by
  obtain ⟨hF, hSt, hPe, hSe, hLn, hCt, hL3, hL4, hL5, hL6, hL7, hL8, hAr, hDv, hTo, hPu, hCa, hAu, hPp, hOw, hWr, hUn, hFl, hAt, hSa, hSs, hOs, hR70, hR81, hR82, hR90, hR95, hRt, hRr, hRa, hT7, hT8, hT10, hT12, hN8, hN10, hFa, hTu, hBu, hLa⟩ := h
  exact hCa
theorem CRh.hAu {U : (Nat → List Nat) → Prop} {nL : Nat} {v : Vw} {m : Mst} {b T : Nat} (h : CRh U nL v m b T) : gAu (fun i => vN v 10 i 8) (vB v) (vK v 14) (nn m 46) (m 57) (m 54) (nn m 52) := by
  obtain ⟨hF, hSt, hPe, hSe, hLn, hCt, hL3, hL4, hL5, hL6, hL7, hL8, hAr, hDv, hTo, hPu, hCa, hAu, hPp, hOw, hWr, hUn, hFl, hAt, hSa, hSs, hOs, hR70, hR81, hR82, hR90, hR95, hRt, hRr, hRa, hT7, hT8, hT10, hT12, hN8, hN10, hFa, hTu, hBu, hLa⟩ := h
  exact hAu
theorem CRh.hPp {U : (Nat → List Nat) → Prop} {nL : Nat} {v : Vw} {m : Mst} {b T : Nat} (h : CRh U nL v m b T) : gPp (fun i => vN v 12 i 3) (vB v) (vK v 14) (nn m 70) (m 74) := by
  obtain ⟨hF, hSt, hPe, hSe, hLn, hCt, hL3, hL4, hL5, hL6, hL7, hL8, hAr, hDv, hTo, hPu, hCa, hAu, hPp, hOw, hWr, hUn, hFl, hAt, hSa, hSs, hOs, hR70, hR81, hR82, hR90, hR95, hRt, hRr, hRa, hT7, hT8, hT10, hT12, hN8, hN10, hFa, hTu, hBu, hLa⟩ := h
  exact hPp
theorem CRh.hOw {U : (Nat → List Nat) → Prop} {nL : Nat} {v : Vw} {m : Mst} {b T : Nat} (h : CRh U nL v m b T) : gOw (fun i => vN v 10 i 8) (fun i => vN v 12 i 3) (fun i => vN v 3 i 1) (nn m 46) (nn m 70) := by
  obtain ⟨hF, hSt, hPe, hSe, hLn, hCt, hL3, hL4, hL5, hL6, hL7, hL8, hAr, hDv, hTo, hPu, hCa, hAu, hPp, hOw, hWr, hUn, hFl, hAt, hSa, hSs, hOs, hR70, hR81, hR82, hR90, hR95, hRt, hRr, hRa, hT7, hT8, hT10, hT12, hN8, hN10, hFa, hTu, hBu, hLa⟩ := h
  exact hOw
theorem CRh.hWr {U : (Nat → List Nat) → Prop} {nL : Nat} {v : Vw} {m : Mst} {b T : Nat} (h : CRh U nL v m b T) : gWr (vW v) (fun i => vM v 20 i 0) (vK v 20) (m 4) (m 0 0) T := by
  obtain ⟨hF, hSt, hPe, hSe, hLn, hCt, hL3, hL4, hL5, hL6, hL7, hL8, hAr, hDv, hTo, hPu, hCa, hAu, hPp, hOw, hWr, hUn, hFl, hAt, hSa, hSs, hOs, hR70, hR81, hR82, hR90, hR95, hRt, hRr, hRa, hT7, hT8, hT10, hT12, hN8, hN10, hFa, hTu, hBu, hLa⟩ := h
  exact hWr
theorem CRh.hUn {U : (Nat → List Nat) → Prop} {nL : Nat} {v : Vw} {m : Mst} {b T : Nat} (h : CRh U nL v m b T) : U (vW v) := by
  obtain ⟨hF, hSt, hPe, hSe, hLn, hCt, hL3, hL4, hL5, hL6, hL7, hL8, hAr, hDv, hTo, hPu, hCa, hAu, hPp, hOw, hWr, hUn, hFl, hAt, hSa, hSs, hOs, hR70, hR81, hR82, hR90, hR95, hRt, hRr, hRa, hT7, hT8, hT10, hT12, hN8, hN10, hFa, hTu, hBu, hLa⟩ := h
  exact hUn
theorem CRh.hFl {U : (Nat → List Nat) → Prop} {nL : Nat} {v : Vw} {m : Mst} {b T : Nat} (h : CRh U nL v m b T) : gFl (fun i => vN v 1 i 0) (vN v 0 0 1) (vK v 1) (vK v 6) (vZ v) (vE v) (vM v 6) (m 10) (m 11) (m 12) (m 13) (m 14) (m 15) (m 9 0) := by
  obtain ⟨hF, hSt, hPe, hSe, hLn, hCt, hL3, hL4, hL5, hL6, hL7, hL8, hAr, hDv, hTo, hPu, hCa, hAu, hPp, hOw, hWr, hUn, hFl, hAt, hSa, hSs, hOs, hR70, hR81, hR82, hR90, hR95, hRt, hRr, hRa, hT7, hT8, hT10, hT12, hN8, hN10, hFa, hTu, hBu, hLa⟩ := h
  exact hFl
theorem CRh.hAt {U : (Nat → List Nat) → Prop} {nL : Nat} {v : Vw} {m : Mst} {b T : Nat} (h : CRh U nL v m b T) : gAt (fun i => vN v 7 i 3) (fun i => vN v 7 i 4) (vE v) (nn m 19) (m 23) (m 24) := by
  obtain ⟨hF, hSt, hPe, hSe, hLn, hCt, hL3, hL4, hL5, hL6, hL7, hL8, hAr, hDv, hTo, hPu, hCa, hAu, hPp, hOw, hWr, hUn, hFl, hAt, hSa, hSs, hOs, hR70, hR81, hR82, hR90, hR95, hRt, hRr, hRa, hT7, hT8, hT10, hT12, hN8, hN10, hFa, hTu, hBu, hLa⟩ := h
  exact hAt
theorem CRh.hSa {U : (Nat → List Nat) → Prop} {nL : Nat} {v : Vw} {m : Mst} {b T : Nat} (h : CRh U nL v m b T) : gSh (fun i => vN v 7 i 8) (fun i => vM v 7 i 9) (vM v 32) (vL v) (vK v 32) (m 29) (nn m 19) := by
  obtain ⟨hF, hSt, hPe, hSe, hLn, hCt, hL3, hL4, hL5, hL6, hL7, hL8, hAr, hDv, hTo, hPu, hCa, hAu, hPp, hOw, hWr, hUn, hFl, hAt, hSa, hSs, hOs, hR70, hR81, hR82, hR90, hR95, hRt, hRr, hRa, hT7, hT8, hT10, hT12, hN8, hN10, hFa, hTu, hBu, hLa⟩ := h
  exact hSa
theorem CRh.hSs {U : (Nat → List Nat) → Prop} {nL : Nat} {v : Vw} {m : Mst} {b T : Nat} (h : CRh U nL v m b T) : gSh (fun i => vN v 8 i 6) (fun i => vM v 8 i 7) (vM v 32) (vL v) (vK v 32) (m 36) (nn m 30) := by
  obtain ⟨hF, hSt, hPe, hSe, hLn, hCt, hL3, hL4, hL5, hL6, hL7, hL8, hAr, hDv, hTo, hPu, hCa, hAu, hPp, hOw, hWr, hUn, hFl, hAt, hSa, hSs, hOs, hR70, hR81, hR82, hR90, hR95, hRt, hRr, hRa, hT7, hT8, hT10, hT12, hN8, hN10, hFa, hTu, hBu, hLa⟩ := h
  exact hSs
theorem CRh.hOs {U : (Nat → List Nat) → Prop} {nL : Nat} {v : Vw} {m : Mst} {b T : Nat} (h : CRh U nL v m b T) : gOs (fun i => vN v 7 i 8) (fun i => vN v 8 i 6) (nn m 19) (nn m 30) := by
  obtain ⟨hF, hSt, hPe, hSe, hLn, hCt, hL3, hL4, hL5, hL6, hL7, hL8, hAr, hDv, hTo, hPu, hCa, hAu, hPp, hOw, hWr, hUn, hFl, hAt, hSa, hSs, hOs, hR70, hR81, hR82, hR90, hR95, hRt, hRr, hRa, hT7, hT8, hT10, hT12, hN8, hN10, hFa, hTu, hBu, hLa⟩ := h
  exact hOs
theorem CRh.hR70 {U : (Nat → List Nat) → Prop} {nL : Nat} {v : Vw} {m : Mst} {b T : Nat} (h : CRh U nL v m b T) : gRf (fun i => vN v 7 i 0) 2 (m 20) (nn m 19) := by
  obtain ⟨hF, hSt, hPe, hSe, hLn, hCt, hL3, hL4, hL5, hL6, hL7, hL8, hAr, hDv, hTo, hPu, hCa, hAu, hPp, hOw, hWr, hUn, hFl, hAt, hSa, hSs, hOs, hR70, hR81, hR82, hR90, hR95, hRt, hRr, hRa, hT7, hT8, hT10, hT12, hN8, hN10, hFa, hTu, hBu, hLa⟩ := h
  exact hR70
theorem CRh.hR81 {U : (Nat → List Nat) → Prop} {nL : Nat} {v : Vw} {m : Mst} {b T : Nat} (h : CRh U nL v m b T) : gRf (fun i => vN v 8 i 1) 2 (m 31) (nn m 30) := by
  obtain ⟨hF, hSt, hPe, hSe, hLn, hCt, hL3, hL4, hL5, hL6, hL7, hL8, hAr, hDv, hTo, hPu, hCa, hAu, hPp, hOw, hWr, hUn, hFl, hAt, hSa, hSs, hOs, hR70, hR81, hR82, hR90, hR95, hRt, hRr, hRa, hT7, hT8, hT10, hT12, hN8, hN10, hFa, hTu, hBu, hLa⟩ := h
  exact hR81
theorem CRh.hR82 {U : (Nat → List Nat) → Prop} {nL : Nat} {v : Vw} {m : Mst} {b T : Nat} (h : CRh U nL v m b T) : gRf (fun i => vN v 8 i 2) 8 (m 34) (nn m 30) := by
  obtain ⟨hF, hSt, hPe, hSe, hLn, hCt, hL3, hL4, hL5, hL6, hL7, hL8, hAr, hDv, hTo, hPu, hCa, hAu, hPp, hOw, hWr, hUn, hFl, hAt, hSa, hSs, hOs, hR70, hR81, hR82, hR90, hR95, hRt, hRr, hRa, hT7, hT8, hT10, hT12, hN8, hN10, hFa, hTu, hBu, hLa⟩ := h
  exact hR82
theorem CRh.hR90 {U : (Nat → List Nat) → Prop} {nL : Nat} {v : Vw} {m : Mst} {b T : Nat} (h : CRh U nL v m b T) : gRf (fun i => vN v 9 i 0) 8 (m 40) (nn m 39) := by
  obtain ⟨hF, hSt, hPe, hSe, hLn, hCt, hL3, hL4, hL5, hL6, hL7, hL8, hAr, hDv, hTo, hPu, hCa, hAu, hPp, hOw, hWr, hUn, hFl, hAt, hSa, hSs, hOs, hR70, hR81, hR82, hR90, hR95, hRt, hRr, hRa, hT7, hT8, hT10, hT12, hN8, hN10, hFa, hTu, hBu, hLa⟩ := h
  exact hR90
theorem CRh.hR95 {U : (Nat → List Nat) → Prop} {nL : Nat} {v : Vw} {m : Mst} {b T : Nat} (h : CRh U nL v m b T) : gRf (fun i => vN v 9 i 5) 10 (m 45) (nn m 39) := by
  obtain ⟨hF, hSt, hPe, hSe, hLn, hCt, hL3, hL4, hL5, hL6, hL7, hL8, hAr, hDv, hTo, hPu, hCa, hAu, hPp, hOw, hWr, hUn, hFl, hAt, hSa, hSs, hOs, hR70, hR81, hR82, hR90, hR95, hRt, hRr, hRa, hT7, hT8, hT10, hT12, hN8, hN10, hFa, hTu, hBu, hLa⟩ := h
  exact hR95
theorem CRh.hRt {U : (Nat → List Nat) → Prop} {nL : Nat} {v : Vw} {m : Mst} {b T : Nat} (h : CRh U nL v m b T) : gRf (fun i => vN v 11 i 0) 10 (m 57) (nn m 52) := by
  obtain ⟨hF, hSt, hPe, hSe, hLn, hCt, hL3, hL4, hL5, hL6, hL7, hL8, hAr, hDv, hTo, hPu, hCa, hAu, hPp, hOw, hWr, hUn, hFl, hAt, hSa, hSs, hOs, hR70, hR81, hR82, hR90, hR95, hRt, hRr, hRa, hT7, hT8, hT10, hT12, hN8, hN10, hFa, hTu, hBu, hLa⟩ := h
  exact hRt
theorem CRh.hRr {U : (Nat → List Nat) → Prop} {nL : Nat} {v : Vw} {m : Mst} {b T : Nat} (h : CRh U nL v m b T) : gRf (fun i => vN v 12 i 0) 2 (m 71) (nn m 70) := by
  obtain ⟨hF, hSt, hPe, hSe, hLn, hCt, hL3, hL4, hL5, hL6, hL7, hL8, hAr, hDv, hTo, hPu, hCa, hAu, hPp, hOw, hWr, hUn, hFl, hAt, hSa, hSs, hOs, hR70, hR81, hR82, hR90, hR95, hRt, hRr, hRa, hT7, hT8, hT10, hT12, hN8, hN10, hFa, hTu, hBu, hLa⟩ := h
  exact hRr
theorem CRh.hRa {U : (Nat → List Nat) → Prop} {nL : Nat} {v : Vw} {m : Mst} {b T : Nat} (h : CRh U nL v m b T) : gRf (vN v 36 1) 2 (m 76) 6 := by
  obtain ⟨hF, hSt, hPe, hSe, hLn, hCt, hL3, hL4, hL5, hL6, hL7, hL8, hAr, hDv, hTo, hPu, hCa, hAu, hPp, hOw, hWr, hUn, hFl, hAt, hSa, hSs, hOs, hR70, hR81, hR82, hR90, hR95, hRt, hRr, hRa, hT7, hT8, hT10, hT12, hN8, hN10, hFa, hTu, hBu, hLa⟩ := h
  exact hRa
theorem CRh.hT7 {U : (Nat → List Nat) → Prop} {nL : Nat} {v : Vw} {m : Mst} {b T : Nat} (h : CRh U nL v m b T) : gTh (fun i => vN v 7 i 11) (nn m 19) := by
  obtain ⟨hF, hSt, hPe, hSe, hLn, hCt, hL3, hL4, hL5, hL6, hL7, hL8, hAr, hDv, hTo, hPu, hCa, hAu, hPp, hOw, hWr, hUn, hFl, hAt, hSa, hSs, hOs, hR70, hR81, hR82, hR90, hR95, hRt, hRr, hRa, hT7, hT8, hT10, hT12, hN8, hN10, hFa, hTu, hBu, hLa⟩ := h
  exact hT7
theorem CRh.hT8 {U : (Nat → List Nat) → Prop} {nL : Nat} {v : Vw} {m : Mst} {b T : Nat} (h : CRh U nL v m b T) : gTh (fun i => vN v 8 i 8) (nn m 30) := by
  obtain ⟨hF, hSt, hPe, hSe, hLn, hCt, hL3, hL4, hL5, hL6, hL7, hL8, hAr, hDv, hTo, hPu, hCa, hAu, hPp, hOw, hWr, hUn, hFl, hAt, hSa, hSs, hOs, hR70, hR81, hR82, hR90, hR95, hRt, hRr, hRa, hT7, hT8, hT10, hT12, hN8, hN10, hFa, hTu, hBu, hLa⟩ := h
  exact hT8
theorem CRh.hT10 {U : (Nat → List Nat) → Prop} {nL : Nat} {v : Vw} {m : Mst} {b T : Nat} (h : CRh U nL v m b T) : gTh (fun i => vN v 10 i 10) (nn m 46) := by
  obtain ⟨hF, hSt, hPe, hSe, hLn, hCt, hL3, hL4, hL5, hL6, hL7, hL8, hAr, hDv, hTo, hPu, hCa, hAu, hPp, hOw, hWr, hUn, hFl, hAt, hSa, hSs, hOs, hR70, hR81, hR82, hR90, hR95, hRt, hRr, hRa, hT7, hT8, hT10, hT12, hN8, hN10, hFa, hTu, hBu, hLa⟩ := h
  exact hT10
theorem CRh.hT12 {U : (Nat → List Nat) → Prop} {nL : Nat} {v : Vw} {m : Mst} {b T : Nat} (h : CRh U nL v m b T) : gTh (fun i => vN v 12 i 5) (nn m 70) := by
  obtain ⟨hF, hSt, hPe, hSe, hLn, hCt, hL3, hL4, hL5, hL6, hL7, hL8, hAr, hDv, hTo, hPu, hCa, hAu, hPp, hOw, hWr, hUn, hFl, hAt, hSa, hSs, hOs, hR70, hR81, hR82, hR90, hR95, hRt, hRr, hRa, hT7, hT8, hT10, hT12, hN8, hN10, hFa, hTu, hBu, hLa⟩ := h
  exact hT12
theorem CRh.hN8 {U : (Nat → List Nat) → Prop} {nL : Nat} {v : Vw} {m : Mst} {b T : Nat} (h : CRh U nL v m b T) : gNm (fun i => vM v 8 i 0) (nn m 30) := by
  obtain ⟨hF, hSt, hPe, hSe, hLn, hCt, hL3, hL4, hL5, hL6, hL7, hL8, hAr, hDv, hTo, hPu, hCa, hAu, hPp, hOw, hWr, hUn, hFl, hAt, hSa, hSs, hOs, hR70, hR81, hR82, hR90, hR95, hRt, hRr, hRa, hT7, hT8, hT10, hT12, hN8, hN10, hFa, hTu, hBu, hLa⟩ := h
  exact hN8
theorem CRh.hN10 {U : (Nat → List Nat) → Prop} {nL : Nat} {v : Vw} {m : Mst} {b T : Nat} (h : CRh U nL v m b T) : gNm (fun i => vM v 10 i 0) (nn m 46) := by
  obtain ⟨hF, hSt, hPe, hSe, hLn, hCt, hL3, hL4, hL5, hL6, hL7, hL8, hAr, hDv, hTo, hPu, hCa, hAu, hPp, hOw, hWr, hUn, hFl, hAt, hSa, hSs, hOs, hR70, hR81, hR82, hR90, hR95, hRt, hRr, hRa, hT7, hT8, hT10, hT12, hN8, hN10, hFa, hTu, hBu, hLa⟩ := h
  exact hN10
theorem CRh.hFa {U : (Nat → List Nat) → Prop} {nL : Nat} {v : Vw} {m : Mst} {b T : Nat} (h : CRh U nL v m b T) : gFa (fun i => vN v 10 i 1) (fun i => vM v 10 i 2) (fun i => vM v 10 i 3) (fun i => vM v 10 i 4) (nn m 46) (m 47) (m 40) (m 41) (m 42) (m 43) := by
  obtain ⟨hF, hSt, hPe, hSe, hLn, hCt, hL3, hL4, hL5, hL6, hL7, hL8, hAr, hDv, hTo, hPu, hCa, hAu, hPp, hOw, hWr, hUn, hFl, hAt, hSa, hSs, hOs, hR70, hR81, hR82, hR90, hR95, hRt, hRr, hRa, hT7, hT8, hT10, hT12, hN8, hN10, hFa, hTu, hBu, hLa⟩ := h
  exact hFa
theorem CRh.hTu {U : (Nat → List Nat) → Prop} {nL : Nat} {v : Vw} {m : Mst} {b T : Nat} (h : CRh U nL v m b T) : gTu (fun i => vM v 10 i 7) (nn m 46) (m 48) (m 49) := by
  obtain ⟨hF, hSt, hPe, hSe, hLn, hCt, hL3, hL4, hL5, hL6, hL7, hL8, hAr, hDv, hTo, hPu, hCa, hAu, hPp, hOw, hWr, hUn, hFl, hAt, hSa, hSs, hOs, hR70, hR81, hR82, hR90, hR95, hRt, hRr, hRa, hT7, hT8, hT10, hT12, hN8, hN10, hFa, hTu, hBu, hLa⟩ := h
  exact hTu
theorem CRh.hBu {U : (Nat → List Nat) → Prop} {nL : Nat} {v : Vw} {m : Mst} {b T : Nat} (h : CRh U nL v m b T) : gBu (vb v) b (m 35) (m 51) (nn m 30) (nn m 46) (m 62 0) := by
  obtain ⟨hF, hSt, hPe, hSe, hLn, hCt, hL3, hL4, hL5, hL6, hL7, hL8, hAr, hDv, hTo, hPu, hCa, hAu, hPp, hOw, hWr, hUn, hFl, hAt, hSa, hSs, hOs, hR70, hR81, hR82, hR90, hR95, hRt, hRr, hRa, hT7, hT8, hT10, hT12, hN8, hN10, hFa, hTu, hBu, hLa⟩ := h
  exact hBu
theorem CRh.hLa {U : (Nat → List Nat) → Prop} {nL : Nat} {v : Vw} {m : Mst} {b T : Nat} (h : CRh U nL v m b T) : gL1 (vZ v) (vE v) 2 7 nL := by
  obtain ⟨hF, hSt, hPe, hSe, hLn, hCt, hL3, hL4, hL5, hL6, hL7, hL8, hAr, hDv, hTo, hPu, hCa, hAu, hPp, hOw, hWr, hUn, hFl, hAt, hSa, hSs, hOs, hR70, hR81, hR82, hR90, hR95, hRt, hRr, hRa, hT7, hT8, hT10, hT12, hN8, hN10, hFa, hTu, hBu, hLa⟩ := h
  exact hLa
theorem CRh.f {U : (Nat → List Nat) → Prop} {nL : Nat} {v : Vw} {m : Mst} {b T : Nat} (h : CRh U nL v m b T) (K f F : Nat) (ht : (K, f, F) ∈ ftab) {i : Nat} (hi : i < cn m K) : vM v K i f = m F i := h.hF K f F ht i hi
theorem CRh.s0 {U : (Nat → List Nat) → Prop} {nL : Nat} {v : Vw} {m : Mst} {b T : Nat} (h : CRh U nL v m b T) : vN v 0 0 0 = idc 36 0 := h.hSt.1
theorem CRh.s2 {U : (Nat → List Nat) → Prop} {nL : Nat} {v : Vw} {m : Mst} {b T : Nat} (h : CRh U nL v m b T) : vN v 0 0 2 = idc 13 1 := h.hSt.2.1
theorem CRh.s3 {U : (Nat → List Nat) → Prop} {nL : Nat} {v : Vw} {m : Mst} {b T : Nat} (h : CRh U nL v m b T) : vN v 0 0 3 = idc 13 2 := h.hSt.2.2.1
theorem CRh.s4 {U : (Nat → List Nat) → Prop} {nL : Nat} {v : Vw} {m : Mst} {b T : Nat} (h : CRh U nL v m b T) : vN v 0 0 4 = idc 13 3 := h.hSt.2.2.2.1
theorem CRh.s5 {U : (Nat → List Nat) → Prop} {nL : Nat} {v : Vw} {m : Mst} {b T : Nat} (h : CRh U nL v m b T) : vN v 0 0 5 = idc 13 4 := h.hSt.2.2.2.2.1
theorem CRh.s6 {U : (Nat → List Nat) → Prop} {nL : Nat} {v : Vw} {m : Mst} {b T : Nat} (h : CRh U nL v m b T) : vN v 0 0 6 = idc 13 5 := h.hSt.2.2.2.2.2.1
theorem CRh.s7 {U : (Nat → List Nat) → Prop} {nL : Nat} {v : Vw} {m : Mst} {b T : Nat} (h : CRh U nL v m b T) : vN v 0 0 7 = idc 13 6 := h.hSt.2.2.2.2.2.2.1
theorem CRh.s8 {U : (Nat → List Nat) → Prop} {nL : Nat} {v : Vw} {m : Mst} {b T : Nat} (h : CRh U nL v m b T) : vN v 0 0 8 = idc 13 7 := h.hSt.2.2.2.2.2.2.2.1
theorem CRh.s9 {U : (Nat → List Nat) → Prop} {nL : Nat} {v : Vw} {m : Mst} {b T : Nat} (h : CRh U nL v m b T) : vN v 0 0 9 = idc 37 0 := h.hSt.2.2.2.2.2.2.2.2.1
theorem CRh.s10 {U : (Nat → List Nat) → Prop} {nL : Nat} {v : Vw} {m : Mst} {b T : Nat} (h : CRh U nL v m b T) : vN v 0 0 10 = idc 32 0 := h.hSt.2.2.2.2.2.2.2.2.2.1
theorem CRh.s11 {U : (Nat → List Nat) → Prop} {nL : Nat} {v : Vw} {m : Mst} {b T : Nat} (h : CRh U nL v m b T) : vN v 0 0 11 = idc 36 1 := h.hSt.2.2.2.2.2.2.2.2.2.2.1
theorem CRh.s12 {U : (Nat → List Nat) → Prop} {nL : Nat} {v : Vw} {m : Mst} {b T : Nat} (h : CRh U nL v m b T) : vN v 0 0 12 = idc 32 1 := h.hSt.2.2.2.2.2.2.2.2.2.2.2.1
theorem CRh.s13 {U : (Nat → List Nat) → Prop} {nL : Nat} {v : Vw} {m : Mst} {b T : Nat} (h : CRh U nL v m b T) : vN v 0 0 13 = idc 32 2 := h.hSt.2.2.2.2.2.2.2.2.2.2.2.2.1
theorem CRh.s14 {U : (Nat → List Nat) → Prop} {nL : Nat} {v : Vw} {m : Mst} {b T : Nat} (h : CRh U nL v m b T) : vN v 0 0 14 = idc 13 8 := h.hSt.2.2.2.2.2.2.2.2.2.2.2.2.2.1
theorem CRh.s17 {U : (Nat → List Nat) → Prop} {nL : Nat} {v : Vw} {m : Mst} {b T : Nat} (h : CRh U nL v m b T) : vN v 0 0 17 = idc 14 0 := h.hSt.2.2.2.2.2.2.2.2.2.2.2.2.2.2.1
theorem CRh.s18 {U : (Nat → List Nat) → Prop} {nL : Nat} {v : Vw} {m : Mst} {b T : Nat} (h : CRh U nL v m b T) : vN v 0 0 18 = idc 32 3 := h.hSt.2.2.2.2.2.2.2.2.2.2.2.2.2.2.2
theorem CRh.g15 {U : (Nat → List Nat) → Prop} {nL : Nat} {v : Vw} {m : Mst} {b T : Nat} (h : CRh U nL v m b T) : vM v 0 0 15 = m 81 0 := h.f 0 15 81 (by decide) (show 0 < cn m 0 from Nat.zero_lt_one)
theorem CRh.g16 {U : (Nat → List Nat) → Prop} {nL : Nat} {v : Vw} {m : Mst} {b T : Nat} (h : CRh U nL v m b T) : vM v 0 0 16 = m 0 0 := h.f 0 16 0 (by decide) (show 0 < cn m 0 from Nat.zero_lt_one)
theorem CRh.g19 {U : (Nat → List Nat) → Prop} {nL : Nat} {v : Vw} {m : Mst} {b T : Nat} (h : CRh U nL v m b T) : vM v 0 0 19 = m 60 0 := h.f 0 19 60 (by decide) (show 0 < cn m 0 from Nat.zero_lt_one)
theorem CRh.g20 {U : (Nat → List Nat) → Prop} {nL : Nat} {v : Vw} {m : Mst} {b T : Nat} (h : CRh U nL v m b T) : vM v 0 0 20 = m 61 0 := h.f 0 20 61 (by decide) (show 0 < cn m 0 from Nat.zero_lt_one)
theorem CRh.g21 {U : (Nat → List Nat) → Prop} {nL : Nat} {v : Vw} {m : Mst} {b T : Nat} (h : CRh U nL v m b T) : vM v 0 0 21 = m 62 0 := h.f 0 21 62 (by decide) (show 0 < cn m 0 from Nat.zero_lt_one)
theorem CRh.g22 {U : (Nat → List Nat) → Prop} {nL : Nat} {v : Vw} {m : Mst} {b T : Nat} (h : CRh U nL v m b T) : vM v 0 0 22 = m 63 0 := h.f 0 22 63 (by decide) (show 0 < cn m 0 from Nat.zero_lt_one)
theorem MR.oM {v : Vw} {m : Mst} (h : MR v m) {K i f : Nat} {x : Int32} (hK : mcl K i = false) : MR (uM v K i f x) m := by
  intro F K' a l hf
  have hne : ∀ K2 a2, mcl K2 a2 = true → up3 (vM v) K i f x K2 a2 = vM v K2 a2 := fun K2 a2 hm => by
    funext j
    refine up3_n fun q => ?_
    rw [q.1, q.2, hK] at hm
    cases hm
  rcases h F K' a l hf with ⟨k0, e⟩ | ⟨k0, e1, e2, e3⟩
  · refine Or.inl ⟨k0, ?_⟩
    show up3 (vM v) K i f x 4 0 F = _
    rw [hne 4 0 rfl]; exact e
  · refine Or.inr ⟨k0, e1, e2, ?_⟩
    show up3 (vM v) K i f x K' a = _
    rw [hne K' a]
    · exact e3
    · rcases mtb_kd hf with q | ⟨-, q⟩
      · exact absurd q k0
      · exact q
theorem MR.oN {v : Vw} {m : Mst} (h : MR v m) {K i f x : Nat} (hK : K ≠ 4) : MR (uN v K i f x) m := by
  intro F K' a l hf
  rcases h F K' a l hf with ⟨k0, e⟩ | ⟨k0, e1, e2, e3⟩
  · exact Or.inl ⟨k0, e⟩
  · refine Or.inr ⟨k0, ?_, e2, e3⟩
    show up3 (vN v) K i f x 4 0 F = _
    rw [up3_o (fun q => hK q.symm)]; exact e1
theorem mtb_32 : ∀ f : Fin 83, (mtb.getD f.1 (0, 0, 0)).1 = 32 → (mtb.getD f.1 (0, 0, 0)).2.1 < 79 := by decide +kernel
/-- a new thing of the court -/
theorem MR.oK {v : Vw} {m : Mst} (h : MR v m) {K n : Nat} (hK : (K ≠ 4 ∧ K ≠ 32 ∧ K ≠ 33) ∨ (K = 32 ∧ 79 ≤ vK v 32)) : MR (uK v K n) m := by
  intro F K' a l hf
  have hne : ¬ (K' = K ∧ a = vK v K) ∨ K' = 0 := by
    rcases mtb_kd hf with q | ⟨q, q2⟩
    · exact Or.inr q
    · left
      intro r
      rcases hK with hK | ⟨hK, hK2⟩
      · omega
      · have h79 := mtb_32 ⟨F, mtb_len hf⟩
        rw [mtb_D hf] at h79
        have := h79 (by omega)
        subst hK
        have : a < 79 := this
        omega
  have hK4 : K ≠ 4 := by rcases hK with q | ⟨q, -⟩ <;> omega
  rcases h F K' a l hf with ⟨k0, e⟩ | ⟨k0, e1, e2, e3⟩
  · refine Or.inl ⟨k0, ?_⟩
    show row3 (vM v) K (vK v K) (fun _ => 0) 4 0 F = _
    rw [row3_o (fun q => hK4 q.symm)]; exact e
  · have hne := hne.resolve_right k0
    refine Or.inr ⟨k0, ?_, ?_, ?_⟩
    · show row3 (vN v) K (vK v K) (fun _ => nul) 4 0 F = _
      rw [row3_o (fun q => hK4 q.symm)]; exact e1
    · show up2 (vL v) K (vK v K) n K' a = _
      rw [up2_n hne]; exact e2
    · show row3 (vM v) K (vK v K) (fun _ => 0) K' a = _
      rw [row3_n hne]; exact e3
/-- a row of a new array anew -/
theorem MR.oC {v : Vw} {m : Mst} (h : MR v m) {i : Nat} (hK : 79 ≤ vK v 32) : MR (uC v i) m := by
  have h0 := h.oK (K := 32) (n := vL v 32 i) (Or.inr ⟨rfl, hK⟩)
  intro F K' a l hf
  have h79 := mtb_32 ⟨F, mtb_len hf⟩
  rw [mtb_D hf] at h79
  rcases h0 F K' a l hf with ⟨k0, e⟩ | ⟨k0, e1, e2, e3⟩
  · refine Or.inl ⟨k0, ?_⟩
    show row3 (vM (uK v 32 (vL v 32 i))) 32 (vK v 32) (vM v 32 i) 4 0 F = _
    rw [row3_o (by decide)]; exact e
  · have hne : ¬ (K' = 32 ∧ a = vK v 32) := fun q => by
      have : a < 79 := h79 q.1
      omega
    refine Or.inr ⟨k0, ?_, e2, ?_⟩
    · show row3 (vN (uK v 32 (vL v 32 i))) 32 (vK v 32) (vN v 32 i) 4 0 F = _
      rw [row3_o (by decide)]; exact e1
    · show row3 (vM (uK v 32 (vL v 32 i))) 32 (vK v 32) (vM v 32 i) K' a = _
      rw [row3_n hne]; exact e3
/-- the court's relation to m; the model's own cells are m0; the law's long is o -/
def CCh (U : (Nat → List Nat) → Prop) (nL : Nat) (v : Vw) (m m0 : Mst) (o : Nat × Int64) (b T : Nat) : Prop := CRh U nL v m b T ∧ MR v m0 ∧ vo v = o
abbrev CC (v : Vw) (m m0 : Mst) (o : Nat × Int64) (b T : Nat) : Prop := CCh (fun W => gUn W (m 51) (m 69) (nn m 46) (m 57) (m 54) (nn m 52)) (nn m 19) v m m0 o b T
/-! the programs' steps -/
section HI
variable {ρ α σ : Type} {P : ρ → Vw → Prop} {X : String → Vw → Prop} {v : Vw}
theorem hbn0_i {p : PV α} {k : α → PV ρ} (h : p (fun r v' => k r P X v') (fun _ _ => False) v) : hbn0 p k P X v := h
theorem hbnd_i {p : PV α} {k : α → PV ρ} (h : p (fun r v' => k r P X v') X v) : hbnd p k P X v := h
theorem hrt_i {r : ρ} (h : P r v) : hrt r P X v := h
theorem hgI_e {K i j : Nat} {k : Int32 → PV ρ} {x : Int32} (e : vM v K i j = x) (h : k x P X v) : hgI K i j k P X v := by subst e; exact h
theorem hgR_e {K i j x : Nat} {k : Nat → PV ρ} (e : vN v K i j = x) (h : k x P X v) : hgR K i j k P X v := by subst e; exact h
theorem hpI_i {K i j : Nat} {x : Int32} {k : PV ρ} (h : k P X (uM v K i j x)) : hpI K i j x k P X v := h
theorem hpZ_i {K i j : Nat} {x : Int32} {k : PV ρ} (e : x = 0 ∨ x = 1) (h : k P X (uM v K i j x)) : hpZ K i j x k P X v := ⟨e, h⟩
theorem hpR_i {K i j x : Nat} {k : PV ρ} (h : k P X (uN v K i j x)) : hpR K i j x k P X v := h
theorem hisK_i {K i : Nat} {k : Nat → PV ρ} (h : k i P X v) : hisK K (idc K i) k P X v := ⟨i, rfl, h⟩
theorem hcnd_i {c : Prop} {p q : PV ρ} (h1 : c → p P X v) (h2 : ¬ c → q P X v) : hcnd c p q P X v := ⟨h1, h2⟩
theorem hcnd_t {c : Prop} {p q : PV ρ} (e : c) (h1 : p P X v) : hcnd c p q P X v := ⟨fun _ => h1, fun q => absurd e q⟩
theorem hcnd_f {c : Prop} {p q : PV ρ} (e : ¬ c) (h1 : q P X v) : hcnd c p q P X v := ⟨fun q => absurd q e, fun _ => h1⟩
theorem hasr_i {c : Prop} {p : PV ρ} (e : c) (h : p P X v) : hasr c p P X v := ⟨e, h⟩
theorem haI_e {K i n : Nat} {x y : Int32} {k : Int32 → PV ρ} (hx : x = nI n) (hn : n < vL v K i) (hb : n < 2 ^ 31) (e : vM v K i n = y) (h : k y P X v) : haI K i x k P X v := by
  subst hx; subst e
  refine ⟨fun q => q.elim (nI_pos hb) fun q => ?_, ?_⟩
  · rw [nI_clamp hb] at q; omega
  · rw [nI_clamp hb]; exact h
theorem haR_e {K i n y : Nat} {x : Int32} {k : Nat → PV ρ} (hx : x = nI n) (hn : n < vL v K i) (hb : n < 2 ^ 31) (e : vN v K i n = y) (h : k y P X v) : haR K i x k P X v := by
  subst hx; subst e
  refine ⟨fun q => q.elim (nI_pos hb) fun q => ?_, ?_⟩
  · rw [nI_clamp hb] at q; omega
  · rw [nI_clamp hb]; exact h
theorem hbI_e {K i n : Nat} {x y : Int32} {k : PV ρ} (hx : x = nI n) (hn : n < vL v K i) (hb : n < 2 ^ 31) (h : k P X (uM v K i n y)) : hbI K i x y k P X v := by
  subst hx
  refine ⟨fun q => q.elim (nI_pos hb) fun q => ?_, ?_⟩
  · rw [nI_clamp hb] at q; omega
  · rw [nI_clamp hb]; exact h
theorem hbR_e {K i n y : Nat} {x : Int32} {k : PV ρ} (hx : x = nI n) (hn : n < vL v K i) (hb : n < 2 ^ 31) (h : k P X (uN v K i n y)) : hbR K i x y k P X v := by
  subst hx
  refine ⟨fun q => q.elim (nI_pos hb) fun q => ?_, ?_⟩
  · rw [nI_clamp hb] at q; omega
  · rw [nI_clamp hb]; exact h
theorem hnw_i {K n : Nat} {k : Nat → PV ρ} (e : n + 1 ≤ vb v) (h : k (vK v K) P X (uK v K n)) : hnw K n k P X v := ⟨e, h⟩
theorem hthr_i {E : String} (e : 7 ≤ vb v) (h : X E (ub v 7)) : hthr (ρ := ρ) E P X v := ⟨e, h⟩
theorem hjo_i {rest : σ → PV ρ} {body : (σ → PV ρ) → PV ρ} (h : body rest P X v) : hjo rest body P X v := h
end HI
theorem J2sz {P : Int32 → Vw → Prop} {X : String → Vw → Prop} {v : Vw} {y n : Nat} (hy : y < vK v 13) (e : vZ v y = n) (h : P (nI n) v) : h_J2_size y P X v := by subst e; exact ⟨hy, h⟩
theorem J2get {P : Nat → Vw → Prop} {X : String → Vw → Prop} {v : Vw} {y n x : Nat} {a : Int32} (hy : y < vK v 13) (ha : a = nI n) (hb : n < 2 ^ 31) (hn : n < vZ v y) (e : vE v y n = x) (h : P x v) : h_J2_get y a P X v := by
  subst e; subst ha
  refine ⟨⟨hy, fun q => q.elim (nI_pos hb) fun q => ?_⟩, ?_⟩
  · rw [nI_clamp hb] at q; omega
  · rw [nI_clamp hb]; exact h
theorem J2add {P : Int32 → Vw → Prop} {X : String → Vw → Prop} {v : Vw} {y e : Nat} (hy : y < vK v 13) (he : e % 64 < 21) (hz : vZ v y < 4096) (hb : 2 * vZ v y + 12 ≤ vb v) (h : P 1 (uA v y e)) : h_J2_add y e P X v := ⟨⟨hy, Or.inr (Or.inl he), hz, hb⟩, h⟩
/-! writing into the audit -/
def sumq (s k n c : Int32) : Int32 := ((((31 : Int32) * s) + ((100 : Int32) * k)) + n + c) - ((((31 : Int32) * s) + ((100 : Int32) * k)) + n + c) / (65521 : Int32) * (65521 : Int32)
/-- what the audit's writing needs -/
def wOK (m : Mst) : Prop := m 77 0 = nI (nn m 77) ∧ nn m 77 ≤ 110 ∧ (∃ a, a < 65521 ∧ m 81 0 = nI a) ∧ ∃ c, c ≤ 30000 ∧ m 0 0 = nI c
def sml (x : Int32) (B : Nat) : Prop := ∃ n, n ≤ B ∧ x = nI n
def mW (m : Mst) (k n : Int32) : Mst := up2 (up2 (up2 (up2 (up2 m 78 (nn m 77) k) 79 (nn m 77) n) 80 (nn m 77) (m 0 0)) 77 0 (nI (nn m 77 + 1))) 81 0 (sumq (m 81 0) k n (m 0 0))
theorem sumq_eq {a k n c : Nat} (ha : a < 65521) (hk : k ≤ 6) (hn : n ≤ 65535) (hc : c ≤ 30000) : sumq (nI a) (nI k) (nI n) (nI c) = nI ((31 * a + 100 * k + n + c) % 65521) := by
  unfold sumq
  rw [show (31 : Int32) = nI 31 from by decide +kernel, show (100 : Int32) = nI 100 from by decide +kernel, show (65521 : Int32) = nI 65521 from by decide +kernel, pk_mul, pk_mul, nI_add, nI_add, nI_add]
  exact pk_rem (by omega) (by decide) (by decide)
theorem suml_eq {a k n c : Nat} (ha : a < 65521) (hk : k ≤ 6) (hn : n ≤ 65535) (hc : c ≤ 30000) : (((((((31 : Int64) * (nI a).toInt64) + ((100 : Int64) * (nI k).toInt64)) + (nI n).toInt64) + (nI c).toInt64) - (((((31 : Int64) * (nI a).toInt64) + ((100 : Int64) * (nI k).toInt64)) + (nI n).toInt64) + (nI c).toInt64) / (65521 : Int64) * (65521 : Int64)).toInt32) = nI ((31 * a + 100 * k + n + c) % 65521) := by
  rw [nI_l (by omega), nI_l (by omega), nI_l (by omega), nI_l (by omega), show (31 : Int64) = lN 31 from by decide +kernel, show (100 : Int64) = lN 100 from by decide +kernel, show (65521 : Int64) = lN 65521 from by decide +kernel, lN_mul, lN_mul, lN_add, lN_add, lN_add, pk_lRem (by omega) (by decide) (by decide), lN_i]
theorem q_in {i : Nat} {l : Nat} (h : i < l) (hl : l < 2 ^ 31) : 0 ≤ nI i ∧ (nI i).toNatClampNeg < l := ⟨nI_pos' (by omega), by rw [nI_clamp (by omega)]; exact h⟩
theorem qw_e {ρ : Type} {f l n : Nat} {i x : Int32} {k : PM ρ} {m : Mst} (hi : i = nI n) (hn : n < l) (hl : l < 2 ^ 31) : qw f l i x k m = k (up2 m f n x) := by
  subst hi
  unfold qw
  rw [if_pos (q_in hn hl), nI_clamp (by omega)]
theorem qz_e {ρ : Type} {f l n : Nat} {i x : Int32} {k : PM ρ} {m : Mst} (hi : i = nI n) (hn : n < l) (hl : l < 2 ^ 31) (hx : x = 0 ∨ x = 1) : qz f l i x k m = k (up2 m f n x) := by
  subst hi
  unfold qz
  rw [if_pos ⟨q_in hn hl, hx⟩, nI_clamp (by omega)]
theorem qa_e {ρ : Type} {f l n : Nat} {i : Int32} {k : Int32 → PM ρ} {m : Mst} (hi : i = nI n) (hn : n < l) (hl : l < 2 ^ 31) : qa f l i k m = k (m f n) m := by
  subst hi
  unfold qa
  rw [if_pos (q_in hn hl), nI_clamp (by omega)]
theorem qbd_e {α ρ : Type} {p : PM α} {k : α → PM ρ} {m m' : Mst} {r : α} (h : p m = some (r, m')) : qbd p k m = k r m' := by
  unfold qbd
  rw [h]
theorem q_write_eq {m : Mst} {k n : Int32} (h : wOK m) : q_write k n m = some ((), mW m k n) := by
  obtain ⟨h1, h2, -, -⟩ := h
  unfold q_write
  show qw 78 1200 (m 77 0) k _ m = _
  rw [qw_e h1 (by omega) (by decide)]
  show qw 79 1200 (up2 m 78 (nn m 77) k 77 0) n _ _ = _
  rw [up2_o (by decide), qw_e h1 (by omega) (by decide)]
  show qw 80 1200 (up2 (up2 m 78 (nn m 77) k) 79 (nn m 77) n 77 0) (up2 (up2 m 78 (nn m 77) k) 79 (nn m 77) n 0 0) _ _ = _
  rw [up2_o (by decide), up2_o (by decide), up2_o (by decide), up2_o (by decide), qw_e h1 (by omega) (by decide)]
  show some ((), up2 (up2 _ 77 0 (up2 (up2 (up2 m 78 (nn m 77) k) 79 (nn m 77) n) 80 (nn m 77) (m 0 0) 77 0 + 1)) 81 0 _) = _
  have e77 : up2 (up2 (up2 m 78 (nn m 77) k) 79 (nn m 77) n) 80 (nn m 77) (m 0 0) 77 0 + 1 = nI (nn m 77 + 1) := by
    rw [up2_o (by decide), up2_o (by decide), up2_o (by decide), h1]
    exact nI_1 _
  rw [e77]
  rfl
