/-! ===== a service fetches the keys (printed by gen/ev94.py) ===== -/
theorem vN_uM {v : Vw} {K i j : Nat} {x : Int32} : vN (uM v K i j x) = vN v := rfl
theorem vM_uN {v : Vw} {K i j x : Nat} : vM (uN v K i j x) = vM v := rfl
theorem CRh.cache {U : (Nat → List Nat) → Prop} {nL : Nat} {v : Vw} {m : Mst} {b T : Nat} (h : CRh U nL v m (b + 10) (T)) {s : Nat} (hs : s < 4) (X : Int32) (hX : ∀ k, k < 20 → bt1 X k = vB v 0 k)  : CRh U nL (uM (uN (uBn (uBs v 0 (vB v 0) 3) (vB v 0) 7) 3 s 1 (idc 14 (vK v 14))) 3 s 2 (m 0 0)) (up2 (up2 m 67 s X) 68 s (m 0 0)) (b) (T) := by
  obtain ⟨hF, hSt, hPe, hSe, hLn, hCt, hL3, hL4, hL5, hL6, hL7, hL8, hAr, hDv, hTo, hPu, hCa, hAu, hPp, hOw, hWr, hUn, hFl, hAt, hSa, hSs, hOs, hR70, hR81, hR82, hR90, hR95, hRt, hRr, hRa, hT7, hT8, hT10, hT12, hN8, hN10, hFa, hTu, hBu, hLa⟩ := h
  have h14 : 21 ≤ vK v 14 := hCt.2.2.2.2.2.2.2.2.2.1
  have k14 : up1 (vK v) 14 (vK v 14 + 1) 14 = vK v 14 + 1 := up1_s
  have kle : vK v 14 ≤ up1 (vK v) 14 (vK v 14 + 1) 14 := by rw [k14]; omega
  have x1 : ∀ i, (up3 (vN v) 3 s 1 (idc 14 (vK v 14))) 3 i 1 = if i = s then idc 14 (vK v 14) else vN v 3 i 1 := fun i => by
    by_cases q : i = s
    · simp [up3, q]
    · simp [up3, q]
  refine ⟨(((hF.om (F := 67) rfl s X).set (K := 3) (f := 2) (F := 68) (by decide) s (m 0 0))), (by first | exact hSt | (simp (config := { decide := true }) only [vN_uM, vM_uN, vM_uMk, vN_uNk]; exact hSt)), (by first | exact hPe | (simp (config := { decide := true }) only [vN_uM, vM_uN, vM_uMk, vN_uNk]; exact hPe)), (by first | exact hSe | (simp (config := { decide := true }) only [vN_uM, vM_uN, vM_uMk, vN_uNk]; exact hSe)), (by first | exact hLn | (simp (config := { decide := true }) only [vN_uM, vM_uN, vM_uMk, vN_uNk]; exact hLn)), ?_, (by first | exact hL3 | (simp (config := { decide := true }) only [vN_uM, vM_uN, vM_uMk, vN_uNk]; exact hL3)), (by first | exact hL4 | (simp (config := { decide := true }) only [vN_uM, vM_uN, vM_uMk, vN_uNk]; exact hL4)), (by first | exact hL5 | (simp (config := { decide := true }) only [vN_uM, vM_uN, vM_uMk, vN_uNk]; exact hL5)), (by first | exact hL6 | (simp (config := { decide := true }) only [vN_uM, vM_uN, vM_uMk, vN_uNk]; exact hL6)), (by first | exact hL7 | (simp (config := { decide := true }) only [vN_uM, vM_uN, vM_uMk, vN_uNk]; exact hL7)), (by first | exact hL8 | (simp (config := { decide := true }) only [vN_uM, vM_uN, vM_uMk, vN_uNk]; exact hL8)), (by first | exact hAr | (simp (config := { decide := true }) only [vN_uM, vM_uN, vM_uMk, vN_uNk]; exact hAr)), (hDv.cgb h14 (fun z hz => by show up1 (up1 (vB v) 0 (vB v 0)) (vK v 14) (vB v 0) z = vB v z; rw [up1_n hz, up1_e])), (hTo.cgb h14 (fun z hz => by show up1 (up1 (vB v) 0 (vB v 0)) (vK v 14) (vB v 0) z = vB v z; rw [up1_n hz, up1_e])), (gPu.cgb (B := vB v) hPu h14 (fun z hz => by show up1 (up1 (vB v) 0 (vB v 0)) (vK v 14) (vB v 0) z = vB v z; rw [up1_n hz, up1_e])), ?_, (hAu.cgb kle (fun f hf t => by have h1 : vN v 10 f 8 / 64 < vK v 14 := (hAu f hf).2.2.1; have t1 : vN v 10 f 8 / 64 = vK v 14 := t; omega) (fun z hz => by show up1 (up1 (vB v) 0 (vB v 0)) (vK v 14) (vB v 0) z = vB v z; rw [up1_n hz, up1_e])), (hPp.cgb kle (fun f hf t => by have h1 : vN v 12 f 3 / 64 < vK v 14 := (hPp f hf).2.2.1; have t1 : vN v 12 f 3 / 64 = vK v 14 := t; omega) (fun z hz => by show up1 (up1 (vB v) 0 (vB v 0)) (vK v 14) (vB v 0) z = vB v z; rw [up1_n hz, up1_e])), ?_, (by first | exact hWr | (simp (config := { decide := true }) only [vN_uM, vM_uN, vM_uMk, vN_uNk]; exact hWr)), (by first | exact hUn | (simp (config := { decide := true }) only [vN_uM, vM_uN, vM_uMk, vN_uNk]; exact hUn)), (by first | exact hFl | (simp (config := { decide := true }) only [vN_uM, vM_uN, vM_uMk, vN_uNk]; exact hFl)), (by first | exact hAt | (simp (config := { decide := true }) only [vN_uM, vM_uN, vM_uMk, vN_uNk]; exact hAt)), (by first | exact hSa | (simp (config := { decide := true }) only [vN_uM, vM_uN, vM_uMk, vN_uNk]; exact hSa)), (by first | exact hSs | (simp (config := { decide := true }) only [vN_uM, vM_uN, vM_uMk, vN_uNk]; exact hSs)), (by first | exact hOs | (simp (config := { decide := true }) only [vN_uM, vM_uN, vM_uMk, vN_uNk]; exact hOs)), (by first | exact hR70 | (simp (config := { decide := true }) only [vN_uM, vM_uN, vM_uMk, vN_uNk]; exact hR70)), (by first | exact hR81 | (simp (config := { decide := true }) only [vN_uM, vM_uN, vM_uMk, vN_uNk]; exact hR81)), (by first | exact hR82 | (simp (config := { decide := true }) only [vN_uM, vM_uN, vM_uMk, vN_uNk]; exact hR82)), (by first | exact hR90 | (simp (config := { decide := true }) only [vN_uM, vM_uN, vM_uMk, vN_uNk]; exact hR90)), (by first | exact hR95 | (simp (config := { decide := true }) only [vN_uM, vM_uN, vM_uMk, vN_uNk]; exact hR95)), (by first | exact hRt | (simp (config := { decide := true }) only [vN_uM, vM_uN, vM_uMk, vN_uNk]; exact hRt)), (by first | exact hRr | (simp (config := { decide := true }) only [vN_uM, vM_uN, vM_uMk, vN_uNk]; exact hRr)), (by first | exact hRa | (simp (config := { decide := true }) only [vN_uM, vM_uN, vM_uMk, vN_uNk]; exact hRa)), (by first | exact hT7 | (simp (config := { decide := true }) only [vN_uM, vM_uN, vM_uMk, vN_uNk]; exact hT7)), (by first | exact hT8 | (simp (config := { decide := true }) only [vN_uM, vM_uN, vM_uMk, vN_uNk]; exact hT8)), (by first | exact hT10 | (simp (config := { decide := true }) only [vN_uM, vM_uN, vM_uMk, vN_uNk]; exact hT10)), (by first | exact hT12 | (simp (config := { decide := true }) only [vN_uM, vM_uN, vM_uMk, vN_uNk]; exact hT12)), (by first | exact hN8 | (simp (config := { decide := true }) only [vN_uM, vM_uN, vM_uMk, vN_uNk]; exact hN8)), (by first | exact hN10 | (simp (config := { decide := true }) only [vN_uM, vM_uN, vM_uMk, vN_uNk]; exact hN10)), (by first | exact hFa | (simp (config := { decide := true }) only [vN_uM, vM_uN, vM_uMk, vN_uNk]; exact hFa)), (by first | exact hTu | (simp (config := { decide := true }) only [vN_uM, vM_uN, vM_uMk, vN_uNk]; exact hTu)), ?_, (by first | exact hLa | (simp (config := { decide := true }) only [vN_uM, vM_uN, vM_uMk, vN_uNk]; exact hLa))⟩
  · obtain ⟨c1, c2, c3, c4, c5, c6, c7, c8, c9, c10, c11, c12⟩ := hCt
    refine ⟨c1, c2, c3, c4, c5, c6, c7, c8, c9, ?_, c11, c12⟩
    show 21 ≤ up1 (vK v) 14 (vK v 14 + 1) 14
    rw [k14]; omega
  · show gCa (fun i => (up3 (vN v) 3 s 1 (idc 14 (vK v 14))) 3 i 1) (up1 (up1 (vB v) 0 (vB v 0)) (vK v 14) (vB v 0)) (up1 (vK v) 14 (vK v 14 + 1) 14) (up2 m 67 s X 67)
    simp only [x1]
    rw [k14, up2_r]
    intro t ht
    show (if t = s then _ else _) = idc 14 ((if t = s then _ else _) / 64) ∧ ((if t = s then _ else _) / 64 = 13 + 2 * t ∨ 21 ≤ (if t = s then _ else _) / 64) ∧ (if t = s then _ else _) / 64 < _ ∧ ∀ k, k < 20 → up1 (up1 (vB v) 0 (vB v 0)) (vK v 14) (vB v 0) ((if t = s then _ else _) / 64) k = bt1 (up1 (m 67) s X t) k
    by_cases q : t = s
    · rw [if_pos q, idc_div (by decide), q, up1_s]
      exact ⟨rfl, Or.inr h14, by omega, fun k hk => by rw [up1_s]; exact (hX k hk).symm⟩
    · rw [if_neg q, up1_n q]
      obtain ⟨a1, a2, a3, a4⟩ := hCa t ht
      have a3 : vN v 3 t 1 / 64 < vK v 14 := a3
      exact ⟨a1, a2, by omega, fun k hk => by rw [up1_n (by omega), up1_e]; exact a4 k hk⟩
  · show gOw (fun i => vN v 10 i 8) (fun i => vN v 12 i 3) (fun i => (up3 (vN v) 3 s 1 (idc 14 (vK v 14))) 3 i 1) (nn m 46) (nn m 70)
    simp only [x1]
    obtain ⟨ow, oF, oR, oS⟩ := hOw
    refine ⟨fun z => if z = vK v 14 then 3 * s + 2 else ow z, fun f hf => ?_, fun r2 hr2 => ?_, fun t ht => ?_⟩
    · have hlt : vN v 10 f 8 / 64 < vK v 14 := (hAu f hf).2.2.1
      have o1 := oF f hf
      show (if vN v 10 f 8 / 64 = vK v 14 then _ else _) = _
      rw [if_neg (by omega)]; exact o1
    · have hlt : vN v 12 r2 3 / 64 < vK v 14 := (hPp r2 hr2).2.2.1
      have o1 := oR r2 hr2
      show (if vN v 12 r2 3 / 64 = vK v 14 then _ else _) = _
      rw [if_neg (by omega)]; exact o1
    · show (if (if t = s then _ else _) / 64 = vK v 14 then _ else ow ((if t = s then _ else _) / 64)) = _
      by_cases q : t = s
      · rw [if_pos q, idc_div (by decide), if_pos rfl, q]
      · rw [if_neg q]
        have hlt : vN v 3 t 1 / 64 < vK v 14 := (hCa t ht).2.2.1
        have o1 := oS t ht
        rw [if_neg (by omega)]; exact o1
  · show gBu (vb v - 3 - 7) b (m 35) (m 51) (nn m 30) (nn m 46) (m 62 0)
    unfold gBu at hBu ⊢
    omega
