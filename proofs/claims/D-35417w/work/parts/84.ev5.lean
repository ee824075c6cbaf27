/-! ===== a code, a token, a family more (printed by gen/ev84.py) ===== -/
theorem vN_uA {v : Vw} {y e : Nat} : vN (uA v y e) = vN v := rfl
theorem vM_uA {v : Vw} {y e : Nat} : vM (uA v y e) = vM v := rfl
theorem CRh.code {U : (Nat → List Nat) → Prop} {nL : Nat} {v : Vw} {m : Mst} {b T : Nat} (h : CRh U nL v m (b + 100) (T)) {s : Nat} (hs : s < 60) (c a x : Int32) (hC : nn m 39 ≤ 24) (hfc : ∀ f, f < nn m 46 → (m 47 f).toNatClampNeg < nn m 39)  : CRh U nL (uA (uM (uM (uM (uM (uN (uK v 9 6) 9 (nn m 39) 0 (idc 8 s)) 9 (nn m 39) 1 c) 9 (nn m 39) 2 a) 9 (nn m 39) 3 x) 9 (nn m 39) 4 (m 0 0)) 4 (idc 9 (nn m 39))) (up2 (up2 (up2 (up2 (up2 (up2 (up2 (m) 40 (nn m 39) (nI s)) 41 (nn m 39) c) 42 (nn m 39) a) 43 (nn m 39) x) 44 (nn m 39) (m 0 0)) 45 (nn m 39) (-1)) 39 0 (nI ((nn m 39) + 1))) (b) (T) := by
  obtain ⟨hF, hSt, hPe, hSe, hLn, hCt, hL3, hL4, hL5, hL6, hL7, hL8, hAr, hDv, hTo, hPu, hCa, hAu, hPp, hOw, hWr, hUn, hFl, hAt, hSa, hSs, hOs, hR70, hR81, hR82, hR90, hR95, hRt, hRr, hRa, hT7, hT8, hT10, hT12, hN8, hN10, hFa, hTu, hBu, hLa⟩ := h
  have eK : vK v 9 = nn m 39 := hCt.2.2.2.1
  have x0 : ∀ i, (up3 (row3 (vN v) 9 (vK v 9) (fun _ => nul)) 9 (nn m 39) 0 (idc 8 s)) 9 i 0 = if i = (nn m 39) then idc 8 s else vN v 9 i 0 := fun i => by
    by_cases q : i = (nn m 39)
    · simp [up3, row3, eK, q]
    · simp [up3, row3, eK, q]
  have x5 : ∀ i, (up3 (row3 (vN v) 9 (vK v 9) (fun _ => nul)) 9 (nn m 39) 0 (idc 8 s)) 9 i 5 = if i = (nn m 39) then nul else vN v 9 i 5 := fun i => by
    by_cases q : i = (nn m 39)
    · simp [up3, row3, eK, q]
    · simp [up3, row3, eK, q]
  refine ⟨?_, (by first | exact hSt | (simp (config := { decide := true }) only [vM_uA, vN_uA, vM_uMk, vN_uNk]; exact hSt)), (by first | exact hPe | (simp (config := { decide := true }) only [vM_uA, vN_uA, vM_uMk, vN_uNk]; exact hPe)), (by first | exact hSe | (simp (config := { decide := true }) only [vM_uA, vN_uA, vM_uMk, vN_uNk]; exact hSe)), (by first | exact hLn | (simp (config := { decide := true }) only [vM_uA, vN_uA, vM_uMk, vN_uNk]; exact hLn)), ?_, (by first | exact hL3 | (simp (config := { decide := true }) only [vM_uA, vN_uA, vM_uMk, vN_uNk]; exact hL3)), ?_, (by first | exact hL5 | (simp (config := { decide := true }) only [vM_uA, vN_uA, vM_uMk, vN_uNk]; exact hL5)), (by first | exact hL6 | (simp (config := { decide := true }) only [vM_uA, vN_uA, vM_uMk, vN_uNk]; exact hL6)), (by first | exact hL7 | (simp (config := { decide := true }) only [vM_uA, vN_uA, vM_uMk, vN_uNk]; exact hL7)), (by first | exact hL8 | (simp (config := { decide := true }) only [vM_uA, vN_uA, vM_uMk, vN_uNk]; exact hL8)), (by first | exact hAr | (simp (config := { decide := true }) only [vM_uA, vN_uA, vM_uMk, vN_uNk]; exact hAr)), (by first | exact hDv | (simp (config := { decide := true }) only [vM_uA, vN_uA, vM_uMk, vN_uNk]; exact hDv)), (by first | exact hTo | (simp (config := { decide := true }) only [vM_uA, vN_uA, vM_uMk, vN_uNk]; exact hTo)), (by first | exact hPu | (simp (config := { decide := true }) only [vM_uA, vN_uA, vM_uMk, vN_uNk]; exact hPu)), (by first | exact hCa | (simp (config := { decide := true }) only [vM_uA, vN_uA, vM_uMk, vN_uNk]; exact hCa)), (by first | exact hAu | (simp (config := { decide := true }) only [vM_uA, vN_uA, vM_uMk, vN_uNk]; exact hAu)), (by first | exact hPp | (simp (config := { decide := true }) only [vM_uA, vN_uA, vM_uMk, vN_uNk]; exact hPp)), (by first | exact hOw | (simp (config := { decide := true }) only [vM_uA, vN_uA, vM_uMk, vN_uNk]; exact hOw)), (by first | exact hWr | (simp (config := { decide := true }) only [vM_uA, vN_uA, vM_uMk, vN_uNk]; exact hWr)), (by first | exact hUn | (simp (config := { decide := true }) only [vM_uA, vN_uA, vM_uMk, vN_uNk]; exact hUn)), (gFl.ue (by decide) hFl), (gAt.ue (by decide) hAt), (by first | exact hSa | (simp (config := { decide := true }) only [vM_uA, vN_uA, vM_uMk, vN_uNk]; exact hSa)), (by first | exact hSs | (simp (config := { decide := true }) only [vM_uA, vN_uA, vM_uMk, vN_uNk]; exact hSs)), (by first | exact hOs | (simp (config := { decide := true }) only [vM_uA, vN_uA, vM_uMk, vN_uNk]; exact hOs)), (by first | exact hR70 | (simp (config := { decide := true }) only [vM_uA, vN_uA, vM_uMk, vN_uNk]; exact hR70)), (by first | exact hR81 | (simp (config := { decide := true }) only [vM_uA, vN_uA, vM_uMk, vN_uNk]; exact hR81)), (by first | exact hR82 | (simp (config := { decide := true }) only [vM_uA, vN_uA, vM_uMk, vN_uNk]; exact hR82)), ?_, ?_, (by first | exact hRt | (simp (config := { decide := true }) only [vM_uA, vN_uA, vM_uMk, vN_uNk]; exact hRt)), (by first | exact hRr | (simp (config := { decide := true }) only [vM_uA, vN_uA, vM_uMk, vN_uNk]; exact hRr)), (by first | exact hRa | (simp (config := { decide := true }) only [vM_uA, vN_uA, vM_uMk, vN_uNk]; exact hRa)), (by first | exact hT7 | (simp (config := { decide := true }) only [vM_uA, vN_uA, vM_uMk, vN_uNk]; exact hT7)), (by first | exact hT8 | (simp (config := { decide := true }) only [vM_uA, vN_uA, vM_uMk, vN_uNk]; exact hT8)), (by first | (simp (config := { decide := true }) only [vM_uA, vN_uA, vM_uMk, vN_uNk]; exact hT10) | exact hT10), (by first | exact hT12 | (simp (config := { decide := true }) only [vM_uA, vN_uA, vM_uMk, vN_uNk]; exact hT12)), (by first | exact hN8 | (simp (config := { decide := true }) only [vM_uA, vN_uA, vM_uMk, vN_uNk]; exact hN8)), (by first | (simp (config := { decide := true }) only [vM_uA, vN_uA, vM_uMk, vN_uNk]; exact hN10) | exact hN10), ?_, (by first | (simp (config := { decide := true }) only [vM_uA, vN_uA, vM_uMk, vN_uNk]; exact hTu) | exact hTu), ?_, (by first | exact hLa | (simp (config := { decide := true }) only [vM_uA, vN_uA, vM_uMk, vN_uNk]; exact hLa))⟩
  · have eK : vK v 9 = (nn m 39) := hCt.2.2.2.1
    refine gF.cnt (K := 9) (Fc := 39) (n := (nn m 39)) ?_ (by decide) (by rw [nn_o (by decide), nn_o (by decide), nn_o (by decide), nn_o (by decide), nn_o (by decide), nn_o (by decide)]) (by omega) ?_
    · have h0 := hF.bR (K := 9) (i := (nn m 39)) (Nat.le_refl _) (fun _ => 0)
      have h1 := h0.bM (K := 9) (i := (nn m 39)) (f := 1) (Nat.le_refl _) c
      have h2 := h1.bM (K := 9) (i := (nn m 39)) (f := 2) (Nat.le_refl _) a
      have h3 := h2.bM (K := 9) (i := (nn m 39)) (f := 3) (Nat.le_refl _) x
      have h4 := h3.bM (K := 9) (i := (nn m 39)) (f := 4) (Nat.le_refl _) (m 0 0)
      have h5 := h4.om (F := 40) rfl (nn m 39) (nI s)
      have h6 := h5.bm (K := 9) (f := 1) (F := 41) (i := (nn m 39)) (by decide) (Nat.le_refl _) c
      have h7 := h6.bm (K := 9) (f := 2) (F := 42) (i := (nn m 39)) (by decide) (Nat.le_refl _) a
      have h8 := h7.bm (K := 9) (f := 3) (F := 43) (i := (nn m 39)) (by decide) (Nat.le_refl _) x
      have h9 := h8.bm (K := 9) (f := 4) (F := 44) (i := (nn m 39)) (by decide) (Nat.le_refl _) (m 0 0)
      have h10 := h9.om (F := 45) rfl (nn m 39) (-1)
      show gF (up3 (up3 (up3 (up3 (row3 (vM v) 9 (vK v 9) (fun _ => 0)) 9 (nn m 39) 1 c) 9 (nn m 39) 2 a) 9 (nn m 39) 3 x) 9 (nn m 39) 4 (m 0 0)) _
      rw [eK]
      exact h10
    · intro f F hf
      show (up3 (up3 (up3 (up3 (row3 (vM v) 9 (vK v 9) (fun _ => 0)) 9 (nn m 39) 1 c) 9 (nn m 39) 2 a) 9 (nn m 39) 3 x) 9 (nn m 39) 4 (m 0 0)) 9 ((nn m 39)) f = _
      have hf2 : (f = 1 ∧ F = 41) ∨ (f = 2 ∧ F = 42) ∨ (f = 3 ∧ F = 43) ∨ (f = 4 ∧ F = 44) := by
        have : ∀ x, x ∈ ftab → x.1 = 9 → (x.2.1 = 1 ∧ x.2.2 = 41) ∨ (x.2.1 = 2 ∧ x.2.2 = 42) ∨ (x.2.1 = 3 ∧ x.2.2 = 43) ∨ (x.2.1 = 4 ∧ x.2.2 = 44) := by decide +kernel
        exact this _ hf rfl
      rcases hf2 with ⟨a, c⟩ | ⟨a, c⟩ | ⟨a, c⟩ | ⟨a, c⟩ <;> subst a <;> subst c <;> simp [up3, up2, row3, eK]
  · obtain ⟨c1, c2, c3, c4, c5, c6, c7, c8, c9, c10, c11, c12⟩ := hCt
    refine ⟨c1, c2, c3, ?_, c5, c6, c7, c8, c9, c10, c11, c12⟩
    · show up1 (vK v) 9 (vK v 9 + 1) 9 = (nI ((nn m 39) + 1)).toNatClampNeg
      rw [up1_s, nI_clamp (by omega), c4]
  · show gL1 (up1 (vZ v) 4 (vZ v 4 + 1)) (up2 (vE v) 4 (vZ v 4) (idc 9 (nn m 39))) 4 9 ((nI ((nn m 39) + 1)).toNatClampNeg)
    rw [nI_clamp (by omega)]
    exact hL4.add
  · show gRf (fun i => (up3 (row3 (vN v) 9 (vK v 9) (fun _ => nul)) 9 (nn m 39) 0 (idc 8 s)) 9 i 0) 8 (up2 m 40 (nn m 39) (nI s) 40) (nI ((nn m 39) + 1)).toNatClampNeg
    simp only [x0]
    rw [nI_clamp (by omega), up2_r]
    exact hR90.add (fun i hi => ⟨if_neg (by omega), up1_n (by omega)⟩) (by show (if (nn m 39) = (nn m 39) then _ else _) = _; rw [if_pos rfl, up1_s, rf_ix (by omega)])
  · show gRf (fun i => (up3 (row3 (vN v) 9 (vK v 9) (fun _ => nul)) 9 (nn m 39) 0 (idc 8 s)) 9 i 5) 10 (up2 m 45 (nn m 39) (-1) 45) (nI ((nn m 39) + 1)).toNatClampNeg
    simp only [x5]
    rw [nI_clamp (by omega), up2_r]
    exact hR95.add (fun i hi => ⟨if_neg (by omega), up1_n (by omega)⟩) (by show (if (nn m 39) = (nn m 39) then _ else _) = _; rw [if_pos rfl, up1_s, rf_m1])
  · show gFa (fun i => vN v 10 i 1) (fun i => vM v 10 i 2) (fun i => vM v 10 i 3) (fun i => vM v 10 i 4) (nn m 46) (m 47) (up2 m 40 (nn m 39) (nI s) 40) (up2 m 41 (nn m 39) c 41) (up2 m 42 (nn m 39) a 42) (up2 m 43 (nn m 39) x 43)
    rw [up2_r, up2_r, up2_r, up2_r]
    intro f hf
    have := hfc f hf
    rw [up1_n (by omega), up1_n (by omega), up1_n (by omega), up1_n (by omega)]
    exact hFa f hf
  · show gBu (vb v - (6 + 1) - (2 * vZ v 4 + 12)) b (m 35) (m 51) (nn m 30) (nn m 46) (m 62 0)
    rw [hL4.1]
    unfold gBu at hBu ⊢
    omega
set_option maxHeartbeats 8000000 in
theorem CRh.token {U : (Nat → List Nat) → Prop} {nL : Nat} {v : Vw} {m : Mst} {b T : Nat} (h : CRh U nL v m (b + 100) T) {f a bb : Nat} (c x y k e : Int32) (hf : f < nn m 46) (hF24 : nn m 46 ≤ 24) (ha : a < 4) (hN : vN v 10 f 8 = idc 14 bb) (hT : nn m 52 ≤ 24) : CRh U nL (uM (uBs (uA (uM (uM (uM (uM (uM (uM (uN (uK v 11 7) 11 (nn m 52) 0 (idc 10 f)) 11 (nn m 52) 1 c) 11 (nn m 52) 2 (nI a)) 11 (nn m 52) 3 x) 11 (nn m 52) 4 y) 11 (nn m 52) 5 k) 11 (nn m 52) 6 e) 6 (idc 11 (nn m 52))) bb (up1 (vB v bb) a true) 3) 10 f 9 (nI (nn m 52))) (up2 (up2 (up2 (up2 (up2 (up2 (up2 (up2 (up2 (m) 57 (nn m 52) (nI f)) 53 (nn m 52) c) 54 (nn m 52) (nI a)) 55 (nn m 52) x) 56 (nn m 52) y) 59 (nn m 52) e) 58 (nn m 52) k) 50 f (nI (nn m 52))) 52 0 (nI ((nn m 52) + 1))) (b) T := by
  obtain ⟨hF, hSt, hPe, hSe, hLn, hCt, hL3, hL4, hL5, hL6, hL7, hL8, hAr, hDv, hTo, hPu, hCa, hAu, hPp, hOw, hWr, hUn, hFl, hAt, hSa, hSs, hOs, hR70, hR81, hR82, hR90, hR95, hRt, hRr, hRa, hT7, hT8, hT10, hT12, hN8, hN10, hFa, hTu, hBu, hLa⟩ := h
  have eK : vK v 11 = nn m 52 := hCt.2.2.2.2.2.1
  have hbr := hAu f hf
  have ebb : vN v 10 f 8 / 64 = bb := by rw [hN, idc_div (by decide)]
  have hbb : 21 ≤ bb := by rw [← ebb]; exact hbr.2.1
  obtain ⟨ow, oF, oR, oS⟩ := hOw
  have hOw : gOw (fun i => vN v 10 i 8) (fun i => vN v 12 i 3) (fun i => vN v 3 i 1) (nn m 46) (nn m 70) := ⟨ow, oF, oR, oS⟩
  have orr : ow bb = 3 * f := by rw [← ebb]; exact oF f hf
  have ne3 : ∀ s, s < 4 → (fun i => vN v 3 i 1) s / 64 ≠ bb := fun s hs t => by have := oS s hs; rw [t] at this; omega
  have ne12 : ∀ r, r < nn m 70 → (fun i => vN v 12 i 3) r / 64 ≠ bb := fun s hs t => by have := oR s hs; rw [t] at this; omega
  have hF2 : gF (up3 (up3 (up3 (up3 (up3 (up3 (up3 (row3 (vM v) 11 (vK v 11) (fun _ => 0)) 11 (nn m 52) 1 c) 11 (nn m 52) 2 (nI a)) 11 (nn m 52) 3 x) 11 (nn m 52) 4 y) 11 (nn m 52) 5 k) 11 (nn m 52) 6 e) 10 f 9 (nI (nn m 52))) (up2 (up2 (up2 (up2 (up2 (up2 (up2 (up2 (up2 (m) 57 (nn m 52) (nI f)) 53 (nn m 52) c) 54 (nn m 52) (nI a)) 55 (nn m 52) x) 56 (nn m 52) y) 59 (nn m 52) e) 58 (nn m 52) k) 50 f (nI (nn m 52))) 52 0 (nI ((nn m 52) + 1))) := by
    have eK : vK v 11 = (nn m 52) := hCt.2.2.2.2.2.1
    refine gF.cnt (K := 11) (Fc := 52) (n := (nn m 52)) ?_ (by decide) (by rw [nn_o (by decide), nn_o (by decide), nn_o (by decide), nn_o (by decide), nn_o (by decide), nn_o (by decide), nn_o (by decide), nn_o (by decide)]) (by omega) ?_
    · have h0 := hF.bR (K := 11) (i := (nn m 52)) (Nat.le_refl _) (fun _ => 0)
      have h1 := h0.bM (K := 11) (i := (nn m 52)) (f := 1) (Nat.le_refl _) c
      have h2 := h1.bM (K := 11) (i := (nn m 52)) (f := 2) (Nat.le_refl _) (nI a)
      have h3 := h2.bM (K := 11) (i := (nn m 52)) (f := 3) (Nat.le_refl _) x
      have h4 := h3.bM (K := 11) (i := (nn m 52)) (f := 4) (Nat.le_refl _) y
      have h5 := h4.bM (K := 11) (i := (nn m 52)) (f := 5) (Nat.le_refl _) k
      have h6 := h5.bM (K := 11) (i := (nn m 52)) (f := 6) (Nat.le_refl _) e
      have h7 := h6.om (F := 57) rfl (nn m 52) (nI f)
      have h8 := h7.bm (K := 11) (f := 1) (F := 53) (i := (nn m 52)) (by decide) (Nat.le_refl _) c
      have h9 := h8.bm (K := 11) (f := 2) (F := 54) (i := (nn m 52)) (by decide) (Nat.le_refl _) (nI a)
      have h10 := h9.bm (K := 11) (f := 3) (F := 55) (i := (nn m 52)) (by decide) (Nat.le_refl _) x
      have h11 := h10.bm (K := 11) (f := 4) (F := 56) (i := (nn m 52)) (by decide) (Nat.le_refl _) y
      have h12 := h11.bm (K := 11) (f := 6) (F := 59) (i := (nn m 52)) (by decide) (Nat.le_refl _) e
      have h13 := h12.bm (K := 11) (f := 5) (F := 58) (i := (nn m 52)) (by decide) (Nat.le_refl _) k
      have h14 := h13.set (K := 10) (f := 9) (F := 50) (by decide) f (nI (nn m 52))
      show gF (up3 (up3 (up3 (up3 (up3 (up3 (up3 (row3 (vM v) 11 (vK v 11) (fun _ => 0)) 11 (nn m 52) 1 c) 11 (nn m 52) 2 (nI a)) 11 (nn m 52) 3 x) 11 (nn m 52) 4 y) 11 (nn m 52) 5 k) 11 (nn m 52) 6 e) 10 f 9 (nI (nn m 52))) _
      rw [eK]
      exact h14
    · intro f F hf
      show (up3 (up3 (up3 (up3 (up3 (up3 (up3 (row3 (vM v) 11 (vK v 11) (fun _ => 0)) 11 (nn m 52) 1 c) 11 (nn m 52) 2 (nI a)) 11 (nn m 52) 3 x) 11 (nn m 52) 4 y) 11 (nn m 52) 5 k) 11 (nn m 52) 6 e) 10 f 9 (nI (nn m 52))) 11 ((nn m 52)) f = _
      have hf2 : (f = 1 ∧ F = 53) ∨ (f = 2 ∧ F = 54) ∨ (f = 3 ∧ F = 55) ∨ (f = 4 ∧ F = 56) ∨ (f = 5 ∧ F = 58) ∨ (f = 6 ∧ F = 59) := by
        have : ∀ x, x ∈ ftab → x.1 = 11 → (x.2.1 = 1 ∧ x.2.2 = 53) ∨ (x.2.1 = 2 ∧ x.2.2 = 54) ∨ (x.2.1 = 3 ∧ x.2.2 = 55) ∨ (x.2.1 = 4 ∧ x.2.2 = 56) ∨ (x.2.1 = 5 ∧ x.2.2 = 58) ∨ (x.2.1 = 6 ∧ x.2.2 = 59) := by decide +kernel
        exact this _ hf rfl
      rcases hf2 with ⟨a, c⟩ | ⟨a, c⟩ | ⟨a, c⟩ | ⟨a, c⟩ | ⟨a, c⟩ | ⟨a, c⟩ <;> subst a <;> subst c <;> simp [up3, up2, row3, eK]
  obtain ⟨V, hV⟩ : ∃ V, V = uM (uBs (uA (uM (uM (uM (uM (uM (uM (uN (uK v 11 7) 11 (nn m 52) 0 (idc 10 f)) 11 (nn m 52) 1 c) 11 (nn m 52) 2 (nI a)) 11 (nn m 52) 3 x) 11 (nn m 52) 4 y) 11 (nn m 52) 5 k) 11 (nn m 52) 6 e) 6 (idc 11 (nn m 52))) bb (up1 (vB v bb) a true) 3) 10 f 9 (nI (nn m 52)) := ⟨_, rfl⟩
  obtain ⟨W, hW⟩ : ∃ W, W = up2 (up2 (up2 (up2 (up2 (up2 (up2 (up2 (up2 (m) 57 (nn m 52) (nI f)) 53 (nn m 52) c) 54 (nn m 52) (nI a)) 55 (nn m 52) x) 56 (nn m 52) y) 59 (nn m 52) e) 58 (nn m 52) k) 50 f (nI (nn m 52))) 52 0 (nI ((nn m 52) + 1)) := ⟨_, rfl⟩
  have o : ∀ F, F ≠ 50 ∧ F ≠ 52 ∧ F ≠ 53 ∧ F ≠ 54 ∧ F ≠ 55 ∧ F ≠ 56 ∧ F ≠ 57 ∧ F ≠ 58 ∧ F ≠ 59 → W F = m F := fun F hF => by
    rw [hW, up2_o (hF.2.1), up2_o (hF.1), up2_o (hF.2.2.2.2.2.2.2.1), up2_o (hF.2.2.2.2.2.2.2.2), up2_o (hF.2.2.2.2.2.1), up2_o (hF.2.2.2.2.1), up2_o (hF.2.2.2.1), up2_o (hF.2.2.1), up2_o (hF.2.2.2.2.2.2.1)]
  have on : ∀ F, F ≠ 50 ∧ F ≠ 52 ∧ F ≠ 53 ∧ F ≠ 54 ∧ F ≠ 55 ∧ F ≠ 56 ∧ F ≠ 57 ∧ F ≠ 58 ∧ F ≠ 59 → nn W F = nn m F := fun F hF => by unfold nn; rw [o F hF]
  have gN : ∀ K, K ≠ 11 → vN V K = vN v K := fun K hK => by
    rw [hV]
    show (up3 (row3 (vN v) 11 (vK v 11) (fun _ => nul)) 11 (nn m 52) 0 (idc 10 f)) K = _
    rw [up3_o hK, row3_o hK]
  have gM : ∀ K, K ≠ 10 ∧ K ≠ 11 → vM V K = vM v K := fun K hK => by
    rw [hV]
    show (up3 (up3 (up3 (up3 (up3 (up3 (up3 (row3 (vM v) 11 (vK v 11) (fun _ => 0)) 11 (nn m 52) 1 c) 11 (nn m 52) 2 (nI a)) 11 (nn m 52) 3 x) 11 (nn m 52) 4 y) 11 (nn m 52) 5 k) 11 (nn m 52) 6 e) 10 f 9 (nI (nn m 52))) K = _
    rw [up3_o (hK.1), up3_o (hK.2), up3_o (hK.2), up3_o (hK.2), up3_o (hK.2), up3_o (hK.2), up3_o (hK.2), row3_o (hK.2)]
  have gL : ∀ K, K ≠ 11 → vL V K = vL v K := fun K hK => by
    rw [hV]
    exact up2_o hK
  have gK : ∀ K, K ≠ 11 → vK V K = vK v K := fun K hK => by
    rw [hV]
    exact up1_n hK
  have k11 : vK V 11 = (nn m 52) + 1 := by
    rw [hV]
    show up1 (vK v) 11 (vK v 11 + 1) 11 = _
    rw [up1_s, eK]
  have eZ : vZ V = up1 (vZ v) 6 (vZ v 6 + 1) := by rw [hV]; rfl
  have eE : vE V = up2 (vE v) 6 (vZ v 6) (idc 11 (nn m 52)) := by rw [hV]; rfl
  have eB : vB V = up1 (vB v) bb (up1 (vB v bb) a true) := by rw [hV]; rfl
  have eW : vW V = vW v := by rw [hV]; rfl
  have ebd : vb V = vb v - (7 + 1) - (2 * vZ v 6 + 12) - 3 := by rw [hV]; rfl
  have x0 : ∀ i, vN V 11 i 0 = if i = (nn m 52) then idc 10 f else vN v 11 i 0 := fun i => by
    rw [hV]
    show (up3 (row3 (vN v) 11 (vK v 11) (fun _ => nul)) 11 (nn m 52) 0 (idc 10 f)) 11 i 0 = _
    by_cases q : i = (nn m 52)
    · simp [up3, row3, eK, q]
    · simp [up3, row3, eK, q]
  have x10 : ∀ i g, g ≠ 9 → vM V 10 i g = vM v 10 i g := fun i g hg => by
    rw [hV]
    show (up3 (up3 (up3 (up3 (up3 (up3 (up3 (row3 (vM v) 11 (vK v 11) (fun _ => 0)) 11 (nn m 52) 1 c) 11 (nn m 52) 2 (nI a)) 11 (nn m 52) 3 x) 11 (nn m 52) 4 y) 11 (nn m 52) 5 k) 11 (nn m 52) 6 e) 10 f 9 (nI (nn m 52))) 10 i g = _
    rw [up3_x (fun t => hg t.2.2), up3_o (by decide), up3_o (by decide), up3_o (by decide), up3_o (by decide), up3_o (by decide), up3_o (by decide), row3_o (by decide)]
  have n52 : nn W 52 = (nn m 52) + 1 := by
    unfold nn
    rw [hW, up2_s]
    exact nI_clamp (by omega)
  have w57 : W 57 = up1 (m 57) (nn m 52) (nI f) := by
    rw [hW, up2_o (by decide), up2_o (by decide), up2_o (by decide), up2_o (by decide), up2_o (by decide), up2_o (by decide), up2_o (by decide), up2_o (by decide), up2_r]
  have w54 : W 54 = up1 (m 54) (nn m 52) (nI a) := by
    rw [hW, up2_o (by decide), up2_o (by decide), up2_o (by decide), up2_o (by decide), up2_o (by decide), up2_o (by decide), up2_r, up2_o (by decide), up2_o (by decide)]
  rw [← hV, ← hW]
  have hF3 : gF (vM V) W := by rw [hV, hW]; exact hF2
  clear hF2 hV hW
  unfold CRh
  simp only [gN 0 (by decide), gN 36 (by decide), gN 2 (by decide), gN 37 (by decide), gN 3 (by decide), gN 10 (by decide), gN 12 (by decide), gN 1 (by decide), gN 7 (by decide), gN 8 (by decide), gN 9 (by decide), gM 2 (by decide), gM 6 (by decide), gM 7 (by decide), gM 8 (by decide), gM 20 (by decide), gM 32 (by decide), o 37 (by decide), o 17 (by decide), o 18 (by decide), o 65 (by decide), o 1 (by decide), o 2 (by decide), o 5 (by decide), o 6 (by decide), o 69 (by decide), o 0 (by decide), o 60 (by decide), o 64 (by decide), o 67 (by decide), o 74 (by decide), o 4 (by decide), o 10 (by decide), o 11 (by decide), o 12 (by decide), o 13 (by decide), o 14 (by decide), o 15 (by decide), o 9 (by decide), o 23 (by decide), o 24 (by decide), o 29 (by decide), o 36 (by decide), o 20 (by decide), o 31 (by decide), o 34 (by decide), o 40 (by decide), o 45 (by decide), o 71 (by decide), o 76 (by decide), o 47 (by decide), o 41 (by decide), o 42 (by decide), o 43 (by decide), o 48 (by decide), o 49 (by decide), o 35 (by decide), o 51 (by decide), o 62 (by decide), on 77 (by decide), on 19 (by decide), on 30 (by decide), on 39 (by decide), on 46 (by decide), on 70 (by decide)]
  refine ⟨hF3, hSt, hPe, hSe, (hLn.cg (gL 36 (by decide)) (gL 37 (by decide)) (fun z _ => by rw [gL 32 (by decide)])), ?_, ?_, ?_, ?_, ?_, ?_, ?_, hAr, (hDv.cgb hbb (fun z hz => by rw [eB]; exact up1_n hz)), (hTo.cgb hbb (fun z hz => by rw [eB]; exact up1_n hz)), (gPu.cgb (B := vB v) hPu hbb (fun z hz => by rw [eB]; exact up1_n hz)), (hCa.cgb (by rw [gK 14 (by decide)]; exact Nat.le_refl _) ne3 (fun z hz => by rw [eB]; exact up1_n hz)), ?_, (hPp.cgb (by rw [gK 14 (by decide)]; exact Nat.le_refl _) ne12 (fun z hz => by rw [eB]; exact up1_n hz)), hOw, ?_, ?_, ?_, ?_, (hSa.cg (by rw [gK 32 (by decide)]; exact Nat.le_refl _) (fun _ _ => rfl) (fun _ _ => rfl) (fun _ _ => rfl) (fun z _ => by rw [gL 32 (by decide)])), (hSs.cg (by rw [gK 32 (by decide)]; exact Nat.le_refl _) (fun _ _ => rfl) (fun _ _ => rfl) (fun _ _ => rfl) (fun z _ => by rw [gL 32 (by decide)])), hOs, hR70, hR81, hR82, hR90, hR95, ?_, hRr, hRa, hT7, hT8, hT10, hT12, hN8, ?_, ?_, ?_, ?_, ?_⟩
  · obtain ⟨c1, c2, c3, c4, c5, c6, c7, c8, c9, c10, c11, c12⟩ := hCt
    exact ⟨by rw [gK 5 (by decide)]; exact c1, by rw [gK 7 (by decide)]; exact c2, by rw [gK 8 (by decide)]; exact c3, by rw [gK 9 (by decide)]; exact c4, by rw [gK 10 (by decide)]; exact c5, by rw [k11, n52], by rw [gK 12 (by decide)]; exact c7, by rw [gK 13 (by decide), gK 1 (by decide)]; exact c8, by rw [gK 1 (by decide)]; exact c9, by rw [gK 14 (by decide)]; exact c10, by rw [gK 15 (by decide)]; exact c11, by rw [gK 32 (by decide)]; exact c12⟩
  · rw [eZ, eE]
    refine ⟨(up1_n (by decide)).trans hL3.1, fun k hk => ?_⟩
    rw [up2_o (by decide)]
    exact hL3.2 k hk
  · rw [eZ, eE]
    refine ⟨(up1_n (by decide)).trans hL4.1, fun k hk => ?_⟩
    rw [up2_o (by decide)]
    exact hL4.2 k hk
  · rw [eZ, eE]
    refine ⟨(up1_n (by decide)).trans hL5.1, fun k hk => ?_⟩
    rw [up2_o (by decide)]
    exact hL5.2 k hk
  · rw [eZ, eE, n52]
    exact hL6.add
  · rw [eZ, eE]
    refine ⟨(up1_n (by decide)).trans hL7.1, fun k hk => ?_⟩
    rw [up2_o (by decide)]
    exact hL7.2 k hk
  · rw [eZ, eE]
    refine ⟨(up1_n (by decide)).trans hL8.1, fun k hk => ?_⟩
    rw [up2_o (by decide)]
    exact hL8.2 k hk
  · rw [gK 14 (by decide), eB, n52, w57, w54]
    intro g hg
    obtain ⟨a1, a2, a3, a4⟩ := hAu g hg
    refine ⟨a1, a2, a3, fun j => ?_⟩
    have hc : hrs (up1 (m 57) (nn m 52) (nI f)) (up1 (m 54) (nn m 52) (nI a)) (nn m 52) j g = hrs (m 57) (m 54) (nn m 52) j g := hrs_cg fun t ht => ⟨up1_n (by omega), up1_n (by omega)⟩
    rw [hrs_s, hc, up1_s, up1_s]
    show up1 (vB v) bb (up1 (vB v bb) a true) (vN v 10 g 8 / 64) j = _
    have a5 := a4 j
    by_cases q : g = f
    · subst q
      rw [ebb, up1_s]
      rw [show (fun i => vN v 10 i 8) g / 64 = bb from ebb] at a5
      by_cases q2 : j = a
      · subst q2
        rw [up1_s, decide_eq_true ha]; simp
      · rw [up1_n q2, a5]
        by_cases q3 : j < 4
        · rw [show (nI a == nI j) = false from beq_eq_false_iff_ne.mpr fun t => q2 ((nI_eq (by omega) (by omega)).mp t).symm]; simp
        · rw [decide_eq_false q3, Bool.false_and, Bool.false_and]
    · have hne : vN v 10 g 8 / 64 ≠ bb := fun t => by
        have o2 := oF g hg
        rw [show (fun i => vN v 10 i 8) g / 64 = bb from t] at o2
        omega
      rw [up1_n hne, show (nI f == nI g) = false from beq_eq_false_iff_ne.mpr fun t => q ((nI_eq (by omega) (by omega)).mp t).symm]
      simpa using a5
  · rw [eW, gK 20 (by decide)]
    exact hWr
  · rw [eW]
    exact hUn
  · rw [gK 1 (by decide), gK 6 (by decide), eZ, eE]
    exact gFl.ue (by decide) hFl
  · rw [eE]
    exact gAt.ue (by decide) hAt
  · simp only [x0]
    rw [n52, w57]
    exact hRt.add (fun i hi => ⟨if_neg (by omega), up1_n (by omega)⟩) (by show (if (nn m 52) = (nn m 52) then _ else _) = _; rw [if_pos rfl, up1_s, rf_ix (by omega)])
  · simp only [x10 _ 0 (by decide)]
    exact hN10
  · simp only [x10 _ 2 (by decide), x10 _ 3 (by decide), x10 _ 4 (by decide)]
    exact hFa
  · simp only [x10 _ 7 (by decide)]
    exact hTu
  · rw [ebd, hL6.1]
    unfold gBu at hBu ⊢
    omega
  · rw [eZ, eE]
    refine ⟨(up1_n (by decide)).trans hLa.1, fun k hk => ?_⟩
    rw [up2_o (by decide)]
    exact hLa.2 k hk
set_option maxHeartbeats 8000000 in
theorem CRh.family {U : (Nat → List Nat) → Prop} {nL : Nat} {v : Vw} {m : Mst} {b T : Nat} (h : CRh U nL v m (b + 300 + 100) T) {s c : Nat} (cl au sc : Int32) (hF24 : nn m 46 ≤ 24) (hc : c < 60) (e40 : m 40 c = nI s) (hs : s < 60) (e41 : cl = m 41 c) (e42 : au = m 42 c) (e43 : sc = m 43 c) (hTf : ∀ t, t < nn m 52 → m 57 t ≠ nI (nn m 46)) : CRh U nL (uA (uN (uM (uM (uM (uN (uM (uN (uB (uM (uM (uN (uK v 10 11) 10 (nn m 46) 10 (idc 0 0)) 10 (nn m 46) 5 1) 10 (nn m 46) 7 (-1))) 10 (nn m 46) 8 (idc 14 (vK v 14))) 10 (nn m 46) 0 (nI (nn m 46))) 10 (nn m 46) 1 (idc 8 s)) 10 (nn m 46) 2 cl) 10 (nn m 46) 3 au) 10 (nn m 46) 4 sc) 9 c 5 (idc 10 (nn m 46))) 5 (idc 10 (nn m 46))) (up2 (up2 (up2 (up2 (up2 (up2 (up2 (m) 50 (nn m 46) 0) 47 (nn m 46) (nI c)) 48 (nn m 46) 0) 49 (nn m 46) (m 0 0)) 51 (nn m 46) 1) 45 c (nI (nn m 46))) 46 0 (nI ((nn m 46) + 1))) (b) T := by
  obtain ⟨hF, hSt, hPe, hSe, hLn, hCt, hL3, hL4, hL5, hL6, hL7, hL8, hAr, hDv, hTo, hPu, hCa, hAu, hPp, hOw, hWr, hUn, hFl, hAt, hSa, hSs, hOs, hR70, hR81, hR82, hR90, hR95, hRt, hRr, hRa, hT7, hT8, hT10, hT12, hN8, hN10, hFa, hTu, hBu, hLa⟩ := h
  have lt3 : ∀ s, s < 4 → vN v 3 s 1 / 64 < vK v 14 := fun s hs => (hCa s hs).2.2.1
  have lt10 : ∀ f, f < nn m 46 → vN v 10 f 8 / 64 < vK v 14 := fun s hs => (hAu s hs).2.2.1
  have lt12 : ∀ r, r < nn m 70 → vN v 12 r 3 / 64 < vK v 14 := fun s hs => (hPp s hs).2.2.1
  have eK : vK v 10 = nn m 46 := hCt.2.2.2.2.1
  have h14 : 21 ≤ vK v 14 := hCt.2.2.2.2.2.2.2.2.2.1
  have hF2 : gF (up3 (up3 (up3 (up3 (up3 (up3 (row3 (vM v) 10 (vK v 10) (fun _ => 0)) 10 (nn m 46) 5 1) 10 (nn m 46) 7 (-1)) 10 (nn m 46) 0 (nI (nn m 46))) 10 (nn m 46) 2 cl) 10 (nn m 46) 3 au) 10 (nn m 46) 4 sc) (up2 (up2 (up2 (up2 (up2 (up2 (up2 (m) 50 (nn m 46) 0) 47 (nn m 46) (nI c)) 48 (nn m 46) 0) 49 (nn m 46) (m 0 0)) 51 (nn m 46) 1) 45 c (nI (nn m 46))) 46 0 (nI ((nn m 46) + 1))) := by
    have eK : vK v 10 = (nn m 46) := hCt.2.2.2.2.1
    refine gF.cnt (K := 10) (Fc := 46) (n := (nn m 46)) ?_ (by decide) (by rw [nn_o (by decide), nn_o (by decide), nn_o (by decide), nn_o (by decide), nn_o (by decide), nn_o (by decide)]) (by omega) ?_
    · have h0 := hF.bR (K := 10) (i := (nn m 46)) (Nat.le_refl _) (fun _ => 0)
      have h1 := h0.bM (K := 10) (i := (nn m 46)) (f := 5) (Nat.le_refl _) 1
      have h2 := h1.bM (K := 10) (i := (nn m 46)) (f := 7) (Nat.le_refl _) (-1)
      have h3 := h2.bM (K := 10) (i := (nn m 46)) (f := 0) (Nat.le_refl _) (nI (nn m 46))
      have h4 := h3.bM (K := 10) (i := (nn m 46)) (f := 2) (Nat.le_refl _) cl
      have h5 := h4.bM (K := 10) (i := (nn m 46)) (f := 3) (Nat.le_refl _) au
      have h6 := h5.bM (K := 10) (i := (nn m 46)) (f := 4) (Nat.le_refl _) sc
      have h7 := h6.bm (K := 10) (f := 9) (F := 50) (i := (nn m 46)) (by decide) (Nat.le_refl _) 0
      have h8 := h7.om (F := 47) rfl (nn m 46) (nI c)
      have h9 := h8.bm (K := 10) (f := 6) (F := 48) (i := (nn m 46)) (by decide) (Nat.le_refl _) 0
      have h10 := h9.om (F := 49) rfl (nn m 46) (m 0 0)
      have h11 := h10.bm (K := 10) (f := 5) (F := 51) (i := (nn m 46)) (by decide) (Nat.le_refl _) 1
      have h12 := h11.om (F := 45) rfl c (nI (nn m 46))
      show gF (up3 (up3 (up3 (up3 (up3 (up3 (row3 (vM v) 10 (vK v 10) (fun _ => 0)) 10 (nn m 46) 5 1) 10 (nn m 46) 7 (-1)) 10 (nn m 46) 0 (nI (nn m 46))) 10 (nn m 46) 2 cl) 10 (nn m 46) 3 au) 10 (nn m 46) 4 sc) _
      rw [eK]
      exact h12
    · intro f F hf
      show (up3 (up3 (up3 (up3 (up3 (up3 (row3 (vM v) 10 (vK v 10) (fun _ => 0)) 10 (nn m 46) 5 1) 10 (nn m 46) 7 (-1)) 10 (nn m 46) 0 (nI (nn m 46))) 10 (nn m 46) 2 cl) 10 (nn m 46) 3 au) 10 (nn m 46) 4 sc) 10 ((nn m 46)) f = _
      have hf2 : (f = 5 ∧ F = 51) ∨ (f = 6 ∧ F = 48) ∨ (f = 9 ∧ F = 50) := by
        have : ∀ x, x ∈ ftab → x.1 = 10 → (x.2.1 = 5 ∧ x.2.2 = 51) ∨ (x.2.1 = 6 ∧ x.2.2 = 48) ∨ (x.2.1 = 9 ∧ x.2.2 = 50) := by decide +kernel
        exact this _ hf rfl
      rcases hf2 with ⟨a, c⟩ | ⟨a, c⟩ | ⟨a, c⟩ <;> subst a <;> subst c <;> simp [up3, up2, row3, eK]
  obtain ⟨V, hV⟩ : ∃ V, V = uA (uN (uM (uM (uM (uN (uM (uN (uB (uM (uM (uN (uK v 10 11) 10 (nn m 46) 10 (idc 0 0)) 10 (nn m 46) 5 1) 10 (nn m 46) 7 (-1))) 10 (nn m 46) 8 (idc 14 (vK v 14))) 10 (nn m 46) 0 (nI (nn m 46))) 10 (nn m 46) 1 (idc 8 s)) 10 (nn m 46) 2 cl) 10 (nn m 46) 3 au) 10 (nn m 46) 4 sc) 9 c 5 (idc 10 (nn m 46))) 5 (idc 10 (nn m 46)) := ⟨_, rfl⟩
  obtain ⟨W, hW⟩ : ∃ W, W = up2 (up2 (up2 (up2 (up2 (up2 (up2 (m) 50 (nn m 46) 0) 47 (nn m 46) (nI c)) 48 (nn m 46) 0) 49 (nn m 46) (m 0 0)) 51 (nn m 46) 1) 45 c (nI (nn m 46))) 46 0 (nI ((nn m 46) + 1)) := ⟨_, rfl⟩
  have o : ∀ F, F ≠ 45 ∧ F ≠ 46 ∧ F ≠ 47 ∧ F ≠ 48 ∧ F ≠ 49 ∧ F ≠ 50 ∧ F ≠ 51 → W F = m F := fun F hF => by
    rw [hW, up2_o (hF.2.1), up2_o (hF.1), up2_o (hF.2.2.2.2.2.2), up2_o (hF.2.2.2.2.1), up2_o (hF.2.2.2.1), up2_o (hF.2.2.1), up2_o (hF.2.2.2.2.2.1)]
  have on : ∀ F, F ≠ 45 ∧ F ≠ 46 ∧ F ≠ 47 ∧ F ≠ 48 ∧ F ≠ 49 ∧ F ≠ 50 ∧ F ≠ 51 → nn W F = nn m F := fun F hF => by unfold nn; rw [o F hF]
  have gN : ∀ K, K ≠ 9 ∧ K ≠ 10 → vN V K = vN v K := fun K hK => by
    rw [hV]
    show (up3 (up3 (up3 (up3 (row3 (vN v) 10 (vK v 10) (fun _ => nul)) 10 (nn m 46) 10 (idc 0 0)) 10 (nn m 46) 8 (idc 14 (vK v 14))) 10 (nn m 46) 1 (idc 8 s)) 9 c 5 (idc 10 (nn m 46))) K = _
    rw [up3_o (hK.1), up3_o (hK.2), up3_o (hK.2), up3_o (hK.2), row3_o (hK.2)]
  have gM : ∀ K, K ≠ 10 → vM V K = vM v K := fun K hK => by
    rw [hV]
    show (up3 (up3 (up3 (up3 (up3 (up3 (row3 (vM v) 10 (vK v 10) (fun _ => 0)) 10 (nn m 46) 5 1) 10 (nn m 46) 7 (-1)) 10 (nn m 46) 0 (nI (nn m 46))) 10 (nn m 46) 2 cl) 10 (nn m 46) 3 au) 10 (nn m 46) 4 sc) K = _
    rw [up3_o hK, up3_o hK, up3_o hK, up3_o hK, up3_o hK, up3_o hK, row3_o hK]
  have gL : ∀ K, K ≠ 10 → vL V K = vL v K := fun K hK => by
    rw [hV]
    exact up2_o hK
  have gK : ∀ K, K ≠ 10 ∧ K ≠ 14 → vK V K = vK v K := fun K hK => by
    rw [hV]
    show (up1 (up1 (vK v) 10 (vK v 10 + 1)) 14 (up1 (vK v) 10 (vK v 10 + 1) 14 + 1)) K = _
    rw [up1_n hK.2, up1_n hK.1]
  have k10 : vK V 10 = (nn m 46) + 1 := by
    rw [hV]
    show (up1 (up1 (vK v) 10 (vK v 10 + 1)) 14 (up1 (vK v) 10 (vK v 10 + 1) 14 + 1)) 10 = _
    rw [up1_n (by decide), up1_s, eK]
  have k14 : vK V 14 = vK v 14 + 1 := by
    rw [hV]
    show (up1 (up1 (vK v) 10 (vK v 10 + 1)) 14 (up1 (vK v) 10 (vK v 10 + 1) 14 + 1)) 14 = _
    rw [up1_s, up1_n (by decide)]
  have kle : vK v 14 ≤ vK V 14 := by rw [k14]; exact Nat.le_succ _
  have eZ : vZ V = up1 (vZ v) 5 (vZ v 5 + 1) := by rw [hV]; rfl
  have eE : vE V = up2 (vE v) 5 (vZ v 5) (idc 10 (nn m 46)) := by rw [hV]; rfl
  have eB : vB V = up1 (vB v) (vK v 14) (fun _ => false) := by rw [hV]; rfl
  have eW : vW V = vW v := by rw [hV]; rfl
  have ebd : vb V = vb v - (11 + 1) - 6 - (2 * vZ v 5 + 12) := by rw [hV]; rfl
  have y1 : ∀ i, vN V 10 i 1 = if i = (nn m 46) then idc 8 s else vN v 10 i 1 := fun i => by
    rw [hV]
    show (up3 (up3 (up3 (up3 (row3 (vN v) 10 (vK v 10) (fun _ => nul)) 10 (nn m 46) 10 (idc 0 0)) 10 (nn m 46) 8 (idc 14 (vK v 14))) 10 (nn m 46) 1 (idc 8 s)) 9 c 5 (idc 10 (nn m 46))) 10 i 1 = _
    by_cases q : i = (nn m 46)
    · simp [up3, row3, eK, q]
    · simp [up3, row3, eK, q]
  have y8 : ∀ i, vN V 10 i 8 = if i = (nn m 46) then idc 14 (vK v 14) else vN v 10 i 8 := fun i => by
    rw [hV]
    show (up3 (up3 (up3 (up3 (row3 (vN v) 10 (vK v 10) (fun _ => nul)) 10 (nn m 46) 10 (idc 0 0)) 10 (nn m 46) 8 (idc 14 (vK v 14))) 10 (nn m 46) 1 (idc 8 s)) 9 c 5 (idc 10 (nn m 46))) 10 i 8 = _
    by_cases q : i = (nn m 46)
    · simp [up3, row3, eK, q]
    · simp [up3, row3, eK, q]
  have y10 : ∀ i, vN V 10 i 10 = if i = (nn m 46) then idc 0 0 else vN v 10 i 10 := fun i => by
    rw [hV]
    show (up3 (up3 (up3 (up3 (row3 (vN v) 10 (vK v 10) (fun _ => nul)) 10 (nn m 46) 10 (idc 0 0)) 10 (nn m 46) 8 (idc 14 (vK v 14))) 10 (nn m 46) 1 (idc 8 s)) 9 c 5 (idc 10 (nn m 46))) 10 i 10 = _
    by_cases q : i = (nn m 46)
    · simp [up3, row3, eK, q]
    · simp [up3, row3, eK, q]
  have y5 : ∀ i, vN V 9 i 5 = if i = c then idc 10 (nn m 46) else vN v 9 i 5 := fun i => by
    rw [hV]
    show (up3 (up3 (up3 (up3 (row3 (vN v) 10 (vK v 10) (fun _ => nul)) 10 (nn m 46) 10 (idc 0 0)) 10 (nn m 46) 8 (idc 14 (vK v 14))) 10 (nn m 46) 1 (idc 8 s)) 9 c 5 (idc 10 (nn m 46))) 9 i 5 = _
    by_cases q : i = c
    · simp [up3, row3, q]
    · simp [up3, row3, q]
  have y0 : ∀ i, vN V 9 i 0 = vN v 9 i 0 := fun i => by
    rw [hV]
    show (up3 (up3 (up3 (up3 (row3 (vN v) 10 (vK v 10) (fun _ => nul)) 10 (nn m 46) 10 (idc 0 0)) 10 (nn m 46) 8 (idc 14 (vK v 14))) 10 (nn m 46) 1 (idc 8 s)) 9 c 5 (idc 10 (nn m 46))) 9 i 0 = _
    simp [up3, row3]
  have z0 : ∀ i, vM V 10 i 0 = if i = (nn m 46) then nI (nn m 46) else vM v 10 i 0 := fun i => by
    rw [hV]
    show (up3 (up3 (up3 (up3 (up3 (up3 (row3 (vM v) 10 (vK v 10) (fun _ => 0)) 10 (nn m 46) 5 1) 10 (nn m 46) 7 (-1)) 10 (nn m 46) 0 (nI (nn m 46))) 10 (nn m 46) 2 cl) 10 (nn m 46) 3 au) 10 (nn m 46) 4 sc) 10 i 0 = _
    by_cases q : i = (nn m 46)
    · simp [up3, row3, eK, q]
    · simp [up3, row3, eK, q]
  have z2 : ∀ i, vM V 10 i 2 = if i = (nn m 46) then cl else vM v 10 i 2 := fun i => by
    rw [hV]
    show (up3 (up3 (up3 (up3 (up3 (up3 (row3 (vM v) 10 (vK v 10) (fun _ => 0)) 10 (nn m 46) 5 1) 10 (nn m 46) 7 (-1)) 10 (nn m 46) 0 (nI (nn m 46))) 10 (nn m 46) 2 cl) 10 (nn m 46) 3 au) 10 (nn m 46) 4 sc) 10 i 2 = _
    by_cases q : i = (nn m 46)
    · simp [up3, row3, eK, q]
    · simp [up3, row3, eK, q]
  have z3 : ∀ i, vM V 10 i 3 = if i = (nn m 46) then au else vM v 10 i 3 := fun i => by
    rw [hV]
    show (up3 (up3 (up3 (up3 (up3 (up3 (row3 (vM v) 10 (vK v 10) (fun _ => 0)) 10 (nn m 46) 5 1) 10 (nn m 46) 7 (-1)) 10 (nn m 46) 0 (nI (nn m 46))) 10 (nn m 46) 2 cl) 10 (nn m 46) 3 au) 10 (nn m 46) 4 sc) 10 i 3 = _
    by_cases q : i = (nn m 46)
    · simp [up3, row3, eK, q]
    · simp [up3, row3, eK, q]
  have z4 : ∀ i, vM V 10 i 4 = if i = (nn m 46) then sc else vM v 10 i 4 := fun i => by
    rw [hV]
    show (up3 (up3 (up3 (up3 (up3 (up3 (row3 (vM v) 10 (vK v 10) (fun _ => 0)) 10 (nn m 46) 5 1) 10 (nn m 46) 7 (-1)) 10 (nn m 46) 0 (nI (nn m 46))) 10 (nn m 46) 2 cl) 10 (nn m 46) 3 au) 10 (nn m 46) 4 sc) 10 i 4 = _
    by_cases q : i = (nn m 46)
    · simp [up3, row3, eK, q]
    · simp [up3, row3, eK, q]
  have z7 : ∀ i, vM V 10 i 7 = if i = (nn m 46) then -1 else vM v 10 i 7 := fun i => by
    rw [hV]
    show (up3 (up3 (up3 (up3 (up3 (up3 (row3 (vM v) 10 (vK v 10) (fun _ => 0)) 10 (nn m 46) 5 1) 10 (nn m 46) 7 (-1)) 10 (nn m 46) 0 (nI (nn m 46))) 10 (nn m 46) 2 cl) 10 (nn m 46) 3 au) 10 (nn m 46) 4 sc) 10 i 7 = _
    by_cases q : i = (nn m 46)
    · simp [up3, row3, eK, q]
    · simp [up3, row3, eK, q]
  have n46 : nn W 46 = (nn m 46) + 1 := by
    unfold nn
    rw [hW, up2_s]
    exact nI_clamp (by omega)
  have w47 : W 47 = up1 (m 47) (nn m 46) (nI c) := by
    rw [hW, up2_o (by decide), up2_o (by decide), up2_o (by decide), up2_o (by decide), up2_o (by decide), up2_r, up2_o (by decide)]
  have w48 : W 48 = up1 (m 48) (nn m 46) 0 := by
    rw [hW, up2_o (by decide), up2_o (by decide), up2_o (by decide), up2_o (by decide), up2_r, up2_o (by decide), up2_o (by decide)]
  have w49 : W 49 = up1 (m 49) (nn m 46) (m 0 0) := by
    rw [hW, up2_o (by decide), up2_o (by decide), up2_o (by decide), up2_r, up2_o (by decide), up2_o (by decide), up2_o (by decide)]
  have w51 : W 51 = up1 (m 51) (nn m 46) 1 := by
    rw [hW, up2_o (by decide), up2_o (by decide), up2_r, up2_o (by decide), up2_o (by decide), up2_o (by decide), up2_o (by decide)]
  have w45 : W 45 = up1 (m 45) c (nI (nn m 46)) := by
    rw [hW, up2_o (by decide), up2_r, up2_o (by decide), up2_o (by decide), up2_o (by decide), up2_o (by decide), up2_o (by decide)]
  rw [← hV, ← hW]
  have hF3 : gF (vM V) W := by rw [hV, hW]; exact hF2
  clear hF2 hV hW
  unfold CRh
  simp only [gN 0 (by decide), gN 36 (by decide), gN 2 (by decide), gN 37 (by decide), gN 3 (by decide), gN 12 (by decide), gN 1 (by decide), gN 7 (by decide), gN 8 (by decide), gN 11 (by decide), gM 2 (by decide), gM 6 (by decide), gM 7 (by decide), gM 8 (by decide), gM 20 (by decide), gM 32 (by decide), o 37 (by decide), o 17 (by decide), o 18 (by decide), o 65 (by decide), o 1 (by decide), o 2 (by decide), o 5 (by decide), o 6 (by decide), o 69 (by decide), o 0 (by decide), o 60 (by decide), o 64 (by decide), o 67 (by decide), o 57 (by decide), o 54 (by decide), o 74 (by decide), o 4 (by decide), o 10 (by decide), o 11 (by decide), o 12 (by decide), o 13 (by decide), o 14 (by decide), o 15 (by decide), o 9 (by decide), o 23 (by decide), o 24 (by decide), o 29 (by decide), o 36 (by decide), o 20 (by decide), o 31 (by decide), o 34 (by decide), o 40 (by decide), o 71 (by decide), o 76 (by decide), o 41 (by decide), o 42 (by decide), o 43 (by decide), o 35 (by decide), o 62 (by decide), on 77 (by decide), on 19 (by decide), on 30 (by decide), on 39 (by decide), on 52 (by decide), on 70 (by decide)]
  refine ⟨hF3, hSt, hPe, hSe, (hLn.cg (gL 36 (by decide)) (gL 37 (by decide)) (fun z _ => by rw [gL 32 (by decide)])), ?_, ?_, ?_, ?_, ?_, ?_, ?_, hAr, (hDv.cgb h14 (fun z hz => by rw [eB]; exact up1_n hz)), (hTo.cgb h14 (fun z hz => by rw [eB]; exact up1_n hz)), (gPu.cgb (B := vB v) hPu h14 (fun z hz => by rw [eB]; exact up1_n hz)), (hCa.cgb (bb := vK v 14) kle (fun s hs t => absurd t (Nat.ne_of_lt (lt3 s hs))) (fun z hz => by rw [eB]; exact up1_n hz)), ?_, (hPp.cgb (bb := vK v 14) kle (fun s hs t => absurd t (Nat.ne_of_lt (lt12 s hs))) (fun z hz => by rw [eB]; exact up1_n hz)), ?_, ?_, ?_, ?_, ?_, (hSa.cg (by rw [gK 32 (by decide)]; exact Nat.le_refl _) (fun _ _ => rfl) (fun _ _ => rfl) (fun _ _ => rfl) (fun z _ => by rw [gL 32 (by decide)])), (hSs.cg (by rw [gK 32 (by decide)]; exact Nat.le_refl _) (fun _ _ => rfl) (fun _ _ => rfl) (fun _ _ => rfl) (fun z _ => by rw [gL 32 (by decide)])), hOs, hR70, hR81, hR82, ?_, ?_, hRt, hRr, hRa, hT7, hT8, ?_, hT12, hN8, ?_, ?_, ?_, ?_, ?_⟩
  · obtain ⟨c1, c2, c3, c4, c5, c6, c7, c8, c9, c10, c11, c12⟩ := hCt
    exact ⟨by rw [gK 5 (by decide)]; exact c1, by rw [gK 7 (by decide)]; exact c2, by rw [gK 8 (by decide)]; exact c3, by rw [gK 9 (by decide)]; exact c4, by rw [k10, n46], by rw [gK 11 (by decide)]; exact c6, by rw [gK 12 (by decide)]; exact c7, by rw [gK 13 (by decide), gK 1 (by decide)]; exact c8, by rw [gK 1 (by decide)]; exact c9, by rw [k14]; omega, by rw [gK 15 (by decide)]; exact c11, by rw [gK 32 (by decide)]; exact c12⟩
  · rw [eZ, eE]
    refine ⟨(up1_n (by decide)).trans hL3.1, fun k hk => ?_⟩
    rw [up2_o (by decide)]
    exact hL3.2 k hk
  · rw [eZ, eE]
    refine ⟨(up1_n (by decide)).trans hL4.1, fun k hk => ?_⟩
    rw [up2_o (by decide)]
    exact hL4.2 k hk
  · rw [eZ, eE, n46]
    exact hL5.add
  · rw [eZ, eE]
    refine ⟨(up1_n (by decide)).trans hL6.1, fun k hk => ?_⟩
    rw [up2_o (by decide)]
    exact hL6.2 k hk
  · rw [eZ, eE]
    refine ⟨(up1_n (by decide)).trans hL7.1, fun k hk => ?_⟩
    rw [up2_o (by decide)]
    exact hL7.2 k hk
  · rw [eZ, eE]
    refine ⟨(up1_n (by decide)).trans hL8.1, fun k hk => ?_⟩
    rw [up2_o (by decide)]
    exact hL8.2 k hk
  · simp only [y8]
    rw [eB, n46, k14]
    intro g hg
    show (if g = nn m 46 then _ else _) = idc 14 ((if g = nn m 46 then _ else _) / 64) ∧ 21 ≤ (if g = nn m 46 then _ else _) / 64 ∧ (if g = nn m 46 then _ else _) / 64 < _ ∧ ∀ k, up1 (vB v) (vK v 14) (fun _ => false) ((if g = nn m 46 then _ else _) / 64) k = _
    by_cases q : g = nn m 46
    · rw [if_pos q, idc_div (by decide)]
      refine ⟨rfl, h14, by omega, fun k => ?_⟩
      rw [up1_s, q, hrs_no hTf]; simp
    · rw [if_neg q]
      obtain ⟨a1, a2, a3, a4⟩ := hAu g (by omega)
      have a3 : vN v 10 g 8 / 64 < vK v 14 := a3
      exact ⟨a1, a2, Nat.lt_succ_of_lt a3, fun k => by rw [up1_n (Nat.ne_of_lt a3)]; exact a4 k⟩
  · simp only [y8]
    rw [n46]
    obtain ⟨ow, oF, oR, oS⟩ := hOw
    refine ⟨fun z => if z = vK v 14 then 3 * nn m 46 else ow z, fun f hf => ?_, fun r2 hr2 => ?_, fun s hs => ?_⟩
    · by_cases q : f = nn m 46
      · subst q
        show (if (if nn m 46 = nn m 46 then _ else _) / 64 = vK v 14 then _ else _) = _
        rw [if_pos rfl, idc_div (by decide), if_pos rfl]
      · have o1 := oF f (by omega)
        show (if (if f = nn m 46 then _ else _) / 64 = vK v 14 then _ else ow ((if f = nn m 46 then _ else _) / 64)) = _
        rw [if_neg q, if_neg (Nat.ne_of_lt (lt10 f (by omega)))]; exact o1
    · have o1 := oR r2 hr2
      show (if vN v 12 r2 3 / 64 = vK v 14 then _ else _) = _
      rw [if_neg (Nat.ne_of_lt (lt12 r2 hr2))]; exact o1
    · have o1 := oS s hs
      show (if vN v 3 s 1 / 64 = vK v 14 then _ else _) = _
      rw [if_neg (Nat.ne_of_lt (lt3 s hs))]; exact o1
  · rw [eW, gK 20 (by decide)]
    exact hWr
  · rw [eW]
    exact hUn
  · rw [gK 1 (by decide), gK 6 (by decide), eZ, eE]
    exact gFl.ue (by decide) hFl
  · rw [eE]
    exact gAt.ue (by decide) hAt
  · simp only [y0]
    exact hR90
  · simp only [y5]
    rw [w45]
    intro i hi
    show (if i = c then _ else _) = rf 10 (up1 (m 45) c (nI (nn m 46)) i)
    by_cases q : i = c
    · rw [if_pos q, q, up1_s, rf_ix (by omega)]
    · rw [if_neg q, up1_n q]; exact hR95 i hi
  · simp only [y10]
    rw [n46]
    exact hT10.add (fun i hi => if_neg (by omega)) (if_pos rfl)
  · simp only [z0]
    rw [n46]
    exact hN10.add (fun i hi => if_neg (by omega)) (if_pos rfl)
  · simp only [y1, z2, z3, z4]
    rw [n46, w47]
    intro f hf
    show (if f = nn m 46 then _ else _) = _ ∧ (if f = nn m 46 then _ else _) = _ ∧ (if f = nn m 46 then _ else _) = _ ∧ (if f = nn m 46 then _ else _) = _
    by_cases q : f = nn m 46
    · rw [if_pos q, if_pos q, if_pos q, if_pos q, q, up1_s, nI_clamp (by omega), e40, rf_ix (by omega)]
      exact ⟨rfl, e41, e42, e43⟩
    · rw [if_neg q, if_neg q, if_neg q, if_neg q, up1_n q]; exact hFa f (by omega)
  · simp only [z7]
    rw [n46, w48, w49]
    intro f hf h48
    by_cases q : f = nn m 46
    · subst q
      exact absurd up1_s h48
    · rw [up1_n q] at h48 ⊢
      show (if f = nn m 46 then _ else _) = _
      rw [if_neg q]; exact hTu f (by omega) h48
  · rw [ebd, hL5.1, n46, w51]
    unfold gBu at hBu ⊢
    rw [cnt_new (by decide)]
    omega
  · rw [eZ, eE]
    refine ⟨(up1_n (by decide)).trans hLa.1, fun k hk => ?_⟩
    rw [up2_o (by decide)]
    exact hLa.2 k hk
theorem CRh.turned {U : (Nat → List Nat) → Prop} {nL : Nat} {v : Vw} {m : Mst} {b T : Nat} (h : CRh U nL v m (b) (T)) (f : Nat) (x : Int32)  : CRh U nL (uM (uM v 10 f 6 x) 10 f 7 (m 0 0)) (up2 (up2 m 48 f x) 49 f (m 0 0)) (b) (T) := by
  obtain ⟨hF, hSt, hPe, hSe, hLn, hCt, hL3, hL4, hL5, hL6, hL7, hL8, hAr, hDv, hTo, hPu, hCa, hAu, hPp, hOw, hWr, hUn, hFl, hAt, hSa, hSs, hOs, hR70, hR81, hR82, hR90, hR95, hRt, hRr, hRa, hT7, hT8, hT10, hT12, hN8, hN10, hFa, hTu, hBu, hLa⟩ := h
  refine ⟨(((hF.set (K := 10) (f := 6) (F := 48) (by decide) f x).oM (K := 10) (f := 7) rfl f (m 0 0)).om (F := 49) rfl f (m 0 0)), (by first | exact hSt | (simp (config := { decide := true }) only [vM_uA, vN_uA, vM_uMk, vN_uNk]; exact hSt)), (by first | exact hPe | (simp (config := { decide := true }) only [vM_uA, vN_uA, vM_uMk, vN_uNk]; exact hPe)), (by first | exact hSe | (simp (config := { decide := true }) only [vM_uA, vN_uA, vM_uMk, vN_uNk]; exact hSe)), (by first | exact hLn | (simp (config := { decide := true }) only [vM_uA, vN_uA, vM_uMk, vN_uNk]; exact hLn)), (by first | exact hCt | (simp (config := { decide := true }) only [vM_uA, vN_uA, vM_uMk, vN_uNk]; exact hCt)), (by first | exact hL3 | (simp (config := { decide := true }) only [vM_uA, vN_uA, vM_uMk, vN_uNk]; exact hL3)), (by first | exact hL4 | (simp (config := { decide := true }) only [vM_uA, vN_uA, vM_uMk, vN_uNk]; exact hL4)), (by first | exact hL5 | (simp (config := { decide := true }) only [vM_uA, vN_uA, vM_uMk, vN_uNk]; exact hL5)), (by first | exact hL6 | (simp (config := { decide := true }) only [vM_uA, vN_uA, vM_uMk, vN_uNk]; exact hL6)), (by first | exact hL7 | (simp (config := { decide := true }) only [vM_uA, vN_uA, vM_uMk, vN_uNk]; exact hL7)), (by first | exact hL8 | (simp (config := { decide := true }) only [vM_uA, vN_uA, vM_uMk, vN_uNk]; exact hL8)), (by first | exact hAr | (simp (config := { decide := true }) only [vM_uA, vN_uA, vM_uMk, vN_uNk]; exact hAr)), (by first | exact hDv | (simp (config := { decide := true }) only [vM_uA, vN_uA, vM_uMk, vN_uNk]; exact hDv)), (by first | exact hTo | (simp (config := { decide := true }) only [vM_uA, vN_uA, vM_uMk, vN_uNk]; exact hTo)), (by first | exact hPu | (simp (config := { decide := true }) only [vM_uA, vN_uA, vM_uMk, vN_uNk]; exact hPu)), (by first | exact hCa | (simp (config := { decide := true }) only [vM_uA, vN_uA, vM_uMk, vN_uNk]; exact hCa)), (by first | exact hAu | (simp (config := { decide := true }) only [vM_uA, vN_uA, vM_uMk, vN_uNk]; exact hAu)), (by first | exact hPp | (simp (config := { decide := true }) only [vM_uA, vN_uA, vM_uMk, vN_uNk]; exact hPp)), (by first | exact hOw | (simp (config := { decide := true }) only [vM_uA, vN_uA, vM_uMk, vN_uNk]; exact hOw)), (by first | exact hWr | (simp (config := { decide := true }) only [vM_uA, vN_uA, vM_uMk, vN_uNk]; exact hWr)), (by first | exact hUn | (simp (config := { decide := true }) only [vM_uA, vN_uA, vM_uMk, vN_uNk]; exact hUn)), (by first | exact hFl | (simp (config := { decide := true }) only [vM_uA, vN_uA, vM_uMk, vN_uNk]; exact hFl)), (by first | exact hAt | (simp (config := { decide := true }) only [vM_uA, vN_uA, vM_uMk, vN_uNk]; exact hAt)), (by first | exact hSa | (simp (config := { decide := true }) only [vM_uA, vN_uA, vM_uMk, vN_uNk]; exact hSa)), (by first | exact hSs | (simp (config := { decide := true }) only [vM_uA, vN_uA, vM_uMk, vN_uNk]; exact hSs)), (by first | exact hOs | (simp (config := { decide := true }) only [vM_uA, vN_uA, vM_uMk, vN_uNk]; exact hOs)), (by first | exact hR70 | (simp (config := { decide := true }) only [vM_uA, vN_uA, vM_uMk, vN_uNk]; exact hR70)), (by first | exact hR81 | (simp (config := { decide := true }) only [vM_uA, vN_uA, vM_uMk, vN_uNk]; exact hR81)), (by first | exact hR82 | (simp (config := { decide := true }) only [vM_uA, vN_uA, vM_uMk, vN_uNk]; exact hR82)), (by first | (simp (config := { decide := true }) only [vM_uA, vN_uA, vM_uMk, vN_uNk]; exact hR90) | exact hR90), (by first | (simp (config := { decide := true }) only [vM_uA, vN_uA, vM_uMk, vN_uNk]; exact hR95) | exact hR95), (by first | exact hRt | (simp (config := { decide := true }) only [vM_uA, vN_uA, vM_uMk, vN_uNk]; exact hRt)), (by first | exact hRr | (simp (config := { decide := true }) only [vM_uA, vN_uA, vM_uMk, vN_uNk]; exact hRr)), (by first | exact hRa | (simp (config := { decide := true }) only [vM_uA, vN_uA, vM_uMk, vN_uNk]; exact hRa)), (by first | exact hT7 | (simp (config := { decide := true }) only [vM_uA, vN_uA, vM_uMk, vN_uNk]; exact hT7)), (by first | exact hT8 | (simp (config := { decide := true }) only [vM_uA, vN_uA, vM_uMk, vN_uNk]; exact hT8)), (by first | (simp (config := { decide := true }) only [vM_uA, vN_uA, vM_uMk, vN_uNk]; exact hT10) | exact hT10), (by first | exact hT12 | (simp (config := { decide := true }) only [vM_uA, vN_uA, vM_uMk, vN_uNk]; exact hT12)), (by first | exact hN8 | (simp (config := { decide := true }) only [vM_uA, vN_uA, vM_uMk, vN_uNk]; exact hN8)), (by first | (simp (config := { decide := true }) only [vM_uA, vN_uA, vM_uMk, vN_uNk]; exact hN10) | exact hN10), (by first | (simp (config := { decide := true }) only [vM_uA, vN_uA, vM_uMk, vN_uNk]; exact hFa) | exact hFa), ?_, (by first | exact hBu | (simp (config := { decide := true }) only [vM_uA, vN_uA, vM_uMk, vN_uNk]; exact hBu)), (by first | exact hLa | (simp (config := { decide := true }) only [vM_uA, vN_uA, vM_uMk, vN_uNk]; exact hLa))⟩
  · intro g hg h48
    show up3 (up3 (vM v) 10 f 6 x) 10 f 7 (m 0 0) 10 g 7 = up2 (up2 m 48 f x) 49 f (m 0 0) 49 g
    have h48 : up2 m 48 f x 48 g ≠ 0 := h48
    rw [up2_r] at h48 ⊢
    by_cases q : g = f
    · subst q; rw [up3_s, up1_s]
    · rw [up3_x (fun t => q t.2.1), up3_x (fun t => q t.2.1), up1_n q, up2_o (by decide)]
      rw [up1_n q] at h48
      exact hTu g hg h48
