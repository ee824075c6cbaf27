/-! ===== an attempt more (printed by gen/evA4.py) ===== -/
set_option maxHeartbeats 8000000 in
theorem CRh.attempt {U : (Nat → List Nat) → Prop} {nL : Nat} {v : Vw} {m : Mst} {b T : Nat} (h : CRh U nL v m (b + 100) T) {p d l j w : Nat} (hp : p < 6) (hA : nn m 19 ≤ 24) (h27 : m 27 (nn m 19) = 0) (hw : vE v 1 j = idc 1 w) (hj : j < 64) : CRh U nL (uN (uM (uM (uN (uM (uN (uK (uM (uN (uK v 7 12) 7 (nn m 19) 11 (idc 0 0)) 7 (nn m 19) 7 0) 32 3) 7 (nn m 19) 8 (idc 32 (vK v 32))) 7 (nn m 19) 10 (-1)) 7 (nn m 19) 0 (idc 2 p)) 7 (nn m 19) 1 (nI d)) 7 (nn m 19) 2 (nI l)) 7 (nn m 19) 3 (idc 1 w)) (up2 (up2 (up2 (up2 (up2 (up2 (up2 (up2 (up2 (up2 (up2 (up2 (m) 20 (nn m 19) (nI p)) 21 (nn m 19) (nI d)) 22 (nn m 19) (nI l)) 23 (nn m 19) (nI j)) 25 (nn m 19) 0) 28 (nn m 19) (-1)) 29 (3 * (nn m 19)) (-1)) 29 (3 * (nn m 19) + 1) (-1)) 29 (3 * (nn m 19) + 2) (-1)) 24 (nn m 19) (-1)) 26 (nn m 19) 0) 19 0 (nI ((nn m 19) + 1))) b T := by
  obtain ⟨hF, hSt, hPe, hSe, hLn, hCt, hL3, hL4, hL5, hL6, hL7, hL8, hAr, hDv, hTo, hPu, hCa, hAu, hPp, hOw, hWr, hUn, hFl, hAt, hSa, hSs, hOs, hR70, hR81, hR82, hR90, hR95, hRt, hRr, hRa, hT7, hT8, hT10, hT12, hN8, hN10, hFa, hTu, hBu, hLa⟩ := h
  have eK : vK v 7 = nn m 19 := hCt.2.1
  have h79 : 79 ≤ vK v 32 := hCt.2.2.2.2.2.2.2.2.2.2.2
  have k32 : up1 (vK v) 7 (vK v 7 + 1) 32 = vK v 32 := up1_n (by decide)
  have hF2 : gF (up3 (up3 (up3 (row3 (up3 (row3 (vM v) 7 (vK v 7) (fun _ => 0)) 7 (nn m 19) 7 0) 32 (up1 (vK v) 7 (vK v 7 + 1) 32) (fun _ => 0)) 7 (nn m 19) 10 (-1)) 7 (nn m 19) 1 (nI d)) 7 (nn m 19) 2 (nI l)) (up2 (up2 (up2 (up2 (up2 (up2 (up2 (up2 (up2 (up2 (up2 (up2 (m) 20 (nn m 19) (nI p)) 21 (nn m 19) (nI d)) 22 (nn m 19) (nI l)) 23 (nn m 19) (nI j)) 25 (nn m 19) 0) 28 (nn m 19) (-1)) 29 (3 * (nn m 19)) (-1)) 29 (3 * (nn m 19) + 1) (-1)) 29 (3 * (nn m 19) + 2) (-1)) 24 (nn m 19) (-1)) 26 (nn m 19) 0) 19 0 (nI ((nn m 19) + 1))) := by
    refine gF.cnt (K := 7) (Fc := 19) (n := (nn m 19)) ?_ (by decide) (by rw [nn_o (by decide), nn_o (by decide), nn_o (by decide), nn_o (by decide), nn_o (by decide), nn_o (by decide), nn_o (by decide), nn_o (by decide), nn_o (by decide), nn_o (by decide), nn_o (by decide)]) (by omega) ?_
    · have h0 := hF.bR (K := 7) (i := (nn m 19)) (Nat.le_refl _) (fun _ => 0)
      have h1 := h0.bM (K := 7) (i := (nn m 19)) (f := 7) (Nat.le_refl _) 0
      have h2 := h1.bR (K := 32) (i := up1 (vK v) 7 ((nn m 19) + 1) 32) (show cn m 32 ≤ _ from Nat.zero_le _) (fun _ => 0)
      have h3 := h2.bM (K := 7) (i := (nn m 19)) (f := 10) (Nat.le_refl _) (-1)
      have h4 := h3.bM (K := 7) (i := (nn m 19)) (f := 1) (Nat.le_refl _) (nI d)
      have h5 := h4.bM (K := 7) (i := (nn m 19)) (f := 2) (Nat.le_refl _) (nI l)
      have h6 := h5.om (F := 20) rfl (nn m 19) (nI p)
      have h7 := h6.bm (K := 7) (f := 1) (F := 21) (i := (nn m 19)) (by decide) (Nat.le_refl _) (nI d)
      have h8 := h7.bm (K := 7) (f := 2) (F := 22) (i := (nn m 19)) (by decide) (Nat.le_refl _) (nI l)
      have h9 := h8.om (F := 23) rfl (nn m 19) (nI j)
      have h10 := h9.bm (K := 7) (f := 7) (F := 25) (i := (nn m 19)) (by decide) (Nat.le_refl _) 0
      have h11 := h10.bm (K := 7) (f := 10) (F := 28) (i := (nn m 19)) (by decide) (Nat.le_refl _) (-1)
      have h12 := h11.om (F := 29) rfl (3 * (nn m 19)) (-1)
      have h13 := h12.om (F := 29) rfl (3 * (nn m 19) + 1) (-1)
      have h14 := h13.om (F := 29) rfl (3 * (nn m 19) + 2) (-1)
      have h15 := h14.om (F := 24) rfl (nn m 19) (-1)
      have h16 := h15.bm (K := 7) (f := 5) (F := 26) (i := (nn m 19)) (by decide) (Nat.le_refl _) 0
      show gF (up3 (up3 (up3 (row3 (up3 (row3 (vM v) 7 (vK v 7) (fun _ => 0)) 7 (nn m 19) 7 0) 32 (up1 (vK v) 7 (vK v 7 + 1) 32) (fun _ => 0)) 7 (nn m 19) 10 (-1)) 7 (nn m 19) 1 (nI d)) 7 (nn m 19) 2 (nI l)) _
      rw [eK]
      exact h16
    · intro f F hf
      show (up3 (up3 (up3 (row3 (up3 (row3 (vM v) 7 (vK v 7) (fun _ => 0)) 7 (nn m 19) 7 0) 32 (up1 (vK v) 7 (vK v 7 + 1) 32) (fun _ => 0)) 7 (nn m 19) 10 (-1)) 7 (nn m 19) 1 (nI d)) 7 (nn m 19) 2 (nI l)) 7 (nn m 19) f = (up2 (up2 (up2 (up2 (up2 (up2 (up2 (up2 (up2 (up2 (up2 (m) 20 (nn m 19) (nI p)) 21 (nn m 19) (nI d)) 22 (nn m 19) (nI l)) 23 (nn m 19) (nI j)) 25 (nn m 19) 0) 28 (nn m 19) (-1)) 29 (3 * (nn m 19)) (-1)) 29 (3 * (nn m 19) + 1) (-1)) 29 (3 * (nn m 19) + 2) (-1)) 24 (nn m 19) (-1)) 26 (nn m 19) 0) F (nn m 19)
      have hf2 : (f = 1 ∧ F = 21) ∨ (f = 2 ∧ F = 22) ∨ (f = 5 ∧ F = 26) ∨ (f = 6 ∧ F = 27) ∨ (f = 7 ∧ F = 25) ∨ (f = 10 ∧ F = 28) := by
        have : ∀ x, x ∈ ftab → x.1 = 7 → (x.2.1 = 1 ∧ x.2.2 = 21) ∨ (x.2.1 = 2 ∧ x.2.2 = 22) ∨ (x.2.1 = 5 ∧ x.2.2 = 26) ∨ (x.2.1 = 6 ∧ x.2.2 = 27) ∨ (x.2.1 = 7 ∧ x.2.2 = 25) ∨ (x.2.1 = 10 ∧ x.2.2 = 28) := by decide +kernel
        exact this _ hf rfl
      rcases hf2 with ⟨a, c⟩ | ⟨a, c⟩ | ⟨a, c⟩ | ⟨a, c⟩ | ⟨a, c⟩ | ⟨a, c⟩ <;> subst a <;> subst c
      · rw [up3_k (by decide), up3_s, up2_o (by decide), up2_o (by decide), up2_o (by decide), up2_o (by decide), up2_o (by decide), up2_o (by decide), up2_o (by decide), up2_o (by decide), up2_o (by decide), up2_s]
      · rw [up3_s, up2_o (by decide), up2_o (by decide), up2_o (by decide), up2_o (by decide), up2_o (by decide), up2_o (by decide), up2_o (by decide), up2_o (by decide), up2_s]
      · rw [up3_k (by decide), up3_k (by decide), up3_k (by decide), row3_o (by decide), up3_k (by decide), eK, row3_s, up2_s]
      · rw [up3_k (by decide), up3_k (by decide), up3_k (by decide), row3_o (by decide), up3_k (by decide), eK, row3_s, up2_o (by decide), up2_o (by decide), up2_o (by decide), up2_o (by decide), up2_o (by decide), up2_o (by decide), up2_o (by decide), up2_o (by decide), up2_o (by decide), up2_o (by decide), up2_o (by decide), h27]
      · rw [up3_k (by decide), up3_k (by decide), up3_k (by decide), row3_o (by decide), up3_s, up2_o (by decide), up2_o (by decide), up2_o (by decide), up2_o (by decide), up2_o (by decide), up2_o (by decide), up2_s]
      · rw [up3_k (by decide), up3_k (by decide), up3_s, up2_o (by decide), up2_o (by decide), up2_o (by decide), up2_o (by decide), up2_o (by decide), up2_s]
  obtain ⟨V, hV⟩ : ∃ V, V = uN (uM (uM (uN (uM (uN (uK (uM (uN (uK v 7 12) 7 (nn m 19) 11 (idc 0 0)) 7 (nn m 19) 7 0) 32 3) 7 (nn m 19) 8 (idc 32 (vK v 32))) 7 (nn m 19) 10 (-1)) 7 (nn m 19) 0 (idc 2 p)) 7 (nn m 19) 1 (nI d)) 7 (nn m 19) 2 (nI l)) 7 (nn m 19) 3 (idc 1 w) := ⟨_, rfl⟩
  obtain ⟨W, hW⟩ : ∃ W, W = up2 (up2 (up2 (up2 (up2 (up2 (up2 (up2 (up2 (up2 (up2 (up2 (m) 20 (nn m 19) (nI p)) 21 (nn m 19) (nI d)) 22 (nn m 19) (nI l)) 23 (nn m 19) (nI j)) 25 (nn m 19) 0) 28 (nn m 19) (-1)) 29 (3 * (nn m 19)) (-1)) 29 (3 * (nn m 19) + 1) (-1)) 29 (3 * (nn m 19) + 2) (-1)) 24 (nn m 19) (-1)) 26 (nn m 19) 0) 19 0 (nI ((nn m 19) + 1)) := ⟨_, rfl⟩
  have o : ∀ F, F ≠ 19 ∧ F ≠ 20 ∧ F ≠ 21 ∧ F ≠ 22 ∧ F ≠ 23 ∧ F ≠ 24 ∧ F ≠ 25 ∧ F ≠ 26 ∧ F ≠ 28 ∧ F ≠ 29 → W F = m F := fun F hF => by
    rw [hW, up2_o (hF.1), up2_o (hF.2.2.2.2.2.2.2.1), up2_o (hF.2.2.2.2.2.1), up2_o (hF.2.2.2.2.2.2.2.2.2), up2_o (hF.2.2.2.2.2.2.2.2.2), up2_o (hF.2.2.2.2.2.2.2.2.2), up2_o (hF.2.2.2.2.2.2.2.2.1), up2_o (hF.2.2.2.2.2.2.1), up2_o (hF.2.2.2.2.1), up2_o (hF.2.2.2.1), up2_o (hF.2.2.1), up2_o (hF.2.1)]
  have on : ∀ F, F ≠ 19 ∧ F ≠ 20 ∧ F ≠ 21 ∧ F ≠ 22 ∧ F ≠ 23 ∧ F ≠ 24 ∧ F ≠ 25 ∧ F ≠ 26 ∧ F ≠ 28 ∧ F ≠ 29 → nn W F = nn m F := fun F hF => by unfold nn; rw [o F hF]
  have gN : ∀ K, K ≠ 7 ∧ K ≠ 32 → vN V K = vN v K := fun K hK => by
    rw [hV]
    show (up3 (up3 (up3 (row3 (up3 (row3 (vN v) 7 (vK v 7) (fun _ => nul)) 7 (nn m 19) 11 (idc 0 0)) 32 (up1 (vK v) 7 (vK v 7 + 1) 32) (fun _ => nul)) 7 (nn m 19) 8 (idc 32 (vK v 32))) 7 (nn m 19) 0 (idc 2 p)) 7 (nn m 19) 3 (idc 1 w)) K = _
    rw [up3_o hK.1, up3_o hK.1, up3_o hK.1, row3_o hK.2, up3_o hK.1, row3_o hK.1]
  have gM : ∀ K, K ≠ 7 ∧ K ≠ 32 → vM V K = vM v K := fun K hK => by
    rw [hV]
    show (up3 (up3 (up3 (row3 (up3 (row3 (vM v) 7 (vK v 7) (fun _ => 0)) 7 (nn m 19) 7 0) 32 (up1 (vK v) 7 (vK v 7 + 1) 32) (fun _ => 0)) 7 (nn m 19) 10 (-1)) 7 (nn m 19) 1 (nI d)) 7 (nn m 19) 2 (nI l)) K = _
    rw [up3_o hK.1, up3_o hK.1, up3_o hK.1, row3_o hK.2, up3_o hK.1, row3_o hK.1]
  have gK : ∀ K, K ≠ 7 ∧ K ≠ 32 → vK V K = vK v K := fun K hK => by
    rw [hV]
    show (up1 (up1 (vK v) 7 (vK v 7 + 1)) 32 (up1 (vK v) 7 (vK v 7 + 1) 32 + 1)) K = _
    rw [up1_n hK.2, up1_n hK.1]
  have k7 : vK V 7 = nn m 19 + 1 := by
    rw [hV]
    show (up1 (up1 (vK v) 7 (vK v 7 + 1)) 32 (up1 (vK v) 7 (vK v 7 + 1) 32 + 1)) 7 = _
    rw [up1_n (by decide), up1_s, eK]
  have k32b : vK V 32 = vK v 32 + 1 := by
    rw [hV]
    show (up1 (up1 (vK v) 7 (vK v 7 + 1)) 32 (up1 (vK v) 7 (vK v 7 + 1) 32 + 1)) 32 = _
    rw [up1_s, k32]
  have gL : ∀ K, K ≠ 7 ∧ K ≠ 32 → vL V K = vL v K := fun K hK => by
    rw [hV]
    show (up2 (up2 (vL v) 7 (vK v 7) 12) 32 (up1 (vK v) 7 (vK v 7 + 1) 32) 3) K = _
    rw [up2_o hK.2, up2_o hK.1]
  have l32 : ∀ z, z < vK v 32 → vL V 32 z = vL v 32 z := fun z hz => by
    rw [hV]
    show (up2 (up2 (vL v) 7 (vK v 7) 12) 32 (up1 (vK v) 7 (vK v 7 + 1) 32) 3) 32 z = _
    rw [k32, up2_n (fun q => by omega), up2_o (by decide)]
  have l32n : vL V 32 (vK v 32) = 3 := by
    rw [hV]
    show (up2 (up2 (vL v) 7 (vK v 7) 12) 32 (up1 (vK v) 7 (vK v 7 + 1) 32) 3) 32 _ = _
    rw [k32, up2_s]
  have m32 : ∀ z, z < vK v 32 → vM V 32 z = vM v 32 z := fun z hz => by
    rw [hV]
    show (up3 (up3 (up3 (row3 (up3 (row3 (vM v) 7 (vK v 7) (fun _ => 0)) 7 (nn m 19) 7 0) 32 (up1 (vK v) 7 (vK v 7 + 1) 32) (fun _ => 0)) 7 (nn m 19) 10 (-1)) 7 (nn m 19) 1 (nI d)) 7 (nn m 19) 2 (nI l)) 32 z = _
    rw [up3_o (by decide), up3_o (by decide), up3_o (by decide), k32, row3_n (fun q => by omega), up3_o (by decide), row3_o (by decide)]
  have eZ : vZ V = vZ v := by rw [hV]; rfl
  have eE : vE V = vE v := by rw [hV]; rfl
  have eB : vB V = vB v := by rw [hV]; rfl
  have eW : vW V = vW v := by rw [hV]; rfl
  have ebd : vb V = vb v - (12 + 1) - (3 + 1) := by rw [hV]; rfl
  have x0 : ∀ i, vN V 7 i 0 = if i = (nn m 19) then idc 2 p else vN v 7 i 0 := fun i => by
    rw [hV]
    show (up3 (up3 (up3 (row3 (up3 (row3 (vN v) 7 (vK v 7) (fun _ => nul)) 7 (nn m 19) 11 (idc 0 0)) 32 (up1 (vK v) 7 (vK v 7 + 1) 32) (fun _ => nul)) 7 (nn m 19) 8 (idc 32 (vK v 32))) 7 (nn m 19) 0 (idc 2 p)) 7 (nn m 19) 3 (idc 1 w)) 7 i 0 = _
    by_cases q : i = (nn m 19)
    · simp [up3, row3, eK, q]
    · simp [up3, row3, eK, q]
  have x3 : ∀ i, vN V 7 i 3 = if i = (nn m 19) then idc 1 w else vN v 7 i 3 := fun i => by
    rw [hV]
    show (up3 (up3 (up3 (row3 (up3 (row3 (vN v) 7 (vK v 7) (fun _ => nul)) 7 (nn m 19) 11 (idc 0 0)) 32 (up1 (vK v) 7 (vK v 7 + 1) 32) (fun _ => nul)) 7 (nn m 19) 8 (idc 32 (vK v 32))) 7 (nn m 19) 0 (idc 2 p)) 7 (nn m 19) 3 (idc 1 w)) 7 i 3 = _
    by_cases q : i = (nn m 19)
    · simp [up3, row3, eK, q]
    · simp [up3, row3, eK, q]
  have x4 : ∀ i, vN V 7 i 4 = if i = (nn m 19) then nul else vN v 7 i 4 := fun i => by
    rw [hV]
    show (up3 (up3 (up3 (row3 (up3 (row3 (vN v) 7 (vK v 7) (fun _ => nul)) 7 (nn m 19) 11 (idc 0 0)) 32 (up1 (vK v) 7 (vK v 7 + 1) 32) (fun _ => nul)) 7 (nn m 19) 8 (idc 32 (vK v 32))) 7 (nn m 19) 0 (idc 2 p)) 7 (nn m 19) 3 (idc 1 w)) 7 i 4 = _
    by_cases q : i = (nn m 19)
    · simp [up3, row3, eK, q]
    · simp [up3, row3, eK, q]
  have x8 : ∀ i, vN V 7 i 8 = if i = (nn m 19) then idc 32 (vK v 32) else vN v 7 i 8 := fun i => by
    rw [hV]
    show (up3 (up3 (up3 (row3 (up3 (row3 (vN v) 7 (vK v 7) (fun _ => nul)) 7 (nn m 19) 11 (idc 0 0)) 32 (up1 (vK v) 7 (vK v 7 + 1) 32) (fun _ => nul)) 7 (nn m 19) 8 (idc 32 (vK v 32))) 7 (nn m 19) 0 (idc 2 p)) 7 (nn m 19) 3 (idc 1 w)) 7 i 8 = _
    by_cases q : i = (nn m 19)
    · simp [up3, row3, eK, q]
    · simp [up3, row3, eK, q]
  have x11 : ∀ i, vN V 7 i 11 = if i = (nn m 19) then idc 0 0 else vN v 7 i 11 := fun i => by
    rw [hV]
    show (up3 (up3 (up3 (row3 (up3 (row3 (vN v) 7 (vK v 7) (fun _ => nul)) 7 (nn m 19) 11 (idc 0 0)) 32 (up1 (vK v) 7 (vK v 7 + 1) 32) (fun _ => nul)) 7 (nn m 19) 8 (idc 32 (vK v 32))) 7 (nn m 19) 0 (idc 2 p)) 7 (nn m 19) 3 (idc 1 w)) 7 i 11 = _
    by_cases q : i = (nn m 19)
    · simp [up3, row3, eK, q]
    · simp [up3, row3, eK, q]
  have y9 : ∀ i, vM V 7 i 9 = if i = (nn m 19) then 0 else vM v 7 i 9 := fun i => by
    rw [hV]
    show (up3 (up3 (up3 (row3 (up3 (row3 (vM v) 7 (vK v 7) (fun _ => 0)) 7 (nn m 19) 7 0) 32 (up1 (vK v) 7 (vK v 7 + 1) 32) (fun _ => 0)) 7 (nn m 19) 10 (-1)) 7 (nn m 19) 1 (nI d)) 7 (nn m 19) 2 (nI l)) 7 i 9 = _
    by_cases q : i = (nn m 19)
    · simp [up3, row3, eK, q]
    · simp [up3, row3, eK, q]
  have n19 : nn W 19 = (nn m 19) + 1 := by
    unfold nn
    rw [hW, up2_s]
    exact nI_clamp (by omega)
  have w20 : W 20 = up1 (m 20) (nn m 19) (nI p) := by
    rw [hW, up2_o (by decide), up2_o (by decide), up2_o (by decide), up2_o (by decide), up2_o (by decide), up2_o (by decide), up2_o (by decide), up2_o (by decide), up2_o (by decide), up2_o (by decide), up2_o (by decide), up2_r]
  have w23 : W 23 = up1 (m 23) (nn m 19) (nI j) := by
    rw [hW, up2_o (by decide), up2_o (by decide), up2_o (by decide), up2_o (by decide), up2_o (by decide), up2_o (by decide), up2_o (by decide), up2_o (by decide), up2_r, up2_o (by decide), up2_o (by decide), up2_o (by decide)]
  have w24 : W 24 = up1 (m 24) (nn m 19) (-1) := by
    rw [hW, up2_o (by decide), up2_o (by decide), up2_r, up2_o (by decide), up2_o (by decide), up2_o (by decide), up2_o (by decide), up2_o (by decide), up2_o (by decide), up2_o (by decide), up2_o (by decide), up2_o (by decide)]
  have w29 : W 29 = up1 (up1 (up1 (m 29) (3 * (nn m 19)) (-1)) (3 * (nn m 19) + 1) (-1)) (3 * (nn m 19) + 2) (-1) := by
    rw [hW, up2_o (by decide), up2_o (by decide), up2_o (by decide), up2_r, up2_r, up2_r, up2_o (by decide), up2_o (by decide), up2_o (by decide), up2_o (by decide), up2_o (by decide), up2_o (by decide)]
  rw [← hV, ← hW]
  have hF3 : gF (vM V) W := by rw [hV, hW]; exact hF2
  clear hF2 hV hW
  unfold CRh
  simp only [gN 0 (by decide), gN 36 (by decide), gN 2 (by decide), gN 37 (by decide), gN 3 (by decide), gN 10 (by decide), gN 12 (by decide), gN 1 (by decide), gN 8 (by decide), gN 9 (by decide), gN 11 (by decide), gM 2 (by decide), gM 6 (by decide), gM 8 (by decide), gM 10 (by decide), gM 20 (by decide), o 37 (by decide), o 17 (by decide), o 18 (by decide), o 65 (by decide), o 1 (by decide), o 2 (by decide), o 5 (by decide), o 6 (by decide), o 69 (by decide), o 0 (by decide), o 60 (by decide), o 64 (by decide), o 67 (by decide), o 57 (by decide), o 54 (by decide), o 74 (by decide), o 4 (by decide), o 10 (by decide), o 11 (by decide), o 12 (by decide), o 13 (by decide), o 14 (by decide), o 15 (by decide), o 9 (by decide), o 36 (by decide), o 31 (by decide), o 34 (by decide), o 40 (by decide), o 45 (by decide), o 71 (by decide), o 76 (by decide), o 47 (by decide), o 41 (by decide), o 42 (by decide), o 43 (by decide), o 48 (by decide), o 49 (by decide), o 35 (by decide), o 51 (by decide), o 62 (by decide), on 77 (by decide), on 30 (by decide), on 39 (by decide), on 46 (by decide), on 52 (by decide), on 70 (by decide), eZ, eE, eB, eW, gK 1 (by decide), gK 6 (by decide), gK 14 (by decide), gK 20 (by decide)]
  refine ⟨hF3, hSt, hPe, hSe, (hLn.cg (gL 36 (by decide)) (gL 37 (by decide)) (fun z hz => l32 z (by omega))), ?_, hL3, hL4, hL5, hL6, hL7, hL8, (hAr.cg (fun z hz => m32 z (by omega))), hDv, hTo, hPu, hCa, hAu, hPp, hOw, hWr, hUn, hFl, ?_, ?_, (hSs.cg (by rw [k32b]; omega) (fun _ _ => rfl) (fun _ _ => rfl) (fun z hz => m32 z hz) (fun z hz => l32 z hz)), ?_, ?_, hR81, hR82, hR90, hR95, hRt, hRr, hRa, ?_, hT8, hT10, hT12, hN8, hN10, hFa, hTu, ?_, hLa⟩
  · obtain ⟨c1, c2, c3, c4, c5, c6, c7, c8, c9, c10, c11, c12⟩ := hCt
    exact ⟨by rw [gK 5 (by decide)]; exact c1, by rw [k7, n19], by rw [gK 8 (by decide)]; exact c3, by rw [gK 9 (by decide)]; exact c4, by rw [gK 10 (by decide)]; exact c5, by rw [gK 11 (by decide)]; exact c6, by rw [gK 12 (by decide)]; exact c7, by rw [gK 13 (by decide), gK 1 (by decide)]; exact c8, by rw [gK 1 (by decide)]; exact c9, by rw [gK 14 (by decide)]; exact c10, by rw [gK 15 (by decide)]; exact c11, by rw [k32b]; omega⟩
  · simp only [x3, x4]
    rw [n19, w23, w24]
    intro i hi
    show (if i = nn m 19 then _ else _) = vE v 1 _ ∧ (if i = nn m 19 then _ else _) = (if _ then _ else vE v (fl ((if i = nn m 19 then _ else _) / 64)) _)
    by_cases q : i = nn m 19
    · rw [if_pos q, if_pos q, q, up1_s, up1_s, nI_clamp (by omega), if_pos rfl]
      exact ⟨hw.symm, rfl⟩
    · rw [if_neg q, if_neg q, up1_n q, up1_n q]; exact hAt i (by omega)
  · simp only [x8, y9]
    rw [n19, k32b, w29]
    intro i hi
    show (if i = nn m 19 then _ else _) = idc 32 ((if i = nn m 19 then _ else _) / 64) ∧ 79 ≤ (if i = nn m 19 then _ else _) / 64 ∧ (if i = nn m 19 then _ else _) / 64 < _ ∧ vL V 32 ((if i = nn m 19 then _ else _) / 64) = 3 ∧ (if i = nn m 19 then _ else _) = _ ∧ ∀ f, f < 3 → _ → vM V 32 ((if i = nn m 19 then _ else _) / 64) f = _
    by_cases q : i = nn m 19
    · simp only [if_pos q, idc_div (show 32 < 64 by decide)]
      have z0 : up1 (up1 (up1 (m 29) (3 * nn m 19) (-1)) (3 * nn m 19 + 1) (-1)) (3 * nn m 19 + 2) (-1) (3 * i) = -1 := by rw [q, up1_n (by omega), up1_n (by omega), up1_s]
      have z1 : up1 (up1 (up1 (m 29) (3 * nn m 19) (-1)) (3 * nn m 19 + 1) (-1)) (3 * nn m 19 + 2) (-1) (3 * i + 1) = -1 := by rw [q, up1_n (by omega), up1_s]
      have z2 : up1 (up1 (up1 (m 29) (3 * nn m 19) (-1)) (3 * nn m 19 + 1) (-1)) (3 * nn m 19 + 2) (-1) (3 * i + 2) = -1 := by rw [q, up1_s]
      refine ⟨trivial, h79, by omega, l32n, ?_, fun f hf hm => ?_⟩
      · rw [z0, z1, z2]; decide +kernel
      · rcases (by omega : f = 0 ∨ f = 1 ∨ f = 2) with r | r | r <;> subst r
        · exact absurd z0 hm
        · exact absurd z1 hm
        · exact absurd z2 hm
    · simp only [if_neg q]
      obtain ⟨a1, a2, a3, a4, a5, a6⟩ := hSa i (by omega)
      have a3 : vN v 7 i 8 / 64 < vK v 32 := a3
      have zz : ∀ f, f < 3 → up1 (up1 (up1 (m 29) (3 * nn m 19) (-1)) (3 * nn m 19 + 1) (-1)) (3 * nn m 19 + 2) (-1) (3 * i + f) = m 29 (3 * i + f) := fun f hf => by rw [up1_n (by omega), up1_n (by omega), up1_n (by omega)]
      have z0 : up1 (up1 (up1 (m 29) (3 * nn m 19) (-1)) (3 * nn m 19 + 1) (-1)) (3 * nn m 19 + 2) (-1) (3 * i) = m 29 (3 * i) := by rw [up1_n (by omega), up1_n (by omega), up1_n (by omega)]
      rw [z0, zz 1 (by decide), zz 2 (by decide)]
      refine ⟨a1, a2, by omega, by rw [l32 _ a3]; exact a4, a5, fun f hf hm => ?_⟩
      rw [zz f hf] at hm ⊢
      rw [m32 _ a3]; exact a6 f hf hm
  · simp only [x8]
    rw [n19]
    obtain ⟨oo, o1, o2⟩ := hOs
    refine ⟨up1 oo (vK v 32) (2 * nn m 19), fun i hi => ?_, fun i hi => ?_⟩
    · show up1 oo (vK v 32) _ ((if i = nn m 19 then _ else _) / 64) = _
      by_cases q : i = nn m 19
      · rw [if_pos q, idc_div (by decide), up1_s, q]
      · have h3 : vN v 7 i 8 / 64 < vK v 32 := (hSa i (by omega)).2.2.1
        rw [if_neg q, up1_n (by omega)]; exact o1 i (by omega)
    · have h3 : vN v 8 i 6 / 64 < vK v 32 := (hSs i hi).2.2.1
      show up1 oo (vK v 32) _ (vN v 8 i 6 / 64) = _
      rw [up1_n (by omega)]; exact o2 i hi
  · simp only [x0]
    rw [n19, w20]
    exact hR70.add (fun i hi => ⟨if_neg (by omega), up1_n (by omega)⟩) (by show (if nn m 19 = nn m 19 then _ else _) = _; rw [if_pos rfl, up1_s, rf_ix (by omega)])
  · simp only [x11]
    rw [n19]
    exact hT7.add (fun i hi => if_neg (by omega)) (if_pos rfl)
  · rw [ebd]
    unfold gBu at hBu ⊢
    omega
