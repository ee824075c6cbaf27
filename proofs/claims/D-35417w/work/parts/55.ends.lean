/-! ===== the court's ends of sessions ===== -/
theorem rf_eq {x : Int32} {s K : Nat} (hK : K < 62) (hx : x = -1 ∨ ∃ o, x = nI o ∧ o < 2 ^ 31) (hs : s < 2 ^ 31) : rf K x = idc K s ↔ x = nI s := by
  unfold rf
  rcases hx with rfl | ⟨o, rfl, ho⟩
  · rw [if_pos rfl]
    constructor
    · intro q; exact absurd q.symm (idc_nn hK)
    · intro q
      have := congrArg Int32.toInt q
      rw [nI_toInt hs] at this
      have e : (-1 : Int32).toInt = -1 := by decide
      omega
  · rw [if_neg]
    · rw [nI_clamp ho]
      constructor
      · intro q; rw [(idc_inj (by omega) (by omega) q).2]
      · intro q; rw [(nI_eq ho hs).mp q]
    · intro q
      have := congrArg Int32.toInt q
      rw [nI_toInt ho] at this
      have e : (-1 : Int32).toInt = -1 := by decide
      omega
theorem cmp_idc {K i : Nat} (h : K < 38) : cmpN (idc K i) := Or.inr (Or.inl (by rw [idc_mod (by omega)]; exact h))
theorem cmp_rf {K : Nat} {x : Int32} (h : K < 38) : cmpN (rf K x) := by
  unfold rf
  split
  · exact Or.inl rfl
  · exact cmp_idc h
theorem CRh.lt13 {U : (Nat → List Nat) → Prop} {nL : Nat} {v : Vw} {m : Mst} {b T : Nat} (h : CRh U nL v m b T) {y : Nat} (hy : y < 9) : y < vK v 13 := by
  have h1 := h.hCt.2.2.2.2.2.2.2
  omega
def cefF (s : Nat) (u12 : Int32) : (Int32 → PV Int32) → Int32 → PV Int32 := fun r44 => fun u43 => hgR 8 s 8 fun v45 => hisK 0 v45 fun i46 => hgR 0 i46 6 fun v48 => hisK 13 v48 fun i49 => hbn0 (h_J2_size i49) (fun v51 => hcnd (v51 ≤ u43) (hrt u12) (hgR 8 s 8 fun v53 => hisK 0 v53 fun i54 => hgR 0 i54 6 fun v56 => hisK 13 v56 fun i57 => hbn0 (h_J2_get i57 u43) (fun v59 => hisK 10 v59 fun i60 => hgR 10 i60 1 fun v62 => hasr ((cmpN v62) ∧ (cmpN (idc 8 s))) (hcnd (v62 = (idc 8 s)) (hgR 8 s 8 fun v64 => hisK 0 v64 fun i65 => hgR 0 i65 6 fun v67 => hisK 13 v67 fun i68 => hbn0 (h_J2_get i68 u43) (fun v70 => hisK 10 v70 fun i71 => hbn0 (h_X11_end i71) (fun v73 => r44 (u43 + (1 : Int32))))) (r44 (u43 + (1 : Int32)))))))
theorem c_efs {m m0 : Mst} {o : Nat × Int64} {b T s : Nat} (he : EI m) (hs : s < nn m 30) (u12 : Int32) {P : Int32 → Vw → Prop} {X : String → Vw → Prop} (hP : ∀ v', CC v' (mEFs m s (nn m 46)) m0 o b T → P u12 v') : ∀ d j n v, j + d = nn m 46 → d < n → CC v (mEFs m s j) m0 o b T → hlpN (cefF s u12) n (nI j) P X v := by
  intro d
  induction d with
  | zero =>
    intro j n v hj hn h
    obtain ⟨n, rfl⟩ : ∃ k, n = k + 1 := ⟨n - 1, by omega⟩
    have hj' : j = nn m 46 := by omega
    have h30 : nn (mEFs m s j) 30 = nn m 30 := mEFs_n (by decide) (by decide) j
    have h46 : nn (mEFs m s j) 46 = nn m 46 := mEFs_n (by decide) (by decide) j
    show cefF s u12 (hlpN (cefF s u12) n) (nI j) P X v
    unfold cefF
    refine hgR_e (h.1.hT8 s (by omega)) (hisK_i (hgR_e h.1.s6 (hisK_i (hbn0_i (J2sz (h.1.lt13 (by decide)) h.1.hL5.1 ?_)))))
    rw [h46, ← hj']
    refine hcnd_t (nI_le (Nat.le_refl _) (by have := he.2.2.2.1.2; omega)) (hrt_i (hP v ?_))
    rw [← hj']; exact h
  | succ d ih =>
    intro j n v hj hn h
    obtain ⟨n, rfl⟩ : ∃ k, n = k + 1 := ⟨n - 1, by omega⟩
    have h30 : nn (mEFs m s j) 30 = nn m 30 := mEFs_n (by decide) (by decide) j
    have h46 : nn (mEFs m s j) 46 = nn m 46 := mEFs_n (by decide) (by decide) j
    have h60 := he.2.2.2.1.2
    have hS60 := he.2.2.1.2
    have e := he.efs (s := s) j (by omega)
    have hi := fun v' (hv : CC v' (mEFs m s (j + 1)) m0 o b T) => ih (j + 1) n v' (by omega) (by omega) hv
    obtain ⟨c, t, c1, c2, c3, c4⟩ := e.2.2.2.2.2.1 j (by omega)
    have hfs : fS (mEFs m s j) j = nI t := by unfold fS; rw [c1, nI_clamp (by omega), c3]
    have hfa := (h.1.hFa j (by omega)).1
    have hfr : vN v 10 j 1 = rf 8 (nI t) := by
      have : vN v 10 j 1 = rf 8 (fS (mEFs m s j) j) := hfa
      rw [this, hfs]
    show cefF s u12 (hlpN (cefF s u12) n) (nI j) P X v
    generalize hlpN (cefF s u12) n = L at hi ⊢
    unfold cefF
    refine hgR_e (h.1.hT8 s (by omega)) (hisK_i (hgR_e h.1.s6 (hisK_i (hbn0_i (J2sz (h.1.lt13 (by decide)) h.1.hL5.1 ?_)))))
    rw [h46]
    refine hcnd_f (nI_ge (by omega) (by omega)) (hgR_e (h.1.hT8 s (by omega)) (hisK_i (hgR_e h.1.s6 (hisK_i (hbn0_i (J2get (h.1.lt13 (by decide)) rfl (by omega) (by rw [h.1.hL5.1, h46]; omega) (h.1.hL5.2 j (by omega)) (hisK_i (hgR_e hfr (hasr_i ⟨cmp_rf (by decide), cmp_idc (by decide)⟩ ?_)))))))))
    rw [mEFs, hfs] at hi
    rw [nI_1]
    refine hcnd_i (fun q => ?_) fun q => ?_
    · have q1 := (rf_eq (by decide) (Or.inr ⟨t, rfl, by omega⟩) (by omega)).mp q
      refine hgR_e (h.1.hT8 s (by omega)) (hisK_i (hgR_e h.1.s6 (hisK_i (hbn0_i (J2get (h.1.lt13 (by decide)) rfl (by omega) (by rw [h.1.hL5.1, h46]; omega) (h.1.hL5.2 j (by omega)) (hisK_i (hbn0_i ?_)))))))
      by_cases h2 : mEFs m s j 51 j = 0
      · rw [if_neg (fun r => r.2 h2)] at hi
        exact c_endFam0 h (by omega) h2 (hi v h)
      · rw [if_pos ⟨q1, h2⟩] at hi
        exact c_endFam h (by omega) (by omega) h2 e.1 (e.2.2.2.2.2.2.1 j (by omega) h2) fun v' hv => hi v' hv
    · have q1 : ¬ nI t = nI s := fun r => q ((rf_eq (by decide) (Or.inr ⟨t, rfl, by omega⟩) (by omega)).mpr r)
      rw [if_neg (fun r => q1 r.1)] at hi
      exact hi v h
theorem CRh.unlive {U : (Nat → List Nat) → Prop} {nL : Nat} {v : Vw} {m : Mst} {b T : Nat} (h : CRh U nL v m b T) {s : Nat} (hs : s < nn m 30) (hg : m 35 s ≠ 0) : CRh U nL (uM v 8 s 5 0) (up2 m 35 s 0) (b + 300) T := by
  obtain ⟨hF, hSt, hPe, hSe, hLn, hCt, hL3, hL4, hL5, hL6, hL7, hL8, hAr, hDv, hTo, hPu, hCa, hAu, hPp, hOw, hWr, hUn, hFl, hAt, hSa, hSs, hOs, hR70, hR81, hR82, hR90, hR95, hRt, hRr, hRa, hT7, hT8, hT10, hT12, hN8, hN10, hFa, hTu, hBu, hLa⟩ := h
  refine ⟨hF.set (by decide) s 0, hSt, hPe, hSe, hLn, hCt, hL3, hL4, hL5, hL6, hL7, hL8, hAr, hDv, hTo, hPu, hCa, hAu, hPp, hOw, hWr, hUn, hFl, hAt, hSa, ?_, hOs, hR70, hR81, hR82, hR90, hR95, hRt, hRr, hRa, hT7, hT8, hT10, hT12, ?_, hN10, hFa, hTu, ?_, hLa⟩
  · simp (config := { decide := true }) only [vM_uMk]; exact hSs
  · simp (config := { decide := true }) only [vM_uMk]; exact hN8
  · show gBu (vb v) (b + 300) (up2 m 35 s 0 35) (m 51) (nn m 30) (nn m 46) (m 62 0)
    rw [up2_r]
    have := cnt_d hg (nn m 30) hs
    unfold gBu at hBu ⊢
    omega
def cchF (s n : Nat) : (Int32 × Int32 → PV Int32) → Int32 × Int32 → PV Int32 := fun r11 => un2 fun u9 u10 => hgR 8 s 8 fun v14 => hisK 0 v14 fun i15 => hgR 0 i15 4 fun v17 => hisK 13 v17 fun i18 => hbn0 (h_J2_size i18) (fun v20 => hcnd (v20 ≤ u10) (hrt u9) (hgR 8 s 8 fun v22 => hisK 0 v22 fun i23 => hgR 0 i23 4 fun v25 => hisK 13 v25 fun i26 => hbn0 (h_J2_get i26 u10) (fun v28 => hisK 8 v28 fun i29 => hgR 8 i29 2 fun v31 => hasr ((cmpN v31) ∧ (cmpN (idc 8 s))) (hcnd (v31 = (idc 8 s)) (hgR 8 s 8 fun v33 => hisK 0 v33 fun i34 => hgR 0 i34 4 fun v36 => hisK 13 v36 fun i37 => hbn0 (h_J2_get i37 u10) (fun v39 => hisK 8 v39 fun i40 => hbn0 (h_X9_end n i40) (fun v42 => r11 ((u9 + v42), (u10 + (1 : Int32)))))) (r11 ((u9 + (0 : Int32)), (u10 + (1 : Int32))))))))
theorem c_end_dead {v : Vw} {m m0 : Mst} {o : Nat × Int64} {b T s n : Nat} (h : CC v m m0 o b T) (hs : s < nn m 30) (h0 : m 35 s = 0) {P : Int32 → Vw → Prop} {X : String → Vw → Prop} (hP : P 0 v) : h_X9_end (n + 1) s P X v := by
  unfold h_X9_end
  exact hgI_e (h.1.f 8 5 35 (by decide) hs) (hcnd_t h0 (hrt_i hP))
