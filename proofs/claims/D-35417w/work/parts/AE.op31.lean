/-! ===== operations (31): answer, the whole ===== -/
def anMid (a k : Nat) (r : Int32) : PV Unit := hcnd (r = 0) (hgI 7 a 5 fun v22 => hpI 7 a 5 (v22 + (1 : Int32)) <| hgI 7 a 5 fun v23 => hgR 7 a 4 fun v24 => hisK 6 v24 fun i25 => hgI 6 i25 2 fun v27 => hcnd (v23 = v27) (hgR 7 a 4 fun v29 => hisK 6 v29 fun i30 => hgI 6 i30 4 fun v32 => hbn0 (h_X8_go a v32) (fun _ => hrt ())) (hrt ())) (hgI 7 a 9 fun v34 => hpI 7 a 9 (v34 ||| ((1 : Int32) <<< (nI k &&& 31))) <| hgR 7 a 8 fun v35 => hgR 7 a 11 fun v36 => hisK 0 v36 fun i37 => hgI 0 i37 16 fun v39 => hisK 32 v35 fun i40 => hbI 32 i40 (nI k) v39 <| hgR 7 a 4 fun v42 => hisK 6 v42 fun i43 => hgI 6 i43 3 fun v45 => hbn0 (h_X8_go a v45) (fun _ => hrt ()))
def qMid (a V j : Nat) (r : Int32) : PM Unit := qc (r = 0) (qa 26 60 (nI a) fun v57 => qw 26 60 (nI a) (v57 + (1 : Int32)) <| qa 26 60 (nI a) fun v61 => qa 13 108 (((12 : Int32) * nI V) + nI j) fun v65 => qc (v61 = v65) (qa 15 108 (((12 : Int32) * nI V) + nI j) fun v70 => qbd (q_go (nI a) v70) (fun _ => qrt ())) (qrt ())) (qa 12 108 (((12 : Int32) * nI V) + nI j) fun v76 => qI 0 fun v77 => qw 29 180 (((3 : Int32) * nI a) + v76) v77 <| qa 14 108 (((12 : Int32) * nI V) + nI j) fun v83 => qbd (q_go (nI a) v83) (fun _ => qrt ()))
theorem an_mid {m m0 : Mst} {o : Nat × Int64} {T T' a V j k n : Nat} {r : Int32} (ha : a < nn m 19) (hI : Inv m T) (hT : T ≤ 24) (h25 : m 25 a = 0) (h30 : nn m 30 < T) (hle : nn m 77 + pt m + 2 ≤ 4 * T) (e23 : m 23 a = nI V) (hV : V < 8) (e24 : m 24 a = nI j) (hj : j < 12) (h10 : m 10 V = nI n) (hn : n ≤ 12) (ek : m 12 (12 * V + j) = nI k) (hk : k < 3) (h14 : ixn (m 14 (12 * V + j)) n) (h15 : ixn (m 15 (12 * V + j)) n) : ∃ M', qMid a V j r m = some ((), M') ∧ Inv M' T ∧ M' 82 = m 82 ∧ M' 27 = m 27 ∧ nn M' 19 = nn m 19 ∧ ∀ (b : Nat) (v : Vw) (P : Unit → Vw → Prop) (X : String → Vw → Prop), CC v m m0 o (b + 1000) T' → (∀ v', CC v' M' m0 o b T' → P () v') → anMid a k r P X v := by
  have q19 : m 19 0 = nI (nn m 19) ∧ nn m 19 ≤ T := ix_nn hI.2.1.1 (by omega)
  have ix12 : ((12 : Int32) * nI V) + nI j = nI (12 * V + j) := ix12p
  have h24 : m 24 a ≠ -1 := by rw [e24]; exact nI_nm (by omega)
  have st : ∀ (M : Mst) (b : Nat) (v : Vw), CC v M m0 o b T' → Inv M T → nn M 19 = nn m 19 → M 23 = m 23 → M 24 = m 24 → ∃ q, vN v 7 a 4 = idc 6 q ∧ vM v 6 q 2 = M 13 (12 * V + j) ∧ vM v 6 q 3 = M 14 (12 * V + j) ∧ vM v 6 q 4 = M 15 (12 * V + j) := fun M b v hv hIM n19 f23 f24 => by
    obtain ⟨V', j', q, hV', hj', x23, x24, N4, _, _, _, E2, E3, E4⟩ := att_step hv hIM (k := a) (by omega) (by rw [f24]; exact h24)
    have eV : V' = V := (nI_eq (by omega) (by omega)).mp (x23.symm.trans ((congrFun f23 a).trans e23))
    have ej : j' = j := (nI_eq (by omega) (by omega)).mp (x24.symm.trans ((congrFun f24 a).trans e24))
    subst eV
    subst ej
    exact ⟨q, N4, E2, E3, E4⟩
  by_cases r0 : r = 0
  · have hI2 : Inv (up2 m 26 a (m 26 a + 1)) T := hI
    have K15 : up2 m 26 a (m 26 a + 1) 15 (12 * V + j) = m 15 (12 * V + j) := rfl
    have K13 : up2 m 26 a (m 26 a + 1) 13 (12 * V + j) = m 13 (12 * V + j) := rfl
    have hstep : ∀ (b : Nat) (v : Vw) (P : Unit → Vw → Prop) (X : String → Vw → Prop), CC v m m0 o b T' → (m 26 a + 1 = m 13 (12 * V + j) → ∀ v', CC v' (up2 m 26 a (m 26 a + 1)) m0 o b T' → h_X8_go a (m 15 (12 * V + j)) P (fun _ _ => False) v') → (m 26 a + 1 ≠ m 13 (12 * V + j) → ∀ v', CC v' (up2 m 26 a (m 26 a + 1)) m0 o b T' → P () v') → anMid a k r P X v := fun b v P X h hy hn => by
      have rel : CC (uM v 7 a 5 (m 26 a + 1)) (up2 m 26 a (m 26 a + 1)) m0 o b T' := CCh.awr h a (m 26 a + 1)
      obtain ⟨q, N4, E2, E3, E4⟩ := st (up2 m 26 a (m 26 a + 1)) b (uM v 7 a 5 (m 26 a + 1)) rel hI2 rfl rfl rfl
      unfold anMid
      refine hcnd_t r0 (hgI_e (h.1.f 7 5 26 (by decide) ha) (hpI_i (hgI_e (x := m 26 a + 1) up3_s (hgR_e N4 (hisK_i (hgI_e (E2.trans K13) (hcnd_i (fun q => ?_) fun q => hrt_i (hn q _ rel))))))))
      exact hgR_e N4 (hisK_i (hgI_e (E4.trans K15) (hbn0_i (hy q _ rel))))
    by_cases Q : m 26 a + 1 = m 13 (12 * V + j)
    · obtain ⟨M', g1, g2, g3, g4, g5, g6⟩ := go_cc (m := up2 m 26 a (m 26 a + 1)) (m0 := m0) (o := o) (T' := T') (u := m 15 (12 * V + j)) (a := a) ha hI2 hT h25 h30 hle (by
        show ixn _ (m 10 (m 23 a).toNatClampNeg).toNatClampNeg
        rw [e23, nI_clamp (by omega), h10, nI_clamp (by omega)]
        exact h15)
      refine ⟨M', ?_, g2, g3, g4, g5, fun b v P X h hP => hstep (b + 1000) v P X h (fun _ v' hv => g6 b v' P _ hv hP) fun t => absurd Q t⟩
      unfold qMid
      rw [qc_t r0, qa_e rfl (by omega) (by decide), qw_e rfl (by omega) (by decide), qa_e rfl (by omega) (by decide), up2_s, ix12, qa_e rfl (by omega) (by decide), K13, qc_t Q, qa_e rfl (by omega) (by decide), K15]
      refine qbd_t g1 ?_
      rfl
    · refine ⟨up2 m 26 a (m 26 a + 1), ?_, hI2, rfl, rfl, rfl, fun b v P X h hP => hstep b v P X (h.less (by omega) (Nat.le_refl _)) (fun t => absurd t Q) fun _ => hP⟩
      unfold qMid
      rw [qc_t r0, qa_e rfl (by omega) (by decide), qw_e rfl (by omega) (by decide), qa_e rfl (by omega) (by decide), up2_s, ix12, qa_e rfl (by omega) (by decide), K13, qc_f Q]
      rfl
  · have hI2 : Inv (up2 m 29 (3 * a + k) (m 0 0)) T := hI
    have K14 : up2 m 29 (3 * a + k) (m 0 0) 14 (12 * V + j) = m 14 (12 * V + j) := rfl
    obtain ⟨M', g1, g2, g3, g4, g5, g6⟩ := go_cc (m := up2 m 29 (3 * a + k) (m 0 0)) (m0 := m0) (o := o) (T' := T') (u := m 14 (12 * V + j)) (a := a) ha hI2 hT h25 h30 hle (by
      show ixn _ (m 10 (m 23 a).toNatClampNeg).toNatClampNeg
      rw [e23, nI_clamp (by omega), h10, nI_clamp (by omega)]
      exact h14)
    refine ⟨M', ?_, g2, g3, g4, g5, fun b v P X h hP => ?_⟩
    · unfold qMid
      rw [qc_f r0, ix12, qa_e rfl (by omega) (by decide), ek, qI_d, qw_e ix3p (by omega) (by decide), qa_e rfl (by omega) (by decide), K14]
      refine qbd_t g1 ?_
      rfl
    · obtain ⟨y1, y2, y3, y4, y5, y6⟩ := h.1.hSa a ha
      have y2 : 79 ≤ vN v 7 a 8 / 64 := y2
      have y4 : vL v 32 (vN v 7 a 8 / 64) = 3 := y4
      have n11 : vN v 7 a 11 = idc 0 0 := h.1.hT7 a ha
      have hnow : m 0 0 ≠ -1 := by
        obtain ⟨c, c1, c2⟩ := hI.pTm.1
        rw [c2]; exact nI_nm (by omega)
      have rel : CC (uM (uM v 7 a 9 (vM v 7 a 9 ||| ((1 : Int32) <<< (nI k &&& 31)))) 32 (vN v 7 a 8 / 64) k (m 0 0)) (up2 m 29 (3 * a + k) (m 0 0)) m0 o (b + 1000) T' := CCh.shA h ha hk y1 y2 hnow rfl
      obtain ⟨q, N4, E2, E3, E4⟩ := st (up2 m 29 (3 * a + k) (m 0 0)) _ _ rel hI2 rfl rfl rfl
      unfold anMid
      refine hcnd_f r0 (hgI_e rfl (hpI_i (hgR_e y1 (hgR_e n11 (hisK_i (hgI_e (x := m 0 0) h.1.g16 (hisK_i (hbI_e rfl ?_ (by omega) (hgR_e N4 (hisK_i (hgI_e (E3.trans K14) (hbn0_i (g6 b _ P _ rel hP)))))))))))))
      show k < vL v 32 (vN v 7 a 8 / 64)
      rw [y4]; exact hk
