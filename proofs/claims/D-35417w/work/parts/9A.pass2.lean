/-! ===== operations (27): pass ===== -/
def outp (m : Mst) (j : Nat) : Prop := 30 < m 0 0 - m 33 j ∨ ¬ m 0 0 - m 32 j ≤ 480
/-- the first j sessions: those that are out end -/
def mPs (m : Mst) : Nat → Mst × Nat
  | 0 => (m, 0)
  | j + 1 => if (mPs m j).1 35 j ≠ 0 ∧ (30 < m 0 0 - m 33 j ∨ ¬ m 0 0 - m 32 j ≤ 480) then ((mES (mPs m j).1 j).1, (mPs m j).2 + (mES (mPs m j).1 j).2) else mPs m j
theorem mPs_e {m : Mst} {j : Nat} : mPs m (j + 1) = if (mPs m j).1 35 j ≠ 0 ∧ (30 < m 0 0 - m 33 j ∨ ¬ m 0 0 - m 32 j ≤ 480) then ((mES (mPs m j).1 j).1, (mPs m j).2 + (mES (mPs m j).1 j).2) else mPs m j := rfl
theorem mPs_o {m : Mst} {F : Nat} (h : F ≠ 77 ∧ F ≠ 78 ∧ F ≠ 79 ∧ F ≠ 80 ∧ F ≠ 81) (h2 : F ≠ 69 ∧ F ≠ 51) (h3 : F ≠ 35) : ∀ j, (mPs m j).1 F = m F
  | 0 => rfl
  | j + 1 => by
    have ih := mPs_o (m := m) h h2 h3 j
    rw [mPs_e]
    split
    · exact (mES_o h h2 h3).trans ih
    · exact ih
theorem mPs_n {m : Mst} {F : Nat} (h : F ≠ 77 ∧ F ≠ 78 ∧ F ≠ 79 ∧ F ≠ 80 ∧ F ≠ 81) (h2 : F ≠ 69 ∧ F ≠ 51) (h3 : F ≠ 35) (j : Nat) : nn (mPs m j).1 F = nn m F := by
  unfold nn
  rw [mPs_o h h2 h3]
theorem EI.ps {m : Mst} (h : EI m) : ∀ j, j ≤ nn m 30 → EI (mPs m j).1
  | 0, _ => h
  | j + 1, hj => by
    have ih := EI.ps h j (by omega)
    rw [mPs_e]
    split
    · rename_i q
      exact ih.es (by rw [mPs_n (by decide) (by decide) (by decide)]; omega) q.1
    · exact ih
theorem Inv.ps {m : Mst} {T : Nat} (h : Inv m T) (hT : T < 24) : ∀ j, j ≤ nn m 30 → Inv (mPs m j).1 T
  | 0, _ => h
  | j + 1, hj => by
    have ih := Inv.ps h hT j (by omega)
    rw [mPs_e]
    split
    · rename_i q
      exact ih.es hT (by rw [mPs_n (by decide) (by decide) (by decide)]; omega) q.1
    · exact ih
def psF (a1 u6 : Int32) (r7 : Int32 × Int32 → PM Int32) : (Int32 × Int32 → PM Int32) → Int32 × Int32 → PM Int32 := (fun r13 => un2 fun u11 u12 => qI 30 fun v14 => qc (v14 ≤ u12) (r7 (u11, (u6 + (1 : Int32)))) (qa 35 60 u12 fun v19 => qbd (α := Int32) (qjo (σ := Unit) (fun _ => qrt (0 : Int32)) fun j25 => qc (v19 = 0) (j25 ()) (qI 0 fun v27 => qa 33 60 u12 fun v31 => qc ((30 : Int32) < (v27 - v31)) (qrt (1 : Int32)) (qI 0 fun v33 => qa 32 60 u12 fun v37 => qc ((v33 - v37) ≤ (480 : Int32)) (j25 ()) (qrt (1 : Int32))))) (fun u20 => qc (u20 = 0) (r13 ((u11 + (0 : Int32)), (u12 + (1 : Int32)))) (qbd (q_endSession u12) (fun v22 => r13 ((u11 + v22), (u12 + (1 : Int32))))))))
def cpsF (u6 : Int32) (r7 : Int32 × Int32 → PV Int32) : (Int32 × Int32 → PV Int32) → Int32 × Int32 → PV Int32 := (fun r13 => un2 fun u11 u12 => hgR 0 0 4 fun v14 => hisK 13 v14 fun i15 => hbn0 (h_J2_size i15) (fun v17 => hcnd (v17 ≤ u12) (r7 (u11, (u6 + (1 : Int32)))) (hgR 0 0 4 fun v19 => hisK 13 v19 fun i20 => hbn0 (h_J2_get i20 u12) (fun v22 => hisK 8 v22 fun i23 => hbn0 (h_X9_isOut i23) (fun v25 => hcnd (v25 = 0) (r13 ((u11 + (0 : Int32)), (u12 + (1 : Int32)))) (hgR 0 0 4 fun v27 => hisK 13 v27 fun i28 => hbn0 (h_J2_get i28 u12) (fun v30 => hisK 8 v30 fun i31 => hbn0 (h_X9_end 30 i31) (fun v33 => r13 ((u11 + v33), (u12 + (1 : Int32)))))))))))
theorem q_psLoop {m : Mst} {N B : Nat} {a1 u6 : Int32} {r7 : Int32 × Int32 → PM Int32} (h : EI m) (hN : nn m 30 = N) : qlp (σ := Int32 × Int32) (psF a1 u6 r7) (nI B, (0 : Int32)) m = r7 (nI (B + (mPs m N).2), u6 + 1) (mPs m N).1 := by
  have hS60 := h.2.2.1.2
  refine q_loop (N := N) (s := fun j => (nI (B + (mPs m j).2), nI j)) (w := fun j => (mPs m j).1) (by show (nI B, (0 : Int32)) = (nI (B + 0), nI 0); rw [nI_0, Nat.add_zero]) (fun j hj L => ?_) (fun L => ?_) (by omega)
  · have hej := h.ps j (by omega)
    have n30 : nn (mPs m j).1 30 = nn m 30 := mPs_n (by decide) (by decide) (by decide) j
    have x33 : (mPs m j).1 33 j = m 33 j := by rw [mPs_o (by decide) (by decide) (by decide)]
    have x32 : (mPs m j).1 32 j = m 32 j := by rw [mPs_o (by decide) (by decide) (by decide)]
    have x0 : (mPs m j).1 0 0 = m 0 0 := by rw [mPs_o (by decide) (by decide) (by decide)]
    show qc ((mPs m j).1 30 0 ≤ nI j) _ _ _ = L (nI (B + (mPs m (j + 1)).2), nI (j + 1)) (mPs m (j + 1)).1
    rw [mPs_e]
    generalize mPs m j = r at hej n30 x33 x32 x0 ⊢
    rw [qc_f (by rw [hej.2.2.1.1]; exact nI_ge (by omega) (by omega)), qa_e rfl (by omega) (by decide)]
    refine qbd_t (r := if r.1 35 j ≠ 0 ∧ (30 < m 0 0 - m 33 j ∨ ¬ m 0 0 - m 32 j ≤ 480) then (1 : Int32) else 0) (m' := r.1) ?_ ?_
    · show qc (r.1 35 j = 0) _ _ _ = _
      by_cases q1 : r.1 35 j = 0
      · rw [qc_t q1, if_neg (fun t => t.1 q1)]; rfl
      · rw [qc_f q1, qI_d, qa_e rfl (by omega) (by decide), x0, x33]
        by_cases q2 : 30 < m 0 0 - m 33 j
        · rw [qc_t q2, if_pos ⟨q1, Or.inl q2⟩]; rfl
        · rw [qc_f q2, qI_d, qa_e rfl (by omega) (by decide), x0, x32]
          by_cases q3 : m 0 0 - m 32 j ≤ 480
          · rw [qc_t q3, if_neg (fun t => t.2.elim q2 fun t => t q3)]; rfl
          · rw [qc_f q3, if_pos ⟨q1, Or.inr q3⟩]; rfl
    · by_cases q : r.1 35 j ≠ 0 ∧ (30 < m 0 0 - m 33 j ∨ ¬ m 0 0 - m 32 j ≤ 480)
      · rw [if_pos q, if_pos q, qc_f one_ne, qbd_e (q_endSession_eq hej (by omega) q.1), nI_add, nI_1, Nat.add_assoc]
      · rw [if_neg q, if_neg q, qc_t rfl, Int32.add_zero, nI_1]
  · have n30 : nn (mPs m N).1 30 = nn m 30 := mPs_n (by decide) (by decide) (by decide) _
    have hej := h.ps N (by omega)
    show qc ((mPs m N).1 30 0 ≤ nI N) _ _ _ = _
    rw [qc_t (by rw [hej.2.2.1.1, n30, hN]; exact nI_le (Nat.le_refl _) (by omega))]
theorem c_isOut {v : Vw} {m m0 : Mst} {o : Nat × Int64} {b T j : Nat} (h : CC v m m0 o b T) (hj : j < nn m 30) {P : Int32 → Vw → Prop} {X : String → Vw → Prop} (h1 : outp m j → P 1 v) (h0 : ¬ outp m j → P 0 v) : h_X9_isOut j P X v := by
  unfold h_X9_isOut
  refine hgR_e (h.1.hT8 j hj) (hisK_i (hgI_e h.1.g16 (hgI_e (h.1.f 8 4 33 (by decide) hj) (hcnd_i (fun q => hasr_i (Or.inr rfl) (hrt_i (h1 (Or.inl q)))) fun q => hgR_e (h.1.hT8 j hj) (hisK_i (hgI_e h.1.g16 (hgI_e (h.1.f 8 3 32 (by decide) hj) (hcnd_i (fun q2 => hasr_i (Or.inl rfl) (hrt_i (h0 fun t => t.elim q fun t => t q2))) fun q2 => hasr_i (Or.inr rfl) (hrt_i (h1 (Or.inr q2)))))))))))
theorem c_psLoop {v : Vw} {m m0 : Mst} {o : Nat × Int64} {b T N B : Nat} {u6 : Int32} {r7 : Int32 × Int32 → PV Int32} (h : CC v m m0 o b T) (he : EI m) (hN : nn m 30 = N) {P : Int32 → Vw → Prop} {X : String → Vw → Prop} (hP : ∀ v', CC v' (mPs m N).1 m0 o b T → r7 (nI (B + (mPs m N).2), u6 + 1) P X v') : hlp (σ := Int32 × Int32) (cpsF u6 r7) (nI B, (0 : Int32)) P X v := by
  have hS60 := he.2.2.1.2
  refine h_loop (N := N) (s := fun j => (nI (B + (mPs m j).2), nI j)) (fun j w => CC w (mPs m j).1 m0 o b T) (by show (nI B, (0 : Int32)) = (nI (B + 0), nI 0); rw [nI_0, Nat.add_zero]) (fun j w hj hw L hL => ?_) (fun w hw L => ?_) h
  · have hw : CC w (mPs m j).1 m0 o b T := hw
    have hL : ∀ w', CC w' (mPs m (j + 1)).1 m0 o b T → L (nI (B + (mPs m (j + 1)).2), nI (j + 1)) P X w' := hL
    have hej := he.ps j (by omega)
    have n30 : nn (mPs m j).1 30 = nn m 30 := mPs_n (by decide) (by decide) (by decide) j
    have x33 : (mPs m j).1 33 j = m 33 j := by rw [mPs_o (by decide) (by decide) (by decide)]
    have x32 : (mPs m j).1 32 j = m 32 j := by rw [mPs_o (by decide) (by decide) (by decide)]
    have x0 : (mPs m j).1 0 0 = m 0 0 := by rw [mPs_o (by decide) (by decide) (by decide)]
    have xo : outp (mPs m j).1 j ↔ (30 < m 0 0 - m 33 j ∨ ¬ m 0 0 - m 32 j ≤ 480) := by unfold outp; rw [x33, x32, x0]
    rw [mPs_e] at hL
    show cpsF u6 r7 L (nI (B + (mPs m j).2), nI j) P X w
    generalize mPs m j = r at hej n30 xo hw hL ⊢
    have hj' : j < nn r.1 30 := by omega
    unfold cpsF
    refine hun2_i (hgR_e hw.1.s4 (hisK_i (hbn0_i (J2sz (hw.1.lt13 (by decide)) hw.1.hL3.1 (hcnd_f (nI_ge hj' (by omega)) (hgR_e hw.1.s4 (hisK_i (hbn0_i (J2get (hw.1.lt13 (by decide)) rfl (by omega) (by rw [hw.1.hL3.1]; omega) (hw.1.hL3.2 j hj') (hisK_i (hbn0_i (c_isOut hw hj' (fun q => hcnd_f one_ne (hgR_e hw.1.s4 (hisK_i (hbn0_i (J2get (hw.1.lt13 (by decide)) rfl (by omega) (by rw [hw.1.hL3.1]; omega) (hw.1.hL3.2 j hj') (hisK_i (hbn0_i ?_))))))) fun q => hcnd_t rfl ?_))))))))))))
    · by_cases q0 : r.1 35 j = 0
      · refine c_end_dead hw hj' q0 ?_
        rw [if_neg (fun t => t.1 q0)] at hL
        rw [Int32.add_zero, nI_1]
        exact hL w hw
      · refine c_end (n := 28) hw hej hj' q0 fun w' hw' => ?_
        rw [if_pos ⟨q0, xo.mp q⟩] at hL
        rw [nI_add, nI_1, Nat.add_assoc]
        exact hL w' hw'
    · rw [if_neg (fun t => q (xo.mpr t.2))] at hL
      rw [Int32.add_zero, nI_1]
      exact hL w hw
  · have hw : CC w (mPs m N).1 m0 o b T := hw
    have n30 : nn (mPs m N).1 30 = nn m 30 := mPs_n (by decide) (by decide) (by decide) _
    show cpsF u6 r7 L (nI (B + (mPs m N).2), nI N) P X w
    unfold cpsF
    exact hun2_i (hgR_e hw.1.s4 (hisK_i (hbn0_i (J2sz (hw.1.lt13 (by decide)) (hw.1.hL3.1.trans (n30.trans hN)) (hcnd_t (nI_le (Nat.le_refl _) (by omega)) (hP w hw))))))
/-- minutes -/
def mPk (m : Mst) : Nat → Mst × Nat
  | 0 => (m, 0)
  | k + 1 => ((mPs (mTm (mPk m k).1) (nn m 30)).1, (mPk m k).2 + (mPs (mTm (mPk m k).1) (nn m 30)).2)
theorem mPk_e {m : Mst} {k : Nat} : mPk m (k + 1) = ((mPs (mTm (mPk m k).1) (nn m 30)).1, (mPk m k).2 + (mPs (mTm (mPk m k).1) (nn m 30)).2) := rfl
theorem mPk_i {m : Mst} {T c : Nat} (h : Inv m T) (hT : T < 24) (hc : m 0 0 = nI c) : ∀ k, c + k ≤ 30000 → Inv (mPk m k).1 T ∧ (mPk m k).1 0 0 = nI (c + k) ∧ nn (mPk m k).1 30 = nn m 30 ∧ (mPk m k).1 82 0 = m 82 0
  | 0, _ => ⟨h, hc, rfl, rfl⟩
  | k + 1, hk => by
    obtain ⟨i1, i2, i3, i4⟩ := mPk_i h hT hc k (by omega)
    have j1 := i1.tm (by omega) i2 (by omega)
    have e30 : nn (mTm (mPk m k).1) 30 = nn m 30 := by unfold nn; rw [mTm_o (by decide) (by decide)]; exact i3
    rw [mPk_e]
    refine ⟨j1.ps hT (nn m 30) (by omega), ?_, ?_, ?_⟩
    · show (mPs (mTm (mPk m k).1) (nn m 30)).1 0 0 = _
      rw [mPs_o (by decide) (by decide) (by decide), mTm_0, i2, nI_1]
      rfl
    · show nn (mPs (mTm (mPk m k).1) (nn m 30)).1 30 = _
      rw [mPs_n (by decide) (by decide) (by decide)]; exact e30
    · show (mPs (mTm (mPk m k).1) (nn m 30)).1 82 0 = _
      rw [mPs_o (by decide) (by decide) (by decide), mTm_o (by decide) (by decide)]; exact i4
def pkF (a1 : Int32) : (Int32 × Int32 → PM Int32) → Int32 × Int32 → PM Int32 := (fun r7 => un2 fun u5 u6 => qc (a1 ≤ u6) (qrt u5) (qI 0 fun v9 => qW 0 (v9 + (1 : Int32)) <| qI 62 fun v10 => qbd (α := Unit) (qc (v10 = (-1 : Int32)) (qrt ()) (qI 0 fun v41 => qI 63 fun v42 => qc (v41 < v42) (qrt ()) (qI 61 fun v45 => qI 0 fun v46 => qw 65 20 v45 (v46 + (20 : Int32)) <| qI 62 fun v49 => qW 61 v49 <| qW 62 (-1 : Int32) <| qI 61 fun v50 => qbd (q_write (5 : Int32) v50) (fun _ => qrt ())))) (fun _ => qlp (σ := Int32 × Int32) (fun r13 => un2 fun u11 u12 => qI 30 fun v14 => qc (v14 ≤ u12) (r7 (u11, (u6 + (1 : Int32)))) (qa 35 60 u12 fun v19 => qbd (α := Int32) (qjo (σ := Unit) (fun _ => qrt (0 : Int32)) fun j25 => qc (v19 = 0) (j25 ()) (qI 0 fun v27 => qa 33 60 u12 fun v31 => qc ((30 : Int32) < (v27 - v31)) (qrt (1 : Int32)) (qI 0 fun v33 => qa 32 60 u12 fun v37 => qc ((v33 - v37) ≤ (480 : Int32)) (j25 ()) (qrt (1 : Int32))))) (fun u20 => qc (u20 = 0) (r13 ((u11 + (0 : Int32)), (u12 + (1 : Int32)))) (qbd (q_endSession u12) (fun v22 => r13 ((u11 + v22), (u12 + (1 : Int32)))))))) (u5, (0 : Int32)))))
def cpkF (a1 : Int32) : (Int32 × Int32 → PV Int32) → Int32 × Int32 → PV Int32 := (fun r7 => un2 fun u5 u6 => hcnd (a1 ≤ u6) (hrt u5) (hgI 0 0 16 fun v9 => hpI 0 0 16 (v9 + (1 : Int32)) <| hbn0 (h_X1_turnKeys 0) (fun _ => hlp (σ := Int32 × Int32) (fun r13 => un2 fun u11 u12 => hgR 0 0 4 fun v14 => hisK 13 v14 fun i15 => hbn0 (h_J2_size i15) (fun v17 => hcnd (v17 ≤ u12) (r7 (u11, (u6 + (1 : Int32)))) (hgR 0 0 4 fun v19 => hisK 13 v19 fun i20 => hbn0 (h_J2_get i20 u12) (fun v22 => hisK 8 v22 fun i23 => hbn0 (h_X9_isOut i23) (fun v25 => hcnd (v25 = 0) (r13 ((u11 + (0 : Int32)), (u12 + (1 : Int32)))) (hgR 0 0 4 fun v27 => hisK 13 v27 fun i28 => hbn0 (h_J2_get i28 u12) (fun v30 => hisK 8 v30 fun i31 => hbn0 (h_X9_end 30 i31) (fun v33 => r13 ((u11 + v33), (u12 + (1 : Int32))))))))))) (u5, (0 : Int32)))))
theorem q_pkLoop {m : Mst} {T c n : Nat} (h : Inv m T) (hT : T < 24) (hc : m 0 0 = nI c) (hn : c + n ≤ 30000) : qlp (σ := Int32 × Int32) (pkF (nI n)) ((0 : Int32), (0 : Int32)) m = some (nI (mPk m n).2, (mPk m n).1) := by
  refine q_loop (N := n) (s := fun k => (nI (mPk m k).2, nI k)) (w := fun k => (mPk m k).1) (by show ((0 : Int32), (0 : Int32)) = (nI 0, nI 0); rw [nI_0]) (fun k hk L => ?_) (fun L => ?_) (by omega)
  · obtain ⟨i1, i2, i3, i4⟩ := mPk_i h hT hc k (by omega)
    have j1 := i1.tm (by omega) i2 (by omega)
    have hw := i1.w24 (by omega)
    obtain ⟨K, s, k1, k2, k3, k4, -⟩ := i1.pKe
    have e30 : nn (mTm (mPk m k).1) 30 = nn m 30 := by unfold nn; rw [mTm_o (by decide) (by decide)]; exact i3
    show qc (nI n ≤ nI k) _ _ _ = L (nI (mPk m (k + 1)).2, nI (k + 1)) (mPk m (k + 1)).1
    rw [mPk_e]
    generalize mPk m k = r at i1 i2 i3 i4 j1 hw k1 k2 e30 ⊢
    rw [qc_f (nI_ge hk (by omega)), qI_d, qW_d, qI_d]
    refine qbd_t (r := ()) (m' := mTm r.1) ?_ ?_
    · have e62 : up2 r.1 0 0 (r.1 0 0 + 1) 62 0 = r.1 62 0 := rfl
      have e63 : up2 r.1 0 0 (r.1 0 0 + 1) 63 0 = r.1 63 0 := rfl
      unfold mTm
      rw [e62]
      by_cases q1 : r.1 62 0 = -1
      · rw [qc_t q1, if_neg (fun t => t.1 q1)]; rfl
      · rw [qc_f q1, qI_d, qI_d, up2_s, e63]
        by_cases q2 : r.1 0 0 + 1 < r.1 63 0
        · rw [qc_t q2, if_neg (fun t => t.2 q2)]; rfl
        · rw [qc_f q2, if_pos ⟨q1, q2⟩, qI_d, qI_d, up2_s]
          have e61 : up2 r.1 0 0 (r.1 0 0 + 1) 61 0 = nI (nn r.1 61) := by
            show r.1 61 0 = _
            rw [k2, nIx k2 (by omega)]
          rw [qw_e e61 (by rw [nIx k2 (by omega)]; omega) (by decide), qI_d, qW_d, qW_d, qI_d]
          have e62b : up2 (up2 r.1 0 0 (r.1 0 0 + 1)) 65 (nn r.1 61) (r.1 0 0 + 1 + 20) 62 0 = r.1 62 0 := rfl
          rw [e62b, up2_o (a := 62) (x := 61) (by decide), up2_s]
          have hw2 : wOK (up2 (up2 (up2 (up2 r.1 0 0 (r.1 0 0 + 1)) 65 (nn r.1 61) (r.1 0 0 + 1 + 20)) 61 0 (r.1 62 0)) 62 0 (-1)) := by
            obtain ⟨w1, w2, w3, -⟩ := hw
            exact ⟨w1, w2, w3, c + k + 1, by omega, by show r.1 0 0 + 1 = _; rw [i2, nI_1]⟩
          rw [qbd_e (q_write_eq hw2)]
          rfl
    · show qlp (σ := Int32 × Int32) (psF (nI n) (nI k) L) (nI r.2, (0 : Int32)) (mTm r.1) = _
      rw [q_psLoop (N := nn m 30) (j1.ei hT) e30, nI_1]
  · show qc (nI n ≤ nI n) _ _ _ = _
    rw [qc_t (nI_le (Nat.le_refl _) (by omega))]
    rfl
theorem c_pkLoop {v : Vw} {m m0 : Mst} {o : Nat × Int64} {b T T' c n : Nat} (hh : CC v m m0 o (b + 60 * n + 260) T') (h : Inv m T) (hT : T < 24) (hc : m 0 0 = nI c) (hn : c + n ≤ 30000) {P : Int32 → Vw → Prop} {X : String → Vw → Prop} (hP : ∀ v', CC v' (mPk m n).1 m0 o b T' → P (nI (mPk m n).2) v') : hlp (σ := Int32 × Int32) (cpkF (nI n)) ((0 : Int32), (0 : Int32)) P X v := by
  refine h_loop (N := n) (s := fun k => (nI (mPk m k).2, nI k)) (fun k w => CC w (mPk m k).1 m0 o (b + 60 * (n - k) + 260) T') (by show ((0 : Int32), (0 : Int32)) = (nI 0, nI 0); rw [nI_0]) (fun k w hk hw L hL => ?_) (fun w hw L => ?_) hh
  · have hw : CC w (mPk m k).1 m0 o (b + 60 * (n - k) + 260) T' := hw
    have hL : ∀ w', CC w' (mPk m (k + 1)).1 m0 o (b + 60 * (n - (k + 1)) + 260) T' → L (nI (mPk m (k + 1)).2, nI (k + 1)) P X w' := hL
    obtain ⟨i1, i2, i3, i4⟩ := mPk_i h hT hc k (by omega)
    have j1 := i1.tm (by omega) i2 (by omega)
    have e30 : nn (mTm (mPk m k).1) 30 = nn m 30 := by unfold nn; rw [mTm_o (by decide) (by decide)]; exact i3
    rw [mPk_e] at hL
    show cpkF (nI n) L (nI (mPk m k).2, nI k) P X w
    generalize mPk m k = r at i1 i2 i3 i4 j1 e30 hw hL ⊢
    unfold cpkF
    refine hun2_i (hcnd_f (nI_ge hk (by omega)) (hgI_e (hw.1.g16.trans i2) (hpI_i (hbn0_i ?_))))
    rw [nI_1 (c + k)]
    refine c_turnKeys (b := b + 60 * (n - (k + 1))) (hw.less (by omega) (Nat.le_refl _)) i1 (by omega) i2 (by omega) fun w' hw' => ?_
    exact c_psLoop hw' (j1.ei hT) e30 fun w2 hw2 => by
      rw [nI_1]
      exact hL w2 hw2
  · have hw : CC w (mPk m n).1 m0 o (b + 60 * (n - n) + 260) T' := hw
    show cpkF (nI n) L (nI (mPk m n).2, nI n) P X w
    unfold cpkF
    exact hun2_i (hcnd_t (nI_le (Nat.le_refl _) (by omega)) (hrt_i (hP w (hw.less (by omega) (Nat.le_refl _)))))
theorem op_pass (a : Int32) : OpV (fun z => h_X0_pass (idc 0 0) a z) (q_pass a) := by
  intro v m T b z x h hI hT
  show OpA (fun z => h_X0_pass (idc 0 0) a z) (q_pass a) v m T b z x
  have hb := h.vb
  obtain ⟨c, hc1, hc⟩ := hI.pTm.1
  have l600 : (600 : Int32) = nI 600 := by decide +kernel
  have l1 : (1 : Int32) = nI 1 := by decide +kernel
  have l3 : (30000 : Int32) = nI 30000 := by decide +kernel
  have c1 : ∀ (P : Int32 → Vw → Prop) (X : String → Vw → Prop), h_X1_pass 0 a (fun r v' => (hbJ z r.toInt64 <| hrt (0 : Int32)) P X v') (fun E v' => (hhsel [("java/lang/IllegalArgumentException", hrt (1 : Int32)), ("java/lang/IllegalStateException", hrt (2 : Int32))] E : PV Int32) P X v') v → h_X0_pass (idc 0 0) a z P X v := fun P X q => by
    unfold h_X0_pass
    exact hisK_i (htry_i q)
  by_cases hf : a < 1 ∨ 600 < a
  · refine OpA.bad h hI 1 (by decide) ?_ fun P X hP => c1 P X ?_
    · unfold q_pass
      rw [qbd_e (q_isIn_f hf)]
      refine qbd_t (r := (0 : Int32)) (m' := m) rfl ?_
      refine qbd_t q_both_1 ?_
      rfl
    · unfold h_X1_pass
      exact hbnd_i (c_fit_f hf (by omega) (hx_1 (hrt_i hP)))
  have hf1 : ¬ a < 1 := fun t => hf (Or.inl t)
  have hf2 : ¬ 600 < a := fun t => hf (Or.inr t)
  obtain ⟨n, hn, rfl⟩ : ∃ n, n ≤ 600 ∧ a = nI n := by
    rcases ix3 a (n := 601) (by decide) with r | ⟨n, n1, n2⟩
    · rcases r with r | r
      · exact absurd (Int32.lt_of_lt_of_le r (show (0 : Int32) ≤ 1 by decide) |> fun t => t) hf1
      · exact absurd (Int32.lt_of_lt_of_le (show (600 : Int32) < nI 601 by decide +kernel) r) hf2
    · exact ⟨n, by omega, n2⟩
  have e1 : q_isIn (nI n) 1 600 m = some (1, m) := q_isIn_t hf1 hf2
  have esum : m 0 0 + nI n = nI (c + n) := by rw [hc, nI_add]
  by_cases D : c + n ≤ 30000
  rotate_left
  · have hlt : 30000 < m 0 0 + nI n := by rw [esum, l3]; exact nI_lt (by omega) (by omega)
    refine OpA.bad h hI 2 (by decide) ?_ fun P X hP => c1 P X ?_
    · unfold q_pass
      rw [qbd_e e1]
      refine qbd_t (r := (0 : Int32)) (m' := m) ?_ ?_
      · show qc ((1 : Int32) = 0) _ _ _ = _
        rw [qc_f one_ne, qI_d, qc_t hlt]; rfl
      refine qbd_t (q_both_2 one_ne) ?_
      rfl
    · unfold h_X1_pass
      exact hbnd_i (c_fit_t hf1 (Int32.not_lt.mp hf2) (hgI_e h.1.1.g16 (hbnd_i (hcnd_t hlt (hrt_i (hbnd_i (c_can_f (by omega) (hx_s (by decide) (hx_1 (hrt_i hP))))))))))
  have hnl : ¬ 30000 < m 0 0 + nI n := by rw [esum, l3]; exact nI_nlt (by omega) (by omega)
  have hmay : q_mayBoth 1 1 m = some (1, up2 m 82 0 0) := q_both_0 one_ne one_ne
  have hc' : up2 m 82 0 0 0 0 = nI c := hc
  obtain ⟨i1, i2, i3, i4⟩ := mPk_i (hI.m82 0) hT hc' n D
  refine OpA.ok (r := nI (mPk (up2 m 82 0 0) n).2) (m1 := (mPk (up2 m 82 0 0) n).1) ?_ i1.up i4 fun P X hP => c1 P X ?_
  · unfold q_pass
    rw [qbd_e e1]
    refine qbd_t (r := (1 : Int32)) (m' := m) ?_ ?_
    · show qc ((1 : Int32) = 0) _ _ _ = _
      rw [qc_f one_ne, qI_d, qc_f hnl]; rfl
    refine qbd_t hmay ?_
    rw [qc_f one_ne]
    exact q_pkLoop (hI.m82 0) hT hc' D
  · unfold h_X1_pass
    refine hbnd_i (c_fit_t hf1 (Int32.not_lt.mp hf2) (hgI_e h.1.1.g16 (hbnd_i (hcnd_f hnl (hrt_i (hbnd_i (c_can_t one_ne ?_)))))))
    exact c_pkLoop (b := b) ((h.m82 0).1.less (by omega) (Nat.le_refl _)) (hI.m82 0) hT hc' D fun v' hv => hP v' 0 T (by omega) hv
