/-! ===== operations (19): leave ===== -/
def dnF (a1 : Int32) : (Int32 → PM Unit) → Int32 → PM Unit := (fun r19 => fun u18 => qI 19 fun v21 => qc (v21 ≤ u18) (qrt ()) (qa 20 60 u18 fun v27 => qbd (α := Int32) (qjo (σ := Unit) (fun _ => qa 25 60 u18 fun v35 => qrt v35) fun j37 => qc (v27 = a1) (qa 25 60 u18 fun v42 => qc (v42 = 0) (qrt (2 : Int32)) (j37 ())) (j37 ())) (fun u28 => qw 25 60 u18 u28 <| r19 (u18 + (1 : Int32)))))
def clsF (a1 v17 : Int32) : (Int32 → PM Int32) → Int32 → PM Int32 := (fun r45 => fun u44 => qI 70 fun v46 => qc (v46 ≤ u44) (qrt v17) (qa 73 20 u44 fun v52 => qbd (α := Int32) (qjo (σ := Unit) (fun _ => qrt (0 : Int32)) fun j58 => qc (v52 = 0) (j58 ()) (qa 71 20 u44 fun v63 => qc (v63 = a1) (j58 ()) (qrt (1 : Int32)))) (fun u53 => qz 73 20 u44 u53 <| r45 (u44 + (1 : Int32)))))
def cdnF (i2 : Nat) : (Int32 → PV Unit) → Int32 → PV Unit := (fun r10 => fun u9 => hgR 0 0 3 fun v12 => hisK 13 v12 fun i13 => hbn0 (h_J2_size i13) (fun v15 => hcnd (v15 ≤ u9) (hrt ()) (hgR 0 0 3 fun v17 => hisK 13 v17 fun i18 => hbn0 (h_J2_get i18 u9) (fun v20 => hisK 7 v20 fun i21 => hgR 7 i21 0 fun v23 => hasr ((cmpN v23) ∧ (cmpN (idc 2 i2))) (hcnd (v23 = (idc 2 i2)) (hgR 0 0 3 fun v25 => hisK 13 v25 fun i26 => hbn0 (h_J2_get i26 u9) (fun v28 => hisK 7 v28 fun i29 => hbn0 (h_X8_deny i29) (fun _ => r10 (u9 + (1 : Int32))))) (r10 (u9 + (1 : Int32))))))))
def cclsF (i2 : Nat) (v8 : Int32) : (Int32 → PV Int32) → Int32 → PV Int32 := (fun r33 => fun u32 => hgR 0 0 8 fun v34 => hisK 13 v34 fun i35 => hbn0 (h_J2_size i35) (fun v37 => hcnd (v37 ≤ u32) (hrt v8) (hgR 0 0 8 fun v39 => hisK 13 v39 fun i40 => hbn0 (h_J2_get i40 u32) (fun v42 => hisK 12 v42 fun i43 => hgI 12 i43 2 fun v45 => hgR 0 0 8 fun v46 => hisK 13 v46 fun i47 => hbn0 (h_J2_get i47 u32) (fun v49 => hisK 12 v49 fun i50 => hgR 12 i50 0 fun v52 => hbnd (ρ := _) (α := Int32) (hasr ((cmpN v52) ∧ (cmpN (idc 2 i2))) (hcnd (v52 = (idc 2 i2)) (hrt (0 : Int32)) (hrt (1 : Int32)))) (fun u53 => hpZ 12 i43 2 (v45 &&& u53) <| r33 (u32 + (1 : Int32))))))))
/-- the first j attempts: those of a person that still ask are denied -/
def mDn (m : Mst) (p : Nat) : Nat → Mst
  | 0 => m
  | k + 1 => up2 (mDn m p k) 25 k (if m 20 k = nI p ∧ m 25 k = 0 then 2 else m 25 k)
theorem mDn_e {m : Mst} {p k : Nat} : mDn m p (k + 1) = up2 (mDn m p k) 25 k (if m 20 k = nI p ∧ m 25 k = 0 then 2 else m 25 k) := rfl
theorem mDn_o {m : Mst} {p F : Nat} (h : F ≠ 25) : ∀ j, mDn m p j F = m F
  | 0 => rfl
  | j + 1 => by rw [mDn_e, up2_o h]; exact mDn_o h j
theorem mDn_25 {m : Mst} {p a : Nat} : ∀ j, mDn m p j 25 a = if a < j ∧ m 20 a = nI p ∧ m 25 a = 0 then 2 else m 25 a
  | 0 => by rw [if_neg (fun t => absurd t.1 (Nat.not_lt_zero _))]; rfl
  | j + 1 => by
    have ih := mDn_25 (m := m) (p := p) (a := a) j
    rw [mDn_e, up2_r]
    by_cases q : a = j
    · subst q
      rw [up1_s]
      by_cases r : m 20 a = nI p ∧ m 25 a = 0
      · rw [if_pos r, if_pos ⟨by omega, r.1, r.2⟩]
      · rw [if_neg r, if_neg (fun t => r ⟨t.2.1, t.2.2⟩)]
    · rw [up1_n q, ih]
      by_cases r : a < j ∧ m 20 a = nI p ∧ m 25 a = 0
      · rw [if_pos r, if_pos ⟨by omega, r.2⟩]
      · rw [if_neg r, if_neg (fun t => r ⟨by omega, t.2⟩)]
theorem mDn_n {m : Mst} {p F : Nat} (h : F ≠ 25) (j : Nat) : nn (mDn m p j) F = nn m F := by unfold nn; rw [mDn_o h]
theorem q_dnLoop {m : Mst} {p : Nat} (h : m 19 0 = nI (nn m 19)) (hn : nn m 19 ≤ 60) : qlp (σ := Int32) (dnF (nI p)) (0 : Int32) m = some ((), mDn m p (nn m 19)) := by
  refine q_loop (N := nn m 19) (s := fun j => nI j) (w := fun j => mDn m p j) nI_0.symm (fun j hj L => ?_) (fun L => ?_) (by omega)
  · have x19 : mDn m p j 19 0 = nI (nn m 19) := by rw [mDn_o (by decide)]; exact h
    have x20 : mDn m p j 20 j = m 20 j := by rw [mDn_o (by decide)]
    have x25 : mDn m p j 25 j = m 25 j := by rw [mDn_25, if_neg (fun t => absurd t.1 (Nat.lt_irrefl _))]
    show qc (mDn m p j 19 0 ≤ nI j) _ _ _ = L (nI (j + 1)) (mDn m p (j + 1))
    rw [mDn_e]
    generalize mDn m p j = w at x19 x20 x25 ⊢
    rw [qc_f (by rw [x19]; exact nI_ge hj (by omega)), qa_e rfl (by omega) (by decide)]
    refine qbd_t (r := if m 20 j = nI p ∧ m 25 j = 0 then 2 else m 25 j) (m' := w) ?_ ?_
    · show qc (w 20 j = nI p) _ _ _ = _
      rw [x20]
      by_cases q1 : m 20 j = nI p
      · rw [qc_t q1, qa_e rfl (by omega) (by decide), x25]
        by_cases q2 : m 25 j = 0
        · rw [qc_t q2, if_pos ⟨q1, q2⟩]; rfl
        · rw [qc_f q2, if_neg (fun t => q2 t.2)]
          show qa 25 60 (nI j) _ w = _
          rw [qa_e rfl (by omega) (by decide), x25]; rfl
      · rw [qc_f q1, if_neg (fun t => q1 t.1)]
        show qa 25 60 (nI j) _ w = _
        rw [qa_e rfl (by omega) (by decide), x25]; rfl
    · rw [qw_e rfl (by omega) (by decide), nI_1]
  · have x19 : mDn m p (nn m 19) 19 0 = nI (nn m 19) := by rw [mDn_o (by decide)]; exact h
    show qc (mDn m p (nn m 19) 19 0 ≤ nI (nn m 19)) _ _ _ = _
    rw [qc_t (by rw [x19]; exact nI_le (Nat.le_refl _) (by omega))]
    rfl
theorem c_dnLoop {v : Vw} {m m0 : Mst} {o : Nat × Int64} {b T p : Nat} (h : CC v m m0 o b T) (hA : nn m 19 ≤ 60) (h20 : ∀ a, a < nn m 19 → ix (m 20 a) 6) (hp : p < 6) {P : Unit → Vw → Prop} {X : String → Vw → Prop} (hP : ∀ v', CC v' (mDn m p (nn m 19)) m0 o b T → P () v') : hlp (σ := Int32) (cdnF p) (0 : Int32) P X v := by
  refine h_loop (N := nn m 19) (s := fun j => nI j) (fun j w => CC w (mDn m p j) m0 o b T) nI_0.symm (fun j w hj hw L hL => ?_) (fun w hw L => ?_) h
  · have hw : CC w (mDn m p j) m0 o b T := hw
    have hL : ∀ w', CC w' (mDn m p (j + 1)) m0 o b T → L (nI (j + 1)) P X w' := hL
    have n19 : nn (mDn m p j) 19 = nn m 19 := mDn_n (by decide) j
    have x20 : mDn m p j 20 j = m 20 j := by rw [mDn_o (by decide)]
    have x25 : mDn m p j 25 j = m 25 j := by rw [mDn_25, if_neg (fun t => absurd t.1 (Nat.lt_irrefl _))]
    obtain ⟨ps, hps, eps⟩ := h20 j hj
    rw [mDn_e] at hL
    show cdnF p L (nI j) P X w
    generalize mDn m p j = r at hw hL n19 x20 x25 ⊢
    have hj' : j < nn r 19 := by omega
    have N0 : vN w 7 j 0 = rf 2 (m 20 j) := by
      have := hw.1.hR70 j hj'
      rw [x20] at this
      exact this
    have er := rf_eq (K := 2) (x := m 20 j) (s := p) (by decide) (Or.inr ⟨ps, eps, by omega⟩) (by omega)
    have fin : ∀ y : Int32, y = (if m 20 j = nI p ∧ m 25 j = 0 then 2 else m 25 j) → L (nI (j + 1)) P X (uM w 7 j 7 y) := fun y hy => by
      rw [← hy] at hL
      exact hL _ ⟨hw.1.state j y, hw.2.1.oM rfl, hw.2.2⟩
    unfold cdnF
    refine hgR_e hw.1.s3 (hisK_i (hbn0_i (J2sz (hw.1.lt13 (by decide)) hw.1.hLa.1 (hcnd_f (nI_ge hj' (by omega)) (hgR_e hw.1.s3 (hisK_i (hbn0_i (J2get (hw.1.lt13 (by decide)) rfl (by omega) (by rw [hw.1.hLa.1]; omega) (hw.1.hLa.2 j hj') (hisK_i (hgR_e N0 (hasr_i ⟨cmp_rf (by decide), cmp_idc (by decide)⟩ (hcnd_i (fun q1 => hgR_e hw.1.s3 (hisK_i (hbn0_i (J2get (hw.1.lt13 (by decide)) rfl (by omega) (by rw [hw.1.hLa.1]; omega) (hw.1.hLa.2 j hj') (hisK_i (hbn0_i ?_)))))) fun q1 => ?_))))))))))))
    · unfold h_X8_deny
      have e25 : vM w 7 j 7 = m 25 j := (hw.1.f 7 7 25 (by decide) hj').trans x25
      rw [nI_1]
      refine hgI_e e25 (hbnd_i (hcnd_i (fun q2 => hrt_i (hpI_i (hrt_i (fin _ ?_)))) fun q2 => hgI_e e25 (hrt_i (hpI_i (hrt_i (fin _ ?_))))))
      · rw [if_pos ⟨er.mp q1, q2⟩]
      · rw [if_neg (fun t => q2 t.2)]
    · rw [if_neg (fun t => q1 (er.mpr t.1)), ← x25, up2_e] at hL
      rw [nI_1]
      exact hL w hw
  · have hw : CC w (mDn m p (nn m 19)) m0 o b T := hw
    have n19 : nn (mDn m p (nn m 19)) 19 = nn m 19 := mDn_n (by decide) _
    show cdnF p L (nI (nn m 19)) P X w
    unfold cdnF
    exact hgR_e hw.1.s3 (hisK_i (hbn0_i (J2sz (hw.1.lt13 (by decide)) (hw.1.hLa.1.trans n19) (hcnd_t (nI_le (Nat.le_refl _) (by omega)) (hrt_i (hP w hw))))))
/-- the first j recoveries: those of a person are closed -/
def mRo (m : Mst) (p : Nat) : Nat → Mst
  | 0 => m
  | k + 1 => up2 (mRo m p k) 73 k (if m 73 k ≠ 0 ∧ m 71 k ≠ nI p then 1 else 0)
theorem mRo_e {m : Mst} {p k : Nat} : mRo m p (k + 1) = up2 (mRo m p k) 73 k (if m 73 k ≠ 0 ∧ m 71 k ≠ nI p then 1 else 0) := rfl
theorem mRo_o {m : Mst} {p F : Nat} (h : F ≠ 73) : ∀ j, mRo m p j F = m F
  | 0 => rfl
  | j + 1 => by rw [mRo_e, up2_o h]; exact mRo_o h j
theorem mRo_73 {m : Mst} {p a : Nat} : ∀ j, j ≤ a → mRo m p j 73 a = m 73 a
  | 0, _ => rfl
  | j + 1, h => by rw [mRo_e, up2_r, up1_n (by omega)]; exact mRo_73 j (by omega)
theorem mRo_b {m : Mst} {p : Nat} (h : iBo (m 73)) : ∀ j, iBo (mRo m p j 73)
  | 0 => h
  | j + 1 => by
    rw [mRo_e, up2_r]
    refine (mRo_b h j).up _ ?_
    split
    · exact Or.inr rfl
    · exact Or.inl rfl
theorem mRo_n {m : Mst} {p F : Nat} (h : F ≠ 73) (j : Nat) : nn (mRo m p j) F = nn m F := by unfold nn; rw [mRo_o h]
theorem q_clsLoop {m : Mst} {p : Nat} {u : Int32} (h : m 70 0 = nI (nn m 70)) (hn : nn m 70 ≤ 20) : qlp (σ := Int32) (clsF (nI p) u) (0 : Int32) m = some (u, mRo m p (nn m 70)) := by
  refine q_loop (N := nn m 70) (s := fun j => nI j) (w := fun j => mRo m p j) nI_0.symm (fun j hj L => ?_) (fun L => ?_) (by omega)
  · have x70 : mRo m p j 70 0 = nI (nn m 70) := by rw [mRo_o (by decide)]; exact h
    have x71 : mRo m p j 71 j = m 71 j := by rw [mRo_o (by decide)]
    have x73 : mRo m p j 73 j = m 73 j := mRo_73 j (Nat.le_refl _)
    show qc (mRo m p j 70 0 ≤ nI j) _ _ _ = L (nI (j + 1)) (mRo m p (j + 1))
    rw [mRo_e]
    generalize mRo m p j = w at x70 x71 x73 ⊢
    rw [qc_f (by rw [x70]; exact nI_ge hj (by omega)), qa_e rfl (by omega) (by decide)]
    refine qbd_t (r := if m 73 j ≠ 0 ∧ m 71 j ≠ nI p then (1 : Int32) else 0) (m' := w) ?_ ?_
    · show qc (w 73 j = 0) _ _ _ = _
      rw [x73]
      by_cases q1 : m 73 j = 0
      · rw [qc_t q1, if_neg (fun t => t.1 q1)]; rfl
      · rw [qc_f q1, qa_e rfl (by omega) (by decide), x71]
        by_cases q2 : m 71 j = nI p
        · rw [qc_t q2, if_neg (fun t => t.2 q2)]; rfl
        · rw [qc_f q2, if_pos ⟨q1, q2⟩]; rfl
    · rw [qz_e rfl (by omega) (by decide) (by split; exact Or.inr rfl; exact Or.inl rfl), nI_1]
  · have x70 : mRo m p (nn m 70) 70 0 = nI (nn m 70) := by rw [mRo_o (by decide)]; exact h
    show qc (mRo m p (nn m 70) 70 0 ≤ nI (nn m 70)) _ _ _ = _
    rw [qc_t (by rw [x70]; exact nI_le (Nat.le_refl _) (by omega))]
    rfl
theorem c_clsLoop {v : Vw} {m m0 : Mst} {o : Nat × Int64} {b T p : Nat} {u : Int32} (h : CC v m m0 o b T) (hA : nn m 70 ≤ 20) (h71 : ∀ a, a < nn m 70 → ix (m 71 a) 6) (h73 : iBo (m 73)) (hp : p < 6) {P : Int32 → Vw → Prop} {X : String → Vw → Prop} (hP : ∀ v', CC v' (mRo m p (nn m 70)) m0 o b T → P u v') : hlp (σ := Int32) (cclsF p u) (0 : Int32) P X v := by
  refine h_loop (N := nn m 70) (s := fun j => nI j) (fun j w => CC w (mRo m p j) m0 o b T) nI_0.symm (fun j w hj hw L hL => ?_) (fun w hw L => ?_) h
  · have hw : CC w (mRo m p j) m0 o b T := hw
    have hL : ∀ w', CC w' (mRo m p (j + 1)) m0 o b T → L (nI (j + 1)) P X w' := hL
    have n70 : nn (mRo m p j) 70 = nn m 70 := mRo_n (by decide) j
    have x71 : mRo m p j 71 j = m 71 j := by rw [mRo_o (by decide)]
    have x73 : mRo m p j 73 j = m 73 j := mRo_73 j (Nat.le_refl _)
    obtain ⟨ps, hps, eps⟩ := h71 j hj
    rw [mRo_e] at hL
    show cclsF p u L (nI j) P X w
    generalize mRo m p j = r at hw hL n70 x71 x73 ⊢
    have hj' : j < nn r 70 := by omega
    have N0 : vN w 12 j 0 = rf 2 (m 71 j) := by
      have := hw.1.hRr j hj'
      rw [x71] at this
      exact this
    have er := rf_eq (K := 2) (x := m 71 j) (s := p) (by decide) (Or.inr ⟨ps, eps, by omega⟩) (by omega)
    have fin : ∀ y : Int32, y = (if m 73 j ≠ 0 ∧ m 71 j ≠ nI p then 1 else 0) → (hpZ 12 j 2 y <| L (nI j + 1)) P X w := fun y hy => by
      have hy01 : y = 0 ∨ y = 1 := by
        rw [hy]
        split
        · exact Or.inr rfl
        · exact Or.inl rfl
      rw [← hy] at hL
      rw [nI_1]
      exact hpZ_i hy01 (hL _ ⟨hw.1.isOpen j y, hw.2.1.oM rfl, hw.2.2⟩)
    unfold cclsF
    refine hgR_e hw.1.s8 (hisK_i (hbn0_i (J2sz (hw.1.lt13 (by decide)) hw.1.hL7.1 (hcnd_f (nI_ge hj' (by omega)) (hgR_e hw.1.s8 (hisK_i (hbn0_i (J2get (hw.1.lt13 (by decide)) rfl (by omega) (by rw [hw.1.hL7.1]; omega) (hw.1.hL7.2 j hj') (hisK_i (hgI_e ((hw.1.f 12 2 73 (by decide) hj').trans x73) (hgR_e hw.1.s8 (hisK_i (hbn0_i (J2get (hw.1.lt13 (by decide)) rfl (by omega) (by rw [hw.1.hL7.1]; omega) (hw.1.hL7.2 j hj') (hisK_i (hgR_e N0 (hbnd_i (hasr_i ⟨cmp_rf (by decide), cmp_idc (by decide)⟩ (hcnd_i (fun q1 => hrt_i (fin _ ?_)) fun q1 => hrt_i (fin _ ?_))))))))))))))))))))
    · rw [if_neg (fun t => t.2 (er.mp q1))]
      rcases h73 j with e | e <;> rw [e] <;> rfl
    · rcases h73 j with e | e
      · rw [if_neg (fun t => t.1 e), e]; rfl
      · rw [if_pos ⟨by rw [e]; decide, fun t => q1 (er.mpr t)⟩, e]; rfl
  · have hw : CC w (mRo m p (nn m 70)) m0 o b T := hw
    have n70 : nn (mRo m p (nn m 70)) 70 = nn m 70 := mRo_n (by decide) _
    show cclsF p u L (nI (nn m 70)) P X w
    unfold cclsF
    exact hgR_e hw.1.s8 (hisK_i (hbn0_i (J2sz (hw.1.lt13 (by decide)) (hw.1.hL7.1.trans n70) (hcnd_t (nI_le (Nat.le_refl _) (by omega)) (hrt_i (hP w hw))))))
theorem Inv.dn {m : Mst} {T p : Nat} (h : Inv m T) (j : Nat) : Inv (mDn m p j) T := by
  obtain ⟨i1, i2, i3, b5, b6, b7, b8, b35, b51, b64, b66, b69, b73, iK, iA, rest⟩ := h
  have e : ∀ F, F ≠ 25 → mDn m p j F = m F := fun F hF => mDn_o hF j
  have e25 : ∀ a, mDn m p j 25 a = 0 → m 25 a = 0 := fun a ha => by
    rw [mDn_25] at ha
    split at ha
    · exact absurd ha (by decide)
    · exact ha
  have E : mDn m p j = up1 m 25 (mDn m p j 25) := by
    funext F
    unfold up1
    split
    · rename_i q; rw [q]
    · rename_i q; exact e F q
  generalize mDn m p j 25 = c at E e25
  rw [E]
  refine ⟨i1, i2, i3, b5, b6, b7, b8, b35, b51, b64, b66, b69, b73, iK, fun a ha => ?_, rest⟩
  obtain ⟨j1, j2, j3, j4, j5, j6⟩ := iA a ha
  exact ⟨j1, j2, j3, j4, j5, fun q => j6 (e25 a q)⟩
theorem Inv.ro {m : Mst} {T p : Nat} (h : Inv m T) : ∀ j, Inv (mRo m p j) T
  | 0 => h
  | j + 1 => by
    have ih := Inv.ro (p := p) h j
    have hb : iBo (mRo m p (j + 1) 73) := mRo_b h.p73 (j + 1)
    rw [mRo_e] at hb ⊢
    generalize (if m 73 j ≠ 0 ∧ m 71 j ≠ nI p then (1 : Int32) else 0) = y at hb ⊢
    obtain ⟨i1, i2, i3, b5, b6, b7, b8, b35, b51, b64, b66, b69, b73, rest⟩ := ih
    exact ⟨i1, i2, i3, b5, b6, b7, b8, b35, b51, b64, b66, b69, hb, rest⟩
theorem op_leave (a : Int32) : OpV (fun z => h_X0_leave (idc 0 0) a z) (q_leave a) := by
  intro v m T b z x h hI hT
  show OpA (fun z => h_X0_leave (idc 0 0) a z) (q_leave a) v m T b z x
  have hb := h.vb
  rcases q_six_x a m with ⟨p, hp, rfl, e1⟩ | ⟨ha, e1⟩
  rotate_left
  · refine OpA.bad h hI 1 (by decide) ?_ fun P X hP => ?_
    · unfold q_leave
      rw [qbd_e e1, qbd_e q_may_f]; rfl
    · show h_X0_leave (idc 0 0) a z P X v
      unfold h_X0_leave
      refine hisK_i (htry_i ?_)
      unfold h_X1_leave
      exact hbnd_i (personAt_f ha (by omega) (hx_1 (hrt_i hP)))
  have f7 : vM v 2 p 4 = m 7 p := h.1.1.f 2 4 7 (by decide) hp
  have hmay : q_may 1 m = some (1, up2 m 82 0 0) := q_may_t
  have inv7 : ∀ u : Int32, u = 0 ∨ u = 1 → Inv (up2 (up2 m 82 0 0) 7 p u) T := fun u hu => by
    obtain ⟨i1, i2, i3, b5, b6, b7, rest⟩ := hI.m82 0
    refine ⟨i1, i2, i3, b5, b6, ?_, rest⟩
    show iBo (up2 (up2 m 82 0 0) 7 p u 7)
    rw [up2_r]
    exact b7.up p hu
  have rel7 : ∀ u : Int32, CC (uM v 2 p 4 u) (up2 (up2 m 82 0 0) 7 p u) m (z + 1, x) (b + 40000) T := fun u => ⟨(h.1.1.m82 0).isAway p u, h.1.2.1.oM rfl, h.1.2.2⟩
  by_cases q0 : m 7 p = 0
  · have hI1 := inv7 1 (Or.inr rfl)
    have hc1 := rel7 1
    have g82 : up2 (up2 m 82 0 0) 7 p 1 82 0 = 0 := rfl
    have g7 : up2 (up2 m 82 0 0) 7 p 1 7 p = 1 := up2_s
    have hqq : q_leave (nI p) m = (qbd (q_endAllOf (nI p)) (fun v17 => qbd (qlp (σ := Int32) (dnF (nI p)) (0 : Int32)) (fun _ => qlp (σ := Int32) (clsF (nI p) v17) (0 : Int32)))) (up2 (up2 m 82 0 0) 7 p 1) := by
      unfold q_leave
      rw [qbd_e e1, qbd_e hmay, qc_f one_ne, qa_e rfl hp (by decide)]
      have e7 : up2 m 82 0 0 7 p = 0 := q0
      refine qbd_t (r := (1 : Int32)) (m' := up2 m 82 0 0) (by rw [qc_t e7]; rfl) ?_
      rw [qz_e rfl hp (by decide) (Or.inr rfl), qa_e rfl hp (by decide), g7, qc_f one_ne]
      rfl
    generalize up2 (up2 m 82 0 0) 7 p 1 = m1 at hI1 hc1 g82 hqq
    have he := hI1.ei hT
    have h31 : ∀ s, s < nn m1 30 → ix (m1 31 s) 6 := fun s hs => (hI1.pSe s hs).1
    have hI2 := hI1.ea (p := p) hT (nn m1 30) (Nat.le_refl _)
    have a82 : (mEA m1 p (nn m1 30)).1 82 0 = 0 := by rw [mEA_o (by decide) (by decide) (by decide)]; exact g82
    have hqe := q_endAll_eq (p := p) he
    have hce := fun (w : Vw) (hw : CC w m1 m (z + 1, x) (b + 40000) T) (P : Int32 → Vw → Prop) (X : String → Vw → Prop) => c_endAll (P := P) (X := X) hw he h31 hp
    generalize mEA m1 p (nn m1 30) = R at hI2 a82 hqe hce
    have hI3 := hI2.dn (p := p) (nn R.1 19)
    obtain ⟨c19, d19⟩ := hI2.c19 hT
    have hqd := q_dnLoop (p := p) c19 (by omega)
    have b82 : mDn R.1 p (nn R.1 19) 82 0 = 0 := by rw [mDn_o (by decide)]; exact a82
    have hcd := fun (w : Vw) (hw : CC w R.1 m (z + 1, x) (b + 40000) T) (P : Unit → Vw → Prop) (X : String → Vw → Prop) => c_dnLoop (P := P) (X := X) (p := p) hw (by omega) (fun a ha => (hI2.pAt a ha).1) hp
    generalize mDn R.1 p (nn R.1 19) = M3 at hI3 hqd b82 hcd
    obtain ⟨c70, d70⟩ := hI3.c70 hT
    have n20 : nn M3 70 ≤ 20 := by
      rcases Nat.lt_or_ge 20 (nn M3 70) with q | q
      · exact absurd (hI3.pRe 20 q).2.2 (by omega)
      · exact q
    refine OpA.ok (r := nI R.2) (m1 := mRo M3 p (nn M3 70)) ?_ (hI3.ro _).up (by rw [mRo_o (by decide)]; exact b82) fun P X hP => ?_
    · rw [hqq, qbd_e hqe, qbd_e hqd]
      exact q_clsLoop c70 n20
    · show h_X0_leave (idc 0 0) (nI p) z P X v
      unfold h_X0_leave
      refine hisK_i (htry_i ?_)
      unfold h_X1_leave
      refine hbnd_i (c_personAt h.1 hp (hisK_i (hgI_e f7 (hbnd_i (hcnd_t q0 (hrt_i (hpZ_i (Or.inr rfl) (hgI_e (x := (1 : Int32)) up3_s (hcnd_f one_ne (hbn0_i ?_)))))))))) 
      refine hce _ hc1 _ _ fun v2 h2 => hbnd_i (hcd v2 h2 _ _ fun v3 h3 => ?_)
      exact c_clsLoop h3 n20 (fun a ha => (hI3.pRe a ha).1) hI3.p73 hp fun v4 h4 => hP v4 40000 T (by omega) h4
  · have g7 : up2 (up2 m 82 0 0) 7 p 0 7 p = 0 := up2_s
    refine OpA.ok (r := -1) (m1 := up2 (up2 m 82 0 0) 7 p 0) ?_ (inv7 0 (Or.inl rfl)).up rfl fun P X hP => ?_
    · unfold q_leave
      rw [qbd_e e1, qbd_e hmay, qc_f one_ne, qa_e rfl hp (by decide)]
      have e7 : ¬ up2 m 82 0 0 7 p = 0 := q0
      refine qbd_t (r := (0 : Int32)) (m' := up2 m 82 0 0) (by rw [qc_f e7]; rfl) ?_
      rw [qz_e rfl hp (by decide) (Or.inl rfl), qa_e rfl hp (by decide), g7, qc_t rfl]
      rfl
    · show h_X0_leave (idc 0 0) (nI p) z P X v
      unfold h_X0_leave
      refine hisK_i (htry_i ?_)
      unfold h_X1_leave
      exact hbnd_i (c_personAt h.1 hp (hisK_i (hgI_e f7 (hbnd_i (hcnd_f q0 (hrt_i (hpZ_i (Or.inl rfl) (hgI_e (x := (0 : Int32)) up3_s (hcnd_t rfl (hrt_i (hP _ 40000 T (by omega) (rel7 0))))))))))))
