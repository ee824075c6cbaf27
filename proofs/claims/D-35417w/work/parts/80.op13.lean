/-! ===== operations (13): sumAnew, isLiveByAudit, emergency ===== -/
def sumF (a1 : Int32) : (Int32 × Int32 → PM Int32) → Int32 × Int32 → PM Int32 := (fun r7 => un2 fun u5 u6 => qc (a1 ≤ u6) (qrt u5) (qa 78 1200 u6 fun v12 => qa 79 1200 u6 fun v16 => qa 80 1200 u6 fun v20 => qbd (qrt ((((((31 : Int32) * u5) + ((100 : Int32) * v12)) + v16) + v20) - (((((((31 : Int32) * u5) + ((100 : Int32) * v12)) + v16) + v20) / (65521 : Int32)) * (65521 : Int32)))) (fun v21 => r7 (v21, (u6 + (1 : Int32))))))
def csumF (a1 : Int32) : (Int32 × Int32 → PV Int32) → Int32 × Int32 → PV Int32 := (fun r8 => un2 fun u6 u7 => hcnd (a1 ≤ u7) (hrt u6) (hgR 0 0 14 fun v10 => hisK 13 v10 fun i11 => hbn0 (h_J2_get i11 u7) (fun v13 => hisK 5 v13 fun i14 => hbn0 (h_X6_after i14 u6) (fun v16 => r8 (v16, (u7 + (1 : Int32)))))))
def lbaF (a1 : Int32) : (Int32 × Int32 → PM Int32) → Int32 × Int32 → PM Int32 := (fun r6 => un2 fun u4 u5 => qI 77 fun v7 => qc (v7 ≤ u5) (qas ((u4 = 0) ∨ (u4 = 1)) (qrt u4)) (qa 79 1200 u5 fun v12 => qc (v12 = a1) (qa 78 1200 u5 fun v17 => qc ((2 : Int32) ≤ v17) (r6 (u4, (u5 + (1 : Int32)))) (qa 78 1200 u5 fun v22 => qc (v22 = 0) (r6 ((1 : Int32), (u5 + (1 : Int32)))) (r6 ((0 : Int32), (u5 + (1 : Int32)))))) (r6 (u4, (u5 + (1 : Int32))))))
def clbaF (a1 : Int32) : (Int32 × Int32 → PV Int32) → Int32 × Int32 → PV Int32 := (fun r5 => un2 fun u3 u4 => hgR 0 0 14 fun v6 => hisK 13 v6 fun i7 => hbn0 (h_J2_size i7) (fun v9 => hcnd (v9 ≤ u4) (hasr ((u3 = 0) ∨ (u3 = 1)) (hrt u3)) (hgR 0 0 14 fun v11 => hisK 13 v11 fun i12 => hbn0 (h_J2_get i12 u4) (fun v14 => hisK 5 v14 fun i15 => hgI 5 i15 0 fun v17 => hcnd ((1 : Int32) < v17) (r5 (u3, (u4 + (1 : Int32)))) (hgI 5 i15 1 fun v19 => hcnd (v19 = a1) (hgI 5 i15 0 fun v21 => hcnd (v21 = 0) (r5 ((1 : Int32), (u4 + (1 : Int32)))) (r5 ((0 : Int32), (u4 + (1 : Int32))))) (r5 (u3, (u4 + (1 : Int32)))))))))
def sA (m : Mst) : Nat → Int32
  | 0 => 7
  | k + 1 => sumq (sA m k) (m 78 k) (m 79 k) (m 80 k)
theorem sA_nI {m : Mst} {n : Nat} (h : iEn n (m 78) (m 79) (m 80)) : ∀ k, k ≤ n → ∃ a, a < 65521 ∧ sA m k = nI a
  | 0, _ => ⟨7, by decide, by show (7 : Int32) = nI 7; decide +kernel⟩
  | k + 1, hk => by
    obtain ⟨a, a1, a2⟩ := sA_nI h k (by omega)
    obtain ⟨⟨x, x1, x2⟩, ⟨y, y1, y2⟩, ⟨w, w1, w2⟩⟩ := h k (by omega)
    refine ⟨(31 * a + 100 * x + y + w) % 65521, Nat.mod_lt _ (by decide), ?_⟩
    show sumq (sA m k) (m 78 k) (m 79 k) (m 80 k) = _
    rw [a2, x2, y2, w2, sumq_eq a1 x1 y1 w1]
theorem q_sumLoop {m : Mst} {a : Nat} (ha : a ≤ 1200) : qlp (σ := Int32 × Int32) (sumF (nI a)) ((7 : Int32), (0 : Int32)) m = some (sA m a, m) := by
  refine q_loop (N := a) (s := fun j => (sA m j, nI j)) (w := fun _ => m) (congrArg (Prod.mk _) nI_0.symm) (fun j hj L => ?_) (fun L => ?_) (by omega)
  · show qc (nI a ≤ nI j) _ _ _ = _
    rw [qc_f (nI_ge hj (by omega)), qa_e rfl (by omega) (by decide), qa_e rfl (by omega) (by decide), qa_e rfl (by omega) (by decide)]
    show L (sA m (j + 1), nI j + 1) m = L (sA m (j + 1), nI (j + 1)) m
    rw [nI_1]
  · show qc (nI a ≤ nI a) _ _ _ = _
    rw [qc_t (nI_le (Nat.le_refl _) (by omega))]
    rfl
theorem c_sumLoop {v : Vw} {m m0 : Mst} {o : Nat × Int64} {b T a : Nat} (h : CC v m m0 o b T) (hE : iEn (nn m 77) (m 78) (m 79) (m 80)) (ha : a ≤ nn m 77) (hn : nn m 77 ≤ 110) {P : Int32 → Vw → Prop} {X : String → Vw → Prop} (hP : P (sA m a) v) : hlp (σ := Int32 × Int32) (csumF (nI a)) ((7 : Int32), (0 : Int32)) P X v := by
  refine h_loop (N := a) (s := fun j => (sA m j, nI j)) (fun _ w => w = v) (congrArg (Prod.mk _) nI_0.symm) (fun j w hj hw L hL => ?_) (fun w hw L => ?_) rfl
  · subst hw
    have hL' : L (sA m (j + 1), nI (j + 1)) P X w := hL w rfl
    obtain ⟨s, s1, s2⟩ := sA_nI hE j (by omega)
    obtain ⟨⟨x, x1, x2⟩, ⟨y, y1, y2⟩, ⟨c, c1, c2⟩⟩ := hE j (by omega)
    have e : sA m (j + 1) = nI ((31 * s + 100 * x + y + c) % 65521) := by
      show sumq (sA m j) (m 78 j) (m 79 j) (m 80 j) = _
      rw [s2, x2, y2, c2, sumq_eq s1 x1 y1 c1]
    have hj2 : j < nn m 77 := by omega
    rw [e] at hL'
    unfold csumF
    refine hun2_i (hcnd_f (nI_ge hj (by omega)) (hgR_e h.1.s14 (hisK_i (hbn0_i (J2get (h.1.lt13 (by decide)) rfl (by omega) (by rw [h.1.hL8.1]; omega) (h.1.hL8.2 j (by omega)) (hisK_i (hbn0_i ?_)))))))
    unfold h_X6_after
    refine hgI_e ((h.1.f 5 0 78 (by decide) hj2).trans x2) (hgI_e ((h.1.f 5 1 79 (by decide) hj2).trans y2) (hgI_e ((h.1.f 5 2 80 (by decide) hj2).trans c2) (hrt_i ?_)))
    rw [s2, suml_eq s1 x1 y1 c1, nI_1]
    exact hL'
  · subst hw
    unfold csumF
    exact hun2_i (hcnd_t (nI_le (Nat.le_refl _) (by omega)) (hrt_i hP))
theorem op_sumAnew (a : Int32) : OpV (fun z => h_X0_sumAnew (idc 0 0) a z) (q_sumAnew a) := by
  intro v m T b z x h hI hT
  show OpA (fun z => h_X0_sumAnew (idc 0 0) a z) (q_sumAnew a) v m T b z x
  have hb := h.vb
  obtain ⟨c1, c2⟩ := hI.c77 hT
  rcases ix3 a (n := nn m 77 + 1) (by omega) with ha | ⟨k, hk, rfl⟩
  · refine OpA.bad h hI 1 (by decide) ?_ fun P X hP => ?_
    · show qbd (q_isIn a 0 (m 77 0)) _ m = _
      rw [qbd_e (q_in_f (n := nn m 77) ha (by omega) rfl c1), qbd_e q_may_f]; rfl
    · show h_X0_sumAnew (idc 0 0) a z P X v
      unfold h_X0_sumAnew
      refine hisK_i (htry_i ?_)
      unfold h_X1_sumAnew
      refine hgR_e h.1.1.s14 (hisK_i (hbn0_i (J2sz (h.1.1.lt13 (by decide)) h.1.1.hL8.1 (hbnd_i (c_there_f ?_ (by omega) (hx_1 (hrt_i hP)))))))
      rw [nI_1]; exact ha
  · refine OpA.ok (r := sA (up2 m 82 0 0) k) (m1 := up2 m 82 0 0) ?_ (hI.m82 0).up rfl fun P X hP => ?_
    · show qbd (q_isIn (nI k) 0 (m 77 0)) _ m = _
      rw [qbd_e (q_in_t (j := k) (n := nn m 77) (by omega) (by omega) rfl nI_0.symm c1), qbd_e q_may_t, qc_f one_ne]
      exact q_sumLoop (by omega)
    · show h_X0_sumAnew (idc 0 0) (nI k) z P X v
      unfold h_X0_sumAnew
      refine hisK_i (htry_i ?_)
      unfold h_X1_sumAnew
      refine hgR_e h.1.1.s14 (hisK_i (hbn0_i (J2sz (h.1.1.lt13 (by decide)) h.1.1.hL8.1 (hbnd_i (c_there_t (nI_pos (by omega)) (by rw [nI_1]; exact nI_lt hk (by omega)) ?_)))))
      exact c_sumLoop (m := up2 m 82 0 0) (h.m82 0).1 (hI.m82 0).2.2.2.2.2.2.2.2.2.2.2.2.2.2.2.2.2.2.2.2.2.2.2.1 (show k ≤ nn m 77 by omega) (show nn m 77 ≤ 110 by omega) (hP v 40000 T (by omega) (h.m82 0).1)
def lba (m78 m79 : Nat → Int32) (s : Nat) : Nat → Int32
  | 0 => 0
  | k + 1 => if m79 k = nI s ∧ ¬ 1 < m78 k then (if m78 k = 0 then 1 else 0) else lba m78 m79 s k
theorem lba_e {a b : Nat → Int32} {s k : Nat} : lba a b s (k + 1) = if b k = nI s ∧ ¬ 1 < a k then (if a k = 0 then 1 else 0) else lba a b s k := rfl
theorem lba_01 {a b : Nat → Int32} {s : Nat} : ∀ k, lba a b s k = 0 ∨ lba a b s k = 1
  | 0 => Or.inl rfl
  | k + 1 => by
    rw [lba_e]
    by_cases q : b k = nI s ∧ ¬ 1 < a k
    · rw [if_pos q]
      by_cases r : a k = 0
      · rw [if_pos r]; exact Or.inr rfl
      · rw [if_neg r]; exact Or.inl rfl
    · rw [if_neg q]; exact lba_01 k
theorem two_le {x : Int32} : 2 ≤ x ↔ 1 < x := by
  rw [Int32.le_iff_toInt_le, Int32.lt_iff_toInt_lt]
  have e1 : (1 : Int32).toInt = 1 := rfl
  have e2 : (2 : Int32).toInt = 2 := rfl
  omega
theorem q_lbaLoop {m : Mst} {s : Nat} (h : m 77 0 = nI (nn m 77)) (hn : nn m 77 ≤ 1200) : qlp (σ := Int32 × Int32) (lbaF (nI s)) ((0 : Int32), (0 : Int32)) m = some (lba (m 78) (m 79) s (nn m 77), m) := by
  refine q_loop (N := nn m 77) (s := fun j => (lba (m 78) (m 79) s j, nI j)) (w := fun _ => m) (congrArg (Prod.mk _) nI_0.symm) (fun j hj L => ?_) (fun L => ?_) (by omega)
  · show qc (m 77 0 ≤ nI j) _ _ _ = L (lba (m 78) (m 79) s (j + 1), nI (j + 1)) m
    rw [qc_f (by rw [h]; exact nI_ge hj (by omega)), qa_e rfl (by omega) (by decide), lba_e]
    by_cases q1 : m 79 j = nI s
    · rw [qc_t q1, qa_e rfl (by omega) (by decide)]
      by_cases q2 : 1 < m 78 j
      · rw [qc_t (two_le.mpr q2), if_neg (fun r => r.2 q2), nI_1]
      · rw [qc_f (fun r => q2 (two_le.mp r)), if_pos ⟨q1, q2⟩, qa_e rfl (by omega) (by decide)]
        by_cases q3 : m 78 j = 0
        · rw [qc_t q3, if_pos q3, nI_1]
        · rw [qc_f q3, if_neg q3, nI_1]
    · rw [qc_f q1, if_neg (fun r => q1 r.1), nI_1]
  · show qc (m 77 0 ≤ nI (nn m 77)) _ _ _ = _
    rw [qc_t (by rw [h]; exact nI_le (Nat.le_refl _) (by omega)), qas_t (lba_01 _)]
    rfl
theorem c_lbaLoop {v : Vw} {m m0 : Mst} {o : Nat × Int64} {b T s : Nat} (h : CC v m m0 o b T) (hn : nn m 77 ≤ 110) {P : Int32 → Vw → Prop} {X : String → Vw → Prop} (hP : P (lba (m 78) (m 79) s (nn m 77)) v) : hlp (σ := Int32 × Int32) (clbaF (nI s)) ((0 : Int32), (0 : Int32)) P X v := by
  refine h_loop (N := nn m 77) (s := fun j => (lba (m 78) (m 79) s j, nI j)) (fun _ w => w = v) (congrArg (Prod.mk _) nI_0.symm) (fun j w hj hw L hL => ?_) (fun w hw L => ?_) rfl
  · subst hw
    have hL' : L (lba (m 78) (m 79) s (j + 1), nI (j + 1)) P X w := hL w rfl
    rw [lba_e] at hL'
    unfold clbaF
    refine hun2_i (hgR_e h.1.s14 (hisK_i (hbn0_i (J2sz (h.1.lt13 (by decide)) h.1.hL8.1 (hcnd_f (nI_ge hj (by omega)) (hgR_e h.1.s14 (hisK_i (hbn0_i (J2get (h.1.lt13 (by decide)) rfl (by omega) (by rw [h.1.hL8.1]; omega) (h.1.hL8.2 j (by omega)) (hisK_i (hgI_e (h.1.f 5 0 78 (by decide) hj) (hcnd_i (fun q2 => ?_) fun q2 => hgI_e (h.1.f 5 1 79 (by decide) hj) (hcnd_i (fun q1 => hgI_e (h.1.f 5 0 78 (by decide) hj) (hcnd_i (fun q3 => ?_) fun q3 => ?_)) fun q1 => ?_)))))))))))))
    · rw [if_neg (fun r => r.2 q2)] at hL'
      rw [nI_1]; exact hL'
    · rw [if_pos ⟨q1, q2⟩, if_pos q3] at hL'
      rw [nI_1]; exact hL'
    · rw [if_pos ⟨q1, q2⟩, if_neg q3] at hL'
      rw [nI_1]; exact hL'
    · rw [if_neg (fun r => q1 r.1)] at hL'
      rw [nI_1]; exact hL'
  · subst hw
    unfold clbaF
    exact hun2_i (hgR_e h.1.s14 (hisK_i (hbn0_i (J2sz (h.1.lt13 (by decide)) h.1.hL8.1 (hcnd_t (nI_le (Nat.le_refl _) (by omega)) (hasr_i (lba_01 _) (hrt_i hP)))))))
theorem op_isLiveByAudit (a : Int32) : OpV (fun z => h_X0_isLiveByAudit (idc 0 0) a z) (q_isLiveByAudit a) := by
  intro v m T b z x h hI hT
  show OpA (fun z => h_X0_isLiveByAudit (idc 0 0) a z) (q_isLiveByAudit a) v m T b z x
  have hb := h.vb
  obtain ⟨c1, c2⟩ := hI.c30 hT
  obtain ⟨d1, d2⟩ := hI.c77 hT
  rcases ix3 a (n := nn m 30) (by omega) with ha | ⟨k, hk, rfl⟩
  · refine OpA.bad h hI 1 (by decide) ?_ fun P X hP => ?_
    · unfold q_isLiveByAudit
      rw [qbd_e (q_Session_f c1 (by omega) ha), qbd_e q_may_f]; rfl
    · show h_X0_isLiveByAudit (idc 0 0) a z P X v
      unfold h_X0_isLiveByAudit
      refine hisK_i (htry_i ?_)
      unfold h_X1_isLiveByAudit
      exact hgR_e h.1.1.s4 (hbnd_i (c_at_f (h.1.1.lt13 (by decide)) h.1.1.hL3.1 ha (by omega) (hx_1 (hrt_i hP))))
  · refine OpA.ok (r := lba (m 78) (m 79) k (nn m 77)) (m1 := up2 m 82 0 0) ?_ (hI.m82 0).up rfl fun P X hP => ?_
    · unfold q_isLiveByAudit
      rw [qbd_e (q_Session_t c1 (by omega) hk), qbd_e q_may_t, qc_f one_ne]
      exact q_lbaLoop (m := up2 m 82 0 0) d1 (show nn m 77 ≤ 1200 by omega)
    · show h_X0_isLiveByAudit (idc 0 0) (nI k) z P X v
      unfold h_X0_isLiveByAudit
      refine hisK_i (htry_i ?_)
      unfold h_X1_isLiveByAudit
      refine hgR_e h.1.1.s4 (hbnd_i (c_at (h.1.1.lt13 (by decide)) h.1.1.hL3.1 (by omega) hk (h.1.1.hL3.2 k hk) ?_))
      exact c_lbaLoop h.1 (by omega) (bool_t (lba_01 _) (hP v 40000 T (by omega) (h.m82 0).1))
