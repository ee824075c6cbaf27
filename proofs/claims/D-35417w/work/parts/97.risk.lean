/-! ===== risk; operations (26): risk, trialRisk ===== -/
theorem sub60 {c x : Nat} (hc : c ≤ 30000) (hx : x ≤ c) : 60 ≤ nI c - nI x ↔ x + 60 ≤ c := by
  rw [pk_sub hx, show (60 : Int32) = nI 60 from by decide +kernel, nI_leI (by decide) (by omega)]
  omega
theorem sub60d {c : Nat} (hc : c ≤ 30000) : 60 ≤ nI c - (-1000 : Int32) := by
  have i1 := nI_toInt (n := c) (by omega)
  have e1 : (-1000 : Int32).toInt = -1000 := by decide +kernel
  have e2 : (60 : Int32).toInt = 60 := by decide +kernel
  rw [Int32.le_iff_toInt_le, Int32.toInt_sub, i1, e1, e2]
  simp only [Int.bmod]
  omega
def wb (c : Int32) (L : List Int32) (j : Nat) : Nat := if 60 ≤ c - L.getD j (-1000) then 0 else 1
theorem wrc_eq {c : Nat} {L : List Nat} (hc : c ≤ 30000) (hs : L.Pairwise (fun a b => b ≤ a)) (hL : ∀ x, x ∈ L → x ≤ c) : wrc (nI c) (L.map nI) 3 = wb (nI c) (L.map nI) 2 + wb (nI c) (L.map nI) 1 + wb (nI c) (L.map nI) 0 := by
  have d := sub60d hc
  have d2 : 60 ≤ nI c + 1000 := by simpa using d
  rcases L with _ | ⟨x, _ | ⟨y, _ | ⟨w, L⟩⟩⟩
  · simp [wrc, wb, d, d2]
  · have hx := hL x (by simp)
    by_cases q : 60 ≤ nI c - nI x
    · simp [wrc, wb, d, d2, q]
    · simp [wrc, wb, d, d2, q]
  · have hx := hL x (by simp)
    have hy := hL y (by simp)
    have hxy : y ≤ x := by
      rw [List.pairwise_cons] at hs
      exact hs.1 y (by simp)
    by_cases q : 60 ≤ nI c - nI x
    · have q2 : 60 ≤ nI c - nI y := (sub60 hc hy).mpr (by have := (sub60 hc hx).mp q; omega)
      simp [wrc, wb, d, d2, q, q2]
    · by_cases q2 : 60 ≤ nI c - nI y
      · simp [wrc, wb, d, d2, q, q2]
      · simp [wrc, wb, d, d2, q, q2]
  · have hx := hL x (by simp)
    have hy := hL y (by simp)
    have hw := hL w (by simp)
    have hxy : y ≤ x := by
      rw [List.pairwise_cons] at hs
      exact hs.1 y (by simp)
    have hyw : w ≤ y := by
      rw [List.pairwise_cons, List.pairwise_cons] at hs
      exact hs.2.1 w (by simp)
    by_cases q : 60 ≤ nI c - nI x
    · have q2 : 60 ≤ nI c - nI y := (sub60 hc hy).mpr (by have := (sub60 hc hx).mp q; omega)
      have q3 : 60 ≤ nI c - nI w := (sub60 hc hw).mpr (by have := (sub60 hc hx).mp q; omega)
      simp [wrc, wb, q, q2, q3]
    · by_cases q2 : 60 ≤ nI c - nI y
      · have q3 : 60 ≤ nI c - nI w := (sub60 hc hw).mpr (by have := (sub60 hc hy).mp q2; omega)
        simp [wrc, wb, q, q2, q3]
      · by_cases q3 : 60 ≤ nI c - nI w
        · simp [wrc, wb, q, q2, q3]
        · simp [wrc, wb, q, q2, q3]
/-- the wrong answers of the last hour, by the model's rows -/
def wq (m : Mst) (p : Nat) : Nat := (if 60 ≤ m 0 0 - m 4 (3 * p + 0) then 0 else 1) + (if 60 ≤ m 0 0 - m 4 (3 * p + 1) then 0 else 1) + (if 60 ≤ m 0 0 - m 4 (3 * p + 2) then 0 else 1)
theorem q_wrongs_eq {m : Mst} {p : Nat} (hp : p < 6) : q_wrongs (nI p) m = some (nI (wq m p), m) := by
  unfold q_wrongs
  have e : nI (wq m p) = ((0 + (if 60 ≤ m 0 0 - m 4 (3 * p + 0) then (0 : Int32) else 1)) + (if 60 ≤ m 0 0 - m 4 (3 * p + 1) then (0 : Int32) else 1)) + (if 60 ≤ m 0 0 - m 4 (3 * p + 2) then (0 : Int32) else 1) := by
    unfold wq
    by_cases q0 : 60 ≤ m 0 0 - m 4 (3 * p + 0) <;> by_cases q1 : 60 ≤ m 0 0 - m 4 (3 * p + 1) <;> by_cases q2 : 60 ≤ m 0 0 - m 4 (3 * p + 2) <;> simp only [q0, q1, q2, if_true, if_false] <;> decide +kernel
  rw [e]
  have step : ∀ k (u : Int32) (L : Int32 × Int32 → PM Int32), k < 3 → (un2 fun u1 u2 => qc ((3 : Int32) ≤ u2) (qrt u1) (qI 0 fun v5 => qa 4 18 (((3 : Int32) * nI p) + u2) fun v9 => qc ((60 : Int32) ≤ (v5 - v9)) (L ((u1 + (0 : Int32)), (u2 + (1 : Int32)))) (L ((u1 + (1 : Int32)), (u2 + (1 : Int32)))))) (u, nI k) m = L (u + (if 60 ≤ m 0 0 - m 4 (3 * p + k) then (0 : Int32) else 1), nI (k + 1)) m := fun k u L hk => by
    show qc ((3 : Int32) ≤ nI k) _ _ _ = _
    rw [qc_f (by rw [show (3 : Int32) = nI 3 from by decide +kernel]; exact nI_ge hk (by decide)), qI_d, qa_e ix3p (by omega) (by decide)]
    by_cases q : 60 ≤ m 0 0 - m 4 (3 * p + k)
    · rw [qc_t q, if_pos q, nI_1]
    · rw [qc_f q, if_neg q, nI_1]
  refine q_loop (N := 3) (s := fun j => ((if j = 0 then 0 else if j = 1 then (0 + (if 60 ≤ m 0 0 - m 4 (3 * p + 0) then (0 : Int32) else 1)) else if j = 2 then ((0 + (if 60 ≤ m 0 0 - m 4 (3 * p + 0) then (0 : Int32) else 1)) + (if 60 ≤ m 0 0 - m 4 (3 * p + 1) then (0 : Int32) else 1)) else (((0 + (if 60 ≤ m 0 0 - m 4 (3 * p + 0) then (0 : Int32) else 1)) + (if 60 ≤ m 0 0 - m 4 (3 * p + 1) then (0 : Int32) else 1)) + (if 60 ≤ m 0 0 - m 4 (3 * p + 2) then (0 : Int32) else 1))), nI j)) (w := fun _ => m) (congrArg (Prod.mk _) nI_0.symm) (fun j hj L => ?_) (fun L => ?_) (by decide)
  · rcases (by omega : j = 0 ∨ j = 1 ∨ j = 2) with q | q | q <;> subst q
    · exact step 0 _ L (by decide)
    · exact step 1 _ L (by decide)
    · exact step 2 _ L (by decide)
  · show qc ((3 : Int32) ≤ nI 3) _ _ _ = _
    rw [qc_t (by decide +kernel)]
    rfl
theorem c_wrongs {U : (Nat → List Nat) → Prop} {nL : Nat} {v : Vw} {m m0 : Mst} {o : Nat × Int64} {b T p : Nat} (h : CCh U nL v m m0 o (b + 10) T) (hc : ix (m 0 0) 30001) (hp : p < 6) {P : Int32 → Vw → Prop} {X : String → Vw → Prop} (hP : ∀ v', v' = ub v 10 → CCh U nL v' m m0 o b T → P (nI (wq m p)) v') : h_X3_wrongsOfHour p P X v := by
  obtain ⟨c, hc1, hc2⟩ := hc
  obtain ⟨p1, p2, p3, p4, p5, p6, p7, p8, p9⟩ := h.1.hPe p hp
  obtain ⟨w1, w2, ts, t1, t2, t3, t4⟩ := h.1.hWr p hp
  have h15 := h.1.hCt.2.2.2.2.2.2.2.2.2.2.1
  have hb := h.1.bud
  have hb1 : (vW v p).reverse.map (bxv v) = ts.reverse.map nI := by
    have e : (vW v p).map (bxv v) = ts.map nI := t1
    rw [List.map_reverse, e, List.map_reverse]
  refine ⟨p, 0, ⟨p7, by omega, p8, by omega, fun x hx => (w2 x hx).1⟩, ?_⟩
  rw [show vM v 0 0 16 = nI c from h.1.g16.trans hc2, hb1, wrc_eq (by omega) (List.pairwise_reverse.mpr t2) (fun x hx => by
    have := t3 x (List.mem_reverse.mp hx)
    rw [hc2, nI_clamp (by omega)] at this
    exact this)]
  have e : wb (nI c) (ts.reverse.map nI) 2 + wb (nI c) (ts.reverse.map nI) 1 + wb (nI c) (ts.reverse.map nI) 0 = wq m p := by
    unfold wq wb
    rw [← t4 2 (by decide), ← t4 1 (by decide), ← t4 0 (by decide), hc2]
  rw [e]
  exact hP _ rfl ⟨h.1.spend (Nat.le_refl _), h.2.1, h.2.2⟩
def pts (m : Mst) (r : Nat) (t : Int32) : Int32 := if t = 0 then m 17 r else if m 18 r = -1 then m 17 r else m 18 r
theorem q_pointsOf_eq {m : Mst} {r : Nat} {t : Int32} (hr : r < 3) : q_pointsOf (nI r) t m = some (pts m r t, m) := by
  unfold q_pointsOf pts
  by_cases q : t = 0
  · rw [qc_t q, qa_e rfl hr (by decide), if_pos q]; rfl
  · rw [qc_f q, qa_e rfl hr (by decide), if_neg q]
    by_cases q2 : m 18 r = -1
    · rw [qc_t q2, qa_e rfl hr (by decide), if_pos q2]; rfl
    · rw [qc_f q2, qa_e rfl hr (by decide), if_neg q2]; rfl
theorem c_pointsOf {U : (Nat → List Nat) → Prop} {nL : Nat} {v : Vw} {m m0 : Mst} {o : Nat × Int64} {b T r : Nat} {t : Int32} (h : CCh U nL v m m0 o b T) (hr : r < 3) {P : Int32 → Vw → Prop} {X : String → Vw → Prop} (hP : P (pts m r t) v) : h_X1_pointsOf 0 (nI r) t P X v := by
  have hL := h.1.hLn
  have hA := h.1.hAr
  unfold h_X1_pointsOf
  unfold pts at hP
  refine hcnd_i (fun q => hgR_e h.1.s12 (hisK_i (haI_e rfl (by rw [hL.2.2.2.2.1]; exact hr) (by omega) (hA.2.1 r hr) (hrt_i ?_)))) fun q => hgR_e h.1.s13 (hisK_i (haI_e rfl (by rw [hL.2.2.2.2.2.1]; exact hr) (by omega) (hA.2.2.1 r hr) (hcnd_i (fun q2 => hgR_e h.1.s12 (hisK_i (haI_e rfl (by rw [hL.2.2.2.2.1]; exact hr) (by omega) (hA.2.1 r hr) (hrt_i ?_)))) fun q2 => hgR_e h.1.s13 (hisK_i (haI_e rfl (by rw [hL.2.2.2.2.2.1]; exact hr) (by omega) (hA.2.2.1 r hr) (hrt_i ?_))))))
  · rw [if_pos q] at hP; exact hP
  · rw [if_neg q, if_pos q2] at hP; exact hP
  · rw [if_neg q, if_neg q2] at hP; exact hP
/-- an attempt's risk -/
def rkv (m : Mst) (p d l : Nat) (t : Int32) : Int32 := ((nI (wq m p) * pts m 2 t) + (if m 5 (6 * p + d) = 0 then pts m 0 t else 0)) + (if m 6 (6 * p + l) = 0 then pts m 1 t else 0)
theorem ix6 {p d : Nat} : ((6 : Int32) * nI p) + nI d = nI (6 * p + d) := by rw [show (6 : Int32) = nI 6 from by decide +kernel, pk_mul, nI_add]
theorem q_riskOf_eq {m : Mst} {a p d l : Nat} {t : Int32} (ha : a < 60) (hp : p < 6) (hd : d < 6) (hl : l < 6) (e20 : m 20 a = nI p) (e21 : m 21 a = nI d) (e22 : m 22 a = nI l) : q_riskOf (nI a) t m = some (rkv m p d l t, m) := by
  unfold q_riskOf rkv
  rw [qa_e rfl ha (by decide), e20, qbd_e (q_wrongs_eq hp)]
  refine qbd_t (q_pointsOf_eq (r := 2) (by decide)) ?_
  rw [qa_e rfl ha (by decide), e21, qa_e ix6 (by omega) (by decide)]
  refine qbd_t (r := if m 5 (6 * p + d) = 0 then pts m 0 t else 0) (m' := m) ?_ ?_
  · by_cases q : m 5 (6 * p + d) = 0
    · rw [qc_t q, if_pos q]
      exact qbd_t (q_pointsOf_eq (r := 0) (by decide)) rfl
    · rw [qc_f q, if_neg q]; rfl
  · rw [qa_e rfl ha (by decide), e22, qa_e ix6 (by omega) (by decide)]
    by_cases q : m 6 (6 * p + l) = 0
    · rw [qc_t q, if_pos q]
      exact qbd_t (q_pointsOf_eq (r := 1) (by decide)) rfl
    · rw [qc_f q, if_neg q]; rfl
theorem bit_dec {x : Int32} : (if decide (x ≠ 0) = true then (1 : Int32) else 0) = 0 ↔ x = 0 := by
  by_cases q : x = 0
  · rw [decide_eq_false (fun t => t q)]; exact ⟨fun _ => q, fun _ => rfl⟩
  · rw [decide_eq_true q]; exact ⟨fun t => absurd t (by decide), fun t => absurd t q⟩
theorem c_risk {U : (Nat → List Nat) → Prop} {nL : Nat} {v : Vw} {m m0 : Mst} {o : Nat × Int64} {b T a p d l : Nat} {t : Int32} (h : CCh U nL v m m0 o (b + 10) T) (hc : ix (m 0 0) 30001) (ha : a < nn m 19) (hp : p < 6) (hd : d < 6) (hl : l < 6) (e20 : m 20 a = nI p) (e21 : m 21 a = nI d) (e22 : m 22 a = nI l) {P : Int32 → Vw → Prop} {X : String → Vw → Prop} (hP : ∀ v', v' = ub v 10 → CCh U nL v' m m0 o b T → P (rkv m p d l t) v') : h_X8_risk a t P X v := by
  have n0 : ∀ w bb, CCh U nL w m m0 o bb T → vN w 7 a 0 = idc 2 p := fun w bb hw => by
    have := hw.1.hR70 a ha
    rw [e20, rf_ix (by omega)] at this
    exact this
  have n11 : ∀ w bb, CCh U nL w m m0 o bb T → vN w 7 a 11 = idc 0 0 := fun w bb hw => hw.1.hT7 a ha
  have h14 := h.1.hCt.2.2.2.2.2.2.2.2.2.1
  obtain ⟨p1, p2, p3, p4, p5, p6, p7, p8, p9⟩ := h.1.hPe p hp
  obtain ⟨d1, d2⟩ := h.1.hDv p hp d hd
  obtain ⟨l1, l2⟩ := h.1.hDv p hp l hl
  unfold h_X8_risk
  refine hgR_e (n0 v _ h) (hisK_i (hgR_e p4 (hgI_e ((h.1.f 7 1 21 (by decide) ha).trans e21) (hisK_i (hbn0_i ⟨d, ⟨rfl, by omega, by omega⟩, ?_⟩)))))
  rw [d1]
  have s1 : ∀ (kk : Int32 → PV Int32), kk (if m 5 (6 * p + d) = 0 then pts m 0 t else 0) P X v → (hbnd (ρ := Int32) (α := Int32) (hcnd ((if decide (m 5 (6 * p + d) ≠ 0) = true then (1 : Int32) else 0) = 0) (hgR 7 a 11 fun v35 => hisK 0 v35 fun i36 => hbn0 (h_X1_pointsOf i36 (0 : Int32) t) (fun v38 => hrt v38)) (hrt (0 : Int32))) kk) P X v := fun kk hk => by
    refine hbnd_i (hcnd_i (fun q => hgR_e (n11 v _ h) (hisK_i (hbn0_i ?_))) fun q => hrt_i ?_)
    · rw [if_pos (bit_dec.mp q)] at hk
      rw [show (0 : Int32) = nI 0 from nI_0.symm]
      exact c_pointsOf h (by decide) (hrt_i hk)
    · rw [if_neg (fun r => q (bit_dec.mpr r))] at hk
      exact hk
  refine s1 _ ?_
  refine hgR_e (n0 v _ h) (hisK_i (hgR_e p5 (hgI_e ((h.1.f 7 2 22 (by decide) ha).trans e22) (hisK_i (hbn0_i ⟨l, ⟨rfl, by omega, by omega⟩, ?_⟩)))))
  rw [l2]
  have s2 : ∀ (kk : Int32 → PV Int32), kk (if m 6 (6 * p + l) = 0 then pts m 1 t else 0) P X v → (hbnd (ρ := Int32) (α := Int32) (hcnd ((if decide (m 6 (6 * p + l) ≠ 0) = true then (1 : Int32) else 0) = 0) (hgR 7 a 11 fun v29 => hisK 0 v29 fun i30 => hbn0 (h_X1_pointsOf i30 (1 : Int32) t) (fun v32 => hrt v32)) (hrt (0 : Int32))) kk) P X v := fun kk hk => by
    refine hbnd_i (hcnd_i (fun q => hgR_e (n11 v _ h) (hisK_i (hbn0_i ?_))) fun q => hrt_i ?_)
    · rw [if_pos (bit_dec.mp q)] at hk
      rw [show (1 : Int32) = nI 1 from by decide +kernel]
      exact c_pointsOf h (by decide) (hrt_i hk)
    · rw [if_neg (fun r => q (bit_dec.mpr r))] at hk
      exact hk
  refine s2 _ (hgR_e (n0 v _ h) (hisK_i (hbn0_i (c_wrongs h hc hp fun v' ev hv => hgR_e (n11 v' _ hv) (hisK_i (hbn0_i ?_))))))
  rw [show (2 : Int32) = nI 2 from by decide +kernel]
  refine c_pointsOf hv (by decide) (hrt_i ?_)
  have := hP v' ev hv
  unfold rkv at this
  rw [Int32.add_comm (_ + _) (_ * _), ← Int32.add_assoc]
  exact this
theorem att_nums {m : Mst} {T a : Nat} (hI : Inv m T) (ha : a < nn m 19) : ∃ p d l, p < 6 ∧ d < 6 ∧ l < 6 ∧ m 20 a = nI p ∧ m 21 a = nI d ∧ m 22 a = nI l := by
  obtain ⟨⟨p, p1, p2⟩, ⟨d, d1, d2⟩, ⟨l, l1, l2⟩, -⟩ := hI.pAt a ha
  exact ⟨p, d, l, p1, d1, l1, p2, d2, l2⟩
theorem op_risk (a : Int32) : OpV (fun z => h_X0_risk (idc 0 0) a z) (q_risk a) := by
  intro v m T b z x h hI hT
  show OpA (fun z => h_X0_risk (idc 0 0) a z) (q_risk a) v m T b z x
  have hb := h.vb
  obtain ⟨c1, c2⟩ := hI.c19 hT
  rcases ix3 a (n := nn m 19) (by omega) with ha | ⟨k, hk, rfl⟩
  · refine OpA.bad h hI 1 (by decide) ?_ fun P X hP => ?_
    · unfold q_risk
      rw [qbd_e (q_Attempt_f c1 (by omega) ha), qbd_e q_may_f]; rfl
    · show h_X0_risk (idc 0 0) a z P X v
      unfold h_X0_risk
      refine hisK_i (htry_i ?_)
      unfold h_X1_risk
      exact hgR_e h.1.1.s3 (hbnd_i (c_at_f (h.1.1.lt13 (by decide)) h.1.1.hLa.1 ha (by omega) (hx_1 (hrt_i hP))))
  · obtain ⟨p, d, l, hp, hd, hl, e20, e21, e22⟩ := att_nums hI hk
    refine OpA.ok (r := rkv (up2 m 82 0 0) p d l 0) (m1 := up2 m 82 0 0) ?_ (hI.m82 0).up rfl fun P X hP => ?_
    · unfold q_risk
      rw [qbd_e (q_Attempt_t c1 (by omega) hk), qbd_e q_may_t, qc_f one_ne, qbd_e (q_riskOf_eq (m := up2 m 82 0 0) (by omega) hp hd hl e20 e21 e22)]
      rfl
    · show h_X0_risk (idc 0 0) (nI k) z P X v
      unfold h_X0_risk
      refine hisK_i (htry_i ?_)
      unfold h_X1_risk
      refine hgR_e h.1.1.s3 (hbnd_i (c_at (h.1.1.lt13 (by decide)) h.1.1.hLa.1 (by omega) hk (h.1.1.hLa.2 k hk) (hisK_i (hbn0_i ?_))))
      exact c_risk (m := up2 m 82 0 0) ((h.m82 0).1.less (b' := b + 39000 + 10) (by omega) (Nat.le_refl _)) (hI.pTm.1) hk hp hd hl e20 e21 e22 fun v' _ hv => hrt_i (hP v' 39000 T (by omega) hv)
theorem op_trialRisk (a : Int32) : OpV (fun z => h_X0_trialRisk (idc 0 0) a z) (q_trialRisk a) := by
  intro v m T b z x h hI hT
  show OpA (fun z => h_X0_trialRisk (idc 0 0) a z) (q_trialRisk a) v m T b z x
  have hb := h.vb
  obtain ⟨c1, c2⟩ := hI.c19 hT
  rcases ix3 a (n := nn m 19) (by omega) with ha | ⟨k, hk, rfl⟩
  · refine OpA.bad h hI 1 (by decide) ?_ fun P X hP => ?_
    · unfold q_trialRisk
      rw [qbd_e (q_Attempt_f c1 (by omega) ha), qbd_e q_may_f]; rfl
    · show h_X0_trialRisk (idc 0 0) a z P X v
      unfold h_X0_trialRisk
      refine hisK_i (htry_i ?_)
      unfold h_X1_trialRisk
      exact hgR_e h.1.1.s3 (hbnd_i (c_at_f (h.1.1.lt13 (by decide)) h.1.1.hLa.1 ha (by omega) (hx_1 (hrt_i hP))))
  · obtain ⟨p, d, l, hp, hd, hl, e20, e21, e22⟩ := att_nums hI hk
    refine OpA.ok (r := rkv (up2 m 82 0 0) p d l 1) (m1 := up2 m 82 0 0) ?_ (hI.m82 0).up rfl fun P X hP => ?_
    · unfold q_trialRisk
      rw [qbd_e (q_Attempt_t c1 (by omega) hk), qbd_e q_may_t, qc_f one_ne, qbd_e (q_riskOf_eq (m := up2 m 82 0 0) (by omega) hp hd hl e20 e21 e22)]
      rfl
    · show h_X0_trialRisk (idc 0 0) (nI k) z P X v
      unfold h_X0_trialRisk
      refine hisK_i (htry_i ?_)
      unfold h_X1_trialRisk
      refine hgR_e h.1.1.s3 (hbnd_i (c_at (h.1.1.lt13 (by decide)) h.1.1.hLa.1 (by omega) hk (h.1.1.hLa.2 k hk) (hisK_i (hbn0_i ?_))))
      exact c_risk (m := up2 m 82 0 0) ((h.m82 0).1.less (b' := b + 39000 + 10) (by omega) (Nat.le_refl _)) (hI.pTm.1) hk hp hd hl e20 e21 e22 fun v' _ hv => hrt_i (hP v' 39000 T (by omega) hv)
